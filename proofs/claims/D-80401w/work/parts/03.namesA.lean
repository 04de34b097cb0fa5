/-! MixedLeavesLaw -/
set_option maxRecDepth 100000
def RX0 : String := "MixedLeavesLaw"
abbrev cX0_cell : ByteArray := method_2_code
def yX0_cell : MethodName := ⟨RX0, "cell", "([II)I"⟩
def dkwX0_cell_0 : List UInt8 := [27, 42, 190, 162, 0, 9, 42, 27, 46, 167, 0, 4, 3, 172]
abbrev dktX0_cell_0 : List UInt8 := dkwX0_cell_0 ++ []
theorem dksX0_cell_0 : cX0_cell.data.toList.drop 0 = dktX0_cell_0 := by decide +kernel
theorem dX0_cell_0 : decode cX0_cell 0 = .ok (.iload_n 1, 1) := dk_27 (dk_at dksX0_cell_0 0 rfl rfl)
theorem dX0_cell_1 : decode cX0_cell 1 = .ok (.aload_n 0, 1) := dk_42 (dk_at dksX0_cell_0 1 rfl rfl)
theorem dX0_cell_2 : decode cX0_cell 2 = .ok (.arraylength, 1) := dk_190 (dk_at dksX0_cell_0 2 rfl rfl)
theorem dX0_cell_3 : decode cX0_cell 3 = .ok (.if_icmp .ge 9, 3) := dk_162 0 9 (dk_at dksX0_cell_0 3 rfl rfl)
theorem dX0_cell_6 : decode cX0_cell 6 = .ok (.aload_n 0, 1) := dk_42 (dk_at dksX0_cell_0 6 rfl rfl)
theorem dX0_cell_7 : decode cX0_cell 7 = .ok (.iload_n 1, 1) := dk_27 (dk_at dksX0_cell_0 7 rfl rfl)
theorem dX0_cell_8 : decode cX0_cell 8 = .ok (.iaload, 1) := dk_46 (dk_at dksX0_cell_0 8 rfl rfl)
theorem dX0_cell_9 : decode cX0_cell 9 = .ok (.goto 4, 3) := dk_167 0 4 (dk_at dksX0_cell_0 9 rfl rfl)
theorem dX0_cell_12 : decode cX0_cell 12 = .ok (.iconst 0, 1) := dk_3 (dk_at dksX0_cell_0 12 rfl rfl)
theorem dX0_cell_13 : decode cX0_cell 13 = .ok (.ireturn, 1) := dk_172 (dk_at dksX0_cell_0 13 rfl rfl)
theorem q24 : (Jvm.Cond.initialized "MixedLeavesLaw") ∈ lw_all := lw_g (lw_at lw_m1 0 rfl) rfl
theorem q50 : (Jvm.Cond.classLink "MixedLeavesLaw" (7 : Nat) "MixedLeaves") ∈ lw_all := lw_g (lw_at lw_m1 26 rfl) rfl
theorem q52 : (Jvm.Cond.methodLink "MixedLeavesLaw" (15 : Nat) ({ cls := "MixedLeaves", name := "<init>", desc := "(I)V" } : Jvm.MethodName)) ∈ lw_all := lw_g (lw_at lw_m1 28 rfl) rfl
theorem q105 : (Jvm.Cond.methodLink "MixedLeavesLaw" (21 : Nat) ({ cls := "MixedLeaves", name := "fault", desc := "()I" } : Jvm.MethodName)) ∈ lw_all := lw_g (lw_at lw_m1 81 rfl) rfl
theorem q109 : (Jvm.Cond.methodLink "MixedLeavesLaw" (26 : Nat) ({ cls := "MixedLeaves", name := "faults", desc := "(I)I" } : Jvm.MethodName)) ∈ lw_all := lw_g (lw_at lw_m1 85 rfl) rfl
theorem q113 : (Jvm.Cond.methodLink "MixedLeavesLaw" (31 : Nat) ({ cls := "MixedLeaves", name := "row", desc := "(III)I" } : Jvm.MethodName)) ∈ lw_all := lw_g (lw_at lw_m1 89 rfl) rfl
theorem q232 : (Jvm.Cond.methodLink "MixedLeavesLaw" (36 : Nat) ({ cls := "MixedLeaves", name := "rows", desc := "(III)I" } : Jvm.MethodName)) ∈ lw_all := lw_g (lw_at lw_m1 208 rfl) rfl
theorem q237 : (Jvm.Cond.methodLink "MixedLeavesLaw" (40 : Nat) ({ cls := "MixedLeaves", name := "thing", desc := "(III)I" } : Jvm.MethodName)) ∈ lw_all := lw_g (lw_at lw_m1 213 rfl) rfl
theorem q307 : (Jvm.Cond.methodLink "MixedLeavesLaw" (44 : Nat) ({ cls := "MixedLeaves", name := "hold", desc := "(II)I" } : Jvm.MethodName)) ∈ lw_all := lw_g (lw_at lw_m2 43 rfl) rfl
theorem q324 : (Jvm.Cond.methodLink "MixedLeavesLaw" (49 : Nat) ({ cls := "MixedLeaves", name := "clear", desc := "(I)I" } : Jvm.MethodName)) ∈ lw_all := lw_g (lw_at lw_m2 60 rfl) rfl
theorem q328 : (Jvm.Cond.methodLink "MixedLeavesLaw" (53 : Nat) ({ cls := "MixedLeaves", name := "sort", desc := "(I)I" } : Jvm.MethodName)) ∈ lw_all := lw_g (lw_at lw_m2 64 rfl) rfl
theorem q332 : (Jvm.Cond.methodLink "MixedLeavesLaw" (57 : Nat) ({ cls := "MixedLeaves", name := "alike", desc := "(II)I" } : Jvm.MethodName)) ∈ lw_all := lw_g (lw_at lw_m2 68 rfl) rfl
theorem q336 : (Jvm.Cond.methodLink "MixedLeavesLaw" (61 : Nat) ({ cls := "MixedLeaves", name := "is", desc := "(II)I" } : Jvm.MethodName)) ∈ lw_all := lw_g (lw_at lw_m2 72 rfl) rfl
theorem q344 : (Jvm.Cond.methodLink "MixedLeavesLaw" (65 : Nat) ({ cls := "MixedLeaves", name := "as", desc := "(II)I" } : Jvm.MethodName)) ∈ lw_all := lw_g (lw_at lw_m2 80 rfl) rfl
theorem q365 : (Jvm.Cond.methodLink "MixedLeavesLaw" (69 : Nat) ({ cls := "MixedLeaves", name := "length", desc := "(I)I" } : Jvm.MethodName)) ∈ lw_all := lw_g (lw_at lw_m2 101 rfl) rfl
theorem q400 : (Jvm.Cond.methodLink "MixedLeavesLaw" (73 : Nat) ({ cls := "MixedLeaves", name := "get", desc := "(III)J" } : Jvm.MethodName)) ∈ lw_all := lw_g (lw_at lw_m2 136 rfl) rfl
theorem q459 : (Jvm.Cond.methodLink "MixedLeavesLaw" (80 : Nat) ({ cls := "MixedLeaves", name := "put", desc := "(IIIJ)I" } : Jvm.MethodName)) ∈ lw_all := lw_g (lw_at lw_m2 195 rfl) rfl
theorem q492 : (Jvm.Cond.methodLink "MixedLeavesLaw" (85 : Nat) ({ cls := "MixedLeaves", name := "take", desc := "(III)I" } : Jvm.MethodName)) ∈ lw_all := lw_g (lw_at lw_m2 228 rfl) rfl
theorem q496 : (Jvm.Cond.methodLink "MixedLeavesLaw" (89 : Nat) ({ cls := "MixedLeaves", name := "give", desc := "(IIIZ)I" } : Jvm.MethodName)) ∈ lw_all := lw_g (lw_at lw_m2 232 rfl) rfl
theorem q514 : (Jvm.Cond.methodLink "MixedLeavesLaw" (94 : Nat) ({ cls := "MixedLeaves", name := "deep", desc := "(III)I" } : Jvm.MethodName)) ∈ lw_all := lw_g (lw_at lw_m3 10 rfl) rfl
theorem q518 : (Jvm.Cond.methodLink "MixedLeavesLaw" (98 : Nat) ({ cls := "MixedLeaves", name := "deepPut", desc := "(IIII)I" } : Jvm.MethodName)) ∈ lw_all := lw_g (lw_at lw_m3 14 rfl) rfl
theorem q522 : (Jvm.Cond.methodLink "MixedLeavesLaw" (103 : Nat) ({ cls := "MixedLeaves", name := "copy", desc := "(IIIII)I" } : Jvm.MethodName)) ∈ lw_all := lw_g (lw_at lw_m3 18 rfl) rfl
theorem q530 : (Jvm.Cond.methodLink "MixedLeavesLaw" (108 : Nat) ({ cls := "MixedLeaves", name := "twin", desc := "(II)I" } : Jvm.MethodName)) ∈ lw_all := lw_g (lw_at lw_m3 26 rfl) rfl
theorem q534 : (Jvm.Cond.methodLink "MixedLeavesLaw" (112 : Nat) ({ cls := "MixedLeaves", name := "call", desc := "(II)I" } : Jvm.MethodName)) ∈ lw_all := lw_g (lw_at lw_m3 30 rfl) rfl
theorem q655 : (Jvm.Cond.methodLink "MixedLeavesLaw" (116 : Nat) ({ cls := "MixedLeaves", name := "number", desc := "(I)I" } : Jvm.MethodName)) ∈ lw_all := lw_g (lw_at lw_m3 151 rfl) rfl
theorem q659 : (Jvm.Cond.methodLink "MixedLeavesLaw" (120 : Nat) ({ cls := "MixedLeaves", name := "setNumber", desc := "(II)I" } : Jvm.MethodName)) ∈ lw_all := lw_g (lw_at lw_m3 155 rfl) rfl
theorem q663 : (Jvm.Cond.methodLink "MixedLeavesLaw" (124 : Nat) ({ cls := "MixedLeaves", name := "raise", desc := "(II)I" } : Jvm.MethodName)) ∈ lw_all := lw_g (lw_at lw_m3 159 rfl) rfl
theorem q671 : (Jvm.Cond.methodLink "MixedLeavesLaw" (128 : Nat) ({ cls := "MixedLeaves", name := "trail", desc := "()I" } : Jvm.MethodName)) ∈ lw_all := lw_g (lw_at lw_m3 167 rfl) rfl
theorem q675 : (Jvm.Cond.methodLink "MixedLeavesLaw" (132 : Nat) ({ cls := "MixedLeaves", name := "divide", desc := "(JJZZ)J" } : Jvm.MethodName)) ∈ lw_all := lw_g (lw_at lw_m3 171 rfl) rfl
theorem q693 : (Jvm.Cond.methodLink "MixedLeavesLaw" (137 : Nat) ({ cls := "MixedLeaves", name := "reckon", desc := "(IJJ)J" } : Jvm.MethodName)) ∈ lw_all := lw_g (lw_at lw_m3 189 rfl) rfl
theorem q773 : (Jvm.Cond.methodLink "MixedLeavesLaw" (142 : Nat) ({ cls := "MixedLeaves", name := "reckonFloat", desc := "(III)I" } : Jvm.MethodName)) ∈ lw_all := lw_g (lw_at lw_m4 29 rfl) rfl
theorem q815 : (Jvm.Cond.methodLink "MixedLeavesLaw" (146 : Nat) ({ cls := "MixedLeaves", name := "compare", desc := "(JJZ)I" } : Jvm.MethodName)) ∈ lw_all := lw_g (lw_at lw_m4 71 rfl) rfl
theorem q819 : (Jvm.Cond.methodLink "MixedLeavesLaw" (151 : Nat) ({ cls := "MixedLeaves", name := "turn", desc := "(IIJ)J" } : Jvm.MethodName)) ∈ lw_all := lw_g (lw_at lw_m4 75 rfl) rfl
theorem q829 : (Jvm.Cond.methodLink "MixedLeavesLaw" (156 : Nat) ({ cls := "MixedLeaves", name := "keep", desc := "(I)I" } : Jvm.MethodName)) ∈ lw_all := lw_g (lw_at lw_m4 85 rfl) rfl
theorem q833 : (Jvm.Cond.methodLink "MixedLeavesLaw" (160 : Nat) ({ cls := "MixedLeaves", name := "back", desc := "(II)I" } : Jvm.MethodName)) ∈ lw_all := lw_g (lw_at lw_m4 89 rfl) rfl
theorem q837 : (Jvm.Cond.methodLink "MixedLeavesLaw" (164 : Nat) ({ cls := "MixedLeaves", name := "leaf", desc := "(II)I" } : Jvm.MethodName)) ∈ lw_all := lw_g (lw_at lw_m4 93 rfl) rfl
theorem q845 : (Jvm.Cond.methodLink "MixedLeavesLaw" (168 : Nat) ({ cls := "MixedLeaves", name := "leafAt", desc := "(II)J" } : Jvm.MethodName)) ∈ lw_all := lw_g (lw_at lw_m4 101 rfl) rfl
theorem q849 : (Jvm.Cond.methodLink "MixedLeavesLaw" (9 : Nat) ({ cls := "MixedLeavesLaw", name := "cell", desc := "([II)I" } : Jvm.MethodName)) ∈ lw_all := lw_g (lw_at lw_m4 105 rfl) rfl
theorem q850 : (Jvm.Cond.static ({ cls := "MixedLeavesLaw", name := "cell", desc := "([II)I" } : Jvm.MethodName)) ∈ lw_all := lw_g (lw_at lw_m4 106 rfl) rfl
theorem q851 : (Jvm.Cond.code ({ cls := "MixedLeavesLaw", name := "cell", desc := "([II)I" } : Jvm.MethodName) method_2_code (2 : Nat) (Option.some Jvm.ClassFile.FieldType.int)) ∈ lw_all := lw_g (lw_at lw_m4 107 rfl) rfl
theorem q852 : (Jvm.Cond.classLink "MixedLeavesLaw" (18 : Nat) "MixedLeavesModel") ∈ lw_all := lw_g (lw_at lw_m4 108 rfl) rfl
theorem q854 : (Jvm.Cond.methodLink "MixedLeavesLaw" (20 : Nat) ({ cls := "MixedLeavesModel", name := "<init>", desc := "(I)V" } : Jvm.MethodName)) ∈ lw_all := lw_g (lw_at lw_m4 110 rfl) rfl
theorem q911 : (Jvm.Cond.methodLink "MixedLeavesLaw" (25 : Nat) ({ cls := "MixedLeavesModel", name := "fault", desc := "()I" } : Jvm.MethodName)) ∈ lw_all := lw_g (lw_at lw_m4 167 rfl) rfl
theorem q915 : (Jvm.Cond.methodLink "MixedLeavesLaw" (30 : Nat) ({ cls := "MixedLeavesModel", name := "faults", desc := "(I)I" } : Jvm.MethodName)) ∈ lw_all := lw_g (lw_at lw_m4 171 rfl) rfl
theorem q919 : (Jvm.Cond.methodLink "MixedLeavesLaw" (35 : Nat) ({ cls := "MixedLeavesModel", name := "row", desc := "(III)I" } : Jvm.MethodName)) ∈ lw_all := lw_g (lw_at lw_m4 175 rfl) rfl
theorem q958 : (Jvm.Cond.methodLink "MixedLeavesLaw" (39 : Nat) ({ cls := "MixedLeavesModel", name := "rows", desc := "(III)I" } : Jvm.MethodName)) ∈ lw_all := lw_g (lw_at lw_m4 214 rfl) rfl
theorem q962 : (Jvm.Cond.methodLink "MixedLeavesLaw" (43 : Nat) ({ cls := "MixedLeavesModel", name := "thing", desc := "(III)I" } : Jvm.MethodName)) ∈ lw_all := lw_g (lw_at lw_m4 218 rfl) rfl
theorem q966 : (Jvm.Cond.methodLink "MixedLeavesLaw" (48 : Nat) ({ cls := "MixedLeavesModel", name := "hold", desc := "(II)I" } : Jvm.MethodName)) ∈ lw_all := lw_g (lw_at lw_m4 222 rfl) rfl
theorem q974 : (Jvm.Cond.methodLink "MixedLeavesLaw" (52 : Nat) ({ cls := "MixedLeavesModel", name := "clear", desc := "(I)I" } : Jvm.MethodName)) ∈ lw_all := lw_g (lw_at lw_m4 230 rfl) rfl
theorem q978 : (Jvm.Cond.methodLink "MixedLeavesLaw" (56 : Nat) ({ cls := "MixedLeavesModel", name := "sort", desc := "(I)I" } : Jvm.MethodName)) ∈ lw_all := lw_g (lw_at lw_m4 234 rfl) rfl
theorem q982 : (Jvm.Cond.methodLink "MixedLeavesLaw" (60 : Nat) ({ cls := "MixedLeavesModel", name := "alike", desc := "(II)I" } : Jvm.MethodName)) ∈ lw_all := lw_g (lw_at lw_m4 238 rfl) rfl
theorem q986 : (Jvm.Cond.methodLink "MixedLeavesLaw" (64 : Nat) ({ cls := "MixedLeavesModel", name := "is", desc := "(II)I" } : Jvm.MethodName)) ∈ lw_all := lw_g (lw_at lw_m5 2 rfl) rfl
theorem q993 : (Jvm.Cond.methodLink "MixedLeavesLaw" (68 : Nat) ({ cls := "MixedLeavesModel", name := "as", desc := "(II)I" } : Jvm.MethodName)) ∈ lw_all := lw_g (lw_at lw_m5 9 rfl) rfl
theorem q997 : (Jvm.Cond.methodLink "MixedLeavesLaw" (72 : Nat) ({ cls := "MixedLeavesModel", name := "length", desc := "(I)I" } : Jvm.MethodName)) ∈ lw_all := lw_g (lw_at lw_m5 13 rfl) rfl
theorem q1005 : (Jvm.Cond.methodLink "MixedLeavesLaw" (77 : Nat) ({ cls := "MixedLeavesModel", name := "get", desc := "(III)J" } : Jvm.MethodName)) ∈ lw_all := lw_g (lw_at lw_m5 21 rfl) rfl
theorem q1083 : (Jvm.Cond.methodLink "MixedLeavesLaw" (84 : Nat) ({ cls := "MixedLeavesModel", name := "put", desc := "(IIIJ)I" } : Jvm.MethodName)) ∈ lw_all := lw_g (lw_at lw_m5 99 rfl) rfl
theorem q1087 : (Jvm.Cond.methodLink "MixedLeavesLaw" (88 : Nat) ({ cls := "MixedLeavesModel", name := "take", desc := "(III)I" } : Jvm.MethodName)) ∈ lw_all := lw_g (lw_at lw_m5 103 rfl) rfl
theorem q1091 : (Jvm.Cond.methodLink "MixedLeavesLaw" (93 : Nat) ({ cls := "MixedLeavesModel", name := "give", desc := "(IIIZ)I" } : Jvm.MethodName)) ∈ lw_all := lw_g (lw_at lw_m5 107 rfl) rfl
theorem q1099 : (Jvm.Cond.methodLink "MixedLeavesLaw" (97 : Nat) ({ cls := "MixedLeavesModel", name := "deep", desc := "(III)I" } : Jvm.MethodName)) ∈ lw_all := lw_g (lw_at lw_m5 115 rfl) rfl
theorem q1107 : (Jvm.Cond.methodLink "MixedLeavesLaw" (102 : Nat) ({ cls := "MixedLeavesModel", name := "deepPut", desc := "(IIII)I" } : Jvm.MethodName)) ∈ lw_all := lw_g (lw_at lw_m5 123 rfl) rfl
theorem q1111 : (Jvm.Cond.methodLink "MixedLeavesLaw" (107 : Nat) ({ cls := "MixedLeavesModel", name := "copy", desc := "(IIIII)I" } : Jvm.MethodName)) ∈ lw_all := lw_g (lw_at lw_m5 127 rfl) rfl
theorem q1115 : (Jvm.Cond.methodLink "MixedLeavesLaw" (111 : Nat) ({ cls := "MixedLeavesModel", name := "twin", desc := "(II)I" } : Jvm.MethodName)) ∈ lw_all := lw_g (lw_at lw_m5 131 rfl) rfl
theorem q1119 : (Jvm.Cond.methodLink "MixedLeavesLaw" (115 : Nat) ({ cls := "MixedLeavesModel", name := "call", desc := "(II)I" } : Jvm.MethodName)) ∈ lw_all := lw_g (lw_at lw_m5 135 rfl) rfl
theorem q1123 : (Jvm.Cond.methodLink "MixedLeavesLaw" (119 : Nat) ({ cls := "MixedLeavesModel", name := "number", desc := "(I)I" } : Jvm.MethodName)) ∈ lw_all := lw_g (lw_at lw_m5 139 rfl) rfl
theorem q1131 : (Jvm.Cond.methodLink "MixedLeavesLaw" (123 : Nat) ({ cls := "MixedLeavesModel", name := "setNumber", desc := "(II)I" } : Jvm.MethodName)) ∈ lw_all := lw_g (lw_at lw_m5 147 rfl) rfl
theorem q1135 : (Jvm.Cond.methodLink "MixedLeavesLaw" (127 : Nat) ({ cls := "MixedLeavesModel", name := "raise", desc := "(II)I" } : Jvm.MethodName)) ∈ lw_all := lw_g (lw_at lw_m5 151 rfl) rfl
theorem q1139 : (Jvm.Cond.methodLink "MixedLeavesLaw" (131 : Nat) ({ cls := "MixedLeavesModel", name := "trail", desc := "()I" } : Jvm.MethodName)) ∈ lw_all := lw_g (lw_at lw_m5 155 rfl) rfl
theorem q1143 : (Jvm.Cond.methodLink "MixedLeavesLaw" (136 : Nat) ({ cls := "MixedLeavesModel", name := "divide", desc := "(JJZZ)J" } : Jvm.MethodName)) ∈ lw_all := lw_g (lw_at lw_m5 159 rfl) rfl
theorem q1147 : (Jvm.Cond.methodLink "MixedLeavesLaw" (141 : Nat) ({ cls := "MixedLeavesModel", name := "reckon", desc := "(IJJ)J" } : Jvm.MethodName)) ∈ lw_all := lw_g (lw_at lw_m5 163 rfl) rfl
theorem q1164 : (Jvm.Cond.methodLink "MixedLeavesLaw" (145 : Nat) ({ cls := "MixedLeavesModel", name := "reckonFloat", desc := "(III)I" } : Jvm.MethodName)) ∈ lw_all := lw_g (lw_at lw_m5 180 rfl) rfl
theorem q1169 : (Jvm.Cond.methodLink "MixedLeavesLaw" (150 : Nat) ({ cls := "MixedLeavesModel", name := "compare", desc := "(JJZ)I" } : Jvm.MethodName)) ∈ lw_all := lw_g (lw_at lw_m5 185 rfl) rfl
theorem q1176 : (Jvm.Cond.methodLink "MixedLeavesLaw" (155 : Nat) ({ cls := "MixedLeavesModel", name := "turn", desc := "(IIJ)J" } : Jvm.MethodName)) ∈ lw_all := lw_g (lw_at lw_m5 192 rfl) rfl
theorem q1180 : (Jvm.Cond.methodLink "MixedLeavesLaw" (159 : Nat) ({ cls := "MixedLeavesModel", name := "keep", desc := "(I)I" } : Jvm.MethodName)) ∈ lw_all := lw_g (lw_at lw_m5 196 rfl) rfl
theorem q1188 : (Jvm.Cond.methodLink "MixedLeavesLaw" (163 : Nat) ({ cls := "MixedLeavesModel", name := "back", desc := "(II)I" } : Jvm.MethodName)) ∈ lw_all := lw_g (lw_at lw_m5 204 rfl) rfl
theorem q1192 : (Jvm.Cond.methodLink "MixedLeavesLaw" (167 : Nat) ({ cls := "MixedLeavesModel", name := "leaf", desc := "(II)I" } : Jvm.MethodName)) ∈ lw_all := lw_g (lw_at lw_m5 208 rfl) rfl
theorem q1196 : (Jvm.Cond.methodLink "MixedLeavesLaw" (172 : Nat) ({ cls := "MixedLeavesModel", name := "leafAt", desc := "(II)J" } : Jvm.MethodName)) ∈ lw_all := lw_g (lw_at lw_m5 212 rfl) rfl
theorem q1200 : (Jvm.Cond.constantLong "MixedLeavesLaw" (78 : Nat) (4294967295 : Int64)) ∈ lw_all := lw_g (lw_at lw_m5 216 rfl) rfl
/-! MixedLeaves$Slot -/
set_option maxRecDepth 100000
def RX2 : String := "MixedLeaves$Slot"
def TX2 : u_T := fun k => match k with
  | 0 => ("MixedLeaves$Slot", "held", "Ljava/lang/Object;", false)
  | 1 => ("MixedLeaves$Slot", "kind", "I", false)
  | 2 => ("MixedLeaves$Slot", "bits", "[J", false)
  | _ => ("MixedLeaves$Slot", "written", "I", false)
def tyX2 : Nat → FieldType := fun k => match k with
  | 0 => .object "java/lang/Object"
  | 1 => .int
  | 2 => .array .long
  | _ => .int
abbrev wsX20 : List Cond := u_ws RX2 TX2 4
theorem nmX2 : ∀ a, a < 4 → ∀ b, b < 4 → a ≠ b → (TX2 a).2.1 ≠ (TX2 b).2.1 := by decide +kernel
theorem tyX2_ok : ∀ k, k < 4 → parseFieldDescriptor (TX2 k).2.2.1 = some (tyX2 k) := by decide +kernel
abbrev cX2_init : ByteArray := prog_6_method_1_code
def yX2_init : MethodName := ⟨RX2, "<init>", "()V"⟩
def dkwX2_init_0 : List UInt8 := [42, 183, 0, 3, 42, 2, 181, 0, 9, 177]
abbrev dktX2_init_0 : List UInt8 := dkwX2_init_0 ++ []
theorem dksX2_init_0 : cX2_init.data.toList.drop 0 = dktX2_init_0 := by decide +kernel
theorem dX2_init_0 : decode cX2_init 0 = .ok (.aload_n 0, 1) := dk_42 (dk_at dksX2_init_0 0 rfl rfl)
theorem dX2_init_1 : decode cX2_init 1 = .ok (.invokespecial 3, 3) := dk_183 0 3 (dk_at dksX2_init_0 1 rfl rfl)
theorem dX2_init_4 : decode cX2_init 4 = .ok (.aload_n 0, 1) := dk_42 (dk_at dksX2_init_0 4 rfl rfl)
theorem dX2_init_5 : decode cX2_init 5 = .ok (.iconst (-1), 1) := dk_2 (dk_at dksX2_init_0 5 rfl rfl)
theorem dX2_init_6 : decode cX2_init 6 = .ok (.putfield 9, 3) := dk_181 0 9 (dk_at dksX2_init_0 6 rfl rfl)
theorem dX2_init_9 : decode cX2_init 9 = .ok (.return_, 1) := dk_177 (dk_at dksX2_init_0 9 rfl rfl)
theorem q27 : (Jvm.Cond.initialized "MixedLeaves$Slot") ∈ lw_all := lw_g (lw_at lw_m1 3 rfl) rfl
theorem q66 : (Jvm.Cond.instantiable "MixedLeaves$Slot" (4 : Nat)) ∈ lw_all := lw_g (lw_at lw_m1 42 rfl) rfl
theorem q68 : (Jvm.Cond.instanceMethod ({ cls := "MixedLeaves$Slot", name := "<init>", desc := "()V" } : Jvm.MethodName)) ∈ lw_all := lw_g (lw_at lw_m1 44 rfl) rfl
theorem q69 : (Jvm.Cond.code ({ cls := "MixedLeaves$Slot", name := "<init>", desc := "()V" } : Jvm.MethodName) prog_6_method_1_code (1 : Nat) (Option.none : Option Jvm.ClassFile.FieldType)) ∈ lw_all := lw_g (lw_at lw_m1 45 rfl) rfl
theorem q70 : (Jvm.Cond.methodLink "MixedLeaves$Slot" (3 : Nat) ({ cls := "java/lang/Object", name := "<init>", desc := "()V" } : Jvm.MethodName)) ∈ lw_all := lw_g (lw_at lw_m1 46 rfl) rfl
theorem q72 : (Jvm.Cond.fieldLink "MixedLeaves$Slot" (9 : Nat) "MixedLeaves$Slot" "kind" "I") ∈ lw_all := lw_g (lw_at lw_m1 48 rfl) rfl
theorem q76 : (Jvm.Cond.lays "MixedLeaves$Slot" "MixedLeaves$Slot" "held" "Ljava/lang/Object;") ∈ lw_all := lw_g (lw_at lw_m1 52 rfl) rfl
theorem q77 : (Jvm.Cond.soleField "MixedLeaves$Slot" "held") ∈ lw_all := lw_g (lw_at lw_m1 53 rfl) rfl
theorem q78 : (Jvm.Cond.lays "MixedLeaves$Slot" "MixedLeaves$Slot" "kind" "I") ∈ lw_all := lw_g (lw_at lw_m1 54 rfl) rfl
theorem q79 : (Jvm.Cond.soleField "MixedLeaves$Slot" "kind") ∈ lw_all := lw_g (lw_at lw_m1 55 rfl) rfl
theorem q80 : (Jvm.Cond.lays "MixedLeaves$Slot" "MixedLeaves$Slot" "bits" "[J") ∈ lw_all := lw_g (lw_at lw_m1 56 rfl) rfl
theorem q81 : (Jvm.Cond.soleField "MixedLeaves$Slot" "bits") ∈ lw_all := lw_g (lw_at lw_m1 57 rfl) rfl
theorem q82 : (Jvm.Cond.lays "MixedLeaves$Slot" "MixedLeaves$Slot" "written" "I") ∈ lw_all := lw_g (lw_at lw_m1 58 rfl) rfl
theorem q83 : (Jvm.Cond.soleField "MixedLeaves$Slot" "written") ∈ lw_all := lw_g (lw_at lw_m1 59 rfl) rfl
theorem q84 : (Jvm.Cond.superclass "MixedLeaves$Slot" "java/lang/Object") ∈ lw_all := lw_g (lw_at lw_m1 60 rfl) rfl
theorem in_X2 : ∀ w ∈ wsX20, w ∈ lw_all := lw_in wsX20 [76, 78, 80, 82] (by decide +kernel) (by decide +kernel)
/-! MixedLeaves$Plain -/
set_option maxRecDepth 100000
def RX4 : String := "MixedLeaves$Plain"
def TX4 : u_T := fun k => match k with
  | _ => ("MixedLeaves$Plain", "n", "I", false)
def tyX4 : Nat → FieldType := fun k => match k with
  | _ => .int
abbrev wsX40 : List Cond := u_ws RX4 TX4 1
theorem nmX4 : ∀ a, a < 1 → ∀ b, b < 1 → a ≠ b → (TX4 a).2.1 ≠ (TX4 b).2.1 := by decide +kernel
theorem tyX4_ok : ∀ k, k < 1 → parseFieldDescriptor (TX4 k).2.2.1 = some (tyX4 k) := by decide +kernel
abbrev cX4_init : ByteArray := prog_5_method_1_code
def yX4_init : MethodName := ⟨RX4, "<init>", "(I)V"⟩
def dkwX4_init_0 : List UInt8 := [42, 183, 0, 1, 42, 27, 181, 0, 7, 177]
abbrev dktX4_init_0 : List UInt8 := dkwX4_init_0 ++ []
theorem dksX4_init_0 : cX4_init.data.toList.drop 0 = dktX4_init_0 := by decide +kernel
theorem dX4_init_0 : decode cX4_init 0 = .ok (.aload_n 0, 1) := dk_42 (dk_at dksX4_init_0 0 rfl rfl)
theorem dX4_init_1 : decode cX4_init 1 = .ok (.invokespecial 1, 3) := dk_183 0 1 (dk_at dksX4_init_0 1 rfl rfl)
theorem dX4_init_4 : decode cX4_init 4 = .ok (.aload_n 0, 1) := dk_42 (dk_at dksX4_init_0 4 rfl rfl)
theorem dX4_init_5 : decode cX4_init 5 = .ok (.iload_n 1, 1) := dk_27 (dk_at dksX4_init_0 5 rfl rfl)
theorem dX4_init_6 : decode cX4_init 6 = .ok (.putfield 7, 3) := dk_181 0 7 (dk_at dksX4_init_0 6 rfl rfl)
theorem dX4_init_9 : decode cX4_init 9 = .ok (.return_, 1) := dk_177 (dk_at dksX4_init_0 9 rfl rfl)
abbrev cX4_number : ByteArray := prog_5_method_2_code
def yX4_number : MethodName := ⟨RX4, "number", "()I"⟩
theorem dX4_number_0 : decode cX4_number 0 = .ok (.aload_n 0, 1) := by decide +kernel
theorem dX4_number_1 : decode cX4_number 1 = .ok (.getfield 7, 3) := by decide +kernel
theorem dX4_number_4 : decode cX4_number 4 = .ok (.ireturn, 1) := by decide +kernel
abbrev cX4_twice : ByteArray := prog_5_method_3_code
def yX4_twice : MethodName := ⟨RX4, "twice", "()I"⟩
def dkwX4_twice_0 : List UInt8 := [5, 42, 180, 0, 7, 104, 172]
abbrev dktX4_twice_0 : List UInt8 := dkwX4_twice_0 ++ []
theorem dksX4_twice_0 : cX4_twice.data.toList.drop 0 = dktX4_twice_0 := by decide +kernel
theorem dX4_twice_0 : decode cX4_twice 0 = .ok (.iconst 2, 1) := dk_5 (dk_at dksX4_twice_0 0 rfl rfl)
theorem dX4_twice_1 : decode cX4_twice 1 = .ok (.aload_n 0, 1) := dk_42 (dk_at dksX4_twice_0 1 rfl rfl)
theorem dX4_twice_2 : decode cX4_twice 2 = .ok (.getfield 7, 3) := dk_180 0 7 (dk_at dksX4_twice_0 2 rfl rfl)
theorem dX4_twice_5 : decode cX4_twice 5 = .ok (.imul, 1) := dk_104 (dk_at dksX4_twice_0 5 rfl rfl)
theorem dX4_twice_6 : decode cX4_twice 6 = .ok (.ireturn, 1) := dk_172 (dk_at dksX4_twice_0 6 rfl rfl)
abbrev cX4_far : ByteArray := prog_5_method_4_code
def yX4_far : MethodName := ⟨RX4, "far", "()I"⟩
def dkwX4_far_0 : List UInt8 := [16, 7, 42, 180, 0, 7, 104, 172]
abbrev dktX4_far_0 : List UInt8 := dkwX4_far_0 ++ []
theorem dksX4_far_0 : cX4_far.data.toList.drop 0 = dktX4_far_0 := by decide +kernel
theorem dX4_far_0 : decode cX4_far 0 = .ok (.bipush 7, 2) := dk_16 7 (dk_at dksX4_far_0 0 rfl rfl)
theorem dX4_far_2 : decode cX4_far 2 = .ok (.aload_n 0, 1) := dk_42 (dk_at dksX4_far_0 2 rfl rfl)
theorem dX4_far_3 : decode cX4_far 3 = .ok (.getfield 7, 3) := dk_180 0 7 (dk_at dksX4_far_0 3 rfl rfl)
theorem dX4_far_6 : decode cX4_far 6 = .ok (.imul, 1) := dk_104 (dk_at dksX4_far_0 6 rfl rfl)
theorem dX4_far_7 : decode cX4_far 7 = .ok (.ireturn, 1) := dk_172 (dk_at dksX4_far_0 7 rfl rfl)
abbrev cX4_kept : ByteArray := prog_5_method_5_code
def yX4_kept : MethodName := ⟨RX4, "kept", "()I"⟩
def dkwX4_kept_0 : List UInt8 := [42, 180, 0, 7, 16, 100, 96, 172]
abbrev dktX4_kept_0 : List UInt8 := dkwX4_kept_0 ++ []
theorem dksX4_kept_0 : cX4_kept.data.toList.drop 0 = dktX4_kept_0 := by decide +kernel
theorem dX4_kept_0 : decode cX4_kept 0 = .ok (.aload_n 0, 1) := dk_42 (dk_at dksX4_kept_0 0 rfl rfl)
theorem dX4_kept_1 : decode cX4_kept 1 = .ok (.getfield 7, 3) := dk_180 0 7 (dk_at dksX4_kept_0 1 rfl rfl)
theorem dX4_kept_4 : decode cX4_kept 4 = .ok (.bipush 100, 2) := dk_16 100 (dk_at dksX4_kept_0 4 rfl rfl)
theorem dX4_kept_6 : decode cX4_kept 6 = .ok (.iadd, 1) := dk_96 (dk_at dksX4_kept_0 6 rfl rfl)
theorem dX4_kept_7 : decode cX4_kept 7 = .ok (.ireturn, 1) := dk_172 (dk_at dksX4_kept_0 7 rfl rfl)
abbrev cX4_square : ByteArray := prog_5_method_6_code
def yX4_square : MethodName := ⟨RX4, "square", "()I"⟩
def dkwX4_square_0 : List UInt8 := [42, 180, 0, 7, 42, 180, 0, 7, 104, 172]
abbrev dktX4_square_0 : List UInt8 := dkwX4_square_0 ++ []
theorem dksX4_square_0 : cX4_square.data.toList.drop 0 = dktX4_square_0 := by decide +kernel
theorem dX4_square_0 : decode cX4_square 0 = .ok (.aload_n 0, 1) := dk_42 (dk_at dksX4_square_0 0 rfl rfl)
theorem dX4_square_1 : decode cX4_square 1 = .ok (.getfield 7, 3) := dk_180 0 7 (dk_at dksX4_square_0 1 rfl rfl)
theorem dX4_square_4 : decode cX4_square 4 = .ok (.aload_n 0, 1) := dk_42 (dk_at dksX4_square_0 4 rfl rfl)
theorem dX4_square_5 : decode cX4_square 5 = .ok (.getfield 7, 3) := dk_180 0 7 (dk_at dksX4_square_0 5 rfl rfl)
theorem dX4_square_8 : decode cX4_square 8 = .ok (.imul, 1) := dk_104 (dk_at dksX4_square_0 8 rfl rfl)
theorem dX4_square_9 : decode cX4_square 9 = .ok (.ireturn, 1) := dk_172 (dk_at dksX4_square_0 9 rfl rfl)
theorem q34 : (Jvm.Cond.initialized "MixedLeaves$Plain") ∈ lw_all := lw_g (lw_at lw_m1 10 rfl) rfl
theorem q241 : (Jvm.Cond.instantiable "MixedLeaves$Plain" (1 : Nat)) ∈ lw_all := lw_g (lw_at lw_m1 217 rfl) rfl
theorem q243 : (Jvm.Cond.instanceMethod ({ cls := "MixedLeaves$Plain", name := "<init>", desc := "(I)V" } : Jvm.MethodName)) ∈ lw_all := lw_g (lw_at lw_m1 219 rfl) rfl
theorem q244 : (Jvm.Cond.code ({ cls := "MixedLeaves$Plain", name := "<init>", desc := "(I)V" } : Jvm.MethodName) prog_5_method_1_code (2 : Nat) (Option.none : Option Jvm.ClassFile.FieldType)) ∈ lw_all := lw_g (lw_at lw_m1 220 rfl) rfl
theorem q245 : (Jvm.Cond.methodLink "MixedLeaves$Plain" (1 : Nat) ({ cls := "java/lang/Object", name := "<init>", desc := "()V" } : Jvm.MethodName)) ∈ lw_all := lw_g (lw_at lw_m1 221 rfl) rfl
theorem q246 : (Jvm.Cond.fieldLink "MixedLeaves$Plain" (7 : Nat) "MixedLeaves$Plain" "n" "I") ∈ lw_all := lw_g (lw_at lw_m1 222 rfl) rfl
theorem q250 : (Jvm.Cond.lays "MixedLeaves$Plain" "MixedLeaves$Plain" "n" "I") ∈ lw_all := lw_g (lw_at lw_m1 226 rfl) rfl
theorem q251 : (Jvm.Cond.soleField "MixedLeaves$Plain" "n") ∈ lw_all := lw_g (lw_at lw_m1 227 rfl) rfl
theorem q252 : (Jvm.Cond.superclass "MixedLeaves$Plain" "java/lang/Object") ∈ lw_all := lw_g (lw_at lw_m1 228 rfl) rfl
theorem q557 : (Jvm.Cond.castable "MixedLeaves$Plain" "MixedLeaves$Named") ∈ lw_tbl := lw_at lw_m3 53 rfl
theorem q558 : (Jvm.Cond.selects "MixedLeaves$Plain" ({ cls := "MixedLeaves$Named", name := "number", desc := "()I" } : Jvm.MethodName) ({ cls := "MixedLeaves$Plain", name := "number", desc := "()I" } : Jvm.MethodName)) ∈ lw_all := lw_g (lw_at lw_m3 54 rfl) rfl
theorem q559 : (Jvm.Cond.unhidden "MixedLeaves$Plain" "number" "()I") ∈ lw_tbl := lw_at lw_m3 55 rfl
theorem q560 : (Jvm.Cond.instanceMethod ({ cls := "MixedLeaves$Plain", name := "number", desc := "()I" } : Jvm.MethodName)) ∈ lw_all := lw_g (lw_at lw_m3 56 rfl) rfl
theorem q561 : (Jvm.Cond.publicMethod ({ cls := "MixedLeaves$Plain", name := "number", desc := "()I" } : Jvm.MethodName)) ∈ lw_tbl := lw_at lw_m3 57 rfl
theorem q562 : (Jvm.Cond.code ({ cls := "MixedLeaves$Plain", name := "number", desc := "()I" } : Jvm.MethodName) prog_5_method_2_code (1 : Nat) (Option.some Jvm.ClassFile.FieldType.int)) ∈ lw_all := lw_g (lw_at lw_m3 58 rfl) rfl
theorem q585 : (Jvm.Cond.unhidden "MixedLeaves$Plain" "name" "()I") ∈ lw_tbl := lw_at lw_m3 81 rfl
theorem q603 : (Jvm.Cond.instanceMethod ({ cls := "MixedLeaves$Plain", name := "twice", desc := "()I" } : Jvm.MethodName)) ∈ lw_all := lw_g (lw_at lw_m3 99 rfl) rfl
theorem q604 : (Jvm.Cond.code ({ cls := "MixedLeaves$Plain", name := "twice", desc := "()I" } : Jvm.MethodName) prog_5_method_3_code (1 : Nat) (Option.some Jvm.ClassFile.FieldType.int)) ∈ lw_all := lw_g (lw_at lw_m3 100 rfl) rfl
theorem q605 : (Jvm.Cond.selects "MixedLeaves$Plain" ({ cls := "MixedLeaves$Named", name := "twice", desc := "()I" } : Jvm.MethodName) ({ cls := "MixedLeaves$Plain", name := "twice", desc := "()I" } : Jvm.MethodName)) ∈ lw_all := lw_g (lw_at lw_m3 101 rfl) rfl
theorem q606 : (Jvm.Cond.unhidden "MixedLeaves$Plain" "twice" "()I") ∈ lw_tbl := lw_at lw_m3 102 rfl
theorem q607 : (Jvm.Cond.publicMethod ({ cls := "MixedLeaves$Plain", name := "twice", desc := "()I" } : Jvm.MethodName)) ∈ lw_tbl := lw_at lw_m3 103 rfl
theorem q625 : (Jvm.Cond.instanceMethod ({ cls := "MixedLeaves$Plain", name := "far", desc := "()I" } : Jvm.MethodName)) ∈ lw_all := lw_g (lw_at lw_m3 121 rfl) rfl
theorem q626 : (Jvm.Cond.publicMethod ({ cls := "MixedLeaves$Plain", name := "far", desc := "()I" } : Jvm.MethodName)) ∈ lw_tbl := lw_at lw_m3 122 rfl
theorem q627 : (Jvm.Cond.code ({ cls := "MixedLeaves$Plain", name := "far", desc := "()I" } : Jvm.MethodName) prog_5_method_4_code (1 : Nat) (Option.some Jvm.ClassFile.FieldType.int)) ∈ lw_all := lw_g (lw_at lw_m3 123 rfl) rfl
theorem q628 : (Jvm.Cond.selects "MixedLeaves$Plain" ({ cls := "MixedLeaves$Named", name := "far", desc := "()I" } : Jvm.MethodName) ({ cls := "MixedLeaves$Plain", name := "far", desc := "()I" } : Jvm.MethodName)) ∈ lw_all := lw_g (lw_at lw_m3 124 rfl) rfl
theorem q629 : (Jvm.Cond.unhidden "MixedLeaves$Plain" "far" "()I") ∈ lw_tbl := lw_at lw_m3 125 rfl
theorem q637 : (Jvm.Cond.declares ({ cls := "MixedLeaves$Plain", name := "far", desc := "()I" } : Jvm.MethodName)) ∈ lw_tbl := lw_at lw_m3 133 rfl
theorem q639 : (Jvm.Cond.instanceMethod ({ cls := "MixedLeaves$Plain", name := "kept", desc := "()I" } : Jvm.MethodName)) ∈ lw_all := lw_g (lw_at lw_m3 135 rfl) rfl
theorem q640 : (Jvm.Cond.selects "MixedLeaves$Plain" ({ cls := "MixedLeaves$Plain", name := "kept", desc := "()I" } : Jvm.MethodName) ({ cls := "MixedLeaves$Plain", name := "kept", desc := "()I" } : Jvm.MethodName)) ∈ lw_all := lw_g (lw_at lw_m3 136 rfl) rfl
theorem q641 : (Jvm.Cond.sameMethod "MixedLeaves$Plain" "MixedLeaves$Plain" "kept" "()I") ∈ lw_all := lw_g (lw_at lw_m3 137 rfl) rfl
theorem q646 : (Jvm.Cond.code ({ cls := "MixedLeaves$Plain", name := "kept", desc := "()I" } : Jvm.MethodName) prog_5_method_5_code (1 : Nat) (Option.some Jvm.ClassFile.FieldType.int)) ∈ lw_all := lw_g (lw_at lw_m3 142 rfl) rfl
theorem q652 : (Jvm.Cond.privateMethod ({ cls := "MixedLeaves$Plain", name := "square", desc := "()I" } : Jvm.MethodName)) ∈ lw_tbl := lw_at lw_m3 148 rfl
theorem q653 : (Jvm.Cond.instanceMethod ({ cls := "MixedLeaves$Plain", name := "square", desc := "()I" } : Jvm.MethodName)) ∈ lw_all := lw_g (lw_at lw_m3 149 rfl) rfl
theorem q654 : (Jvm.Cond.code ({ cls := "MixedLeaves$Plain", name := "square", desc := "()I" } : Jvm.MethodName) prog_5_method_6_code (1 : Nat) (Option.some Jvm.ClassFile.FieldType.int)) ∈ lw_all := lw_g (lw_at lw_m3 150 rfl) rfl
theorem q1203 : (Jvm.Cond.sameMethod "MixedLeaves$Plain" "MixedLeaves$Plain" "twice" "()I") ∈ lw_all := lw_g (lw_at lw_m5 219 rfl) rfl
theorem q1206 : (Jvm.Cond.sameMethod "MixedLeaves$Plain" "MixedLeaves$Plain" "square" "()I") ∈ lw_all := lw_g (lw_at lw_m5 222 rfl) rfl
theorem in_X4 : ∀ w ∈ wsX40, w ∈ lw_all := lw_in wsX40 [250] (by decide +kernel) (by decide +kernel)
/-! MixedLeaves$Grown -/
set_option maxRecDepth 100000
def RX5 : String := "MixedLeaves$Grown"
def TX5 : u_T := fun k => match k with
  | _ => ("MixedLeaves$Plain", "n", "I", false)
def tyX5 : Nat → FieldType := fun k => match k with
  | _ => .int
abbrev wsX50 : List Cond := u_ws RX5 TX5 1
theorem nmX5 : ∀ a, a < 1 → ∀ b, b < 1 → a ≠ b → (TX5 a).2.1 ≠ (TX5 b).2.1 := by decide +kernel
theorem tyX5_ok : ∀ k, k < 1 → parseFieldDescriptor (TX5 k).2.2.1 = some (tyX5 k) := by decide +kernel
abbrev cX5_init : ByteArray := prog_3_method_1_code
def yX5_init : MethodName := ⟨RX5, "<init>", "(I)V"⟩
def dkwX5_init_0 : List UInt8 := [42, 27, 183, 0, 1, 177]
abbrev dktX5_init_0 : List UInt8 := dkwX5_init_0 ++ []
theorem dksX5_init_0 : cX5_init.data.toList.drop 0 = dktX5_init_0 := by decide +kernel
theorem dX5_init_0 : decode cX5_init 0 = .ok (.aload_n 0, 1) := dk_42 (dk_at dksX5_init_0 0 rfl rfl)
theorem dX5_init_1 : decode cX5_init 1 = .ok (.iload_n 1, 1) := dk_27 (dk_at dksX5_init_0 1 rfl rfl)
theorem dX5_init_2 : decode cX5_init 2 = .ok (.invokespecial 1, 3) := dk_183 0 1 (dk_at dksX5_init_0 2 rfl rfl)
theorem dX5_init_5 : decode cX5_init 5 = .ok (.return_, 1) := dk_177 (dk_at dksX5_init_0 5 rfl rfl)
abbrev cX5_number : ByteArray := prog_3_method_2_code
def yX5_number : MethodName := ⟨RX5, "number", "()I"⟩
def dkwX5_number_0 : List UInt8 := [42, 180, 0, 7, 4, 96, 172]
abbrev dktX5_number_0 : List UInt8 := dkwX5_number_0 ++ []
theorem dksX5_number_0 : cX5_number.data.toList.drop 0 = dktX5_number_0 := by decide +kernel
theorem dX5_number_0 : decode cX5_number 0 = .ok (.aload_n 0, 1) := dk_42 (dk_at dksX5_number_0 0 rfl rfl)
theorem dX5_number_1 : decode cX5_number 1 = .ok (.getfield 7, 3) := dk_180 0 7 (dk_at dksX5_number_0 1 rfl rfl)
theorem dX5_number_4 : decode cX5_number 4 = .ok (.iconst 1, 1) := dk_4 (dk_at dksX5_number_0 4 rfl rfl)
theorem dX5_number_5 : decode cX5_number 5 = .ok (.iadd, 1) := dk_96 (dk_at dksX5_number_0 5 rfl rfl)
theorem dX5_number_6 : decode cX5_number 6 = .ok (.ireturn, 1) := dk_172 (dk_at dksX5_number_0 6 rfl rfl)
abbrev cX5_twice : ByteArray := prog_3_method_3_code
def yX5_twice : MethodName := ⟨RX5, "twice", "()I"⟩
def dkwX5_twice_0 : List UInt8 := [42, 183, 0, 13, 4, 96, 172]
abbrev dktX5_twice_0 : List UInt8 := dkwX5_twice_0 ++ []
theorem dksX5_twice_0 : cX5_twice.data.toList.drop 0 = dktX5_twice_0 := by decide +kernel
theorem dX5_twice_0 : decode cX5_twice 0 = .ok (.aload_n 0, 1) := dk_42 (dk_at dksX5_twice_0 0 rfl rfl)
theorem dX5_twice_1 : decode cX5_twice 1 = .ok (.invokespecial 13, 3) := dk_183 0 13 (dk_at dksX5_twice_0 1 rfl rfl)
theorem dX5_twice_4 : decode cX5_twice 4 = .ok (.iconst 1, 1) := dk_4 (dk_at dksX5_twice_0 4 rfl rfl)
theorem dX5_twice_5 : decode cX5_twice 5 = .ok (.iadd, 1) := dk_96 (dk_at dksX5_twice_0 5 rfl rfl)
theorem dX5_twice_6 : decode cX5_twice 6 = .ok (.ireturn, 1) := dk_172 (dk_at dksX5_twice_0 6 rfl rfl)
abbrev cX5_kept : ByteArray := prog_3_method_4_code
def yX5_kept : MethodName := ⟨RX5, "kept", "()I"⟩
def dkwX5_kept_0 : List UInt8 := [5, 42, 183, 0, 17, 104, 172]
abbrev dktX5_kept_0 : List UInt8 := dkwX5_kept_0 ++ []
theorem dksX5_kept_0 : cX5_kept.data.toList.drop 0 = dktX5_kept_0 := by decide +kernel
theorem dX5_kept_0 : decode cX5_kept 0 = .ok (.iconst 2, 1) := dk_5 (dk_at dksX5_kept_0 0 rfl rfl)
theorem dX5_kept_1 : decode cX5_kept 1 = .ok (.aload_n 0, 1) := dk_42 (dk_at dksX5_kept_0 1 rfl rfl)
theorem dX5_kept_2 : decode cX5_kept 2 = .ok (.invokespecial 17, 3) := dk_183 0 17 (dk_at dksX5_kept_0 2 rfl rfl)
theorem dX5_kept_5 : decode cX5_kept 5 = .ok (.imul, 1) := dk_104 (dk_at dksX5_kept_0 5 rfl rfl)
theorem dX5_kept_6 : decode cX5_kept 6 = .ok (.ireturn, 1) := dk_172 (dk_at dksX5_kept_0 6 rfl rfl)
theorem q35 : (Jvm.Cond.initialized "MixedLeaves$Grown") ∈ lw_all := lw_g (lw_at lw_m1 11 rfl) rfl
theorem q247 : (Jvm.Cond.fieldLink "MixedLeaves$Grown" (7 : Nat) "MixedLeaves$Grown" "n" "I") ∈ lw_all := lw_g (lw_at lw_m1 223 rfl) rfl
theorem q248 : (Jvm.Cond.sameField "MixedLeaves$Grown" "MixedLeaves$Plain" "n" "I") ∈ lw_all := lw_g (lw_at lw_m1 224 rfl) rfl
theorem q253 : (Jvm.Cond.instantiable "MixedLeaves$Grown" (1 : Nat)) ∈ lw_all := lw_g (lw_at lw_m1 229 rfl) rfl
theorem q255 : (Jvm.Cond.instanceMethod ({ cls := "MixedLeaves$Grown", name := "<init>", desc := "(I)V" } : Jvm.MethodName)) ∈ lw_all := lw_g (lw_at lw_m1 231 rfl) rfl
theorem q256 : (Jvm.Cond.code ({ cls := "MixedLeaves$Grown", name := "<init>", desc := "(I)V" } : Jvm.MethodName) prog_3_method_1_code (2 : Nat) (Option.none : Option Jvm.ClassFile.FieldType)) ∈ lw_all := lw_g (lw_at lw_m1 232 rfl) rfl
theorem q257 : (Jvm.Cond.methodLink "MixedLeaves$Grown" (1 : Nat) ({ cls := "MixedLeaves$Plain", name := "<init>", desc := "(I)V" } : Jvm.MethodName)) ∈ lw_all := lw_g (lw_at lw_m1 233 rfl) rfl
theorem q258 : (Jvm.Cond.lays "MixedLeaves$Grown" "MixedLeaves$Plain" "n" "I") ∈ lw_all := lw_g (lw_at lw_m1 234 rfl) rfl
theorem q259 : (Jvm.Cond.superclass "MixedLeaves$Grown" "MixedLeaves$Plain") ∈ lw_all := lw_g (lw_at lw_m1 235 rfl) rfl
theorem q551 : (Jvm.Cond.castable "MixedLeaves$Grown" "MixedLeaves$Named") ∈ lw_tbl := lw_at lw_m3 47 rfl
theorem q552 : (Jvm.Cond.selects "MixedLeaves$Grown" ({ cls := "MixedLeaves$Named", name := "number", desc := "()I" } : Jvm.MethodName) ({ cls := "MixedLeaves$Grown", name := "number", desc := "()I" } : Jvm.MethodName)) ∈ lw_all := lw_g (lw_at lw_m3 48 rfl) rfl
theorem q553 : (Jvm.Cond.unhidden "MixedLeaves$Grown" "number" "()I") ∈ lw_tbl := lw_at lw_m3 49 rfl
theorem q554 : (Jvm.Cond.instanceMethod ({ cls := "MixedLeaves$Grown", name := "number", desc := "()I" } : Jvm.MethodName)) ∈ lw_all := lw_g (lw_at lw_m3 50 rfl) rfl
theorem q555 : (Jvm.Cond.publicMethod ({ cls := "MixedLeaves$Grown", name := "number", desc := "()I" } : Jvm.MethodName)) ∈ lw_tbl := lw_at lw_m3 51 rfl
theorem q556 : (Jvm.Cond.code ({ cls := "MixedLeaves$Grown", name := "number", desc := "()I" } : Jvm.MethodName) prog_3_method_2_code (1 : Nat) (Option.some Jvm.ClassFile.FieldType.int)) ∈ lw_all := lw_g (lw_at lw_m3 52 rfl) rfl
theorem q577 : (Jvm.Cond.unhidden "MixedLeaves$Grown" "name" "()I") ∈ lw_tbl := lw_at lw_m3 73 rfl
theorem q583 : (Jvm.Cond.castable "MixedLeaves$Grown" "MixedLeaves$Wide") ∈ lw_tbl := lw_at lw_m3 79 rfl
theorem q597 : (Jvm.Cond.selects "MixedLeaves$Grown" ({ cls := "MixedLeaves$Named", name := "twice", desc := "()I" } : Jvm.MethodName) ({ cls := "MixedLeaves$Grown", name := "twice", desc := "()I" } : Jvm.MethodName)) ∈ lw_all := lw_g (lw_at lw_m3 93 rfl) rfl
theorem q598 : (Jvm.Cond.unhidden "MixedLeaves$Grown" "twice" "()I") ∈ lw_tbl := lw_at lw_m3 94 rfl
theorem q599 : (Jvm.Cond.instanceMethod ({ cls := "MixedLeaves$Grown", name := "twice", desc := "()I" } : Jvm.MethodName)) ∈ lw_all := lw_g (lw_at lw_m3 95 rfl) rfl
theorem q600 : (Jvm.Cond.publicMethod ({ cls := "MixedLeaves$Grown", name := "twice", desc := "()I" } : Jvm.MethodName)) ∈ lw_tbl := lw_at lw_m3 96 rfl
theorem q601 : (Jvm.Cond.code ({ cls := "MixedLeaves$Grown", name := "twice", desc := "()I" } : Jvm.MethodName) prog_3_method_3_code (1 : Nat) (Option.some Jvm.ClassFile.FieldType.int)) ∈ lw_all := lw_g (lw_at lw_m3 97 rfl) rfl
theorem q602 : (Jvm.Cond.methodLink "MixedLeaves$Grown" (13 : Nat) ({ cls := "MixedLeaves$Plain", name := "twice", desc := "()I" } : Jvm.MethodName)) ∈ lw_all := lw_g (lw_at lw_m3 98 rfl) rfl
theorem q623 : (Jvm.Cond.selects "MixedLeaves$Grown" ({ cls := "MixedLeaves$Named", name := "far", desc := "()I" } : Jvm.MethodName) ({ cls := "MixedLeaves$Plain", name := "far", desc := "()I" } : Jvm.MethodName)) ∈ lw_all := lw_g (lw_at lw_m3 119 rfl) rfl
theorem q624 : (Jvm.Cond.unhidden "MixedLeaves$Grown" "far" "()I") ∈ lw_tbl := lw_at lw_m3 120 rfl
theorem q636 : (Jvm.Cond.sameMethod "MixedLeaves$Grown" "MixedLeaves$Plain" "far" "()I") ∈ lw_all := lw_g (lw_at lw_m3 132 rfl) rfl
theorem q642 : (Jvm.Cond.selects "MixedLeaves$Grown" ({ cls := "MixedLeaves$Plain", name := "kept", desc := "()I" } : Jvm.MethodName) ({ cls := "MixedLeaves$Grown", name := "kept", desc := "()I" } : Jvm.MethodName)) ∈ lw_all := lw_g (lw_at lw_m3 138 rfl) rfl
theorem q643 : (Jvm.Cond.instanceMethod ({ cls := "MixedLeaves$Grown", name := "kept", desc := "()I" } : Jvm.MethodName)) ∈ lw_all := lw_g (lw_at lw_m3 139 rfl) rfl
theorem q644 : (Jvm.Cond.code ({ cls := "MixedLeaves$Grown", name := "kept", desc := "()I" } : Jvm.MethodName) prog_3_method_4_code (1 : Nat) (Option.some Jvm.ClassFile.FieldType.int)) ∈ lw_all := lw_g (lw_at lw_m3 140 rfl) rfl
theorem q645 : (Jvm.Cond.methodLink "MixedLeaves$Grown" (17 : Nat) ({ cls := "MixedLeaves$Plain", name := "kept", desc := "()I" } : Jvm.MethodName)) ∈ lw_all := lw_g (lw_at lw_m3 141 rfl) rfl
theorem q1204 : (Jvm.Cond.sameMethod "MixedLeaves$Grown" "MixedLeaves$Grown" "twice" "()I") ∈ lw_all := lw_g (lw_at lw_m5 220 rfl) rfl
theorem q1205 : (Jvm.Cond.sameMethod "MixedLeaves$Grown" "MixedLeaves$Grown" "kept" "()I") ∈ lw_all := lw_g (lw_at lw_m5 221 rfl) rfl
theorem q1211 : (Jvm.Cond.castable "MixedLeaves$Grown" "MixedLeaves$Plain") ∈ lw_tbl := lw_at lw_m5 227 rfl
theorem in_X5 : ∀ w ∈ wsX50, w ∈ lw_all := lw_in wsX50 [258] (by decide +kernel) (by decide +kernel)
/-! MixedLeaves$Tall -/
set_option maxRecDepth 100000
def RX6 : String := "MixedLeaves$Tall"
def TX6 : u_T := fun k => match k with
  | _ => ("MixedLeaves$Plain", "n", "I", false)
def tyX6 : Nat → FieldType := fun k => match k with
  | _ => .int
abbrev wsX60 : List Cond := u_ws RX6 TX6 1
theorem nmX6 : ∀ a, a < 1 → ∀ b, b < 1 → a ≠ b → (TX6 a).2.1 ≠ (TX6 b).2.1 := by decide +kernel
theorem tyX6_ok : ∀ k, k < 1 → parseFieldDescriptor (TX6 k).2.2.1 = some (tyX6 k) := by decide +kernel
abbrev cX6_init : ByteArray := prog_7_method_1_code
def yX6_init : MethodName := ⟨RX6, "<init>", "(I)V"⟩
def dkwX6_init_0 : List UInt8 := [42, 27, 183, 0, 1, 177]
abbrev dktX6_init_0 : List UInt8 := dkwX6_init_0 ++ []
theorem dksX6_init_0 : cX6_init.data.toList.drop 0 = dktX6_init_0 := by decide +kernel
theorem dX6_init_0 : decode cX6_init 0 = .ok (.aload_n 0, 1) := dk_42 (dk_at dksX6_init_0 0 rfl rfl)
theorem dX6_init_1 : decode cX6_init 1 = .ok (.iload_n 1, 1) := dk_27 (dk_at dksX6_init_0 1 rfl rfl)
theorem dX6_init_2 : decode cX6_init 2 = .ok (.invokespecial 1, 3) := dk_183 0 1 (dk_at dksX6_init_0 2 rfl rfl)
theorem dX6_init_5 : decode cX6_init 5 = .ok (.return_, 1) := dk_177 (dk_at dksX6_init_0 5 rfl rfl)
abbrev cX6_twice : ByteArray := prog_7_method_2_code
def yX6_twice : MethodName := ⟨RX6, "twice", "()I"⟩
def dkwX6_twice_0 : List UInt8 := [6, 42, 183, 0, 7, 104, 172]
abbrev dktX6_twice_0 : List UInt8 := dkwX6_twice_0 ++ []
theorem dksX6_twice_0 : cX6_twice.data.toList.drop 0 = dktX6_twice_0 := by decide +kernel
theorem dX6_twice_0 : decode cX6_twice 0 = .ok (.iconst 3, 1) := dk_6 (dk_at dksX6_twice_0 0 rfl rfl)
theorem dX6_twice_1 : decode cX6_twice 1 = .ok (.aload_n 0, 1) := dk_42 (dk_at dksX6_twice_0 1 rfl rfl)
theorem dX6_twice_2 : decode cX6_twice 2 = .ok (.invokespecial 7, 3) := dk_183 0 7 (dk_at dksX6_twice_0 2 rfl rfl)
theorem dX6_twice_5 : decode cX6_twice 5 = .ok (.imul, 1) := dk_104 (dk_at dksX6_twice_0 5 rfl rfl)
theorem dX6_twice_6 : decode cX6_twice 6 = .ok (.ireturn, 1) := dk_172 (dk_at dksX6_twice_0 6 rfl rfl)
abbrev cX6_far : ByteArray := prog_7_method_3_code
def yX6_far : MethodName := ⟨RX6, "far", "()I"⟩
def dkwX6_far_0 : List UInt8 := [42, 183, 0, 11, 8, 96, 172]
abbrev dktX6_far_0 : List UInt8 := dkwX6_far_0 ++ []
theorem dksX6_far_0 : cX6_far.data.toList.drop 0 = dktX6_far_0 := by decide +kernel
theorem dX6_far_0 : decode cX6_far 0 = .ok (.aload_n 0, 1) := dk_42 (dk_at dksX6_far_0 0 rfl rfl)
theorem dX6_far_1 : decode cX6_far 1 = .ok (.invokespecial 11, 3) := dk_183 0 11 (dk_at dksX6_far_0 1 rfl rfl)
theorem dX6_far_4 : decode cX6_far 4 = .ok (.iconst 5, 1) := dk_8 (dk_at dksX6_far_0 4 rfl rfl)
theorem dX6_far_5 : decode cX6_far 5 = .ok (.iadd, 1) := dk_96 (dk_at dksX6_far_0 5 rfl rfl)
theorem dX6_far_6 : decode cX6_far 6 = .ok (.ireturn, 1) := dk_172 (dk_at dksX6_far_0 6 rfl rfl)
abbrev cX6_kept : ByteArray := prog_7_method_4_code
def yX6_kept : MethodName := ⟨RX6, "kept", "()I"⟩
def dkwX6_kept_0 : List UInt8 := [42, 183, 0, 14, 6, 100, 172]
abbrev dktX6_kept_0 : List UInt8 := dkwX6_kept_0 ++ []
theorem dksX6_kept_0 : cX6_kept.data.toList.drop 0 = dktX6_kept_0 := by decide +kernel
theorem dX6_kept_0 : decode cX6_kept 0 = .ok (.aload_n 0, 1) := dk_42 (dk_at dksX6_kept_0 0 rfl rfl)
theorem dX6_kept_1 : decode cX6_kept 1 = .ok (.invokespecial 14, 3) := dk_183 0 14 (dk_at dksX6_kept_0 1 rfl rfl)
theorem dX6_kept_4 : decode cX6_kept 4 = .ok (.iconst 3, 1) := dk_6 (dk_at dksX6_kept_0 4 rfl rfl)
theorem dX6_kept_5 : decode cX6_kept 5 = .ok (.isub, 1) := dk_100 (dk_at dksX6_kept_0 5 rfl rfl)
theorem dX6_kept_6 : decode cX6_kept 6 = .ok (.ireturn, 1) := dk_172 (dk_at dksX6_kept_0 6 rfl rfl)
theorem q36 : (Jvm.Cond.initialized "MixedLeaves$Tall") ∈ lw_all := lw_g (lw_at lw_m1 12 rfl) rfl
theorem q261 : (Jvm.Cond.instantiable "MixedLeaves$Tall" (1 : Nat)) ∈ lw_all := lw_g (lw_at lw_m1 237 rfl) rfl
theorem q263 : (Jvm.Cond.instanceMethod ({ cls := "MixedLeaves$Tall", name := "<init>", desc := "(I)V" } : Jvm.MethodName)) ∈ lw_all := lw_g (lw_at lw_m1 239 rfl) rfl
theorem q264 : (Jvm.Cond.code ({ cls := "MixedLeaves$Tall", name := "<init>", desc := "(I)V" } : Jvm.MethodName) prog_7_method_1_code (2 : Nat) (Option.none : Option Jvm.ClassFile.FieldType)) ∈ lw_all := lw_g (lw_at lw_m2 0 rfl) rfl
theorem q265 : (Jvm.Cond.methodLink "MixedLeaves$Tall" (1 : Nat) ({ cls := "MixedLeaves$Grown", name := "<init>", desc := "(I)V" } : Jvm.MethodName)) ∈ lw_all := lw_g (lw_at lw_m2 1 rfl) rfl
theorem q266 : (Jvm.Cond.lays "MixedLeaves$Tall" "MixedLeaves$Plain" "n" "I") ∈ lw_all := lw_g (lw_at lw_m2 2 rfl) rfl
theorem q267 : (Jvm.Cond.superclass "MixedLeaves$Tall" "MixedLeaves$Grown") ∈ lw_all := lw_g (lw_at lw_m2 3 rfl) rfl
theorem q563 : (Jvm.Cond.castable "MixedLeaves$Tall" "MixedLeaves$Named") ∈ lw_tbl := lw_at lw_m3 59 rfl
theorem q564 : (Jvm.Cond.selects "MixedLeaves$Tall" ({ cls := "MixedLeaves$Named", name := "number", desc := "()I" } : Jvm.MethodName) ({ cls := "MixedLeaves$Grown", name := "number", desc := "()I" } : Jvm.MethodName)) ∈ lw_all := lw_g (lw_at lw_m3 60 rfl) rfl
theorem q565 : (Jvm.Cond.unhidden "MixedLeaves$Tall" "number" "()I") ∈ lw_tbl := lw_at lw_m3 61 rfl
theorem q584 : (Jvm.Cond.castable "MixedLeaves$Tall" "MixedLeaves$Wide") ∈ lw_tbl := lw_at lw_m3 80 rfl
theorem q586 : (Jvm.Cond.unhidden "MixedLeaves$Tall" "name" "()I") ∈ lw_tbl := lw_at lw_m3 82 rfl
theorem q608 : (Jvm.Cond.selects "MixedLeaves$Tall" ({ cls := "MixedLeaves$Named", name := "twice", desc := "()I" } : Jvm.MethodName) ({ cls := "MixedLeaves$Tall", name := "twice", desc := "()I" } : Jvm.MethodName)) ∈ lw_all := lw_g (lw_at lw_m3 104 rfl) rfl
theorem q609 : (Jvm.Cond.unhidden "MixedLeaves$Tall" "twice" "()I") ∈ lw_tbl := lw_at lw_m3 105 rfl
theorem q610 : (Jvm.Cond.instanceMethod ({ cls := "MixedLeaves$Tall", name := "twice", desc := "()I" } : Jvm.MethodName)) ∈ lw_all := lw_g (lw_at lw_m3 106 rfl) rfl
theorem q611 : (Jvm.Cond.publicMethod ({ cls := "MixedLeaves$Tall", name := "twice", desc := "()I" } : Jvm.MethodName)) ∈ lw_tbl := lw_at lw_m3 107 rfl
theorem q612 : (Jvm.Cond.code ({ cls := "MixedLeaves$Tall", name := "twice", desc := "()I" } : Jvm.MethodName) prog_7_method_2_code (1 : Nat) (Option.some Jvm.ClassFile.FieldType.int)) ∈ lw_all := lw_g (lw_at lw_m3 108 rfl) rfl
theorem q613 : (Jvm.Cond.methodLink "MixedLeaves$Tall" (7 : Nat) ({ cls := "MixedLeaves$Grown", name := "twice", desc := "()I" } : Jvm.MethodName)) ∈ lw_all := lw_g (lw_at lw_m3 109 rfl) rfl
theorem q630 : (Jvm.Cond.selects "MixedLeaves$Tall" ({ cls := "MixedLeaves$Named", name := "far", desc := "()I" } : Jvm.MethodName) ({ cls := "MixedLeaves$Tall", name := "far", desc := "()I" } : Jvm.MethodName)) ∈ lw_all := lw_g (lw_at lw_m3 126 rfl) rfl
theorem q631 : (Jvm.Cond.unhidden "MixedLeaves$Tall" "far" "()I") ∈ lw_tbl := lw_at lw_m3 127 rfl
theorem q632 : (Jvm.Cond.instanceMethod ({ cls := "MixedLeaves$Tall", name := "far", desc := "()I" } : Jvm.MethodName)) ∈ lw_all := lw_g (lw_at lw_m3 128 rfl) rfl
theorem q633 : (Jvm.Cond.publicMethod ({ cls := "MixedLeaves$Tall", name := "far", desc := "()I" } : Jvm.MethodName)) ∈ lw_tbl := lw_at lw_m3 129 rfl
theorem q634 : (Jvm.Cond.code ({ cls := "MixedLeaves$Tall", name := "far", desc := "()I" } : Jvm.MethodName) prog_7_method_3_code (1 : Nat) (Option.some Jvm.ClassFile.FieldType.int)) ∈ lw_all := lw_g (lw_at lw_m3 130 rfl) rfl
theorem q635 : (Jvm.Cond.methodLink "MixedLeaves$Tall" (11 : Nat) ({ cls := "MixedLeaves$Grown", name := "far", desc := "()I" } : Jvm.MethodName)) ∈ lw_all := lw_g (lw_at lw_m3 131 rfl) rfl
theorem q647 : (Jvm.Cond.selects "MixedLeaves$Tall" ({ cls := "MixedLeaves$Plain", name := "kept", desc := "()I" } : Jvm.MethodName) ({ cls := "MixedLeaves$Tall", name := "kept", desc := "()I" } : Jvm.MethodName)) ∈ lw_all := lw_g (lw_at lw_m3 143 rfl) rfl
theorem q648 : (Jvm.Cond.instanceMethod ({ cls := "MixedLeaves$Tall", name := "kept", desc := "()I" } : Jvm.MethodName)) ∈ lw_all := lw_g (lw_at lw_m3 144 rfl) rfl
theorem q649 : (Jvm.Cond.code ({ cls := "MixedLeaves$Tall", name := "kept", desc := "()I" } : Jvm.MethodName) prog_7_method_4_code (1 : Nat) (Option.some Jvm.ClassFile.FieldType.int)) ∈ lw_all := lw_g (lw_at lw_m3 145 rfl) rfl
theorem q650 : (Jvm.Cond.methodLink "MixedLeaves$Tall" (14 : Nat) ({ cls := "MixedLeaves$Grown", name := "kept", desc := "()I" } : Jvm.MethodName)) ∈ lw_all := lw_g (lw_at lw_m3 146 rfl) rfl
theorem q1210 : (Jvm.Cond.castable "MixedLeaves$Tall" "MixedLeaves$Grown") ∈ lw_tbl := lw_at lw_m5 226 rfl
theorem q1212 : (Jvm.Cond.castable "MixedLeaves$Tall" "MixedLeaves$Plain") ∈ lw_tbl := lw_at lw_m5 228 rfl
theorem in_X6 : ∀ w ∈ wsX60, w ∈ lw_all := lw_in wsX60 [266] (by decide +kernel) (by decide +kernel)
/-! MixedLeaves$Apart -/
set_option maxRecDepth 100000
def RX7 : String := "MixedLeaves$Apart"
def TX7 : u_T := fun k => match k with
  | _ => ("MixedLeaves$Apart", "n", "I", true)
def tyX7 : Nat → FieldType := fun k => match k with
  | _ => .int
abbrev wsX70 : List Cond := u_ws RX7 TX7 1
theorem nmX7 : ∀ a, a < 1 → ∀ b, b < 1 → a ≠ b → (TX7 a).2.1 ≠ (TX7 b).2.1 := by decide +kernel
theorem tyX7_ok : ∀ k, k < 1 → parseFieldDescriptor (TX7 k).2.2.1 = some (tyX7 k) := by decide +kernel
abbrev cX7_init : ByteArray := prog_2_method_1_code
def yX7_init : MethodName := ⟨RX7, "<init>", "(I)V"⟩
def dkwX7_init_0 : List UInt8 := [42, 183, 0, 1, 42, 27, 181, 0, 7, 177]
abbrev dktX7_init_0 : List UInt8 := dkwX7_init_0 ++ []
theorem dksX7_init_0 : cX7_init.data.toList.drop 0 = dktX7_init_0 := by decide +kernel
theorem dX7_init_0 : decode cX7_init 0 = .ok (.aload_n 0, 1) := dk_42 (dk_at dksX7_init_0 0 rfl rfl)
theorem dX7_init_1 : decode cX7_init 1 = .ok (.invokespecial 1, 3) := dk_183 0 1 (dk_at dksX7_init_0 1 rfl rfl)
theorem dX7_init_4 : decode cX7_init 4 = .ok (.aload_n 0, 1) := dk_42 (dk_at dksX7_init_0 4 rfl rfl)
theorem dX7_init_5 : decode cX7_init 5 = .ok (.iload_n 1, 1) := dk_27 (dk_at dksX7_init_0 5 rfl rfl)
theorem dX7_init_6 : decode cX7_init 6 = .ok (.putfield 7, 3) := dk_181 0 7 (dk_at dksX7_init_0 6 rfl rfl)
theorem dX7_init_9 : decode cX7_init 9 = .ok (.return_, 1) := dk_177 (dk_at dksX7_init_0 9 rfl rfl)
abbrev cX7_number : ByteArray := prog_2_method_2_code
def yX7_number : MethodName := ⟨RX7, "number", "()I"⟩
def dkwX7_number_0 : List UInt8 := [42, 180, 0, 7, 116, 172]
abbrev dktX7_number_0 : List UInt8 := dkwX7_number_0 ++ []
theorem dksX7_number_0 : cX7_number.data.toList.drop 0 = dktX7_number_0 := by decide +kernel
theorem dX7_number_0 : decode cX7_number 0 = .ok (.aload_n 0, 1) := dk_42 (dk_at dksX7_number_0 0 rfl rfl)
theorem dX7_number_1 : decode cX7_number 1 = .ok (.getfield 7, 3) := dk_180 0 7 (dk_at dksX7_number_0 1 rfl rfl)
theorem dX7_number_4 : decode cX7_number 4 = .ok (.ineg, 1) := dk_116 (dk_at dksX7_number_0 4 rfl rfl)
theorem dX7_number_5 : decode cX7_number 5 = .ok (.ireturn, 1) := dk_172 (dk_at dksX7_number_0 5 rfl rfl)
abbrev cX7_twice : ByteArray := prog_2_method_3_code
def yX7_twice : MethodName := ⟨RX7, "twice", "()I"⟩
def dkwX7_twice_0 : List UInt8 := [5, 42, 182, 0, 13, 104, 172]
abbrev dktX7_twice_0 : List UInt8 := dkwX7_twice_0 ++ []
theorem dksX7_twice_0 : cX7_twice.data.toList.drop 0 = dktX7_twice_0 := by decide +kernel
theorem dX7_twice_0 : decode cX7_twice 0 = .ok (.iconst 2, 1) := dk_5 (dk_at dksX7_twice_0 0 rfl rfl)
theorem dX7_twice_1 : decode cX7_twice 1 = .ok (.aload_n 0, 1) := dk_42 (dk_at dksX7_twice_0 1 rfl rfl)
theorem dX7_twice_2 : decode cX7_twice 2 = .ok (.invokevirtual 13, 3) := dk_182 0 13 (dk_at dksX7_twice_0 2 rfl rfl)
theorem dX7_twice_5 : decode cX7_twice 5 = .ok (.imul, 1) := dk_104 (dk_at dksX7_twice_0 5 rfl rfl)
theorem dX7_twice_6 : decode cX7_twice 6 = .ok (.ireturn, 1) := dk_172 (dk_at dksX7_twice_0 6 rfl rfl)
abbrev cX7_far : ByteArray := prog_2_method_4_code
def yX7_far : MethodName := ⟨RX7, "far", "()I"⟩
theorem dX7_far_0 : decode cX7_far 0 = .ok (.iconst 0, 1) := by decide +kernel
theorem dX7_far_1 : decode cX7_far 1 = .ok (.ireturn, 1) := by decide +kernel
theorem q37 : (Jvm.Cond.initialized "MixedLeaves$Apart") ∈ lw_all := lw_g (lw_at lw_m1 13 rfl) rfl
theorem q269 : (Jvm.Cond.instantiable "MixedLeaves$Apart" (1 : Nat)) ∈ lw_all := lw_g (lw_at lw_m2 5 rfl) rfl
theorem q271 : (Jvm.Cond.instanceMethod ({ cls := "MixedLeaves$Apart", name := "<init>", desc := "(I)V" } : Jvm.MethodName)) ∈ lw_all := lw_g (lw_at lw_m2 7 rfl) rfl
theorem q272 : (Jvm.Cond.code ({ cls := "MixedLeaves$Apart", name := "<init>", desc := "(I)V" } : Jvm.MethodName) prog_2_method_1_code (2 : Nat) (Option.none : Option Jvm.ClassFile.FieldType)) ∈ lw_all := lw_g (lw_at lw_m2 8 rfl) rfl
theorem q273 : (Jvm.Cond.methodLink "MixedLeaves$Apart" (1 : Nat) ({ cls := "java/lang/Object", name := "<init>", desc := "()V" } : Jvm.MethodName)) ∈ lw_all := lw_g (lw_at lw_m2 9 rfl) rfl
theorem q274 : (Jvm.Cond.fieldLink "MixedLeaves$Apart" (7 : Nat) "MixedLeaves$Apart" "n" "I") ∈ lw_all := lw_g (lw_at lw_m2 10 rfl) rfl
theorem q276 : (Jvm.Cond.laysFinal "MixedLeaves$Apart" "MixedLeaves$Apart" "n" "I") ∈ lw_all := lw_g (lw_at lw_m2 12 rfl) rfl
theorem q277 : (Jvm.Cond.soleField "MixedLeaves$Apart" "n") ∈ lw_all := lw_g (lw_at lw_m2 13 rfl) rfl
theorem q278 : (Jvm.Cond.superclass "MixedLeaves$Apart" "java/lang/Object") ∈ lw_all := lw_g (lw_at lw_m2 14 rfl) rfl
theorem q545 : (Jvm.Cond.castable "MixedLeaves$Apart" "MixedLeaves$Named") ∈ lw_tbl := lw_at lw_m3 41 rfl
theorem q546 : (Jvm.Cond.selects "MixedLeaves$Apart" ({ cls := "MixedLeaves$Named", name := "number", desc := "()I" } : Jvm.MethodName) ({ cls := "MixedLeaves$Apart", name := "number", desc := "()I" } : Jvm.MethodName)) ∈ lw_all := lw_g (lw_at lw_m3 42 rfl) rfl
theorem q547 : (Jvm.Cond.unhidden "MixedLeaves$Apart" "number" "()I") ∈ lw_tbl := lw_at lw_m3 43 rfl
theorem q548 : (Jvm.Cond.instanceMethod ({ cls := "MixedLeaves$Apart", name := "number", desc := "()I" } : Jvm.MethodName)) ∈ lw_all := lw_g (lw_at lw_m3 44 rfl) rfl
theorem q549 : (Jvm.Cond.publicMethod ({ cls := "MixedLeaves$Apart", name := "number", desc := "()I" } : Jvm.MethodName)) ∈ lw_tbl := lw_at lw_m3 45 rfl
theorem q550 : (Jvm.Cond.code ({ cls := "MixedLeaves$Apart", name := "number", desc := "()I" } : Jvm.MethodName) prog_2_method_2_code (1 : Nat) (Option.some Jvm.ClassFile.FieldType.int)) ∈ lw_all := lw_g (lw_at lw_m3 46 rfl) rfl
theorem q570 : (Jvm.Cond.unhidden "MixedLeaves$Apart" "name" "()I") ∈ lw_tbl := lw_at lw_m3 66 rfl
theorem q591 : (Jvm.Cond.selects "MixedLeaves$Apart" ({ cls := "MixedLeaves$Named", name := "twice", desc := "()I" } : Jvm.MethodName) ({ cls := "MixedLeaves$Apart", name := "twice", desc := "()I" } : Jvm.MethodName)) ∈ lw_all := lw_g (lw_at lw_m3 87 rfl) rfl
theorem q592 : (Jvm.Cond.unhidden "MixedLeaves$Apart" "twice" "()I") ∈ lw_tbl := lw_at lw_m3 88 rfl
theorem q593 : (Jvm.Cond.instanceMethod ({ cls := "MixedLeaves$Apart", name := "twice", desc := "()I" } : Jvm.MethodName)) ∈ lw_all := lw_g (lw_at lw_m3 89 rfl) rfl
theorem q594 : (Jvm.Cond.publicMethod ({ cls := "MixedLeaves$Apart", name := "twice", desc := "()I" } : Jvm.MethodName)) ∈ lw_tbl := lw_at lw_m3 90 rfl
theorem q595 : (Jvm.Cond.code ({ cls := "MixedLeaves$Apart", name := "twice", desc := "()I" } : Jvm.MethodName) prog_2_method_3_code (1 : Nat) (Option.some Jvm.ClassFile.FieldType.int)) ∈ lw_all := lw_g (lw_at lw_m3 91 rfl) rfl
theorem q596 : (Jvm.Cond.methodLink "MixedLeaves$Apart" (13 : Nat) ({ cls := "MixedLeaves$Apart", name := "number", desc := "()I" } : Jvm.MethodName)) ∈ lw_all := lw_g (lw_at lw_m3 92 rfl) rfl
theorem q618 : (Jvm.Cond.selects "MixedLeaves$Apart" ({ cls := "MixedLeaves$Named", name := "far", desc := "()I" } : Jvm.MethodName) ({ cls := "MixedLeaves$Apart", name := "far", desc := "()I" } : Jvm.MethodName)) ∈ lw_all := lw_g (lw_at lw_m3 114 rfl) rfl
theorem q619 : (Jvm.Cond.unhidden "MixedLeaves$Apart" "far" "()I") ∈ lw_tbl := lw_at lw_m3 115 rfl
theorem q620 : (Jvm.Cond.instanceMethod ({ cls := "MixedLeaves$Apart", name := "far", desc := "()I" } : Jvm.MethodName)) ∈ lw_all := lw_g (lw_at lw_m3 116 rfl) rfl
theorem q621 : (Jvm.Cond.publicMethod ({ cls := "MixedLeaves$Apart", name := "far", desc := "()I" } : Jvm.MethodName)) ∈ lw_tbl := lw_at lw_m3 117 rfl
theorem q622 : (Jvm.Cond.code ({ cls := "MixedLeaves$Apart", name := "far", desc := "()I" } : Jvm.MethodName) prog_2_method_4_code (1 : Nat) (Option.some Jvm.ClassFile.FieldType.int)) ∈ lw_all := lw_g (lw_at lw_m3 118 rfl) rfl
theorem q1202 : (Jvm.Cond.selects "MixedLeaves$Apart" ({ cls := "MixedLeaves$Apart", name := "number", desc := "()I" } : Jvm.MethodName) ({ cls := "MixedLeaves$Apart", name := "number", desc := "()I" } : Jvm.MethodName)) ∈ lw_all := lw_g (lw_at lw_m5 218 rfl) rfl
theorem in_X7 : ∀ w ∈ wsX70, w ∈ lw_all := lw_in wsX70 [276] (by decide +kernel) (by decide +kernel)
/-! MixedLeaves$Trouble -/
set_option maxRecDepth 100000
def RX8 : String := "MixedLeaves$Trouble"
def TX8 : u_T := fun k => match k with
  | 0 => ("java/lang/Throwable", "cause", "Ljava/lang/Throwable;", false)
  | 1 => ("java/lang/Throwable", "stackTrace", "[Ljava/lang/StackTraceElement;", false)
  | 2 => ("java/lang/Throwable", "suppressedExceptions", "Ljava/util/List;", false)
  | 3 => ("java/lang/Throwable", "detailMessage", "Ljava/lang/String;", false)
  | 4 => ("java/lang/Throwable", "backtrace", "Ljava/lang/Object;", false)
  | 5 => ("java/lang/Throwable", "depth", "I", false)
  | _ => ("MixedLeaves$Trouble", "n", "I", true)
def tyX8 : Nat → FieldType := fun k => match k with
  | 0 => .object "java/lang/Throwable"
  | 1 => .array (.object "java/lang/StackTraceElement")
  | 2 => .object "java/util/List"
  | 3 => .object "java/lang/String"
  | 4 => .object "java/lang/Object"
  | 5 => .int
  | _ => .int
abbrev wsX80 : List Cond := u_ws RX8 TX8 7
theorem nmX8 : ∀ a, a < 7 → ∀ b, b < 7 → a ≠ b → (TX8 a).2.1 ≠ (TX8 b).2.1 := by decide +kernel
theorem tyX8_ok : ∀ k, k < 7 → parseFieldDescriptor (TX8 k).2.2.1 = some (tyX8 k) := by decide +kernel
abbrev cX8_init : ByteArray := prog_8_method_1_code
def yX8_init : MethodName := ⟨RX8, "<init>", "(I)V"⟩
def dkwX8_init_0 : List UInt8 := [42, 18, 1, 1, 3, 3, 183, 0, 3, 42, 27, 181, 0, 9, 177]
abbrev dktX8_init_0 : List UInt8 := dkwX8_init_0 ++ []
theorem dksX8_init_0 : cX8_init.data.toList.drop 0 = dktX8_init_0 := by decide +kernel
theorem dX8_init_0 : decode cX8_init 0 = .ok (.aload_n 0, 1) := dk_42 (dk_at dksX8_init_0 0 rfl rfl)
theorem dX8_init_1 : decode cX8_init 1 = .ok (.ldc 1, 2) := dk_18 1 (dk_at dksX8_init_0 1 rfl rfl)
theorem dX8_init_3 : decode cX8_init 3 = .ok (.aconst_null, 1) := dk_1 (dk_at dksX8_init_0 3 rfl rfl)
theorem dX8_init_4 : decode cX8_init 4 = .ok (.iconst 0, 1) := dk_3 (dk_at dksX8_init_0 4 rfl rfl)
theorem dX8_init_5 : decode cX8_init 5 = .ok (.iconst 0, 1) := dk_3 (dk_at dksX8_init_0 5 rfl rfl)
theorem dX8_init_6 : decode cX8_init 6 = .ok (.invokespecial 3, 3) := dk_183 0 3 (dk_at dksX8_init_0 6 rfl rfl)
theorem dX8_init_9 : decode cX8_init 9 = .ok (.aload_n 0, 1) := dk_42 (dk_at dksX8_init_0 9 rfl rfl)
theorem dX8_init_10 : decode cX8_init 10 = .ok (.iload_n 1, 1) := dk_27 (dk_at dksX8_init_0 10 rfl rfl)
theorem dX8_init_11 : decode cX8_init 11 = .ok (.putfield 9, 3) := dk_181 0 9 (dk_at dksX8_init_0 11 rfl rfl)
theorem dX8_init_14 : decode cX8_init 14 = .ok (.return_, 1) := dk_177 (dk_at dksX8_init_0 14 rfl rfl)
theorem q38 : (Jvm.Cond.initialized "MixedLeaves$Trouble") ∈ lw_all := lw_g (lw_at lw_m1 14 rfl) rfl
theorem q138 : (Jvm.Cond.selects "MixedLeaves$Trouble" ({ cls := "java/lang/Throwable", name := "fillInStackTrace", desc := "()Ljava/lang/Throwable;" } : Jvm.MethodName) ({ cls := "java/lang/Throwable", name := "fillInStackTrace", desc := "()Ljava/lang/Throwable;" } : Jvm.MethodName)) ∈ lw_all := lw_g (lw_at lw_m1 114 rfl) rfl
theorem q280 : (Jvm.Cond.instantiable "MixedLeaves$Trouble" (7 : Nat)) ∈ lw_all := lw_g (lw_at lw_m2 16 rfl) rfl
theorem q281 : (Jvm.Cond.castable "MixedLeaves$Trouble" "MixedLeaves$Trouble") ∈ lw_tbl := lw_at lw_m2 17 rfl
theorem q282 : (Jvm.Cond.selects "MixedLeaves$Trouble" ({ cls := "java/lang/Throwable", name := "fillInStackTrace", desc := "(I)Ljava/lang/Throwable;" } : Jvm.MethodName) ({ cls := "java/lang/Throwable", name := "fillInStackTrace", desc := "(I)Ljava/lang/Throwable;" } : Jvm.MethodName)) ∈ lw_all := lw_g (lw_at lw_m2 18 rfl) rfl
theorem q283 : (Jvm.Cond.lays "MixedLeaves$Trouble" "java/lang/Throwable" "cause" "Ljava/lang/Throwable;") ∈ lw_all := lw_g (lw_at lw_m2 19 rfl) rfl
theorem q284 : (Jvm.Cond.lays "MixedLeaves$Trouble" "java/lang/Throwable" "stackTrace" "[Ljava/lang/StackTraceElement;") ∈ lw_all := lw_g (lw_at lw_m2 20 rfl) rfl
theorem q285 : (Jvm.Cond.lays "MixedLeaves$Trouble" "java/lang/Throwable" "suppressedExceptions" "Ljava/util/List;") ∈ lw_all := lw_g (lw_at lw_m2 21 rfl) rfl
theorem q286 : (Jvm.Cond.lays "MixedLeaves$Trouble" "java/lang/Throwable" "detailMessage" "Ljava/lang/String;") ∈ lw_all := lw_g (lw_at lw_m2 22 rfl) rfl
theorem q287 : (Jvm.Cond.lays "MixedLeaves$Trouble" "java/lang/Throwable" "backtrace" "Ljava/lang/Object;") ∈ lw_all := lw_g (lw_at lw_m2 23 rfl) rfl
theorem q289 : (Jvm.Cond.instanceMethod ({ cls := "MixedLeaves$Trouble", name := "<init>", desc := "(I)V" } : Jvm.MethodName)) ∈ lw_all := lw_g (lw_at lw_m2 25 rfl) rfl
theorem q290 : (Jvm.Cond.code ({ cls := "MixedLeaves$Trouble", name := "<init>", desc := "(I)V" } : Jvm.MethodName) prog_8_method_1_code (2 : Nat) (Option.none : Option Jvm.ClassFile.FieldType)) ∈ lw_all := lw_g (lw_at lw_m2 26 rfl) rfl
theorem q291 : (Jvm.Cond.stringRef "MixedLeaves$Trouble" (1 : Nat) "trouble") ∈ lw_tbl := lw_at lw_m2 27 rfl
theorem q292 : (Jvm.Cond.methodLink "MixedLeaves$Trouble" (3 : Nat) ({ cls := "java/lang/RuntimeException", name := "<init>", desc := "(Ljava/lang/String;Ljava/lang/Throwable;ZZ)V" } : Jvm.MethodName)) ∈ lw_all := lw_g (lw_at lw_m2 28 rfl) rfl
theorem q301 : (Jvm.Cond.fieldLink "MixedLeaves$Trouble" (9 : Nat) "MixedLeaves$Trouble" "n" "I") ∈ lw_all := lw_g (lw_at lw_m2 37 rfl) rfl
theorem q303 : (Jvm.Cond.laysFinal "MixedLeaves$Trouble" "MixedLeaves$Trouble" "n" "I") ∈ lw_all := lw_g (lw_at lw_m2 39 rfl) rfl
theorem q304 : (Jvm.Cond.soleField "MixedLeaves$Trouble" "n") ∈ lw_all := lw_g (lw_at lw_m2 40 rfl) rfl
theorem q305 : (Jvm.Cond.lays "MixedLeaves$Trouble" "java/lang/Throwable" "depth" "I") ∈ lw_all := lw_g (lw_at lw_m2 41 rfl) rfl
theorem q306 : (Jvm.Cond.superclass "MixedLeaves$Trouble" "java/lang/RuntimeException") ∈ lw_all := lw_g (lw_at lw_m2 42 rfl) rfl
theorem in_X8 : ∀ w ∈ wsX80, w ∈ lw_all := lw_in wsX80 [283, 284, 285, 286, 287, 305, 303] (by decide +kernel) (by decide +kernel)
/-! MixedLeaves$Named -/
set_option maxRecDepth 100000
def RX9 : String := "MixedLeaves$Named"
abbrev cX9_name : ByteArray := prog_4_method_4_code
def yX9_name : MethodName := ⟨RX9, "name", "()I"⟩
def dkwX9_name_0 : List UInt8 := [16, 10, 42, 185, 0, 1, 1, 0, 96, 172]
abbrev dktX9_name_0 : List UInt8 := dkwX9_name_0 ++ []
theorem dksX9_name_0 : cX9_name.data.toList.drop 0 = dktX9_name_0 := by decide +kernel
theorem dX9_name_0 : decode cX9_name 0 = .ok (.bipush 10, 2) := dk_16 10 (dk_at dksX9_name_0 0 rfl rfl)
theorem dX9_name_2 : decode cX9_name 2 = .ok (.aload_n 0, 1) := dk_42 (dk_at dksX9_name_0 2 rfl rfl)
theorem dX9_name_3 : decode cX9_name 3 = .ok (.invokeinterface 1 1, 5) := by decide +kernel
theorem dX9_name_8 : decode cX9_name 8 = .ok (.iadd, 1) := dk_96 (dk_at dksX9_name_0 8 rfl rfl)
theorem dX9_name_9 : decode cX9_name 9 = .ok (.ireturn, 1) := dk_172 (dk_at dksX9_name_0 9 rfl rfl)
theorem q543 : (Jvm.Cond.interfaceMethod "MixedLeaves$Named" "MixedLeaves$Named" "number" "()I") ∈ lw_tbl := lw_at lw_m3 39 rfl
theorem q544 : (Jvm.Cond.declares ({ cls := "MixedLeaves$Named", name := "number", desc := "()I" } : Jvm.MethodName)) ∈ lw_tbl := lw_at lw_m3 40 rfl
theorem q568 : (Jvm.Cond.interfaceMethod "MixedLeaves$Named" "MixedLeaves$Named" "name" "()I") ∈ lw_tbl := lw_at lw_m3 64 rfl
theorem q569 : (Jvm.Cond.declares ({ cls := "MixedLeaves$Named", name := "name", desc := "()I" } : Jvm.MethodName)) ∈ lw_tbl := lw_at lw_m3 65 rfl
theorem q571 : (Jvm.Cond.instanceMethod ({ cls := "MixedLeaves$Named", name := "name", desc := "()I" } : Jvm.MethodName)) ∈ lw_all := lw_g (lw_at lw_m3 67 rfl) rfl
theorem q572 : (Jvm.Cond.publicMethod ({ cls := "MixedLeaves$Named", name := "name", desc := "()I" } : Jvm.MethodName)) ∈ lw_tbl := lw_at lw_m3 68 rfl
theorem q573 : (Jvm.Cond.code ({ cls := "MixedLeaves$Named", name := "name", desc := "()I" } : Jvm.MethodName) prog_4_method_4_code (1 : Nat) (Option.some Jvm.ClassFile.FieldType.int)) ∈ lw_all := lw_g (lw_at lw_m3 69 rfl) rfl
theorem q574 : (Jvm.Cond.interfaceEntry "MixedLeaves$Named" (1 : Nat)) ∈ lw_tbl := lw_at lw_m3 70 rfl
theorem q575 : (Jvm.Cond.methodLink "MixedLeaves$Named" (1 : Nat) ({ cls := "MixedLeaves$Named", name := "number", desc := "()I" } : Jvm.MethodName)) ∈ lw_all := lw_g (lw_at lw_m3 71 rfl) rfl
theorem q582 : (Jvm.Cond.publicMethod ({ cls := "MixedLeaves$Named", name := "number", desc := "()I" } : Jvm.MethodName)) ∈ lw_tbl := lw_at lw_m3 78 rfl
theorem q589 : (Jvm.Cond.interfaceMethod "MixedLeaves$Named" "MixedLeaves$Named" "twice" "()I") ∈ lw_tbl := lw_at lw_m3 85 rfl
theorem q590 : (Jvm.Cond.declares ({ cls := "MixedLeaves$Named", name := "twice", desc := "()I" } : Jvm.MethodName)) ∈ lw_tbl := lw_at lw_m3 86 rfl
theorem q616 : (Jvm.Cond.interfaceMethod "MixedLeaves$Named" "MixedLeaves$Named" "far" "()I") ∈ lw_tbl := lw_at lw_m3 112 rfl
theorem q617 : (Jvm.Cond.declares ({ cls := "MixedLeaves$Named", name := "far", desc := "()I" } : Jvm.MethodName)) ∈ lw_tbl := lw_at lw_m3 113 rfl
theorem q1207 : (Jvm.Cond.initialized "MixedLeaves$Named") ∈ lw_all := lw_g (lw_at lw_m5 223 rfl) rfl
/-! MixedLeaves$Wide -/
set_option maxRecDepth 100000
def RX10 : String := "MixedLeaves$Wide"
abbrev cX10_name : ByteArray := prog_9_method_1_code
def yX10_name : MethodName := ⟨RX10, "name", "()I"⟩
def dkwX10_name_0 : List UInt8 := [17, 3, 242, 42, 185, 0, 1, 1, 0, 96, 172]
abbrev dktX10_name_0 : List UInt8 := dkwX10_name_0 ++ []
theorem dksX10_name_0 : cX10_name.data.toList.drop 0 = dktX10_name_0 := by decide +kernel
theorem dX10_name_0 : decode cX10_name 0 = .ok (.sipush 1010, 3) := dk_17 3 242 (dk_at dksX10_name_0 0 rfl rfl)
theorem dX10_name_3 : decode cX10_name 3 = .ok (.aload_n 0, 1) := dk_42 (dk_at dksX10_name_0 3 rfl rfl)
theorem dX10_name_4 : decode cX10_name 4 = .ok (.invokeinterface 1 1, 5) := by decide +kernel
theorem dX10_name_9 : decode cX10_name 9 = .ok (.iadd, 1) := dk_96 (dk_at dksX10_name_0 9 rfl rfl)
theorem dX10_name_10 : decode cX10_name 10 = .ok (.ireturn, 1) := dk_172 (dk_at dksX10_name_0 10 rfl rfl)
theorem q576 : (Jvm.Cond.declares ({ cls := "MixedLeaves$Wide", name := "name", desc := "()I" } : Jvm.MethodName)) ∈ lw_tbl := lw_at lw_m3 72 rfl
theorem q578 : (Jvm.Cond.instanceMethod ({ cls := "MixedLeaves$Wide", name := "name", desc := "()I" } : Jvm.MethodName)) ∈ lw_all := lw_g (lw_at lw_m3 74 rfl) rfl
theorem q579 : (Jvm.Cond.publicMethod ({ cls := "MixedLeaves$Wide", name := "name", desc := "()I" } : Jvm.MethodName)) ∈ lw_tbl := lw_at lw_m3 75 rfl
theorem q580 : (Jvm.Cond.code ({ cls := "MixedLeaves$Wide", name := "name", desc := "()I" } : Jvm.MethodName) prog_9_method_1_code (1 : Nat) (Option.some Jvm.ClassFile.FieldType.int)) ∈ lw_all := lw_g (lw_at lw_m3 76 rfl) rfl
theorem q581 : (Jvm.Cond.interfaceEntry "MixedLeaves$Wide" (1 : Nat)) ∈ lw_tbl := lw_at lw_m3 77 rfl
theorem q1208 : (Jvm.Cond.initialized "MixedLeaves$Wide") ∈ lw_all := lw_g (lw_at lw_m5 224 rfl) rfl
theorem q43 : (Jvm.Cond.initialized "java/lang/Number") ∈ lw_all := lw_g (lw_at lw_m1 19 rfl) rfl
set_option maxRecDepth 100000
theorem q47 : (Jvm.Cond.initialized "java/lang/System") ∈ lw_all := lw_g (lw_at lw_m1 23 rfl) rfl
set_option maxRecDepth 100000
theorem q528 : (Jvm.Cond.static ({ cls := "java/lang/System", name := "arraycopy", desc := "(Ljava/lang/Object;ILjava/lang/Object;II)V" } : Jvm.MethodName)) ∈ lw_all := lw_g (lw_at lw_m3 24 rfl) rfl
theorem q529 : (Jvm.Cond.native ({ cls := "java/lang/System", name := "arraycopy", desc := "(Ljava/lang/Object;ILjava/lang/Object;II)V" } : Jvm.MethodName)) ∈ lw_all := lw_g (lw_at lw_m3 25 rfl) rfl
theorem q59 : (Jvm.Cond.arrayOver (Jvm.ClassFile.FieldType.object "MixedLeaves$Slot")) ∈ lw_tbl := lw_at lw_m1 35 rfl
set_option maxRecDepth 100000
theorem q85 : (Jvm.Cond.arrayClass Jvm.ClassFile.FieldType.int) ∈ lw_all := lw_g (lw_at lw_m1 61 rfl) rfl
theorem q200 : (Jvm.Cond.arrayClass Jvm.ClassFile.FieldType.byte) ∈ lw_all := lw_g (lw_at lw_m1 176 rfl) rfl
theorem q217 : (Jvm.Cond.arrayOver (Jvm.ClassFile.FieldType.array Jvm.ClassFile.FieldType.int)) ∈ lw_tbl := lw_at lw_m1 193 rfl
theorem q219 : (Jvm.Cond.arrayOver (Jvm.ClassFile.FieldType.object "MixedLeaves$Plain")) ∈ lw_tbl := lw_at lw_m1 195 rfl
theorem q221 : (Jvm.Cond.arrayOver (Jvm.ClassFile.FieldType.object "MixedLeaves$Grown")) ∈ lw_tbl := lw_at lw_m1 197 rfl
theorem q226 : (Jvm.Cond.arrayClass Jvm.ClassFile.FieldType.boolean) ∈ lw_all := lw_g (lw_at lw_m1 202 rfl) rfl
theorem q227 : (Jvm.Cond.arrayClass Jvm.ClassFile.FieldType.char) ∈ lw_all := lw_g (lw_at lw_m1 203 rfl) rfl
theorem q228 : (Jvm.Cond.arrayClass Jvm.ClassFile.FieldType.short) ∈ lw_all := lw_g (lw_at lw_m1 204 rfl) rfl
theorem q229 : (Jvm.Cond.arrayClass Jvm.ClassFile.FieldType.long) ∈ lw_all := lw_g (lw_at lw_m1 205 rfl) rfl
theorem q230 : (Jvm.Cond.arrayClass Jvm.ClassFile.FieldType.float) ∈ lw_all := lw_g (lw_at lw_m1 206 rfl) rfl
theorem q231 : (Jvm.Cond.arrayClass Jvm.ClassFile.FieldType.double) ∈ lw_all := lw_g (lw_at lw_m1 207 rfl) rfl
