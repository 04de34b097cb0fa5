/-! the system's own numbers, and the JDK's bits -/
set_option maxRecDepth 100000
theorem snl2d_of {b : Int64} (h : b.toUInt64.toNat % 2 ^ 63 ≤ 9218868437227405312) : vn_snl2d b = false := by
  unfold vn_snl2d
  rw [Bool.and_eq_false_iff]
  left
  rw [decide_eq_false_iff_not, gt_iff_lt, UInt64.lt_iff_toNat_lt, UInt64.toNat_and]
  show ¬ (9218868437227405312 < b.toUInt64.toNat &&& (2 ^ 63 - 1))
  rw [Nat.and_two_pow_sub_one_eq_mod]
  omega
theorem sni2f_of {b : Int32} (h : b.toUInt32.toNat % 2 ^ 31 ≤ 2139095040) : vn_sni2f b = false := by
  unfold vn_sni2f
  rw [Bool.and_eq_false_iff]
  left
  rw [decide_eq_false_iff_not, gt_iff_lt, UInt32.lt_iff_toNat_lt, UInt32.toNat_and]
  show ¬ (2139095040 < b.toUInt32.toNat &&& (2 ^ 31 - 1))
  rw [Nat.and_two_pow_sub_one_eq_mod]
  omega
theorem lcmp_le {x y : Int64} : lg_cmp x y ≤ 0 ↔ x.toInt ≤ y.toInt := by
  unfold lg_cmp
  by_cases a : x > y
  · have h1 : y.toInt < x.toInt := Int64.lt_iff_toInt_lt.mp a
    rw [if_pos a]; exact ⟨fun h => absurd h (by decide), fun h => by omega⟩
  · have h1 : ¬ y.toInt < x.toInt := fun q => a (Int64.lt_iff_toInt_lt.mpr q)
    rw [if_neg a]
    by_cases b : x = y
    · rw [if_pos b]; exact ⟨fun _ => by omega, fun _ => by decide⟩
    · rw [if_neg b]; exact ⟨fun _ => by omega, fun _ => by decide⟩
theorem nan_le64 {b : Int64} : lg_cmp (b &&& 9223372036854775807) 9218868437227405312 ≤ 0 ↔ b.toUInt64.toNat % 2 ^ 63 ≤ 9218868437227405312 := by
  rw [lcmp_le]
  have h : (b &&& 9223372036854775807).toInt = ((b.toUInt64.toNat % 2 ^ 63 : Nat) : Int) := by
    refine toInt_of_lt (x := (b &&& 9223372036854775807).toBitVec) ?_ (by omega)
    rw [Int64.toBitVec_and, BitVec.toNat_and]
    show _ &&& (2 ^ 63 - 1) = _
    rw [Nat.and_two_pow_sub_one_eq_mod]
    rfl
  rw [h, show (9218868437227405312 : Int64).toInt = 9218868437227405312 from rfl]
  omega
theorem nan_le32 {b : Int32} : (b &&& 2147483647) ≤ 2139095040 ↔ b.toUInt32.toNat % 2 ^ 31 ≤ 2139095040 := by
  rw [Int32.le_iff_toInt_le]
  have h : (b &&& 2147483647).toInt = ((b.toUInt32.toNat % 2 ^ 31 : Nat) : Int) := by
    refine toInt_of_lt (x := (b &&& 2147483647).toBitVec) ?_ (by omega)
    rw [Int32.toBitVec_and, BitVec.toNat_and]
    show _ &&& (2 ^ 31 - 1) = _
    rw [Nat.and_two_pow_sub_one_eq_mod]
    rfl
  rw [h, show (2139095040 : Int32).toInt = 2139095040 from rfl]
  omega
def m_nan64 (d : UInt64) : Int32 := if d.toNat % 2 ^ 63 ≤ 9218868437227405312 then 0 else 1
def m_nan32 (d : UInt32) : Int32 := if d.toNat % 2 ^ 31 ≤ 2139095040 then 0 else 1
theorem nan64_0 {d : UInt64} : m_nan64 d = 0 ↔ d.toNat % 2 ^ 63 ≤ 9218868437227405312 := by unfold m_nan64; split <;> simp_all
theorem nan32_0 {d : UInt32} : m_nan32 d = 0 ↔ d.toNat % 2 ^ 31 ≤ 2139095040 := by unfold m_nan32; split <;> simp_all
def c_isKind (k : Int32) : Int32 := if k < 0 then 0 else if k > 7 then 0 else 1
def c_isWider (a b : Int32) : Int32 := if a = b then 1 else if a = 1 then (if b < 3 then 0 else 1) else if a = 2 ∨ a = 3 then (if b < 4 then 0 else 1) else if a = 4 ∨ a = 5 ∨ a = 6 then (if b ≤ a then 0 else 1) else 0
def c_bitsOf (v : Int64) (k : Int32) : Int64 := if k = 6 then (m_bos (FP.l2f v)).toInt64 else if k = 7 then m_bits (FP.l2d v) else v
def c_wholeOf (k : Int32) (b : Int64) : Int64 := if k = 0 then b &&& 1 else if k = 1 then b.toInt32.toInt8.toInt32.toInt64 else if k = 2 then (b.toInt32.toUInt32 % 65536).toInt32.toInt64 else if k = 3 then b.toInt32.toInt16.toInt32.toInt64 else if k = 4 then b.toInt32.toInt64 else b
def c_wide (f : UInt32) : UInt64 := if f.toNat % 2 ^ 31 ≤ 2139095040 then FP.f2d f else 9221120237041090560
def c_doubleOf (k : Int32) (b : Int64) : UInt64 := if k = 7 then m_real b else if k = 6 then c_wide (m_single b.toInt32) else FP.l2d (c_wholeOf k b)
def c_floatOf (k : Int32) (b : Int64) : UInt32 := if k = 6 then m_single b.toInt32 else FP.l2f (c_wholeOf k b)
def c_turned (to : Int32) (x : UInt64) : Int64 := if to = 1 then (FP.d2i x).toInt8.toInt32.toInt64 else if to = 2 then ((FP.d2i x).toUInt32 % 65536).toInt32.toInt64 else if to = 3 then (FP.d2i x).toInt16.toInt32.toInt64 else if to = 4 then (FP.d2i x).toInt64 else if to = 5 then FP.d2l x else if to = 6 then (if x.toNat % 2 ^ 63 ≤ 9218868437227405312 then (m_bos (FP.d2f x)).toInt64 else 2143289344) else m_bits x
def c_turnedF (to : Int32) (x : UInt32) : Int64 := if to = 1 then (FP.f2i x).toInt8.toInt32.toInt64 else if to = 2 then ((FP.f2i x).toUInt32 % 65536).toInt32.toInt64 else if to = 3 then (FP.f2i x).toInt16.toInt32.toInt64 else if to = 4 then (FP.f2i x).toInt64 else if to = 5 then FP.f2l x else if to = 6 then (m_bos x).toInt64 else m_bits (c_wide x)
def c_endF (v : UInt32) : Int32 := if v.toNat % 2 ^ 31 = 2139095040 then 1 else 0
theorem ceq_infF {a : UInt32} : Op.cmpValue (FP.fcmp a 2139095040) .l = 0 ↔ a.toNat = 2139095040 := by
  rw [ceq32, show (2139095040 : UInt32).toNat = 2139095040 from rfl]; omega
theorem ceq_ninfF {a : UInt32} : Op.cmpValue (FP.fcmp a 4286578688) .l = 0 ↔ a.toNat = 4286578688 := by
  rw [ceq32, show (4286578688 : UInt32).toNat = 4286578688 from rfl]; omega
theorem ceq_zeroF {a : UInt32} : Op.cmpValue (FP.fcmp a FP.fconst0) .l = 0 ↔ a.toNat % 2 ^ 31 = 0 := by
  rw [ceq32, show FP.fconst0.toNat = 0 from rfl]; omega
theorem c_endF_0 {v : UInt32} : c_endF v = 0 ↔ ¬ v.toNat % 2 ^ 31 = 2139095040 := by
  unfold c_endF
  split <;> simp_all
theorem nan_m_bits : m_bits 9221120237041090560 = 9221120237041090560 := by decide +kernel
theorem nan_m_bos : m_bos 2143289344 = 2143289344 := by decide +kernel

set_option maxHeartbeats 4000000 in
theorem met_J11_isNaN (l : Launch) (d0 : UInt64) : PF l yJ11_isNaN cJ11_isNaN 2 (some .boolean) 0 [.double d0] (.int (m_nan64 d0)) := by
  refine pf_ofF (by decide +kernel) (Nat.le_of_ble_eq_true rfl) ?_
  intro p e s m args below meth c ls hx hb hr hts hown hlk hml hl
  have hl : lv_has ls 2 [(0, .double d0)] := hl
  refine lv_dload_n hx hb dJ11_isNaN_0 rfl (lv_at hl 0 rfl) ?_
  refine lv_dload_n hx hb dJ11_isNaN_1 rfl (lv_at hl 0 rfl) ?_
  refine lv_dcmp hx hb dJ11_isNaN_2 ?_
  refine lv_topi (fun v2 e2 => ?_)
  refine lv_if_eq (tgt := 10) hx hb dJ11_isNaN_3 (by decide) (fun c3 => ?_) (fun c3 => ?_)
  · refine lv_iconst (v := 0) hx hb dJ11_isNaN_10 (by decide) ?_
    exact pf_zret hx hb hr hlk dJ11_isNaN_11 rfl (by rw [e2, ceq_self64] at c3; unfold m_nan64; grind)
  · refine lv_iconst (v := 1) hx hb dJ11_isNaN_6 (by decide) ?_
    refine lv_goto (tgt := 11) hx hb dJ11_isNaN_7 (by decide) ?_
    exact pf_zret hx hb hr hlk dJ11_isNaN_11 rfl (by rw [e2, ceq_self64] at c3; unfold m_nan64; grind)
set_option maxHeartbeats 4000000 in
theorem met_J10_isNaN (l : Launch) (f : UInt32) : PF l yJ10_isNaN cJ10_isNaN 1 (some .boolean) 0 [.float f] (.int (m_nan32 f)) := by
  refine pf_ofF (by decide +kernel) (Nat.le_of_ble_eq_true rfl) ?_
  intro p e s m args below meth c ls hx hb hr hts hown hlk hml hl
  have hl : lv_has ls 1 [(0, .float f)] := hl
  refine lv_fload_n hx hb dJ10_isNaN_0 rfl (lv_at hl 0 rfl) ?_
  refine lv_fload_n hx hb dJ10_isNaN_1 rfl (lv_at hl 0 rfl) ?_
  refine lv_fcmp hx hb dJ10_isNaN_2 ?_
  refine lv_topi (fun v2 e2 => ?_)
  refine lv_if_eq (tgt := 10) hx hb dJ10_isNaN_3 (by decide) (fun c3 => ?_) (fun c3 => ?_)
  · refine lv_iconst (v := 0) hx hb dJ10_isNaN_10 (by decide) ?_
    exact pf_zret hx hb hr hlk dJ10_isNaN_11 rfl (by rw [e2, ceq_self32] at c3; unfold m_nan32; grind)
  · refine lv_iconst (v := 1) hx hb dJ10_isNaN_6 (by decide) ?_
    refine lv_goto (tgt := 11) hx hb dJ10_isNaN_7 (by decide) ?_
    exact pf_zret hx hb hr hlk dJ10_isNaN_11 rfl (by rw [e2, ceq_self32] at c3; unfold m_nan32; grind)
set_option maxHeartbeats 4000000 in
theorem met_J11_doubleToLongBits (l : Launch) (d0 : UInt64) : PF l yJ11_doubleToLongBits cJ11_doubleToLongBits 2 (some .long) 1 [.double d0] (.long (m_bits d0)) := by
  refine pf_ofF (by decide +kernel) (Nat.le_of_ble_eq_true rfl) ?_
  intro p e s m args below meth c ls hx hb hr hts hown hlk hml hl
  have hl : lv_has ls 2 [(0, .double d0)] := hl
  refine lv_dload_n hx hb dJ11_doubleToLongBits_0 rfl (lv_at hl 0 rfl) ?_
  refine pf_S 1 hx hb hml hown hts (As := [.double d0]) (met_J11_isNaN l d0) (lw_S q448 q449 q45 q450) (by decide +kernel) rfl ⟨Nat.le_of_ble_eq_true rfl, Nat.le_of_ble_eq_true rfl⟩ hl.1 rfl (Nat.le_of_ble_eq_true rfl) dJ11_doubleToLongBits_1 ⟨Nat.le_of_ble_eq_true rfl, Nat.le_of_ble_eq_true rfl⟩ ?_
  refine lv_topi (fun v1 e1 => ?_)
  refine lv_if_ne (tgt := 12) hx hb dJ11_doubleToLongBits_4 (by decide) (fun c4 => ?_) (fun c4 => ?_)
  · refine lv_ldc2 (v := 9221120237041090560) hx hb hown (hts _ q454) dJ11_doubleToLongBits_12 ?_
    exact pf_lret hx hb hr hlk dJ11_doubleToLongBits_15 (by rw [e1, nan64_0] at c4; unfold m_bits; rw [if_pos (by omega)])
  · refine lv_dload_n hx hb dJ11_doubleToLongBits_7 rfl (lv_at hl 0 rfl) ?_
    refine vn_d2l hx hb (hml.trans hl.1.symm) hown (hts _ q451) (hts _ q453) (hts _ q452) (hts _ q45) (Nat.le_of_ble_eq_true rfl) (Nat.le_of_ble_eq_true rfl) dJ11_doubleToLongBits_8 ?_
    refine lv_topl (fun v8 e8 => ?_)
    exact pf_lret hx hb hr hlk dJ11_doubleToLongBits_11 (by rw [e1, nan64_0] at c4; rw [e8]; unfold m_bits; rw [if_neg (by omega)])
set_option maxHeartbeats 4000000 in
theorem met_J10_floatToIntBits (l : Launch) (f : UInt32) : PF l yJ10_floatToIntBits cJ10_floatToIntBits 1 (some .int) 1 [.float f] (.int (m_bos f)) := by
  refine pf_ofF (by decide +kernel) (Nat.le_of_ble_eq_true rfl) ?_
  intro p e s m args below meth c ls hx hb hr hts hown hlk hml hl
  have hl : lv_has ls 1 [(0, .float f)] := hl
  refine lv_fload_n hx hb dJ10_floatToIntBits_0 rfl (lv_at hl 0 rfl) ?_
  refine pf_S 1 hx hb hml hown hts (As := [.float f]) (met_J10_isNaN l f) (lw_S q438 q439 q44 q440) (by decide +kernel) rfl ⟨Nat.le_of_ble_eq_true rfl, Nat.le_of_ble_eq_true rfl⟩ hl.1 rfl (Nat.le_of_ble_eq_true rfl) dJ10_floatToIntBits_1 ⟨Nat.le_of_ble_eq_true rfl, Nat.le_of_ble_eq_true rfl⟩ ?_
  refine lv_topi (fun v1 e1 => ?_)
  refine lv_if_ne (tgt := 12) hx hb dJ10_floatToIntBits_4 (by decide) (fun c4 => ?_) (fun c4 => ?_)
  · refine lv_ldc (v := 2143289344) hx hb hown (hts _ q444) dJ10_floatToIntBits_12 ?_
    exact pf_iret hx hb hr hlk dJ10_floatToIntBits_14 (by rw [e1, nan32_0] at c4; unfold m_bos; rw [if_pos (by omega)])
  · refine lv_fload_n hx hb dJ10_floatToIntBits_7 rfl (lv_at hl 0 rfl) ?_
    refine vn_f2i hx hb (hml.trans hl.1.symm) hown (hts _ q441) (hts _ q443) (hts _ q442) (hts _ q44) (Nat.le_of_ble_eq_true rfl) (Nat.le_of_ble_eq_true rfl) dJ10_floatToIntBits_8 ?_
    refine lv_topi (fun v8 e8 => ?_)
    exact pf_iret hx hb hr hlk dJ10_floatToIntBits_11 (by rw [e1, nan32_0] at c4; rw [e8]; unfold m_bos; rw [if_neg (by omega)])
set_option maxHeartbeats 4000000 in
theorem met_X1_isKind (l : Launch) (k : Int32) : PF l yX1_isKind cX1_isKind 1 (some .boolean) 0 [.int k] (.int (c_isKind k)) := by
  refine pf_of (by decide) (Nat.le_of_ble_eq_true rfl) ?_
  intro p e s m args below meth c ls hx hb hr hts hown hlk hml hl
  have hl : lv_has ls 1 [(0, .int k)] := hl
  refine lv_iload_n hx hb dX1_isKind_0 rfl (lv_at hl 0 rfl) ?_
  refine lv_if_lt (tgt := 14) hx hb dX1_isKind_1 (by decide) (fun c1 => ?_) (fun c1 => ?_)
  · refine lv_iconst (v := 0) hx hb dX1_isKind_14 (by decide) ?_
    exact pf_zret hx hb hr hlk dX1_isKind_15 rfl (by unfold c_isKind; grind)
  · refine lv_iload_n hx hb dX1_isKind_4 rfl (lv_at hl 0 rfl) ?_
    refine lv_bipush (v := 7) hx hb dX1_isKind_5 (by decide) ?_
    refine lv_icmp_gt (tgt := 14) hx hb dX1_isKind_7 (by decide) (fun c7 => ?_) (fun c7 => ?_)
    · refine lv_iconst (v := 0) hx hb dX1_isKind_14 (by decide) ?_
      exact pf_zret hx hb hr hlk dX1_isKind_15 rfl (by unfold c_isKind; grind)
    · refine lv_iconst (v := 1) hx hb dX1_isKind_10 (by decide) ?_
      refine lv_goto (tgt := 15) hx hb dX1_isKind_11 (by decide) ?_
      exact pf_zret hx hb hr hlk dX1_isKind_15 rfl (by unfold c_isKind; grind)
set_option maxHeartbeats 4000000 in
theorem met_X1_isWider (l : Launch) (x : Int32) (y : Int32) : PF l yX1_isWider cX1_isWider 2 (some .boolean) 0 [.int x, .int y] (.int (c_isWider x y)) := by
  refine pf_of (by decide) (Nat.le_of_ble_eq_true rfl) ?_
  intro p e s m args below meth c ls hx hb hr hts hown hlk hml hl
  have hl : lv_has ls 2 [(0, .int x), (1, .int y)] := hl
  refine lv_iload_n hx hb dX1_isWider_0 rfl (lv_at hl 0 rfl) ?_
  refine lv_iload_n hx hb dX1_isWider_1 rfl (lv_at hl 1 rfl) ?_
  refine lv_icmp_ne (tgt := 7) hx hb dX1_isWider_2 (by decide) (fun c2 => ?_) (fun c2 => ?_)
  · refine lv_iload_n hx hb dX1_isWider_7 rfl (lv_at hl 0 rfl) ?_
    by_cases s8_1 : x = 1
    · refine lv_tableIn (tgt := 48) hx hb dX1_isWider_8 (by rw [s8_1]; decide) (by rw [s8_1]; decide) (by rw [s8_1]; rfl) (by decide) ?_
      refine lv_iload_n hx hb dX1_isWider_48 rfl (lv_at hl 1 rfl) ?_
      refine lv_iconst (v := 3) hx hb dX1_isWider_49 (by decide) ?_
      refine lv_icmp_lt (tgt := 57) hx hb dX1_isWider_50 (by decide) (fun c50 => ?_) (fun c50 => ?_)
      · refine lv_iconst (v := 0) hx hb dX1_isWider_57 (by decide) ?_
        exact pf_zret hx hb hr hlk dX1_isWider_58 rfl (by unfold c_isWider; grind)
      · refine lv_iconst (v := 1) hx hb dX1_isWider_53 (by decide) ?_
        refine lv_goto (tgt := 58) hx hb dX1_isWider_54 (by decide) ?_
        exact pf_zret hx hb hr hlk dX1_isWider_58 rfl (by unfold c_isWider; grind)
    by_cases s8_2 : x = 2
    · refine lv_tableIn (tgt := 59) hx hb dX1_isWider_8 (by rw [s8_2]; decide) (by rw [s8_2]; decide) (by rw [s8_2]; rfl) (by decide) ?_
      refine lv_iload_n hx hb dX1_isWider_59 rfl (lv_at hl 1 rfl) ?_
      refine lv_iconst (v := 4) hx hb dX1_isWider_60 (by decide) ?_
      refine lv_icmp_lt (tgt := 68) hx hb dX1_isWider_61 (by decide) (fun c61 => ?_) (fun c61 => ?_)
      · refine lv_iconst (v := 0) hx hb dX1_isWider_68 (by decide) ?_
        exact pf_zret hx hb hr hlk dX1_isWider_69 rfl (by unfold c_isWider; grind)
      · refine lv_iconst (v := 1) hx hb dX1_isWider_64 (by decide) ?_
        refine lv_goto (tgt := 69) hx hb dX1_isWider_65 (by decide) ?_
        exact pf_zret hx hb hr hlk dX1_isWider_69 rfl (by unfold c_isWider; grind)
    by_cases s8_3 : x = 3
    · refine lv_tableIn (tgt := 59) hx hb dX1_isWider_8 (by rw [s8_3]; decide) (by rw [s8_3]; decide) (by rw [s8_3]; rfl) (by decide) ?_
      refine lv_iload_n hx hb dX1_isWider_59 rfl (lv_at hl 1 rfl) ?_
      refine lv_iconst (v := 4) hx hb dX1_isWider_60 (by decide) ?_
      refine lv_icmp_lt (tgt := 68) hx hb dX1_isWider_61 (by decide) (fun c61 => ?_) (fun c61 => ?_)
      · refine lv_iconst (v := 0) hx hb dX1_isWider_68 (by decide) ?_
        exact pf_zret hx hb hr hlk dX1_isWider_69 rfl (by unfold c_isWider; grind)
      · refine lv_iconst (v := 1) hx hb dX1_isWider_64 (by decide) ?_
        refine lv_goto (tgt := 69) hx hb dX1_isWider_65 (by decide) ?_
        exact pf_zret hx hb hr hlk dX1_isWider_69 rfl (by unfold c_isWider; grind)
    by_cases s8_4 : x = 4
    · refine lv_tableIn (tgt := 70) hx hb dX1_isWider_8 (by rw [s8_4]; decide) (by rw [s8_4]; decide) (by rw [s8_4]; rfl) (by decide) ?_
      refine lv_iload_n hx hb dX1_isWider_70 rfl (lv_at hl 1 rfl) ?_
      refine lv_iload_n hx hb dX1_isWider_71 rfl (lv_at hl 0 rfl) ?_
      refine lv_icmp_le (tgt := 79) hx hb dX1_isWider_72 (by decide) (fun c72 => ?_) (fun c72 => ?_)
      · refine lv_iconst (v := 0) hx hb dX1_isWider_79 (by decide) ?_
        exact pf_zret hx hb hr hlk dX1_isWider_80 rfl (by unfold c_isWider; grind)
      · refine lv_iconst (v := 1) hx hb dX1_isWider_75 (by decide) ?_
        refine lv_goto (tgt := 80) hx hb dX1_isWider_76 (by decide) ?_
        exact pf_zret hx hb hr hlk dX1_isWider_80 rfl (by unfold c_isWider; grind)
    by_cases s8_5 : x = 5
    · refine lv_tableIn (tgt := 70) hx hb dX1_isWider_8 (by rw [s8_5]; decide) (by rw [s8_5]; decide) (by rw [s8_5]; rfl) (by decide) ?_
      refine lv_iload_n hx hb dX1_isWider_70 rfl (lv_at hl 1 rfl) ?_
      refine lv_iload_n hx hb dX1_isWider_71 rfl (lv_at hl 0 rfl) ?_
      refine lv_icmp_le (tgt := 79) hx hb dX1_isWider_72 (by decide) (fun c72 => ?_) (fun c72 => ?_)
      · refine lv_iconst (v := 0) hx hb dX1_isWider_79 (by decide) ?_
        exact pf_zret hx hb hr hlk dX1_isWider_80 rfl (by unfold c_isWider; grind)
      · refine lv_iconst (v := 1) hx hb dX1_isWider_75 (by decide) ?_
        refine lv_goto (tgt := 80) hx hb dX1_isWider_76 (by decide) ?_
        exact pf_zret hx hb hr hlk dX1_isWider_80 rfl (by unfold c_isWider; grind)
    by_cases s8_6 : x = 6
    · refine lv_tableIn (tgt := 70) hx hb dX1_isWider_8 (by rw [s8_6]; decide) (by rw [s8_6]; decide) (by rw [s8_6]; rfl) (by decide) ?_
      refine lv_iload_n hx hb dX1_isWider_70 rfl (lv_at hl 1 rfl) ?_
      refine lv_iload_n hx hb dX1_isWider_71 rfl (lv_at hl 0 rfl) ?_
      refine lv_icmp_le (tgt := 79) hx hb dX1_isWider_72 (by decide) (fun c72 => ?_) (fun c72 => ?_)
      · refine lv_iconst (v := 0) hx hb dX1_isWider_79 (by decide) ?_
        exact pf_zret hx hb hr hlk dX1_isWider_80 rfl (by unfold c_isWider; grind)
      · refine lv_iconst (v := 1) hx hb dX1_isWider_75 (by decide) ?_
        refine lv_goto (tgt := 80) hx hb dX1_isWider_76 (by decide) ?_
        exact pf_zret hx hb hr hlk dX1_isWider_80 rfl (by unfold c_isWider; grind)
    refine lv_tableOut (tgt := 81) hx hb dX1_isWider_8 (by have t0 := lv_neT (k := 1) (a := 1) s8_1 rfl; have t1 := lv_neT (k := 2) (a := 2) s8_2 rfl; have t2 := lv_neT (k := 3) (a := 3) s8_3 rfl; have t3 := lv_neT (k := 4) (a := 4) s8_4 rfl; have t4 := lv_neT (k := 5) (a := 5) s8_5 rfl; have t5 := lv_neT (k := 6) (a := 6) s8_6 rfl; omega) (by decide) ?_
    refine lv_iconst (v := 0) hx hb dX1_isWider_81 (by decide) ?_
    exact pf_zret hx hb hr hlk dX1_isWider_82 rfl (by unfold c_isWider; grind)
  · refine lv_iconst (v := 1) hx hb dX1_isWider_5 (by decide) ?_
    exact pf_zret hx hb hr hlk dX1_isWider_6 rfl (by unfold c_isWider; grind)
set_option maxHeartbeats 4000000 in
theorem met_X1_doubleBy (l : Launch) (b : Int64) : PF l yX1_doubleBy cX1_doubleBy 2 (some .double) 1 [.long b] (.double (m_real b)) := by
  refine pf_of (by decide) (Nat.le_of_ble_eq_true rfl) ?_
  intro p e s m args below meth c ls hx hb hr hts hown hlk hml hl
  have hl : lv_has ls 2 [(0, .long b)] := hl
  refine lv_lload_n hx hb dX1_doubleBy_0 rfl (lv_at hl 0 rfl) ?_
  refine lv_ldc2 (v := 9223372036854775807) hx hb hown (hts _ q487) dX1_doubleBy_1 ?_
  refine lv_land hx hb dX1_doubleBy_4 ?_
  refine lv_topl (fun v4 e4 => ?_)
  refine lv_ldc2 (v := 9218868437227405312) hx hb hown (hts _ q488) dX1_doubleBy_5 ?_
  refine W.lcmp hx hb dX1_doubleBy_8 ?_
  refine lv_topi (fun v8 e8 => ?_)
  refine lv_if_le (tgt := 18) hx hb dX1_doubleBy_9 (by decide) (fun c9 => ?_) (fun c9 => ?_)
  · have hn : b.toUInt64.toNat % 2 ^ 63 ≤ 9218868437227405312 := nan_le64.mp (by rw [← e4, ← e8]; exact c9)
    refine lv_lload_n hx hb dX1_doubleBy_18 rfl (lv_at hl 0 rfl) ?_
    refine vn_l2d hx hb (hml.trans hl.1.symm) hown (hts _ q489) (hts _ q491) (hts _ q490) (hts _ q45) (snl2d_of hn) (Nat.le_of_ble_eq_true rfl) (Nat.le_of_ble_eq_true rfl) dX1_doubleBy_19 ?_
    refine lv_topd (fun v19 e19 => ?_)
    exact pf_dret hx hb hr hlk dX1_doubleBy_22 (by rw [e19]; unfold m_real; rw [if_neg (by omega)])
  · refine lv_ldc2d (v := 9221120237041090560) hx hb hown (hts _ q458) dX1_doubleBy_12 ?_
    refine lv_goto (tgt := 22) hx hb dX1_doubleBy_15 (by decide) ?_
    exact pf_dret hx hb hr hlk dX1_doubleBy_22 (by rw [e8, e4, nan_le64] at c9; unfold m_real; rw [if_pos (by omega)])
set_option maxHeartbeats 4000000 in
theorem met_X1_floatBy (l : Launch) (b : Int32) : PF l yX1_floatBy cX1_floatBy 1 (some .float) 1 [.int b] (.float (m_single b)) := by
  refine pf_of (by decide) (Nat.le_of_ble_eq_true rfl) ?_
  intro p e s m args below meth c ls hx hb hr hts hown hlk hml hl
  have hl : lv_has ls 1 [(0, .int b)] := hl
  refine lv_iload_n hx hb dX1_floatBy_0 rfl (lv_at hl 0 rfl) ?_
  refine lv_ldc (v := 2147483647) hx hb hown (hts _ q475) dX1_floatBy_1 ?_
  refine lv_iand hx hb dX1_floatBy_3 ?_
  refine lv_topi (fun v3 e3 => ?_)
  refine lv_ldc (v := 2139095040) hx hb hown (hts _ q476) dX1_floatBy_4 ?_
  refine lv_icmp_le (tgt := 14) hx hb dX1_floatBy_6 (by decide) (fun c6 => ?_) (fun c6 => ?_)
  · have hn : b.toUInt32.toNat % 2 ^ 31 ≤ 2139095040 := nan_le32.mp (by rw [← e3]; exact c6)
    refine lv_iload_n hx hb dX1_floatBy_14 rfl (lv_at hl 0 rfl) ?_
    refine vn_i2f hx hb (hml.trans hl.1.symm) hown (hts _ q478) (hts _ q480) (hts _ q479) (hts _ q44) (sni2f_of hn) (Nat.le_of_ble_eq_true rfl) (Nat.le_of_ble_eq_true rfl) dX1_floatBy_15 ?_
    refine lv_topf (fun v15 e15 => ?_)
    exact pf_fret hx hb hr hlk dX1_floatBy_18 (by rw [e15]; unfold m_single; rw [if_neg (by omega)])
  · refine lv_ldcf (v := 2143289344) hx hb hown (hts _ q477) dX1_floatBy_9 ?_
    refine lv_goto (tgt := 18) hx hb dX1_floatBy_11 (by decide) ?_
    exact pf_fret hx hb hr hlk dX1_floatBy_18 (by rw [e3, nan_le32] at c6; unfold m_single; rw [if_pos (by omega)])
set_option maxHeartbeats 4000000 in
theorem met_X1_bitsOf (l : Launch) (b : Int64) (k : Int32) : PF l yX1_bitsOf cX1_bitsOf 3 (some .long) 2 [.long b, .int k] (.long (c_bitsOf b k)) := by
  refine pf_of (by decide) (Nat.le_of_ble_eq_true rfl) ?_
  intro p e s m args below meth c ls hx hb hr hts hown hlk hml hl
  have hl : lv_has ls 3 [(0, .long b), (2, .int k)] := hl
  refine lv_iload_n hx hb dX1_bitsOf_0 rfl (lv_at hl 1 rfl) ?_
  refine lv_bipush (v := 6) hx hb dX1_bitsOf_1 (by decide) ?_
  refine lv_icmp_ne (tgt := 15) hx hb dX1_bitsOf_3 (by decide) (fun c3 => ?_) (fun c3 => ?_)
  · refine lv_iload_n hx hb dX1_bitsOf_15 rfl (lv_at hl 1 rfl) ?_
    refine lv_bipush (v := 7) hx hb dX1_bitsOf_16 (by decide) ?_
    refine lv_icmp_ne (tgt := 29) hx hb dX1_bitsOf_18 (by decide) (fun c18 => ?_) (fun c18 => ?_)
    · refine lv_lload_n hx hb dX1_bitsOf_29 rfl (lv_at hl 0 rfl) ?_
      exact pf_lret hx hb hr hlk dX1_bitsOf_30 (by unfold c_bitsOf; grind)
    · refine lv_lload_n hx hb dX1_bitsOf_21 rfl (lv_at hl 0 rfl) ?_
      refine lv_l2d hx hb dX1_bitsOf_22 ?_
      refine lv_topd (fun v22 e22 => ?_)
      refine pf_S 1 hx hb hml hown hts (As := [.double v22]) (met_J11_doubleToLongBits l v22) (lw_S q445 q446 q45 q447) (by decide +kernel) rfl ⟨Nat.le_of_ble_eq_true rfl, Nat.le_of_ble_eq_true rfl⟩ hl.1 rfl (Nat.le_of_ble_eq_true rfl) dX1_bitsOf_23 ⟨Nat.le_of_ble_eq_true rfl, Nat.le_of_ble_eq_true rfl⟩ ?_
      refine lv_topl (fun v23 e23 => ?_)
      refine lv_goto (tgt := 30) hx hb dX1_bitsOf_26 (by decide) ?_
      exact pf_lret hx hb hr hlk dX1_bitsOf_30 (by unfold c_bitsOf; grind)
  · refine lv_lload_n hx hb dX1_bitsOf_6 rfl (lv_at hl 0 rfl) ?_
    refine lv_l2f hx hb dX1_bitsOf_7 ?_
    refine lv_topf (fun v7 e7 => ?_)
    refine pf_S 1 hx hb hml hown hts (As := [.float v7]) (met_J10_floatToIntBits l v7) (lw_S q435 q436 q44 q437) (by decide +kernel) rfl ⟨Nat.le_of_ble_eq_true rfl, Nat.le_of_ble_eq_true rfl⟩ hl.1 rfl (Nat.le_of_ble_eq_true rfl) dX1_bitsOf_8 ⟨Nat.le_of_ble_eq_true rfl, Nat.le_of_ble_eq_true rfl⟩ ?_
    refine lv_topi (fun v8 e8 => ?_)
    refine lv_i2l hx hb dX1_bitsOf_11 rfl ?_
    refine lv_topl (fun v11 e11 => ?_)
    refine lv_goto (tgt := 30) hx hb dX1_bitsOf_12 (by decide) ?_
    exact pf_lret hx hb hr hlk dX1_bitsOf_30 (by unfold c_bitsOf; grind)
set_option maxHeartbeats 4000000 in
theorem met_X1_wholeOf (l : Launch) (k : Int32) (b : Int64) : PF l yX1_wholeOf cX1_wholeOf 3 (some .long) 0 [.int k, .long b] (.long (c_wholeOf k b)) := by
  refine pf_of (by decide) (Nat.le_of_ble_eq_true rfl) ?_
  intro p e s m args below meth c ls hx hb hr hts hown hlk hml hl
  have hl : lv_has ls 3 [(0, .int k), (1, .long b)] := hl
  refine lv_iload_n hx hb dX1_wholeOf_0 rfl (lv_at hl 0 rfl) ?_
  by_cases s1_0 : k = 0
  · refine lv_tableIn (tgt := 36) hx hb dX1_wholeOf_1 (by rw [s1_0]; decide) (by rw [s1_0]; decide) (by rw [s1_0]; rfl) (by decide) ?_
    refine lv_lload_n hx hb dX1_wholeOf_36 rfl (lv_at hl 1 rfl) ?_
    refine lv_lconst (v := 1) hx hb dX1_wholeOf_37 (by decide) ?_
    refine lv_land hx hb dX1_wholeOf_38 ?_
    refine lv_topl (fun v38 e38 => ?_)
    exact pf_lret hx hb hr hlk dX1_wholeOf_39 (by unfold c_wholeOf; grind)
  by_cases s1_1 : k = 1
  · refine lv_tableIn (tgt := 40) hx hb dX1_wholeOf_1 (by rw [s1_1]; decide) (by rw [s1_1]; decide) (by rw [s1_1]; rfl) (by decide) ?_
    refine lv_lload_n hx hb dX1_wholeOf_40 rfl (lv_at hl 1 rfl) ?_
    refine lv_l2i hx hb dX1_wholeOf_41 rfl ?_
    refine lv_topi (fun v41 e41 => ?_)
    refine lv_i2b hx hb dX1_wholeOf_42 rfl ?_
    refine lv_topi (fun v42 e42 => ?_)
    refine lv_i2l hx hb dX1_wholeOf_43 rfl ?_
    refine lv_topl (fun v43 e43 => ?_)
    exact pf_lret hx hb hr hlk dX1_wholeOf_44 (by unfold c_wholeOf; grind)
  by_cases s1_2 : k = 2
  · refine lv_tableIn (tgt := 45) hx hb dX1_wholeOf_1 (by rw [s1_2]; decide) (by rw [s1_2]; decide) (by rw [s1_2]; rfl) (by decide) ?_
    refine lv_lload_n hx hb dX1_wholeOf_45 rfl (lv_at hl 1 rfl) ?_
    refine lv_l2i hx hb dX1_wholeOf_46 rfl ?_
    refine lv_topi (fun v46 e46 => ?_)
    refine lv_i2c hx hb dX1_wholeOf_47 rfl ?_
    refine lv_topi (fun v47 e47 => ?_)
    refine lv_i2l hx hb dX1_wholeOf_48 rfl ?_
    refine lv_topl (fun v48 e48 => ?_)
    exact pf_lret hx hb hr hlk dX1_wholeOf_49 (by unfold c_wholeOf; grind)
  by_cases s1_3 : k = 3
  · refine lv_tableIn (tgt := 50) hx hb dX1_wholeOf_1 (by rw [s1_3]; decide) (by rw [s1_3]; decide) (by rw [s1_3]; rfl) (by decide) ?_
    refine lv_lload_n hx hb dX1_wholeOf_50 rfl (lv_at hl 1 rfl) ?_
    refine lv_l2i hx hb dX1_wholeOf_51 rfl ?_
    refine lv_topi (fun v51 e51 => ?_)
    refine lv_i2s hx hb dX1_wholeOf_52 rfl ?_
    refine lv_topi (fun v52 e52 => ?_)
    refine lv_i2l hx hb dX1_wholeOf_53 rfl ?_
    refine lv_topl (fun v53 e53 => ?_)
    exact pf_lret hx hb hr hlk dX1_wholeOf_54 (by unfold c_wholeOf; grind)
  by_cases s1_4 : k = 4
  · refine lv_tableIn (tgt := 55) hx hb dX1_wholeOf_1 (by rw [s1_4]; decide) (by rw [s1_4]; decide) (by rw [s1_4]; rfl) (by decide) ?_
    refine lv_lload_n hx hb dX1_wholeOf_55 rfl (lv_at hl 1 rfl) ?_
    refine lv_l2i hx hb dX1_wholeOf_56 rfl ?_
    refine lv_topi (fun v56 e56 => ?_)
    refine lv_i2l hx hb dX1_wholeOf_57 rfl ?_
    refine lv_topl (fun v57 e57 => ?_)
    exact pf_lret hx hb hr hlk dX1_wholeOf_58 (by unfold c_wholeOf; grind)
  refine lv_tableOut (tgt := 59) hx hb dX1_wholeOf_1 (by have t0 := lv_neT (k := 0) (a := 0) s1_0 rfl; have t1 := lv_neT (k := 1) (a := 1) s1_1 rfl; have t2 := lv_neT (k := 2) (a := 2) s1_2 rfl; have t3 := lv_neT (k := 3) (a := 3) s1_3 rfl; have t4 := lv_neT (k := 4) (a := 4) s1_4 rfl; omega) (by decide) ?_
  refine lv_lload_n hx hb dX1_wholeOf_59 rfl (lv_at hl 1 rfl) ?_
  exact pf_lret hx hb hr hlk dX1_wholeOf_60 (by unfold c_wholeOf; grind)
set_option maxHeartbeats 4000000 in
theorem met_X1_wide (l : Launch) (f : UInt32) : PF l yX1_wide cX1_wide 1 (some .double) 0 [.float f] (.double (c_wide f)) := by
  refine pf_of (by decide) (Nat.le_of_ble_eq_true rfl) ?_
  intro p e s m args below meth c ls hx hb hr hts hown hlk hml hl
  have hl : lv_has ls 1 [(0, .float f)] := hl
  refine lv_fload_n hx hb dX1_wide_0 rfl (lv_at hl 0 rfl) ?_
  refine lv_fload_n hx hb dX1_wide_1 rfl (lv_at hl 0 rfl) ?_
  refine lv_fcmp hx hb dX1_wide_2 ?_
  refine lv_topi (fun v2 e2 => ?_)
  refine lv_if_eq (tgt := 12) hx hb dX1_wide_3 (by decide) (fun c3 => ?_) (fun c3 => ?_)
  · have hn : FV32 f ≠ .nan := num32.mpr (ceq_self32.mp (by rw [← e2]; exact c3))
    refine lv_fload_n hx hb dX1_wide_12 rfl (lv_at hl 0 rfl) ?_
    refine lv_f2d hx hb dX1_wide_13 (vf_of64 (f2d_nn hn)) ?_
    refine lv_topd (fun v13 e13 => ?_)
    exact pf_dret hx hb hr hlk dX1_wide_14 (by rw [e2, ceq_self32] at c3; unfold c_wide; grind)
  · refine lv_ldc2d (v := 9221120237041090560) hx hb hown (hts _ q458) dX1_wide_6 ?_
    refine lv_goto (tgt := 14) hx hb dX1_wide_9 (by decide) ?_
    exact pf_dret hx hb hr hlk dX1_wide_14 (by rw [e2, ceq_self32] at c3; unfold c_wide; grind)
set_option maxHeartbeats 4000000 in
theorem met_X1_doubleOf (l : Launch) (k : Int32) (b : Int64) : PF l yX1_doubleOf cX1_doubleOf 3 (some .double) 2 [.int k, .long b] (.double (c_doubleOf k b)) := by
  refine pf_of (by decide) (Nat.le_of_ble_eq_true rfl) ?_
  intro p e s m args below meth c ls hx hb hr hts hown hlk hml hl
  have hl : lv_has ls 3 [(0, .int k), (1, .long b)] := hl
  refine lv_iload_n hx hb dX1_doubleOf_0 rfl (lv_at hl 0 rfl) ?_
  refine lv_bipush (v := 7) hx hb dX1_doubleOf_1 (by decide) ?_
  refine lv_icmp_ne (tgt := 13) hx hb dX1_doubleOf_3 (by decide) (fun c3 => ?_) (fun c3 => ?_)
  · refine lv_iload_n hx hb dX1_doubleOf_13 rfl (lv_at hl 0 rfl) ?_
    refine lv_bipush (v := 6) hx hb dX1_doubleOf_14 (by decide) ?_
    refine lv_icmp_ne (tgt := 30) hx hb dX1_doubleOf_16 (by decide) (fun c16 => ?_) (fun c16 => ?_)
    · refine lv_iload_n hx hb dX1_doubleOf_30 rfl (lv_at hl 0 rfl) ?_
      refine lv_lload_n hx hb dX1_doubleOf_31 rfl (lv_at hl 1 rfl) ?_
      refine pf_S 2 hx hb hml hown hts (As := [.int k, .long b]) (met_X1_wholeOf l k b) (lw_S q466 q467 q25 q468) (by decide +kernel) rfl ⟨Nat.le_of_ble_eq_true rfl, Nat.le_of_ble_eq_true rfl⟩ hl.1 rfl (Nat.le_of_ble_eq_true rfl) dX1_doubleOf_32 ⟨Nat.le_of_ble_eq_true rfl, Nat.le_of_ble_eq_true rfl⟩ ?_
      refine lv_topl (fun v32 e32 => ?_)
      refine lv_l2d hx hb dX1_doubleOf_35 ?_
      refine lv_topd (fun v35 e35 => ?_)
      exact pf_dret hx hb hr hlk dX1_doubleOf_36 (by unfold c_doubleOf; grind)
    · refine lv_lload_n hx hb dX1_doubleOf_19 rfl (lv_at hl 1 rfl) ?_
      refine lv_l2i hx hb dX1_doubleOf_20 rfl ?_
      refine lv_topi (fun v20 e20 => ?_)
      refine pf_S 1 hx hb hml hown hts (As := [.int v20]) (met_X1_floatBy l v20) (lw_S q472 q473 q25 q474) (by decide +kernel) rfl ⟨Nat.le_of_ble_eq_true rfl, Nat.le_of_ble_eq_true rfl⟩ hl.1 rfl (Nat.le_of_ble_eq_true rfl) dX1_doubleOf_21 ⟨Nat.le_of_ble_eq_true rfl, Nat.le_of_ble_eq_true rfl⟩ ?_
      refine lv_topf (fun v21 e21 => ?_)
      refine pf_S 1 hx hb hml hown hts (As := [.float v21]) (met_X1_wide l v21) (lw_S q455 q456 q25 q457) (by decide +kernel) rfl ⟨Nat.le_of_ble_eq_true rfl, Nat.le_of_ble_eq_true rfl⟩ hl.1 rfl (Nat.le_of_ble_eq_true rfl) dX1_doubleOf_24 ⟨Nat.le_of_ble_eq_true rfl, Nat.le_of_ble_eq_true rfl⟩ ?_
      refine lv_topd (fun v24 e24 => ?_)
      refine lv_goto (tgt := 36) hx hb dX1_doubleOf_27 (by decide) ?_
      exact pf_dret hx hb hr hlk dX1_doubleOf_36 (by unfold c_doubleOf; grind)
  · refine lv_lload_n hx hb dX1_doubleOf_6 rfl (lv_at hl 1 rfl) ?_
    refine pf_S 1 hx hb hml hown hts (As := [.long b]) (met_X1_doubleBy l b) (lw_S q484 q485 q25 q486) (by decide +kernel) rfl ⟨Nat.le_of_ble_eq_true rfl, Nat.le_of_ble_eq_true rfl⟩ hl.1 rfl (Nat.le_of_ble_eq_true rfl) dX1_doubleOf_7 ⟨Nat.le_of_ble_eq_true rfl, Nat.le_of_ble_eq_true rfl⟩ ?_
    refine lv_topd (fun v7 e7 => ?_)
    refine lv_goto (tgt := 36) hx hb dX1_doubleOf_10 (by decide) ?_
    exact pf_dret hx hb hr hlk dX1_doubleOf_36 (by unfold c_doubleOf; grind)
set_option maxHeartbeats 4000000 in
theorem met_X1_floatOf (l : Launch) (k : Int32) (b : Int64) : PF l yX1_floatOf cX1_floatOf 3 (some .float) 2 [.int k, .long b] (.float (c_floatOf k b)) := by
  refine pf_of (by decide) (Nat.le_of_ble_eq_true rfl) ?_
  intro p e s m args below meth c ls hx hb hr hts hown hlk hml hl
  have hl : lv_has ls 3 [(0, .int k), (1, .long b)] := hl
  refine lv_iload_n hx hb dX1_floatOf_0 rfl (lv_at hl 0 rfl) ?_
  refine lv_bipush (v := 6) hx hb dX1_floatOf_1 (by decide) ?_
  refine lv_icmp_ne (tgt := 14) hx hb dX1_floatOf_3 (by decide) (fun c3 => ?_) (fun c3 => ?_)
  · refine lv_iload_n hx hb dX1_floatOf_14 rfl (lv_at hl 0 rfl) ?_
    refine lv_lload_n hx hb dX1_floatOf_15 rfl (lv_at hl 1 rfl) ?_
    refine pf_S 2 hx hb hml hown hts (As := [.int k, .long b]) (met_X1_wholeOf l k b) (lw_S q466 q467 q25 q468) (by decide +kernel) rfl ⟨Nat.le_of_ble_eq_true rfl, Nat.le_of_ble_eq_true rfl⟩ hl.1 rfl (Nat.le_of_ble_eq_true rfl) dX1_floatOf_16 ⟨Nat.le_of_ble_eq_true rfl, Nat.le_of_ble_eq_true rfl⟩ ?_
    refine lv_topl (fun v16 e16 => ?_)
    refine lv_l2f hx hb dX1_floatOf_19 ?_
    refine lv_topf (fun v19 e19 => ?_)
    exact pf_fret hx hb hr hlk dX1_floatOf_20 (by unfold c_floatOf; grind)
  · refine lv_lload_n hx hb dX1_floatOf_6 rfl (lv_at hl 1 rfl) ?_
    refine lv_l2i hx hb dX1_floatOf_7 rfl ?_
    refine lv_topi (fun v7 e7 => ?_)
    refine pf_S 1 hx hb hml hown hts (As := [.int v7]) (met_X1_floatBy l v7) (lw_S q472 q473 q25 q474) (by decide +kernel) rfl ⟨Nat.le_of_ble_eq_true rfl, Nat.le_of_ble_eq_true rfl⟩ hl.1 rfl (Nat.le_of_ble_eq_true rfl) dX1_floatOf_8 ⟨Nat.le_of_ble_eq_true rfl, Nat.le_of_ble_eq_true rfl⟩ ?_
    refine lv_topf (fun v8 e8 => ?_)
    refine lv_goto (tgt := 20) hx hb dX1_floatOf_11 (by decide) ?_
    exact pf_fret hx hb hr hlk dX1_floatOf_20 (by unfold c_floatOf; grind)
set_option maxHeartbeats 4000000 in
theorem met_X1_isEndless (l : Launch) (v : UInt64) : PF l yX1_isEndless cX1_isEndless 2 (some .boolean) 0 [.double v] (.int (m_end v)) := by
  refine pf_of (by decide) (Nat.le_of_ble_eq_true rfl) ?_
  intro p e s m args below meth c ls hx hb hr hts hown hlk hml hl
  have hl : lv_has ls 2 [(0, .double v)] := hl
  refine lv_dload_n hx hb dX1_isEndless_0 rfl (lv_at hl 0 rfl) ?_
  refine lv_ldc2d (v := 9218868437227405312) hx hb hown (hts _ q706) dX1_isEndless_1 ?_
  refine lv_dcmp hx hb dX1_isEndless_4 ?_
  refine lv_topi (fun v4 e4 => ?_)
  refine lv_if_eq (tgt := 16) hx hb dX1_isEndless_5 (by decide) (fun c5 => ?_) (fun c5 => ?_)
  · refine lv_iconst (v := 1) hx hb dX1_isEndless_16 (by decide) ?_
    refine lv_goto (tgt := 21) hx hb dX1_isEndless_17 (by decide) ?_
    exact pf_zret hx hb hr hlk dX1_isEndless_21 rfl (by have := v.toNat_lt; rw [e4, ceq_inf] at c5; unfold m_end; split <;> first | rfl | omega)
  · refine lv_dload_n hx hb dX1_isEndless_8 rfl (lv_at hl 0 rfl) ?_
    refine lv_ldc2d (v := 18442240474082181120) hx hb hown (hts _ q707) dX1_isEndless_9 ?_
    refine lv_dcmp hx hb dX1_isEndless_12 ?_
    refine lv_topi (fun v12 e12 => ?_)
    refine lv_if_ne (tgt := 20) hx hb dX1_isEndless_13 (by decide) (fun c13 => ?_) (fun c13 => ?_)
    · refine lv_iconst (v := 0) hx hb dX1_isEndless_20 (by decide) ?_
      exact pf_zret hx hb hr hlk dX1_isEndless_21 rfl (by have := v.toNat_lt; rw [e4, ceq_inf] at c5; rw [e12, ceq_ninf] at c13; unfold m_end; split <;> first | rfl | omega)
    · refine lv_iconst (v := 1) hx hb dX1_isEndless_16 (by decide) ?_
      refine lv_goto (tgt := 21) hx hb dX1_isEndless_17 (by decide) ?_
      exact pf_zret hx hb hr hlk dX1_isEndless_21 rfl (by have := v.toNat_lt; rw [e4, ceq_inf] at c5; rw [e12, ceq_ninf] at c13; unfold m_end; split <;> first | rfl | omega)
set_option maxHeartbeats 4000000 in
theorem met_X1_isEndless_2 (l : Launch) (v : UInt32) : PF l yX1_isEndless_2 cX1_isEndless_2 1 (some .boolean) 0 [.float v] (.int (c_endF v)) := by
  refine pf_of (by decide) (Nat.le_of_ble_eq_true rfl) ?_
  intro p e s m args below meth c ls hx hb hr hts hown hlk hml hl
  have hl : lv_has ls 1 [(0, .float v)] := hl
  refine lv_fload_n hx hb dX1_isEndless_2_0 rfl (lv_at hl 0 rfl) ?_
  refine zz_ldcwf (v := 2139095040) hx hb hown (hts _ q786) dX1_isEndless_2_1 ?_
  refine lv_fcmp hx hb dX1_isEndless_2_4 ?_
  refine lv_topi (fun v4 e4 => ?_)
  refine lv_if_eq (tgt := 16) hx hb dX1_isEndless_2_5 (by decide) (fun c5 => ?_) (fun c5 => ?_)
  · refine lv_iconst (v := 1) hx hb dX1_isEndless_2_16 (by decide) ?_
    refine lv_goto (tgt := 21) hx hb dX1_isEndless_2_17 (by decide) ?_
    exact pf_zret hx hb hr hlk dX1_isEndless_2_21 rfl (by have := v.toNat_lt; rw [e4, ceq_infF] at c5; unfold c_endF; split <;> first | rfl | omega)
  · refine lv_fload_n hx hb dX1_isEndless_2_8 rfl (lv_at hl 0 rfl) ?_
    refine zz_ldcwf (v := 4286578688) hx hb hown (hts _ q787) dX1_isEndless_2_9 ?_
    refine lv_fcmp hx hb dX1_isEndless_2_12 ?_
    refine lv_topi (fun v12 e12 => ?_)
    refine lv_if_ne (tgt := 20) hx hb dX1_isEndless_2_13 (by decide) (fun c13 => ?_) (fun c13 => ?_)
    · refine lv_iconst (v := 0) hx hb dX1_isEndless_2_20 (by decide) ?_
      exact pf_zret hx hb hr hlk dX1_isEndless_2_21 rfl (by have := v.toNat_lt; rw [e4, ceq_infF] at c5; rw [e12, ceq_ninfF] at c13; unfold c_endF; split <;> first | rfl | omega)
    · refine lv_iconst (v := 1) hx hb dX1_isEndless_2_16 (by decide) ?_
      refine lv_goto (tgt := 21) hx hb dX1_isEndless_2_17 (by decide) ?_
      exact pf_zret hx hb hr hlk dX1_isEndless_2_21 rfl (by have := v.toNat_lt; rw [e4, ceq_infF] at c5; rw [e12, ceq_ninfF] at c13; unfold c_endF; split <;> first | rfl | omega)
set_option maxHeartbeats 4000000 in
theorem met_X1_turned (l : Launch) (k : Int32) (x : UInt64) : PF l yX1_turned cX1_turned 3 (some .long) 2 [.int k, .double x] (.long (c_turned k x)) := by
  refine pf_of (by decide) (Nat.le_of_ble_eq_true rfl) ?_
  intro p e s m args below meth c ls hx hb hr hts hown hlk hml hl
  have hl : lv_has ls 3 [(0, .int k), (1, .double x)] := hl
  refine lv_iload_n hx hb dX1_turned_0 rfl (lv_at hl 0 rfl) ?_
  by_cases s1_1 : k = 1
  · refine lv_tableIn (tgt := 40) hx hb dX1_turned_1 (by rw [s1_1]; decide) (by rw [s1_1]; decide) (by rw [s1_1]; rfl) (by decide) ?_
    refine lv_dload_n hx hb dX1_turned_40 rfl (lv_at hl 1 rfl) ?_
    refine lv_d2i hx hb dX1_turned_41 ?_
    refine lv_topi (fun v41 e41 => ?_)
    refine lv_i2b hx hb dX1_turned_42 rfl ?_
    refine lv_topi (fun v42 e42 => ?_)
    refine lv_i2l hx hb dX1_turned_43 rfl ?_
    refine lv_topl (fun v43 e43 => ?_)
    exact pf_lret hx hb hr hlk dX1_turned_44 (by unfold c_turned; grind)
  by_cases s1_2 : k = 2
  · refine lv_tableIn (tgt := 45) hx hb dX1_turned_1 (by rw [s1_2]; decide) (by rw [s1_2]; decide) (by rw [s1_2]; rfl) (by decide) ?_
    refine lv_dload_n hx hb dX1_turned_45 rfl (lv_at hl 1 rfl) ?_
    refine lv_d2i hx hb dX1_turned_46 ?_
    refine lv_topi (fun v46 e46 => ?_)
    refine lv_i2c hx hb dX1_turned_47 rfl ?_
    refine lv_topi (fun v47 e47 => ?_)
    refine lv_i2l hx hb dX1_turned_48 rfl ?_
    refine lv_topl (fun v48 e48 => ?_)
    exact pf_lret hx hb hr hlk dX1_turned_49 (by unfold c_turned; grind)
  by_cases s1_3 : k = 3
  · refine lv_tableIn (tgt := 50) hx hb dX1_turned_1 (by rw [s1_3]; decide) (by rw [s1_3]; decide) (by rw [s1_3]; rfl) (by decide) ?_
    refine lv_dload_n hx hb dX1_turned_50 rfl (lv_at hl 1 rfl) ?_
    refine lv_d2i hx hb dX1_turned_51 ?_
    refine lv_topi (fun v51 e51 => ?_)
    refine lv_i2s hx hb dX1_turned_52 rfl ?_
    refine lv_topi (fun v52 e52 => ?_)
    refine lv_i2l hx hb dX1_turned_53 rfl ?_
    refine lv_topl (fun v53 e53 => ?_)
    exact pf_lret hx hb hr hlk dX1_turned_54 (by unfold c_turned; grind)
  by_cases s1_4 : k = 4
  · refine lv_tableIn (tgt := 55) hx hb dX1_turned_1 (by rw [s1_4]; decide) (by rw [s1_4]; decide) (by rw [s1_4]; rfl) (by decide) ?_
    refine lv_dload_n hx hb dX1_turned_55 rfl (lv_at hl 1 rfl) ?_
    refine lv_d2i hx hb dX1_turned_56 ?_
    refine lv_topi (fun v56 e56 => ?_)
    refine lv_i2l hx hb dX1_turned_57 rfl ?_
    refine lv_topl (fun v57 e57 => ?_)
    exact pf_lret hx hb hr hlk dX1_turned_58 (by unfold c_turned; grind)
  by_cases s1_5 : k = 5
  · refine lv_tableIn (tgt := 59) hx hb dX1_turned_1 (by rw [s1_5]; decide) (by rw [s1_5]; decide) (by rw [s1_5]; rfl) (by decide) ?_
    refine lv_dload_n hx hb dX1_turned_59 rfl (lv_at hl 1 rfl) ?_
    refine lv_d2l hx hb dX1_turned_60 ?_
    refine lv_topl (fun v60 e60 => ?_)
    exact pf_lret hx hb hr hlk dX1_turned_61 (by unfold c_turned; grind)
  by_cases s1_6 : k = 6
  · refine lv_tableIn (tgt := 62) hx hb dX1_turned_1 (by rw [s1_6]; decide) (by rw [s1_6]; decide) (by rw [s1_6]; rfl) (by decide) ?_
    refine lv_dload_n hx hb dX1_turned_62 rfl (lv_at hl 1 rfl) ?_
    refine lv_dload_n hx hb dX1_turned_63 rfl (lv_at hl 1 rfl) ?_
    refine lv_dcmp hx hb dX1_turned_64 ?_
    refine lv_topi (fun v64 e64 => ?_)
    refine lv_if_eq (tgt := 73) hx hb dX1_turned_65 (by decide) (fun c65 => ?_) (fun c65 => ?_)
    · have hn : FV64 x ≠ .nan := num64.mpr (ceq_self64.mp (by rw [← e64]; exact c65))
      refine lv_dload_n hx hb dX1_turned_73 rfl (lv_at hl 1 rfl) ?_
      refine lv_d2f hx hb dX1_turned_74 (vf_of32 (d2f_nn hn)) ?_
      refine lv_topf (fun v74 e74 => ?_)
      refine pf_S 1 hx hb hml hown hts (As := [.float v74]) (met_J10_floatToIntBits l v74) (lw_S q435 q436 q44 q437) (by decide +kernel) rfl ⟨Nat.le_of_ble_eq_true rfl, Nat.le_of_ble_eq_true rfl⟩ hl.1 rfl (Nat.le_of_ble_eq_true rfl) dX1_turned_75 ⟨Nat.le_of_ble_eq_true rfl, Nat.le_of_ble_eq_true rfl⟩ ?_
      refine lv_topi (fun v75 e75 => ?_)
      refine lv_i2l hx hb dX1_turned_78 rfl ?_
      refine lv_topl (fun v78 e78 => ?_)
      exact pf_lret hx hb hr hlk dX1_turned_79 (by rw [e64, ceq_self64] at c65; have hq := nan_m_bos; have hq2 : (2143289344 : Int32).toInt64 = 2143289344 := rfl; unfold c_turned; grind)
    · refine lv_ldcf (v := 2143289344) hx hb hown (hts _ q477) dX1_turned_68 ?_
      refine lv_goto (tgt := 75) hx hb dX1_turned_70 (by decide) ?_
      refine pf_S 1 hx hb hml hown hts (As := [.float 2143289344]) (met_J10_floatToIntBits l 2143289344) (lw_S q435 q436 q44 q437) (by decide +kernel) rfl ⟨Nat.le_of_ble_eq_true rfl, Nat.le_of_ble_eq_true rfl⟩ hl.1 rfl (Nat.le_of_ble_eq_true rfl) dX1_turned_75 ⟨Nat.le_of_ble_eq_true rfl, Nat.le_of_ble_eq_true rfl⟩ ?_
      refine lv_topi (fun v75 e75 => ?_)
      refine lv_i2l hx hb dX1_turned_78 rfl ?_
      refine lv_topl (fun v78 e78 => ?_)
      exact pf_lret hx hb hr hlk dX1_turned_79 (by rw [e64, ceq_self64] at c65; have hq := nan_m_bos; have hq2 : (2143289344 : Int32).toInt64 = 2143289344 := rfl; unfold c_turned; grind)
  refine lv_tableOut (tgt := 80) hx hb dX1_turned_1 (by have t0 := lv_neT (k := 1) (a := 1) s1_1 rfl; have t1 := lv_neT (k := 2) (a := 2) s1_2 rfl; have t2 := lv_neT (k := 3) (a := 3) s1_3 rfl; have t3 := lv_neT (k := 4) (a := 4) s1_4 rfl; have t4 := lv_neT (k := 5) (a := 5) s1_5 rfl; have t5 := lv_neT (k := 6) (a := 6) s1_6 rfl; omega) (by decide) ?_
  refine lv_dload_n hx hb dX1_turned_80 rfl (lv_at hl 1 rfl) ?_
  refine pf_S 1 hx hb hml hown hts (As := [.double x]) (met_J11_doubleToLongBits l x) (lw_S q445 q446 q45 q447) (by decide +kernel) rfl ⟨Nat.le_of_ble_eq_true rfl, Nat.le_of_ble_eq_true rfl⟩ hl.1 rfl (Nat.le_of_ble_eq_true rfl) dX1_turned_81 ⟨Nat.le_of_ble_eq_true rfl, Nat.le_of_ble_eq_true rfl⟩ ?_
  refine lv_topl (fun v81 e81 => ?_)
  exact pf_lret hx hb hr hlk dX1_turned_84 (by unfold c_turned; grind)
set_option maxHeartbeats 4000000 in
theorem met_X1_turned_2 (l : Launch) (k : Int32) (x : UInt32) : PF l yX1_turned_2 cX1_turned_2 2 (some .long) 2 [.int k, .float x] (.long (c_turnedF k x)) := by
  refine pf_of (by decide) (Nat.le_of_ble_eq_true rfl) ?_
  intro p e s m args below meth c ls hx hb hr hts hown hlk hml hl
  have hl : lv_has ls 2 [(0, .int k), (1, .float x)] := hl
  refine lv_iload_n hx hb dX1_turned_2_0 rfl (lv_at hl 0 rfl) ?_
  by_cases s1_1 : k = 1
  · refine lv_tableIn (tgt := 40) hx hb dX1_turned_2_1 (by rw [s1_1]; decide) (by rw [s1_1]; decide) (by rw [s1_1]; rfl) (by decide) ?_
    refine lv_fload_n hx hb dX1_turned_2_40 rfl (lv_at hl 1 rfl) ?_
    refine lv_f2i hx hb dX1_turned_2_41 ?_
    refine lv_topi (fun v41 e41 => ?_)
    refine lv_i2b hx hb dX1_turned_2_42 rfl ?_
    refine lv_topi (fun v42 e42 => ?_)
    refine lv_i2l hx hb dX1_turned_2_43 rfl ?_
    refine lv_topl (fun v43 e43 => ?_)
    exact pf_lret hx hb hr hlk dX1_turned_2_44 (by unfold c_turnedF; grind)
  by_cases s1_2 : k = 2
  · refine lv_tableIn (tgt := 45) hx hb dX1_turned_2_1 (by rw [s1_2]; decide) (by rw [s1_2]; decide) (by rw [s1_2]; rfl) (by decide) ?_
    refine lv_fload_n hx hb dX1_turned_2_45 rfl (lv_at hl 1 rfl) ?_
    refine lv_f2i hx hb dX1_turned_2_46 ?_
    refine lv_topi (fun v46 e46 => ?_)
    refine lv_i2c hx hb dX1_turned_2_47 rfl ?_
    refine lv_topi (fun v47 e47 => ?_)
    refine lv_i2l hx hb dX1_turned_2_48 rfl ?_
    refine lv_topl (fun v48 e48 => ?_)
    exact pf_lret hx hb hr hlk dX1_turned_2_49 (by unfold c_turnedF; grind)
  by_cases s1_3 : k = 3
  · refine lv_tableIn (tgt := 50) hx hb dX1_turned_2_1 (by rw [s1_3]; decide) (by rw [s1_3]; decide) (by rw [s1_3]; rfl) (by decide) ?_
    refine lv_fload_n hx hb dX1_turned_2_50 rfl (lv_at hl 1 rfl) ?_
    refine lv_f2i hx hb dX1_turned_2_51 ?_
    refine lv_topi (fun v51 e51 => ?_)
    refine lv_i2s hx hb dX1_turned_2_52 rfl ?_
    refine lv_topi (fun v52 e52 => ?_)
    refine lv_i2l hx hb dX1_turned_2_53 rfl ?_
    refine lv_topl (fun v53 e53 => ?_)
    exact pf_lret hx hb hr hlk dX1_turned_2_54 (by unfold c_turnedF; grind)
  by_cases s1_4 : k = 4
  · refine lv_tableIn (tgt := 55) hx hb dX1_turned_2_1 (by rw [s1_4]; decide) (by rw [s1_4]; decide) (by rw [s1_4]; rfl) (by decide) ?_
    refine lv_fload_n hx hb dX1_turned_2_55 rfl (lv_at hl 1 rfl) ?_
    refine lv_f2i hx hb dX1_turned_2_56 ?_
    refine lv_topi (fun v56 e56 => ?_)
    refine lv_i2l hx hb dX1_turned_2_57 rfl ?_
    refine lv_topl (fun v57 e57 => ?_)
    exact pf_lret hx hb hr hlk dX1_turned_2_58 (by unfold c_turnedF; grind)
  by_cases s1_5 : k = 5
  · refine lv_tableIn (tgt := 59) hx hb dX1_turned_2_1 (by rw [s1_5]; decide) (by rw [s1_5]; decide) (by rw [s1_5]; rfl) (by decide) ?_
    refine lv_fload_n hx hb dX1_turned_2_59 rfl (lv_at hl 1 rfl) ?_
    refine lv_f2l hx hb dX1_turned_2_60 ?_
    refine lv_topl (fun v60 e60 => ?_)
    exact pf_lret hx hb hr hlk dX1_turned_2_61 (by unfold c_turnedF; grind)
  by_cases s1_6 : k = 6
  · refine lv_tableIn (tgt := 62) hx hb dX1_turned_2_1 (by rw [s1_6]; decide) (by rw [s1_6]; decide) (by rw [s1_6]; rfl) (by decide) ?_
    refine lv_fload_n hx hb dX1_turned_2_62 rfl (lv_at hl 1 rfl) ?_
    refine pf_S 1 hx hb hml hown hts (As := [.float x]) (met_J10_floatToIntBits l x) (lw_S q435 q436 q44 q437) (by decide +kernel) rfl ⟨Nat.le_of_ble_eq_true rfl, Nat.le_of_ble_eq_true rfl⟩ hl.1 rfl (Nat.le_of_ble_eq_true rfl) dX1_turned_2_63 ⟨Nat.le_of_ble_eq_true rfl, Nat.le_of_ble_eq_true rfl⟩ ?_
    refine lv_topi (fun v63 e63 => ?_)
    refine lv_i2l hx hb dX1_turned_2_66 rfl ?_
    refine lv_topl (fun v66 e66 => ?_)
    exact pf_lret hx hb hr hlk dX1_turned_2_67 (by unfold c_turnedF; grind)
  refine lv_tableOut (tgt := 68) hx hb dX1_turned_2_1 (by have t0 := lv_neT (k := 1) (a := 1) s1_1 rfl; have t1 := lv_neT (k := 2) (a := 2) s1_2 rfl; have t2 := lv_neT (k := 3) (a := 3) s1_3 rfl; have t3 := lv_neT (k := 4) (a := 4) s1_4 rfl; have t4 := lv_neT (k := 5) (a := 5) s1_5 rfl; have t5 := lv_neT (k := 6) (a := 6) s1_6 rfl; omega) (by decide) ?_
  refine lv_fload_n hx hb dX1_turned_2_68 rfl (lv_at hl 1 rfl) ?_
  refine pf_S 1 hx hb hml hown hts (As := [.float x]) (met_X1_wide l x) (lw_S q455 q456 q25 q457) (by decide +kernel) rfl ⟨Nat.le_of_ble_eq_true rfl, Nat.le_of_ble_eq_true rfl⟩ hl.1 rfl (Nat.le_of_ble_eq_true rfl) dX1_turned_2_69 ⟨Nat.le_of_ble_eq_true rfl, Nat.le_of_ble_eq_true rfl⟩ ?_
  refine lv_topd (fun v69 e69 => ?_)
  refine pf_S 1 hx hb hml hown hts (As := [.double v69]) (met_J11_doubleToLongBits l v69) (lw_S q445 q446 q45 q447) (by decide +kernel) rfl ⟨Nat.le_of_ble_eq_true rfl, Nat.le_of_ble_eq_true rfl⟩ hl.1 rfl (Nat.le_of_ble_eq_true rfl) dX1_turned_2_72 ⟨Nat.le_of_ble_eq_true rfl, Nat.le_of_ble_eq_true rfl⟩ ?_
  refine lv_topl (fun v72 e72 => ?_)
  exact pf_lret hx hb hr hlk dX1_turned_2_75 (by unfold c_turnedF; grind)
