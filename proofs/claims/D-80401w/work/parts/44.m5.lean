/-! the reference's casts -/
set_option maxRecDepth 100000
theorem ceq64 {a b : UInt64} : Op.cmpValue (FP.dcmp a b) .l = 0 ↔ (a.toNat % 2 ^ 63 ≤ 9218868437227405312 ∧ b.toNat % 2 ^ 63 ≤ 9218868437227405312 ∧ (a.toNat = b.toNat ∨ (a.toNat % 2 ^ 63 = 0 ∧ b.toNat % 2 ^ 63 = 0))) := by
  have h1 := a.toNat_lt
  have h2 := b.toNat_lt
  rw [cv_eq_l, fc_eq64, num64, num64]
  unfold key64
  by_cases x : 2 ^ 63 ≤ a.toNat <;> by_cases y : 2 ^ 63 ≤ b.toNat
  · rw [if_pos x, if_pos y]; omega
  · rw [if_pos x, if_neg y]; omega
  · rw [if_neg x, if_pos y]; omega
  · rw [if_neg x, if_neg y]; omega
theorem ceq32 {a b : UInt32} : Op.cmpValue (FP.fcmp a b) .l = 0 ↔ (a.toNat % 2 ^ 31 ≤ 2139095040 ∧ b.toNat % 2 ^ 31 ≤ 2139095040 ∧ (a.toNat = b.toNat ∨ (a.toNat % 2 ^ 31 = 0 ∧ b.toNat % 2 ^ 31 = 0))) := by
  have h1 := a.toNat_lt
  have h2 := b.toNat_lt
  rw [cv_eq_l, fc_eq32, num32, num32]
  unfold key32
  by_cases x : 2 ^ 31 ≤ a.toNat <;> by_cases y : 2 ^ 31 ≤ b.toNat
  · rw [if_pos x, if_pos y]; omega
  · rw [if_pos x, if_neg y]; omega
  · rw [if_neg x, if_pos y]; omega
  · rw [if_neg x, if_neg y]; omega
theorem ceq_self64 {a : UInt64} : Op.cmpValue (FP.dcmp a a) .l = 0 ↔ a.toNat % 2 ^ 63 ≤ 9218868437227405312 := by rw [ceq64]; omega
theorem ceq_self32 {a : UInt32} : Op.cmpValue (FP.fcmp a a) .l = 0 ↔ a.toNat % 2 ^ 31 ≤ 2139095040 := by rw [ceq32]; omega
theorem ceq_inf {a : UInt64} : Op.cmpValue (FP.dcmp a 9218868437227405312) .l = 0 ↔ a.toNat = 9218868437227405312 := by
  rw [ceq64, show (9218868437227405312 : UInt64).toNat = 9218868437227405312 from rfl]; omega
theorem ceq_ninf {a : UInt64} : Op.cmpValue (FP.dcmp a 18442240474082181120) .l = 0 ↔ a.toNat = 18442240474082181120 := by
  rw [ceq64, show (18442240474082181120 : UInt64).toNat = 18442240474082181120 from rfl]; omega
theorem ceq_zero {a : UInt64} : Op.cmpValue (FP.dcmp a FP.dconst0) .l = 0 ↔ a.toNat % 2 ^ 63 = 0 := by
  rw [ceq64, show FP.dconst0.toNat = 0 from rfl]; omega
def m_clean (k : Int32) (b : Int64) : Int64 := if k = 0 then b &&& 1 else if k = 1 then b.toInt32.toInt8.toInt32.toInt64 else if k = 2 then b &&& 65535 else if k = 3 then b.toInt32.toInt16.toInt32.toInt64 else if k = 4 then b.toInt32.toInt64 else if k = 5 then b else if k = 6 then (if lg_cmp (b &&& 2147483647) 2139095040 ≤ 0 then b.toInt32.toInt64 else 2143289344) else (if lg_cmp (b &&& 9223372036854775807) 9218868437227405312 ≤ 0 then b else 9221120237041090560)
def m_castWhole (to : Int32) (v : Int64) : Int64 := if to = 6 then (m_bos (FP.l2f v)).toInt64 else if to = 7 then m_bits (FP.l2d v) else m_clean to v
def m_castSingle (to : Int32) (f : UInt32) : Int64 := if to = 7 then (if f.toNat % 2 ^ 31 ≤ 2139095040 then m_bits (FP.f2d f) else 9221120237041090560) else if to = 5 then FP.f2l f else m_clean to (FP.f2i f).toInt64
def m_castReal (to : Int32) (d : UInt64) : Int64 := if to = 6 then (if d.toNat % 2 ^ 63 ≤ 9218868437227405312 then (m_bos (FP.d2f d)).toInt64 else 2143289344) else if to = 5 then FP.d2l d else m_clean to (FP.d2i d).toInt64
def m_cast (from_ to : Int32) (b : Int64) : Int64 := if from_ ≥ 6 then (if (from_ = 6 ∧ to = 6) ∨ (from_ = 7 ∧ to = 7) then b else if from_ = 6 then m_castSingle to (m_single b.toInt32) else m_castReal to (m_real b)) else m_castWhole to b
def m_end (v : UInt64) : Int32 := if v.toNat % 2 ^ 63 = 9218868437227405312 then 1 else 0
theorem m_end_0 {v : UInt64} : m_end v = 0 ↔ ¬ v.toNat % 2 ^ 63 = 9218868437227405312 := by
  unfold m_end
  split
  · rename_i h; exact ⟨fun h => absurd h (by decide), fun g => absurd h g⟩
  · rename_i h; exact ⟨fun _ => h, fun _ => rfl⟩
/-- an act that makes no number -/
def m_noneP (op : Int32) (a b : UInt64) : Prop := if op = 0 then a.toNat % 2 ^ 63 = 9218868437227405312 ∧ b.toNat % 2 ^ 63 = 9218868437227405312 ∧ a.toNat ≠ b.toNat else if op = 1 then a.toNat % 2 ^ 63 = 9218868437227405312 ∧ a.toNat = b.toNat else if op = 2 then (a.toNat % 2 ^ 63 = 9218868437227405312 ∧ b.toNat % 2 ^ 63 = 0) ∨ (a.toNat % 2 ^ 63 = 0 ∧ b.toNat % 2 ^ 63 = 9218868437227405312) else if op = 3 then (a.toNat % 2 ^ 63 = 9218868437227405312 ∧ b.toNat % 2 ^ 63 = 9218868437227405312) ∨ (a.toNat % 2 ^ 63 = 0 ∧ b.toNat % 2 ^ 63 = 0) else if op = 4 then a.toNat % 2 ^ 63 = 9218868437227405312 ∨ b.toNat % 2 ^ 63 = 0 else False
noncomputable def m_none (op : Int32) (a b : UInt64) : Int32 := by classical exact if m_noneP op a b then 1 else 0
theorem mn0 {a b : UInt64} : m_noneP 0 a b = (a.toNat % 2 ^ 63 = 9218868437227405312 ∧ b.toNat % 2 ^ 63 = 9218868437227405312 ∧ a.toNat ≠ b.toNat) := rfl
theorem mn1 {a b : UInt64} : m_noneP 1 a b = (a.toNat % 2 ^ 63 = 9218868437227405312 ∧ a.toNat = b.toNat) := rfl
theorem mn2 {a b : UInt64} : m_noneP 2 a b = ((a.toNat % 2 ^ 63 = 9218868437227405312 ∧ b.toNat % 2 ^ 63 = 0) ∨ (a.toNat % 2 ^ 63 = 0 ∧ b.toNat % 2 ^ 63 = 9218868437227405312)) := rfl
theorem mn3 {a b : UInt64} : m_noneP 3 a b = ((a.toNat % 2 ^ 63 = 9218868437227405312 ∧ b.toNat % 2 ^ 63 = 9218868437227405312) ∨ (a.toNat % 2 ^ 63 = 0 ∧ b.toNat % 2 ^ 63 = 0)) := rfl
theorem mn4 {a b : UInt64} : m_noneP 4 a b = (a.toNat % 2 ^ 63 = 9218868437227405312 ∨ b.toNat % 2 ^ 63 = 0) := rfl
theorem m_none_1 {op : Int32} {a b : UInt64} (h : m_noneP op a b) : 1 = m_none op a b := by unfold m_none; rw [if_pos h]
theorem m_none_0 {op : Int32} {a b : UInt64} (h : ¬ m_noneP op a b) : 0 = m_none op a b := by unfold m_none; rw [if_neg h]
/-- a single number as a double, its no number as the one -/
def m_wide (b : Int32) : UInt64 := if (m_single b).toNat % 2 ^ 31 ≤ 2139095040 then FP.f2d (m_single b) else 9221120237041090560

set_option maxHeartbeats 4000000 in
theorem met_X3_clean (l : Launch) (k : Int32) (b : Int64) : PF l yX3_clean cX3_clean 3 (some .long) 0 [.int k, .long b] (.long (m_clean k b)) := by
  refine pf_of (by decide) (Nat.le_of_ble_eq_true rfl) ?_
  intro p e s m args below meth c ls hx hb hr hts hown hlk hml hl
  have hl : lv_has ls 3 [(0, .int k), (1, .long b)] := hl
  refine lv_iload_n hx hb dX3_clean_0 rfl (lv_at hl 0 rfl) ?_
  by_cases s1_0 : k = 0
  · refine lv_tableIn (tgt := 44) hx hb dX3_clean_1 (by rw [s1_0]; decide) (by rw [s1_0]; decide) (by rw [s1_0]; rfl) (by decide) ?_
    refine lv_lload_n hx hb dX3_clean_44 rfl (lv_at hl 1 rfl) ?_
    refine lv_lconst (v := 1) hx hb dX3_clean_45 (by decide) ?_
    refine lv_land hx hb dX3_clean_46 ?_
    refine lv_topl (fun v46 e46 => ?_)
    exact pf_lret hx hb hr hlk dX3_clean_47 (by unfold m_clean; grind)
  by_cases s1_1 : k = 1
  · refine lv_tableIn (tgt := 48) hx hb dX3_clean_1 (by rw [s1_1]; decide) (by rw [s1_1]; decide) (by rw [s1_1]; rfl) (by decide) ?_
    refine lv_lload_n hx hb dX3_clean_48 rfl (lv_at hl 1 rfl) ?_
    refine lv_l2i hx hb dX3_clean_49 rfl ?_
    refine lv_topi (fun v49 e49 => ?_)
    refine lv_i2b hx hb dX3_clean_50 rfl ?_
    refine lv_topi (fun v50 e50 => ?_)
    refine lv_i2l hx hb dX3_clean_51 rfl ?_
    refine lv_topl (fun v51 e51 => ?_)
    exact pf_lret hx hb hr hlk dX3_clean_52 (by unfold m_clean; grind)
  by_cases s1_2 : k = 2
  · refine lv_tableIn (tgt := 53) hx hb dX3_clean_1 (by rw [s1_2]; decide) (by rw [s1_2]; decide) (by rw [s1_2]; rfl) (by decide) ?_
    refine lv_lload_n hx hb dX3_clean_53 rfl (lv_at hl 1 rfl) ?_
    refine lv_ldc2 (v := 65535) hx hb hown (hts _ q1056) dX3_clean_54 ?_
    refine lv_land hx hb dX3_clean_57 ?_
    refine lv_topl (fun v57 e57 => ?_)
    exact pf_lret hx hb hr hlk dX3_clean_58 (by unfold m_clean; grind)
  by_cases s1_3 : k = 3
  · refine lv_tableIn (tgt := 59) hx hb dX3_clean_1 (by rw [s1_3]; decide) (by rw [s1_3]; decide) (by rw [s1_3]; rfl) (by decide) ?_
    refine lv_lload_n hx hb dX3_clean_59 rfl (lv_at hl 1 rfl) ?_
    refine lv_l2i hx hb dX3_clean_60 rfl ?_
    refine lv_topi (fun v60 e60 => ?_)
    refine lv_i2s hx hb dX3_clean_61 rfl ?_
    refine lv_topi (fun v61 e61 => ?_)
    refine lv_i2l hx hb dX3_clean_62 rfl ?_
    refine lv_topl (fun v62 e62 => ?_)
    exact pf_lret hx hb hr hlk dX3_clean_63 (by unfold m_clean; grind)
  by_cases s1_4 : k = 4
  · refine lv_tableIn (tgt := 64) hx hb dX3_clean_1 (by rw [s1_4]; decide) (by rw [s1_4]; decide) (by rw [s1_4]; rfl) (by decide) ?_
    refine lv_lload_n hx hb dX3_clean_64 rfl (lv_at hl 1 rfl) ?_
    refine lv_l2i hx hb dX3_clean_65 rfl ?_
    refine lv_topi (fun v65 e65 => ?_)
    refine lv_i2l hx hb dX3_clean_66 rfl ?_
    refine lv_topl (fun v66 e66 => ?_)
    exact pf_lret hx hb hr hlk dX3_clean_67 (by unfold m_clean; grind)
  by_cases s1_5 : k = 5
  · refine lv_tableIn (tgt := 68) hx hb dX3_clean_1 (by rw [s1_5]; decide) (by rw [s1_5]; decide) (by rw [s1_5]; rfl) (by decide) ?_
    refine lv_lload_n hx hb dX3_clean_68 rfl (lv_at hl 1 rfl) ?_
    exact pf_lret hx hb hr hlk dX3_clean_69 (by unfold m_clean; grind)
  by_cases s1_6 : k = 6
  · refine lv_tableIn (tgt := 70) hx hb dX3_clean_1 (by rw [s1_6]; decide) (by rw [s1_6]; decide) (by rw [s1_6]; rfl) (by decide) ?_
    refine lv_lload_n hx hb dX3_clean_70 rfl (lv_at hl 1 rfl) ?_
    refine lv_ldc2 (v := 2147483647) hx hb hown (hts _ q1057) dX3_clean_71 ?_
    refine lv_land hx hb dX3_clean_74 ?_
    refine lv_topl (fun v74 e74 => ?_)
    refine lv_ldc2 (v := 2139095040) hx hb hown (hts _ q1058) dX3_clean_75 ?_
    refine W.lcmp hx hb dX3_clean_78 ?_
    refine lv_topi (fun v78 e78 => ?_)
    refine lv_if_le (tgt := 88) hx hb dX3_clean_79 (by decide) (fun c79 => ?_) (fun c79 => ?_)
    · refine lv_lload_n hx hb dX3_clean_88 rfl (lv_at hl 1 rfl) ?_
      refine lv_l2i hx hb dX3_clean_89 rfl ?_
      refine lv_topi (fun v89 e89 => ?_)
      refine lv_i2l hx hb dX3_clean_90 rfl ?_
      refine lv_topl (fun v90 e90 => ?_)
      exact pf_lret hx hb hr hlk dX3_clean_91 (by unfold m_clean; grind)
    · refine lv_ldc2 (v := 2143289344) hx hb hown (hts _ q1059) dX3_clean_82 ?_
      refine lv_goto (tgt := 91) hx hb dX3_clean_85 (by decide) ?_
      exact pf_lret hx hb hr hlk dX3_clean_91 (by unfold m_clean; grind)
  refine lv_tableOut (tgt := 92) hx hb dX3_clean_1 (by have t0 := lv_neT (k := 0) (a := 0) s1_0 rfl; have t1 := lv_neT (k := 1) (a := 1) s1_1 rfl; have t2 := lv_neT (k := 2) (a := 2) s1_2 rfl; have t3 := lv_neT (k := 3) (a := 3) s1_3 rfl; have t4 := lv_neT (k := 4) (a := 4) s1_4 rfl; have t5 := lv_neT (k := 5) (a := 5) s1_5 rfl; have t6 := lv_neT (k := 6) (a := 6) s1_6 rfl; omega) (by decide) ?_
  refine lv_lload_n hx hb dX3_clean_92 rfl (lv_at hl 1 rfl) ?_
  refine lv_ldc2 (v := 9223372036854775807) hx hb hown (hts _ q1060) dX3_clean_93 ?_
  refine lv_land hx hb dX3_clean_96 ?_
  refine lv_topl (fun v96 e96 => ?_)
  refine lv_ldc2 (v := 9218868437227405312) hx hb hown (hts _ q1049) dX3_clean_97 ?_
  refine W.lcmp hx hb dX3_clean_100 ?_
  refine lv_topi (fun v100 e100 => ?_)
  refine lv_if_le (tgt := 110) hx hb dX3_clean_101 (by decide) (fun c101 => ?_) (fun c101 => ?_)
  · refine lv_lload_n hx hb dX3_clean_110 rfl (lv_at hl 1 rfl) ?_
    exact pf_lret hx hb hr hlk dX3_clean_111 (by unfold m_clean; grind)
  · refine lv_ldc2 (v := 9221120237041090560) hx hb hown (hts _ q1047) dX3_clean_104 ?_
    refine lv_goto (tgt := 111) hx hb dX3_clean_107 (by decide) ?_
    exact pf_lret hx hb hr hlk dX3_clean_111 (by unfold m_clean; grind)
set_option maxHeartbeats 4000000 in
theorem met_X3_isSort (l : Launch) (k : Int32) (x : Int32) : PF l yX3_isSort cX3_isSort 2 (some .boolean) 1 [.int k, .int x] (.int (m_isSort k x)) := by
  refine pf_of (by decide) (Nat.le_of_ble_eq_true rfl) ?_
  intro p e s m args below meth c ls hx hb hr hts hown hlk hml hl
  have hl : lv_has ls 2 [(0, .int k), (1, .int x)] := hl
  refine lv_iload_n hx hb dX3_isSort_0 rfl (lv_at hl 1 rfl) ?_
  refine lv_bipush (v := 16) hx hb dX3_isSort_1 (by decide) ?_
  refine lv_icmp_ne (tgt := 15) hx hb dX3_isSort_3 (by decide) (fun c3 => ?_) (fun c3 => ?_)
  · refine lv_iload_n hx hb dX3_isSort_15 rfl (lv_at hl 1 rfl) ?_
    refine lv_bipush (v := 17) hx hb dX3_isSort_16 (by decide) ?_
    refine lv_icmp_ne (tgt := 39) hx hb dX3_isSort_18 (by decide) (fun c18 => ?_) (fun c18 => ?_)
    · refine lv_iload_n hx hb dX3_isSort_39 rfl (lv_at hl 0 rfl) ?_
      refine lv_iload_n hx hb dX3_isSort_40 rfl (lv_at hl 1 rfl) ?_
      refine lv_icmp_eq (tgt := 86) hx hb dX3_isSort_41 (by decide) (fun c41 => ?_) (fun c41 => ?_)
      · refine lv_iconst (v := 1) hx hb dX3_isSort_86 (by decide) ?_
        refine lv_goto (tgt := 91) hx hb dX3_isSort_87 (by decide) ?_
        exact pf_zret hx hb hr hlk dX3_isSort_91 rfl (by unfold m_isSort; grind)
      · refine lv_iload_n hx hb dX3_isSort_44 rfl (lv_at hl 1 rfl) ?_
        refine lv_bipush (v := 9) hx hb dX3_isSort_45 (by decide) ?_
        refine lv_icmp_ne (tgt := 56) hx hb dX3_isSort_47 (by decide) (fun c47 => ?_) (fun c47 => ?_)
        · refine lv_iload_n hx hb dX3_isSort_56 rfl (lv_at hl 1 rfl) ?_
          refine lv_bipush (v := 11) hx hb dX3_isSort_57 (by decide) ?_
          refine lv_icmp_ne (tgt := 74) hx hb dX3_isSort_59 (by decide) (fun c59 => ?_) (fun c59 => ?_)
          · refine lv_iload_n hx hb dX3_isSort_74 rfl (lv_at hl 1 rfl) ?_
            refine lv_bipush (v := 12) hx hb dX3_isSort_75 (by decide) ?_
            refine lv_icmp_ne (tgt := 90) hx hb dX3_isSort_77 (by decide) (fun c77 => ?_) (fun c77 => ?_)
            · refine lv_iconst (v := 0) hx hb dX3_isSort_90 (by decide) ?_
              exact pf_zret hx hb hr hlk dX3_isSort_91 rfl (by unfold m_isSort; grind)
            · refine lv_iload_n hx hb dX3_isSort_80 rfl (lv_at hl 0 rfl) ?_
              refine lv_bipush (v := 13) hx hb dX3_isSort_81 (by decide) ?_
              refine lv_icmp_ne (tgt := 90) hx hb dX3_isSort_83 (by decide) (fun c83 => ?_) (fun c83 => ?_)
              · refine lv_iconst (v := 0) hx hb dX3_isSort_90 (by decide) ?_
                exact pf_zret hx hb hr hlk dX3_isSort_91 rfl (by unfold m_isSort; grind)
              · refine lv_iconst (v := 1) hx hb dX3_isSort_86 (by decide) ?_
                refine lv_goto (tgt := 91) hx hb dX3_isSort_87 (by decide) ?_
                exact pf_zret hx hb hr hlk dX3_isSort_91 rfl (by unfold m_isSort; grind)
          · refine lv_iload_n hx hb dX3_isSort_62 rfl (lv_at hl 0 rfl) ?_
            refine lv_bipush (v := 12) hx hb dX3_isSort_63 (by decide) ?_
            refine lv_icmp_eq (tgt := 86) hx hb dX3_isSort_65 (by decide) (fun c65 => ?_) (fun c65 => ?_)
            · refine lv_iconst (v := 1) hx hb dX3_isSort_86 (by decide) ?_
              refine lv_goto (tgt := 91) hx hb dX3_isSort_87 (by decide) ?_
              exact pf_zret hx hb hr hlk dX3_isSort_91 rfl (by unfold m_isSort; grind)
            · refine lv_iload_n hx hb dX3_isSort_68 rfl (lv_at hl 0 rfl) ?_
              refine lv_bipush (v := 13) hx hb dX3_isSort_69 (by decide) ?_
              refine lv_icmp_eq (tgt := 86) hx hb dX3_isSort_71 (by decide) (fun c71 => ?_) (fun c71 => ?_)
              · refine lv_iconst (v := 1) hx hb dX3_isSort_86 (by decide) ?_
                refine lv_goto (tgt := 91) hx hb dX3_isSort_87 (by decide) ?_
                exact pf_zret hx hb hr hlk dX3_isSort_91 rfl (by unfold m_isSort; grind)
              · refine lv_iload_n hx hb dX3_isSort_74 rfl (lv_at hl 1 rfl) ?_
                refine lv_bipush (v := 12) hx hb dX3_isSort_75 (by decide) ?_
                refine lv_icmp_ne (tgt := 90) hx hb dX3_isSort_77 (by decide) (fun c77 => ?_) (fun c77 => ?_)
                · refine lv_iconst (v := 0) hx hb dX3_isSort_90 (by decide) ?_
                  exact pf_zret hx hb hr hlk dX3_isSort_91 rfl (by unfold m_isSort; grind)
                · refine lv_iload_n hx hb dX3_isSort_80 rfl (lv_at hl 0 rfl) ?_
                  refine lv_bipush (v := 13) hx hb dX3_isSort_81 (by decide) ?_
                  refine lv_icmp_ne (tgt := 90) hx hb dX3_isSort_83 (by decide) (fun c83 => ?_) (fun c83 => ?_)
                  · refine lv_iconst (v := 0) hx hb dX3_isSort_90 (by decide) ?_
                    exact pf_zret hx hb hr hlk dX3_isSort_91 rfl (by unfold m_isSort; grind)
                  · refine lv_iconst (v := 1) hx hb dX3_isSort_86 (by decide) ?_
                    refine lv_goto (tgt := 91) hx hb dX3_isSort_87 (by decide) ?_
                    exact pf_zret hx hb hr hlk dX3_isSort_91 rfl (by unfold m_isSort; grind)
        · refine lv_iload_n hx hb dX3_isSort_50 rfl (lv_at hl 0 rfl) ?_
          refine lv_bipush (v := 10) hx hb dX3_isSort_51 (by decide) ?_
          refine lv_icmp_eq (tgt := 86) hx hb dX3_isSort_53 (by decide) (fun c53 => ?_) (fun c53 => ?_)
          · refine lv_iconst (v := 1) hx hb dX3_isSort_86 (by decide) ?_
            refine lv_goto (tgt := 91) hx hb dX3_isSort_87 (by decide) ?_
            exact pf_zret hx hb hr hlk dX3_isSort_91 rfl (by unfold m_isSort; grind)
          · refine lv_iload_n hx hb dX3_isSort_56 rfl (lv_at hl 1 rfl) ?_
            refine lv_bipush (v := 11) hx hb dX3_isSort_57 (by decide) ?_
            refine lv_icmp_ne (tgt := 74) hx hb dX3_isSort_59 (by decide) (fun c59 => ?_) (fun c59 => ?_)
            · refine lv_iload_n hx hb dX3_isSort_74 rfl (lv_at hl 1 rfl) ?_
              refine lv_bipush (v := 12) hx hb dX3_isSort_75 (by decide) ?_
              refine lv_icmp_ne (tgt := 90) hx hb dX3_isSort_77 (by decide) (fun c77 => ?_) (fun c77 => ?_)
              · refine lv_iconst (v := 0) hx hb dX3_isSort_90 (by decide) ?_
                exact pf_zret hx hb hr hlk dX3_isSort_91 rfl (by unfold m_isSort; grind)
              · refine lv_iload_n hx hb dX3_isSort_80 rfl (lv_at hl 0 rfl) ?_
                refine lv_bipush (v := 13) hx hb dX3_isSort_81 (by decide) ?_
                refine lv_icmp_ne (tgt := 90) hx hb dX3_isSort_83 (by decide) (fun c83 => ?_) (fun c83 => ?_)
                · refine lv_iconst (v := 0) hx hb dX3_isSort_90 (by decide) ?_
                  exact pf_zret hx hb hr hlk dX3_isSort_91 rfl (by unfold m_isSort; grind)
                · refine lv_iconst (v := 1) hx hb dX3_isSort_86 (by decide) ?_
                  refine lv_goto (tgt := 91) hx hb dX3_isSort_87 (by decide) ?_
                  exact pf_zret hx hb hr hlk dX3_isSort_91 rfl (by unfold m_isSort; grind)
            · refine lv_iload_n hx hb dX3_isSort_62 rfl (lv_at hl 0 rfl) ?_
              refine lv_bipush (v := 12) hx hb dX3_isSort_63 (by decide) ?_
              refine lv_icmp_eq (tgt := 86) hx hb dX3_isSort_65 (by decide) (fun c65 => ?_) (fun c65 => ?_)
              · refine lv_iconst (v := 1) hx hb dX3_isSort_86 (by decide) ?_
                refine lv_goto (tgt := 91) hx hb dX3_isSort_87 (by decide) ?_
                exact pf_zret hx hb hr hlk dX3_isSort_91 rfl (by unfold m_isSort; grind)
              · refine lv_iload_n hx hb dX3_isSort_68 rfl (lv_at hl 0 rfl) ?_
                refine lv_bipush (v := 13) hx hb dX3_isSort_69 (by decide) ?_
                refine lv_icmp_eq (tgt := 86) hx hb dX3_isSort_71 (by decide) (fun c71 => ?_) (fun c71 => ?_)
                · refine lv_iconst (v := 1) hx hb dX3_isSort_86 (by decide) ?_
                  refine lv_goto (tgt := 91) hx hb dX3_isSort_87 (by decide) ?_
                  exact pf_zret hx hb hr hlk dX3_isSort_91 rfl (by unfold m_isSort; grind)
                · refine lv_iload_n hx hb dX3_isSort_74 rfl (lv_at hl 1 rfl) ?_
                  refine lv_bipush (v := 12) hx hb dX3_isSort_75 (by decide) ?_
                  refine lv_icmp_ne (tgt := 90) hx hb dX3_isSort_77 (by decide) (fun c77 => ?_) (fun c77 => ?_)
                  · refine lv_iconst (v := 0) hx hb dX3_isSort_90 (by decide) ?_
                    exact pf_zret hx hb hr hlk dX3_isSort_91 rfl (by unfold m_isSort; grind)
                  · refine lv_iload_n hx hb dX3_isSort_80 rfl (lv_at hl 0 rfl) ?_
                    refine lv_bipush (v := 13) hx hb dX3_isSort_81 (by decide) ?_
                    refine lv_icmp_ne (tgt := 90) hx hb dX3_isSort_83 (by decide) (fun c83 => ?_) (fun c83 => ?_)
                    · refine lv_iconst (v := 0) hx hb dX3_isSort_90 (by decide) ?_
                      exact pf_zret hx hb hr hlk dX3_isSort_91 rfl (by unfold m_isSort; grind)
                    · refine lv_iconst (v := 1) hx hb dX3_isSort_86 (by decide) ?_
                      refine lv_goto (tgt := 91) hx hb dX3_isSort_87 (by decide) ?_
                      exact pf_zret hx hb hr hlk dX3_isSort_91 rfl (by unfold m_isSort; grind)
    · refine lv_iload_n hx hb dX3_isSort_21 rfl (lv_at hl 0 rfl) ?_
      refine lv_bipush (v := 12) hx hb dX3_isSort_22 (by decide) ?_
      refine lv_icmp_eq (tgt := 33) hx hb dX3_isSort_24 (by decide) (fun c24 => ?_) (fun c24 => ?_)
      · refine lv_iconst (v := 1) hx hb dX3_isSort_33 (by decide) ?_
        refine lv_goto (tgt := 38) hx hb dX3_isSort_34 (by decide) ?_
        exact pf_zret hx hb hr hlk dX3_isSort_38 rfl (by unfold m_isSort; grind)
      · refine lv_iload_n hx hb dX3_isSort_27 rfl (lv_at hl 0 rfl) ?_
        refine lv_bipush (v := 13) hx hb dX3_isSort_28 (by decide) ?_
        refine lv_icmp_ne (tgt := 37) hx hb dX3_isSort_30 (by decide) (fun c30 => ?_) (fun c30 => ?_)
        · refine lv_iconst (v := 0) hx hb dX3_isSort_37 (by decide) ?_
          exact pf_zret hx hb hr hlk dX3_isSort_38 rfl (by unfold m_isSort; grind)
        · refine lv_iconst (v := 1) hx hb dX3_isSort_33 (by decide) ?_
          refine lv_goto (tgt := 38) hx hb dX3_isSort_34 (by decide) ?_
          exact pf_zret hx hb hr hlk dX3_isSort_38 rfl (by unfold m_isSort; grind)
  · refine lv_iload_n hx hb dX3_isSort_6 rfl (lv_at hl 0 rfl) ?_
    refine lv_bipush (v := 11) hx hb dX3_isSort_7 (by decide) ?_
    refine lv_bipush (v := 14) hx hb dX3_isSort_9 (by decide) ?_
    refine pf_S 3 hx hb hml hown hts (As := [.int k, .int 11, .int 14]) (met_X3_isIn l k 11 14) (lw_S q927 q928 q28 q929) (by decide +kernel) rfl ⟨Nat.le_of_ble_eq_true rfl, Nat.le_of_ble_eq_true rfl⟩ hl.1 rfl (Nat.le_of_ble_eq_true rfl) dX3_isSort_11 ⟨Nat.le_of_ble_eq_true rfl, Nat.le_of_ble_eq_true rfl⟩ ?_
    refine lv_topi (fun v11 e11 => ?_)
    exact pf_zret hx hb hr hlk dX3_isSort_14 (by rw [e11]; unfold m_isIn; (repeat' split) <;> rfl) (by rw [e11]; unfold m_isSort; grind)
set_option maxHeartbeats 4000000 in
theorem met_X3_castWhole (l : Launch) (k : Int32) (b : Int64) : PF l yX3_castWhole cX3_castWhole 3 (some .long) 2 [.int k, .long b] (.long (m_castWhole k b)) := by
  refine pf_of (by decide) (Nat.le_of_ble_eq_true rfl) ?_
  intro p e s m args below meth c ls hx hb hr hts hown hlk hml hl
  have hl : lv_has ls 3 [(0, .int k), (1, .long b)] := hl
  refine lv_iload_n hx hb dX3_castWhole_0 rfl (lv_at hl 0 rfl) ?_
  refine lv_bipush (v := 6) hx hb dX3_castWhole_1 (by decide) ?_
  refine lv_icmp_ne (tgt := 15) hx hb dX3_castWhole_3 (by decide) (fun c3 => ?_) (fun c3 => ?_)
  · refine lv_iload_n hx hb dX3_castWhole_15 rfl (lv_at hl 0 rfl) ?_
    refine lv_bipush (v := 7) hx hb dX3_castWhole_16 (by decide) ?_
    refine lv_icmp_ne (tgt := 29) hx hb dX3_castWhole_18 (by decide) (fun c18 => ?_) (fun c18 => ?_)
    · refine lv_iload_n hx hb dX3_castWhole_29 rfl (lv_at hl 0 rfl) ?_
      refine lv_lload_n hx hb dX3_castWhole_30 rfl (lv_at hl 1 rfl) ?_
      refine pf_S 2 hx hb hml hown hts (As := [.int k, .long b]) (met_X3_clean l k b) (lw_S q1053 q1054 q28 q1055) (by decide +kernel) rfl ⟨Nat.le_of_ble_eq_true rfl, Nat.le_of_ble_eq_true rfl⟩ hl.1 rfl (Nat.le_of_ble_eq_true rfl) dX3_castWhole_31 ⟨Nat.le_of_ble_eq_true rfl, Nat.le_of_ble_eq_true rfl⟩ ?_
      refine lv_topl (fun v31 e31 => ?_)
      exact pf_lret hx hb hr hlk dX3_castWhole_34 (by unfold m_castWhole; grind)
    · refine lv_lload_n hx hb dX3_castWhole_21 rfl (lv_at hl 1 rfl) ?_
      refine lv_l2d hx hb dX3_castWhole_22 ?_
      refine lv_topd (fun v22 e22 => ?_)
      refine pf_S 1 hx hb hml hown hts (As := [.double v22]) (met_X3_bitsOf l v22) (lw_S q1044 q1045 q28 q1046) (by decide +kernel) rfl ⟨Nat.le_of_ble_eq_true rfl, Nat.le_of_ble_eq_true rfl⟩ hl.1 rfl (Nat.le_of_ble_eq_true rfl) dX3_castWhole_23 ⟨Nat.le_of_ble_eq_true rfl, Nat.le_of_ble_eq_true rfl⟩ ?_
      refine lv_topl (fun v23 e23 => ?_)
      refine lv_goto (tgt := 34) hx hb dX3_castWhole_26 (by decide) ?_
      exact pf_lret hx hb hr hlk dX3_castWhole_34 (by unfold m_castWhole; grind)
  · refine lv_lload_n hx hb dX3_castWhole_6 rfl (lv_at hl 1 rfl) ?_
    refine lv_l2f hx hb dX3_castWhole_7 ?_
    refine lv_topf (fun v7 e7 => ?_)
    refine pf_S 1 hx hb hml hown hts (As := [.float v7]) (met_X3_bitsOfSingle l v7) (lw_S q1026 q1027 q28 q1028) (by decide +kernel) rfl ⟨Nat.le_of_ble_eq_true rfl, Nat.le_of_ble_eq_true rfl⟩ hl.1 rfl (Nat.le_of_ble_eq_true rfl) dX3_castWhole_8 ⟨Nat.le_of_ble_eq_true rfl, Nat.le_of_ble_eq_true rfl⟩ ?_
    refine lv_topi (fun v8 e8 => ?_)
    refine lv_i2l hx hb dX3_castWhole_11 rfl ?_
    refine lv_topl (fun v11 e11 => ?_)
    refine lv_goto (tgt := 34) hx hb dX3_castWhole_12 (by decide) ?_
    exact pf_lret hx hb hr hlk dX3_castWhole_34 (by unfold m_castWhole; grind)
set_option maxHeartbeats 4000000 in
theorem met_X3_castSingle (l : Launch) (k : Int32) (f : UInt32) : PF l yX3_castSingle cX3_castSingle 2 (some .long) 2 [.int k, .float f] (.long (m_castSingle k f)) := by
  refine pf_of (by decide) (Nat.le_of_ble_eq_true rfl) ?_
  intro p e s m args below meth c ls hx hb hr hts hown hlk hml hl
  have hl : lv_has ls 2 [(0, .int k), (1, .float f)] := hl
  refine lv_iload_n hx hb dX3_castSingle_0 rfl (lv_at hl 0 rfl) ?_
  refine lv_bipush (v := 7) hx hb dX3_castSingle_1 (by decide) ?_
  refine lv_icmp_ne (tgt := 24) hx hb dX3_castSingle_3 (by decide) (fun c3 => ?_) (fun c3 => ?_)
  · refine lv_iload_n hx hb dX3_castSingle_24 rfl (lv_at hl 0 rfl) ?_
    refine lv_iconst (v := 5) hx hb dX3_castSingle_25 (by decide) ?_
    refine lv_icmp_ne (tgt := 34) hx hb dX3_castSingle_26 (by decide) (fun c26 => ?_) (fun c26 => ?_)
    · refine lv_iload_n hx hb dX3_castSingle_34 rfl (lv_at hl 0 rfl) ?_
      refine lv_fload_n hx hb dX3_castSingle_35 rfl (lv_at hl 1 rfl) ?_
      refine lv_f2i hx hb dX3_castSingle_36 ?_
      refine lv_topi (fun v36 e36 => ?_)
      refine lv_i2l hx hb dX3_castSingle_37 rfl ?_
      refine lv_topl (fun v37 e37 => ?_)
      refine pf_S 2 hx hb hml hown hts (As := [.int k, .long v37]) (met_X3_clean l k v37) (lw_S q1053 q1054 q28 q1055) (by decide +kernel) rfl ⟨Nat.le_of_ble_eq_true rfl, Nat.le_of_ble_eq_true rfl⟩ hl.1 rfl (Nat.le_of_ble_eq_true rfl) dX3_castSingle_38 ⟨Nat.le_of_ble_eq_true rfl, Nat.le_of_ble_eq_true rfl⟩ ?_
      refine lv_topl (fun v38 e38 => ?_)
      exact pf_lret hx hb hr hlk dX3_castSingle_41 (by unfold m_castSingle; grind)
    · refine lv_fload_n hx hb dX3_castSingle_29 rfl (lv_at hl 1 rfl) ?_
      refine lv_f2l hx hb dX3_castSingle_30 ?_
      refine lv_topl (fun v30 e30 => ?_)
      refine lv_goto (tgt := 41) hx hb dX3_castSingle_31 (by decide) ?_
      exact pf_lret hx hb hr hlk dX3_castSingle_41 (by unfold m_castSingle; grind)
  · refine lv_fload_n hx hb dX3_castSingle_6 rfl (lv_at hl 1 rfl) ?_
    refine lv_fload_n hx hb dX3_castSingle_7 rfl (lv_at hl 1 rfl) ?_
    refine lv_fcmp hx hb dX3_castSingle_8 ?_
    refine lv_topi (fun v8 e8 => ?_)
    refine lv_if_eq (tgt := 18) hx hb dX3_castSingle_9 (by decide) (fun c9 => ?_) (fun c9 => ?_)
    · have hn : FV32 f ≠ .nan := num32.mpr (ceq_self32.mp (by rw [← e8]; exact c9))
      refine lv_fload_n hx hb dX3_castSingle_18 rfl (lv_at hl 1 rfl) ?_
      refine lv_f2d hx hb dX3_castSingle_19 (vf_of64 (f2d_nn hn)) ?_
      refine lv_topd (fun v19 e19 => ?_)
      refine pf_S 1 hx hb hml hown hts (As := [.double v19]) (met_X3_bitsOf l v19) (lw_S q1044 q1045 q28 q1046) (by decide +kernel) rfl ⟨Nat.le_of_ble_eq_true rfl, Nat.le_of_ble_eq_true rfl⟩ hl.1 rfl (Nat.le_of_ble_eq_true rfl) dX3_castSingle_20 ⟨Nat.le_of_ble_eq_true rfl, Nat.le_of_ble_eq_true rfl⟩ ?_
      refine lv_topl (fun v20 e20 => ?_)
      exact pf_lret hx hb hr hlk dX3_castSingle_23 (by unfold m_castSingle; rw [e8, ceq_self32] at c9; grind)
    · refine lv_ldc2 (v := 9221120237041090560) hx hb hown (hts _ q1047) dX3_castSingle_12 ?_
      refine lv_goto (tgt := 23) hx hb dX3_castSingle_15 (by decide) ?_
      exact pf_lret hx hb hr hlk dX3_castSingle_23 (by unfold m_castSingle; rw [e8, ceq_self32] at c9; grind)
set_option maxHeartbeats 4000000 in
theorem met_X3_castReal (l : Launch) (k : Int32) (d0 : UInt64) : PF l yX3_castReal cX3_castReal 3 (some .long) 2 [.int k, .double d0] (.long (m_castReal k d0)) := by
  refine pf_of (by decide) (Nat.le_of_ble_eq_true rfl) ?_
  intro p e s m args below meth c ls hx hb hr hts hown hlk hml hl
  have hl : lv_has ls 3 [(0, .int k), (1, .double d0)] := hl
  refine lv_iload_n hx hb dX3_castReal_0 rfl (lv_at hl 0 rfl) ?_
  refine lv_bipush (v := 6) hx hb dX3_castReal_1 (by decide) ?_
  refine lv_icmp_ne (tgt := 25) hx hb dX3_castReal_3 (by decide) (fun c3 => ?_) (fun c3 => ?_)
  · refine lv_iload_n hx hb dX3_castReal_25 rfl (lv_at hl 0 rfl) ?_
    refine lv_iconst (v := 5) hx hb dX3_castReal_26 (by decide) ?_
    refine lv_icmp_ne (tgt := 35) hx hb dX3_castReal_27 (by decide) (fun c27 => ?_) (fun c27 => ?_)
    · refine lv_iload_n hx hb dX3_castReal_35 rfl (lv_at hl 0 rfl) ?_
      refine lv_dload_n hx hb dX3_castReal_36 rfl (lv_at hl 1 rfl) ?_
      refine lv_d2i hx hb dX3_castReal_37 ?_
      refine lv_topi (fun v37 e37 => ?_)
      refine lv_i2l hx hb dX3_castReal_38 rfl ?_
      refine lv_topl (fun v38 e38 => ?_)
      refine pf_S 2 hx hb hml hown hts (As := [.int k, .long v38]) (met_X3_clean l k v38) (lw_S q1053 q1054 q28 q1055) (by decide +kernel) rfl ⟨Nat.le_of_ble_eq_true rfl, Nat.le_of_ble_eq_true rfl⟩ hl.1 rfl (Nat.le_of_ble_eq_true rfl) dX3_castReal_39 ⟨Nat.le_of_ble_eq_true rfl, Nat.le_of_ble_eq_true rfl⟩ ?_
      refine lv_topl (fun v39 e39 => ?_)
      exact pf_lret hx hb hr hlk dX3_castReal_42 (by unfold m_castReal; grind)
    · refine lv_dload_n hx hb dX3_castReal_30 rfl (lv_at hl 1 rfl) ?_
      refine lv_d2l hx hb dX3_castReal_31 ?_
      refine lv_topl (fun v31 e31 => ?_)
      refine lv_goto (tgt := 42) hx hb dX3_castReal_32 (by decide) ?_
      exact pf_lret hx hb hr hlk dX3_castReal_42 (by unfold m_castReal; grind)
  · refine lv_dload_n hx hb dX3_castReal_6 rfl (lv_at hl 1 rfl) ?_
    refine lv_dload_n hx hb dX3_castReal_7 rfl (lv_at hl 1 rfl) ?_
    refine lv_dcmp hx hb dX3_castReal_8 ?_
    refine lv_topi (fun v8 e8 => ?_)
    refine lv_if_eq (tgt := 18) hx hb dX3_castReal_9 (by decide) (fun c9 => ?_) (fun c9 => ?_)
    · have hn : FV64 d0 ≠ .nan := num64.mpr (ceq_self64.mp (by rw [← e8]; exact c9))
      refine lv_dload_n hx hb dX3_castReal_18 rfl (lv_at hl 1 rfl) ?_
      refine lv_d2f hx hb dX3_castReal_19 (vf_of32 (d2f_nn hn)) ?_
      refine lv_topf (fun v19 e19 => ?_)
      refine pf_S 1 hx hb hml hown hts (As := [.float v19]) (met_X3_bitsOfSingle l v19) (lw_S q1026 q1027 q28 q1028) (by decide +kernel) rfl ⟨Nat.le_of_ble_eq_true rfl, Nat.le_of_ble_eq_true rfl⟩ hl.1 rfl (Nat.le_of_ble_eq_true rfl) dX3_castReal_20 ⟨Nat.le_of_ble_eq_true rfl, Nat.le_of_ble_eq_true rfl⟩ ?_
      refine lv_topi (fun v20 e20 => ?_)
      refine lv_i2l hx hb dX3_castReal_23 rfl ?_
      refine lv_topl (fun v23 e23 => ?_)
      exact pf_lret hx hb hr hlk dX3_castReal_24 (by unfold m_castReal; rw [e8, ceq_self64] at c9; grind)
    · refine lv_ldc2 (v := 2143289344) hx hb hown (hts _ q1059) dX3_castReal_12 ?_
      refine lv_goto (tgt := 24) hx hb dX3_castReal_15 (by decide) ?_
      exact pf_lret hx hb hr hlk dX3_castReal_24 (by unfold m_castReal; rw [e8, ceq_self64] at c9; grind)
set_option maxHeartbeats 4000000 in
theorem met_X3_cast (l : Launch) (k : Int32) (x : Int32) (b : Int64) : PF l yX3_cast cX3_cast 4 (some .long) 3 [.int k, .int x, .long b] (.long (m_cast k x b)) := by
  refine pf_of (by decide) (Nat.le_of_ble_eq_true rfl) ?_
  intro p e s m args below meth c ls hx hb hr hts hown hlk hml hl
  have hl : lv_has ls 4 [(0, .int k), (1, .int x), (2, .long b)] := hl
  refine lv_iload_n hx hb dX3_cast_0 rfl (lv_at hl 0 rfl) ?_
  refine lv_bipush (v := 6) hx hb dX3_cast_1 (by decide) ?_
  refine lv_icmp_ge (tgt := 12) hx hb dX3_cast_3 (by decide) (fun c3 => ?_) (fun c3 => ?_)
  · refine lv_iload_n hx hb dX3_cast_12 rfl (lv_at hl 0 rfl) ?_
    refine lv_bipush (v := 6) hx hb dX3_cast_13 (by decide) ?_
    refine lv_icmp_ne (tgt := 24) hx hb dX3_cast_15 (by decide) (fun c15 => ?_) (fun c15 => ?_)
    · refine lv_iload_n hx hb dX3_cast_24 rfl (lv_at hl 0 rfl) ?_
      refine lv_bipush (v := 7) hx hb dX3_cast_25 (by decide) ?_
      refine lv_icmp_ne (tgt := 38) hx hb dX3_cast_27 (by decide) (fun c27 => ?_) (fun c27 => ?_)
      · refine lv_iload_n hx hb dX3_cast_38 rfl (lv_at hl 0 rfl) ?_
        refine lv_bipush (v := 6) hx hb dX3_cast_39 (by decide) ?_
        refine lv_icmp_ne (tgt := 54) hx hb dX3_cast_41 (by decide) (fun c41 => ?_) (fun c41 => ?_)
        · refine lv_iload_n hx hb dX3_cast_54 rfl (lv_at hl 1 rfl) ?_
          refine lv_lload_n hx hb dX3_cast_55 rfl (lv_at hl 2 rfl) ?_
          refine pf_S 1 hx hb hml hown hts (As := [.long b]) (met_X3_real l b) (lw_S q1074 q1075 q28 q1076) (by decide +kernel) rfl ⟨Nat.le_of_ble_eq_true rfl, Nat.le_of_ble_eq_true rfl⟩ hl.1 rfl (Nat.le_of_ble_eq_true rfl) dX3_cast_56 ⟨Nat.le_of_ble_eq_true rfl, Nat.le_of_ble_eq_true rfl⟩ ?_
          refine lv_topd (fun v56 e56 => ?_)
          refine pf_S 2 hx hb hml hown hts (As := [.int x, .double v56]) (met_X3_castReal l x v56) (lw_S q1080 q1081 q28 q1082) (by decide +kernel) rfl ⟨Nat.le_of_ble_eq_true rfl, Nat.le_of_ble_eq_true rfl⟩ hl.1 rfl (Nat.le_of_ble_eq_true rfl) dX3_cast_59 ⟨Nat.le_of_ble_eq_true rfl, Nat.le_of_ble_eq_true rfl⟩ ?_
          refine lv_topl (fun v59 e59 => ?_)
          exact pf_lret hx hb hr hlk dX3_cast_62 (by unfold m_cast; grind)
        · refine lv_iload_n hx hb dX3_cast_44 rfl (lv_at hl 1 rfl) ?_
          refine lv_lload_n hx hb dX3_cast_45 rfl (lv_at hl 2 rfl) ?_
          refine lv_l2i hx hb dX3_cast_46 rfl ?_
          refine lv_topi (fun v46 e46 => ?_)
          refine pf_S 1 hx hb hml hown hts (As := [.int v46]) (met_X3_single l v46) (lw_S q1061 q1062 q28 q1063) (by decide +kernel) rfl ⟨Nat.le_of_ble_eq_true rfl, Nat.le_of_ble_eq_true rfl⟩ hl.1 rfl (Nat.le_of_ble_eq_true rfl) dX3_cast_47 ⟨Nat.le_of_ble_eq_true rfl, Nat.le_of_ble_eq_true rfl⟩ ?_
          refine lv_topf (fun v47 e47 => ?_)
          refine pf_S 2 hx hb hml hown hts (As := [.int x, .float v47]) (met_X3_castSingle l x v47) (lw_S q1071 q1072 q28 q1073) (by decide +kernel) rfl ⟨Nat.le_of_ble_eq_true rfl, Nat.le_of_ble_eq_true rfl⟩ hl.1 rfl (Nat.le_of_ble_eq_true rfl) dX3_cast_50 ⟨Nat.le_of_ble_eq_true rfl, Nat.le_of_ble_eq_true rfl⟩ ?_
          refine lv_topl (fun v50 e50 => ?_)
          exact pf_lret hx hb hr hlk dX3_cast_53 (by unfold m_cast; grind)
      · refine lv_iload_n hx hb dX3_cast_30 rfl (lv_at hl 1 rfl) ?_
        refine lv_bipush (v := 7) hx hb dX3_cast_31 (by decide) ?_
        refine lv_icmp_ne (tgt := 38) hx hb dX3_cast_33 (by decide) (fun c33 => ?_) (fun c33 => ?_)
        · refine lv_iload_n hx hb dX3_cast_38 rfl (lv_at hl 0 rfl) ?_
          refine lv_bipush (v := 6) hx hb dX3_cast_39 (by decide) ?_
          refine lv_icmp_ne (tgt := 54) hx hb dX3_cast_41 (by decide) (fun c41 => ?_) (fun c41 => ?_)
          · refine lv_iload_n hx hb dX3_cast_54 rfl (lv_at hl 1 rfl) ?_
            refine lv_lload_n hx hb dX3_cast_55 rfl (lv_at hl 2 rfl) ?_
            refine pf_S 1 hx hb hml hown hts (As := [.long b]) (met_X3_real l b) (lw_S q1074 q1075 q28 q1076) (by decide +kernel) rfl ⟨Nat.le_of_ble_eq_true rfl, Nat.le_of_ble_eq_true rfl⟩ hl.1 rfl (Nat.le_of_ble_eq_true rfl) dX3_cast_56 ⟨Nat.le_of_ble_eq_true rfl, Nat.le_of_ble_eq_true rfl⟩ ?_
            refine lv_topd (fun v56 e56 => ?_)
            refine pf_S 2 hx hb hml hown hts (As := [.int x, .double v56]) (met_X3_castReal l x v56) (lw_S q1080 q1081 q28 q1082) (by decide +kernel) rfl ⟨Nat.le_of_ble_eq_true rfl, Nat.le_of_ble_eq_true rfl⟩ hl.1 rfl (Nat.le_of_ble_eq_true rfl) dX3_cast_59 ⟨Nat.le_of_ble_eq_true rfl, Nat.le_of_ble_eq_true rfl⟩ ?_
            refine lv_topl (fun v59 e59 => ?_)
            exact pf_lret hx hb hr hlk dX3_cast_62 (by unfold m_cast; grind)
          · refine lv_iload_n hx hb dX3_cast_44 rfl (lv_at hl 1 rfl) ?_
            refine lv_lload_n hx hb dX3_cast_45 rfl (lv_at hl 2 rfl) ?_
            refine lv_l2i hx hb dX3_cast_46 rfl ?_
            refine lv_topi (fun v46 e46 => ?_)
            refine pf_S 1 hx hb hml hown hts (As := [.int v46]) (met_X3_single l v46) (lw_S q1061 q1062 q28 q1063) (by decide +kernel) rfl ⟨Nat.le_of_ble_eq_true rfl, Nat.le_of_ble_eq_true rfl⟩ hl.1 rfl (Nat.le_of_ble_eq_true rfl) dX3_cast_47 ⟨Nat.le_of_ble_eq_true rfl, Nat.le_of_ble_eq_true rfl⟩ ?_
            refine lv_topf (fun v47 e47 => ?_)
            refine pf_S 2 hx hb hml hown hts (As := [.int x, .float v47]) (met_X3_castSingle l x v47) (lw_S q1071 q1072 q28 q1073) (by decide +kernel) rfl ⟨Nat.le_of_ble_eq_true rfl, Nat.le_of_ble_eq_true rfl⟩ hl.1 rfl (Nat.le_of_ble_eq_true rfl) dX3_cast_50 ⟨Nat.le_of_ble_eq_true rfl, Nat.le_of_ble_eq_true rfl⟩ ?_
            refine lv_topl (fun v50 e50 => ?_)
            exact pf_lret hx hb hr hlk dX3_cast_53 (by unfold m_cast; grind)
        · refine lv_lload_n hx hb dX3_cast_36 rfl (lv_at hl 2 rfl) ?_
          exact pf_lret hx hb hr hlk dX3_cast_37 (by unfold m_cast; grind)
    · refine lv_iload_n hx hb dX3_cast_18 rfl (lv_at hl 1 rfl) ?_
      refine lv_bipush (v := 6) hx hb dX3_cast_19 (by decide) ?_
      refine lv_icmp_eq (tgt := 36) hx hb dX3_cast_21 (by decide) (fun c21 => ?_) (fun c21 => ?_)
      · refine lv_lload_n hx hb dX3_cast_36 rfl (lv_at hl 2 rfl) ?_
        exact pf_lret hx hb hr hlk dX3_cast_37 (by unfold m_cast; grind)
      · refine lv_iload_n hx hb dX3_cast_24 rfl (lv_at hl 0 rfl) ?_
        refine lv_bipush (v := 7) hx hb dX3_cast_25 (by decide) ?_
        refine lv_icmp_ne (tgt := 38) hx hb dX3_cast_27 (by decide) (fun c27 => ?_) (fun c27 => ?_)
        · refine lv_iload_n hx hb dX3_cast_38 rfl (lv_at hl 0 rfl) ?_
          refine lv_bipush (v := 6) hx hb dX3_cast_39 (by decide) ?_
          refine lv_icmp_ne (tgt := 54) hx hb dX3_cast_41 (by decide) (fun c41 => ?_) (fun c41 => ?_)
          · refine lv_iload_n hx hb dX3_cast_54 rfl (lv_at hl 1 rfl) ?_
            refine lv_lload_n hx hb dX3_cast_55 rfl (lv_at hl 2 rfl) ?_
            refine pf_S 1 hx hb hml hown hts (As := [.long b]) (met_X3_real l b) (lw_S q1074 q1075 q28 q1076) (by decide +kernel) rfl ⟨Nat.le_of_ble_eq_true rfl, Nat.le_of_ble_eq_true rfl⟩ hl.1 rfl (Nat.le_of_ble_eq_true rfl) dX3_cast_56 ⟨Nat.le_of_ble_eq_true rfl, Nat.le_of_ble_eq_true rfl⟩ ?_
            refine lv_topd (fun v56 e56 => ?_)
            refine pf_S 2 hx hb hml hown hts (As := [.int x, .double v56]) (met_X3_castReal l x v56) (lw_S q1080 q1081 q28 q1082) (by decide +kernel) rfl ⟨Nat.le_of_ble_eq_true rfl, Nat.le_of_ble_eq_true rfl⟩ hl.1 rfl (Nat.le_of_ble_eq_true rfl) dX3_cast_59 ⟨Nat.le_of_ble_eq_true rfl, Nat.le_of_ble_eq_true rfl⟩ ?_
            refine lv_topl (fun v59 e59 => ?_)
            exact pf_lret hx hb hr hlk dX3_cast_62 (by unfold m_cast; grind)
          · refine lv_iload_n hx hb dX3_cast_44 rfl (lv_at hl 1 rfl) ?_
            refine lv_lload_n hx hb dX3_cast_45 rfl (lv_at hl 2 rfl) ?_
            refine lv_l2i hx hb dX3_cast_46 rfl ?_
            refine lv_topi (fun v46 e46 => ?_)
            refine pf_S 1 hx hb hml hown hts (As := [.int v46]) (met_X3_single l v46) (lw_S q1061 q1062 q28 q1063) (by decide +kernel) rfl ⟨Nat.le_of_ble_eq_true rfl, Nat.le_of_ble_eq_true rfl⟩ hl.1 rfl (Nat.le_of_ble_eq_true rfl) dX3_cast_47 ⟨Nat.le_of_ble_eq_true rfl, Nat.le_of_ble_eq_true rfl⟩ ?_
            refine lv_topf (fun v47 e47 => ?_)
            refine pf_S 2 hx hb hml hown hts (As := [.int x, .float v47]) (met_X3_castSingle l x v47) (lw_S q1071 q1072 q28 q1073) (by decide +kernel) rfl ⟨Nat.le_of_ble_eq_true rfl, Nat.le_of_ble_eq_true rfl⟩ hl.1 rfl (Nat.le_of_ble_eq_true rfl) dX3_cast_50 ⟨Nat.le_of_ble_eq_true rfl, Nat.le_of_ble_eq_true rfl⟩ ?_
            refine lv_topl (fun v50 e50 => ?_)
            exact pf_lret hx hb hr hlk dX3_cast_53 (by unfold m_cast; grind)
        · refine lv_iload_n hx hb dX3_cast_30 rfl (lv_at hl 1 rfl) ?_
          refine lv_bipush (v := 7) hx hb dX3_cast_31 (by decide) ?_
          refine lv_icmp_ne (tgt := 38) hx hb dX3_cast_33 (by decide) (fun c33 => ?_) (fun c33 => ?_)
          · refine lv_iload_n hx hb dX3_cast_38 rfl (lv_at hl 0 rfl) ?_
            refine lv_bipush (v := 6) hx hb dX3_cast_39 (by decide) ?_
            refine lv_icmp_ne (tgt := 54) hx hb dX3_cast_41 (by decide) (fun c41 => ?_) (fun c41 => ?_)
            · refine lv_iload_n hx hb dX3_cast_54 rfl (lv_at hl 1 rfl) ?_
              refine lv_lload_n hx hb dX3_cast_55 rfl (lv_at hl 2 rfl) ?_
              refine pf_S 1 hx hb hml hown hts (As := [.long b]) (met_X3_real l b) (lw_S q1074 q1075 q28 q1076) (by decide +kernel) rfl ⟨Nat.le_of_ble_eq_true rfl, Nat.le_of_ble_eq_true rfl⟩ hl.1 rfl (Nat.le_of_ble_eq_true rfl) dX3_cast_56 ⟨Nat.le_of_ble_eq_true rfl, Nat.le_of_ble_eq_true rfl⟩ ?_
              refine lv_topd (fun v56 e56 => ?_)
              refine pf_S 2 hx hb hml hown hts (As := [.int x, .double v56]) (met_X3_castReal l x v56) (lw_S q1080 q1081 q28 q1082) (by decide +kernel) rfl ⟨Nat.le_of_ble_eq_true rfl, Nat.le_of_ble_eq_true rfl⟩ hl.1 rfl (Nat.le_of_ble_eq_true rfl) dX3_cast_59 ⟨Nat.le_of_ble_eq_true rfl, Nat.le_of_ble_eq_true rfl⟩ ?_
              refine lv_topl (fun v59 e59 => ?_)
              exact pf_lret hx hb hr hlk dX3_cast_62 (by unfold m_cast; grind)
            · refine lv_iload_n hx hb dX3_cast_44 rfl (lv_at hl 1 rfl) ?_
              refine lv_lload_n hx hb dX3_cast_45 rfl (lv_at hl 2 rfl) ?_
              refine lv_l2i hx hb dX3_cast_46 rfl ?_
              refine lv_topi (fun v46 e46 => ?_)
              refine pf_S 1 hx hb hml hown hts (As := [.int v46]) (met_X3_single l v46) (lw_S q1061 q1062 q28 q1063) (by decide +kernel) rfl ⟨Nat.le_of_ble_eq_true rfl, Nat.le_of_ble_eq_true rfl⟩ hl.1 rfl (Nat.le_of_ble_eq_true rfl) dX3_cast_47 ⟨Nat.le_of_ble_eq_true rfl, Nat.le_of_ble_eq_true rfl⟩ ?_
              refine lv_topf (fun v47 e47 => ?_)
              refine pf_S 2 hx hb hml hown hts (As := [.int x, .float v47]) (met_X3_castSingle l x v47) (lw_S q1071 q1072 q28 q1073) (by decide +kernel) rfl ⟨Nat.le_of_ble_eq_true rfl, Nat.le_of_ble_eq_true rfl⟩ hl.1 rfl (Nat.le_of_ble_eq_true rfl) dX3_cast_50 ⟨Nat.le_of_ble_eq_true rfl, Nat.le_of_ble_eq_true rfl⟩ ?_
              refine lv_topl (fun v50 e50 => ?_)
              exact pf_lret hx hb hr hlk dX3_cast_53 (by unfold m_cast; grind)
          · refine lv_lload_n hx hb dX3_cast_36 rfl (lv_at hl 2 rfl) ?_
            exact pf_lret hx hb hr hlk dX3_cast_37 (by unfold m_cast; grind)
  · refine lv_iload_n hx hb dX3_cast_6 rfl (lv_at hl 1 rfl) ?_
    refine lv_lload_n hx hb dX3_cast_7 rfl (lv_at hl 2 rfl) ?_
    refine pf_S 2 hx hb hml hown hts (As := [.int x, .long b]) (met_X3_castWhole l x b) (lw_S q1023 q1024 q28 q1025) (by decide +kernel) rfl ⟨Nat.le_of_ble_eq_true rfl, Nat.le_of_ble_eq_true rfl⟩ hl.1 rfl (Nat.le_of_ble_eq_true rfl) dX3_cast_8 ⟨Nat.le_of_ble_eq_true rfl, Nat.le_of_ble_eq_true rfl⟩ ?_
    refine lv_topl (fun v8 e8 => ?_)
    exact pf_lret hx hb hr hlk dX3_cast_11 (by unfold m_cast; grind)
set_option maxHeartbeats 4000000 in
theorem met_X3_isEndless (l : Launch) (v : UInt64) : PF l yX3_isEndless cX3_isEndless 2 (some .boolean) 0 [.double v] (.int (m_end v)) := by
  refine pf_of (by decide) (Nat.le_of_ble_eq_true rfl) ?_
  intro p e s m args below meth c ls hx hb hr hts hown hlk hml hl
  have hl : lv_has ls 2 [(0, .double v)] := hl
  refine lv_dload_n hx hb dX3_isEndless_0 rfl (lv_at hl 0 rfl) ?_
  refine lv_ldc2d (v := 9218868437227405312) hx hb hown (hts _ q1034) dX3_isEndless_1 ?_
  refine lv_dcmp hx hb dX3_isEndless_4 ?_
  refine lv_topi (fun v4 e4 => ?_)
  refine lv_if_eq (tgt := 16) hx hb dX3_isEndless_5 (by decide) (fun c5 => ?_) (fun c5 => ?_)
  · refine lv_iconst (v := 1) hx hb dX3_isEndless_16 (by decide) ?_
    refine lv_goto (tgt := 21) hx hb dX3_isEndless_17 (by decide) ?_
    exact pf_zret hx hb hr hlk dX3_isEndless_21 rfl (by have := v.toNat_lt; rw [e4, ceq_inf] at c5; unfold m_end; split <;> first | rfl | omega)
  · refine lv_dload_n hx hb dX3_isEndless_8 rfl (lv_at hl 0 rfl) ?_
    refine lv_ldc2d (v := 18442240474082181120) hx hb hown (hts _ q1078) dX3_isEndless_9 ?_
    refine lv_dcmp hx hb dX3_isEndless_12 ?_
    refine lv_topi (fun v12 e12 => ?_)
    refine lv_if_ne (tgt := 20) hx hb dX3_isEndless_13 (by decide) (fun c13 => ?_) (fun c13 => ?_)
    · refine lv_iconst (v := 0) hx hb dX3_isEndless_20 (by decide) ?_
      exact pf_zret hx hb hr hlk dX3_isEndless_21 rfl (by have := v.toNat_lt; rw [e4, ceq_inf] at c5; rw [e12, ceq_ninf] at c13; unfold m_end; split <;> first | rfl | omega)
    · refine lv_iconst (v := 1) hx hb dX3_isEndless_16 (by decide) ?_
      refine lv_goto (tgt := 21) hx hb dX3_isEndless_17 (by decide) ?_
      exact pf_zret hx hb hr hlk dX3_isEndless_21 rfl (by have := v.toNat_lt; rw [e4, ceq_inf] at c5; rw [e12, ceq_ninf] at c13; unfold m_end; split <;> first | rfl | omega)
set_option maxHeartbeats 4000000 in
theorem met_X3_makesNone (l : Launch) (op : Int32) (x : UInt64) (y : UInt64) (h1 : FV64 x ≠ .nan) (h2 : FV64 y ≠ .nan) : PF l yX3_makesNone cX3_makesNone 5 (some .boolean) 1 [.int op, .double x, .double y] (.int (m_none op x y)) := by
  refine pf_of (by decide) (Nat.le_of_ble_eq_true rfl) ?_
  intro p e s m args below meth c ls hx hb hr hts hown hlk hml hl
  have hl : lv_has ls 5 [(0, .int op), (1, .double x), (3, .double y)] := hl
  refine lv_iload_n hx hb dX3_makesNone_0 rfl (lv_at hl 0 rfl) ?_
  by_cases s1_0 : op = 0
  · refine lv_tableIn (tgt := 36) hx hb dX3_makesNone_1 (by rw [s1_0]; decide) (by rw [s1_0]; decide) (by rw [s1_0]; rfl) (by decide) ?_
    refine lv_dload_n hx hb dX3_makesNone_36 rfl (lv_at hl 1 rfl) ?_
    refine pf_S 1 hx hb hml hown hts (As := [.double x]) (met_X3_isEndless l x) (lw_S q1154 q1155 q28 q1156) (by decide +kernel) rfl ⟨Nat.le_of_ble_eq_true rfl, Nat.le_of_ble_eq_true rfl⟩ hl.1 rfl (Nat.le_of_ble_eq_true rfl) dX3_makesNone_37 ⟨Nat.le_of_ble_eq_true rfl, Nat.le_of_ble_eq_true rfl⟩ ?_
    refine lv_topi (fun v37 e37 => ?_)
    refine lv_if_eq (tgt := 54) hx hb dX3_makesNone_40 (by decide) (fun c40 => ?_) (fun c40 => ?_)
    · refine lv_iconst (v := 0) hx hb dX3_makesNone_54 (by decide) ?_
      exact pf_zret hx hb hr hlk dX3_makesNone_55 rfl (by have := x.toNat_lt; have := y.toNat_lt; rw [num64] at h1 h2; simp only [e37, m_end_0, ceq_zero] at c40; (try simp only [ceq64, dneg_toNat] at c40); refine m_none_0 ?_; rw [s1_0, mn0]; omega)
    · refine lv_dload_n hx hb dX3_makesNone_43 rfl (lv_at hl 1 rfl) ?_
      refine lv_dload_n hx hb dX3_makesNone_44 rfl (lv_at hl 2 rfl) ?_
      refine lv_dneg hx hb dX3_makesNone_45 ?_
      refine lv_topd (fun v45 e45 => ?_)
      refine lv_dcmp hx hb dX3_makesNone_46 ?_
      refine lv_topi (fun v46 e46 => ?_)
      refine lv_if_ne (tgt := 54) hx hb dX3_makesNone_47 (by decide) (fun c47 => ?_) (fun c47 => ?_)
      · refine lv_iconst (v := 0) hx hb dX3_makesNone_54 (by decide) ?_
        exact pf_zret hx hb hr hlk dX3_makesNone_55 rfl (by have := x.toNat_lt; have := y.toNat_lt; rw [num64] at h1 h2; simp only [e37, e45, e46, m_end_0, ceq_zero] at c40 c47; (try simp only [ceq64, dneg_toNat] at c40 c47); refine m_none_0 ?_; rw [s1_0, mn0]; (try split at c47) <;> omega)
      · refine lv_iconst (v := 1) hx hb dX3_makesNone_50 (by decide) ?_
        refine lv_goto (tgt := 55) hx hb dX3_makesNone_51 (by decide) ?_
        exact pf_zret hx hb hr hlk dX3_makesNone_55 rfl (by have := x.toNat_lt; have := y.toNat_lt; rw [num64] at h1 h2; simp only [e37, e45, e46, m_end_0, ceq_zero] at c40 c47; (try simp only [ceq64, dneg_toNat] at c40 c47); refine m_none_1 ?_; rw [s1_0, mn0]; (try split at c47) <;> omega)
  by_cases s1_1 : op = 1
  · refine lv_tableIn (tgt := 56) hx hb dX3_makesNone_1 (by rw [s1_1]; decide) (by rw [s1_1]; decide) (by rw [s1_1]; rfl) (by decide) ?_
    refine lv_dload_n hx hb dX3_makesNone_56 rfl (lv_at hl 1 rfl) ?_
    refine pf_S 1 hx hb hml hown hts (As := [.double x]) (met_X3_isEndless l x) (lw_S q1154 q1155 q28 q1156) (by decide +kernel) rfl ⟨Nat.le_of_ble_eq_true rfl, Nat.le_of_ble_eq_true rfl⟩ hl.1 rfl (Nat.le_of_ble_eq_true rfl) dX3_makesNone_57 ⟨Nat.le_of_ble_eq_true rfl, Nat.le_of_ble_eq_true rfl⟩ ?_
    refine lv_topi (fun v57 e57 => ?_)
    refine lv_if_eq (tgt := 73) hx hb dX3_makesNone_60 (by decide) (fun c60 => ?_) (fun c60 => ?_)
    · refine lv_iconst (v := 0) hx hb dX3_makesNone_73 (by decide) ?_
      exact pf_zret hx hb hr hlk dX3_makesNone_74 rfl (by have := x.toNat_lt; have := y.toNat_lt; rw [num64] at h1 h2; simp only [e57, m_end_0, ceq_zero] at c60; (try simp only [ceq64, dneg_toNat] at c60); refine m_none_0 ?_; rw [s1_1, mn1]; omega)
    · refine lv_dload_n hx hb dX3_makesNone_63 rfl (lv_at hl 1 rfl) ?_
      refine lv_dload_n hx hb dX3_makesNone_64 rfl (lv_at hl 2 rfl) ?_
      refine lv_dcmp hx hb dX3_makesNone_65 ?_
      refine lv_topi (fun v65 e65 => ?_)
      refine lv_if_ne (tgt := 73) hx hb dX3_makesNone_66 (by decide) (fun c66 => ?_) (fun c66 => ?_)
      · refine lv_iconst (v := 0) hx hb dX3_makesNone_73 (by decide) ?_
        exact pf_zret hx hb hr hlk dX3_makesNone_74 rfl (by have := x.toNat_lt; have := y.toNat_lt; rw [num64] at h1 h2; simp only [e57, e65, m_end_0, ceq_zero] at c60 c66; (try simp only [ceq64, dneg_toNat] at c60 c66); refine m_none_0 ?_; rw [s1_1, mn1]; omega)
      · refine lv_iconst (v := 1) hx hb dX3_makesNone_69 (by decide) ?_
        refine lv_goto (tgt := 74) hx hb dX3_makesNone_70 (by decide) ?_
        exact pf_zret hx hb hr hlk dX3_makesNone_74 rfl (by have := x.toNat_lt; have := y.toNat_lt; rw [num64] at h1 h2; simp only [e57, e65, m_end_0, ceq_zero] at c60 c66; (try simp only [ceq64, dneg_toNat] at c60 c66); refine m_none_1 ?_; rw [s1_1, mn1]; omega)
  by_cases s1_2 : op = 2
  · refine lv_tableIn (tgt := 75) hx hb dX3_makesNone_1 (by rw [s1_2]; decide) (by rw [s1_2]; decide) (by rw [s1_2]; rfl) (by decide) ?_
    refine lv_dload_n hx hb dX3_makesNone_75 rfl (lv_at hl 1 rfl) ?_
    refine pf_S 1 hx hb hml hown hts (As := [.double x]) (met_X3_isEndless l x) (lw_S q1154 q1155 q28 q1156) (by decide +kernel) rfl ⟨Nat.le_of_ble_eq_true rfl, Nat.le_of_ble_eq_true rfl⟩ hl.1 rfl (Nat.le_of_ble_eq_true rfl) dX3_makesNone_76 ⟨Nat.le_of_ble_eq_true rfl, Nat.le_of_ble_eq_true rfl⟩ ?_
    refine lv_topi (fun v76 e76 => ?_)
    refine lv_if_eq (tgt := 88) hx hb dX3_makesNone_79 (by decide) (fun c79 => ?_) (fun c79 => ?_)
    · refine lv_dload_n hx hb dX3_makesNone_88 rfl (lv_at hl 1 rfl) ?_
      refine lv_dconst0 hx hb dX3_makesNone_89 ?_
      refine lv_dcmp hx hb dX3_makesNone_90 ?_
      refine lv_topi (fun v90 e90 => ?_)
      refine lv_if_ne (tgt := 105) hx hb dX3_makesNone_91 (by decide) (fun c91 => ?_) (fun c91 => ?_)
      · refine lv_iconst (v := 0) hx hb dX3_makesNone_105 (by decide) ?_
        exact pf_zret hx hb hr hlk dX3_makesNone_106 rfl (by have := x.toNat_lt; have := y.toNat_lt; rw [num64] at h1 h2; simp only [e76, e90, m_end_0, ceq_zero] at c79 c91; (try simp only [ceq64, dneg_toNat] at c79 c91); refine m_none_0 ?_; rw [s1_2, mn2]; omega)
      · refine lv_dload_n hx hb dX3_makesNone_94 rfl (lv_at hl 2 rfl) ?_
        refine pf_S 1 hx hb hml hown hts (As := [.double y]) (met_X3_isEndless l y) (lw_S q1154 q1155 q28 q1156) (by decide +kernel) rfl ⟨Nat.le_of_ble_eq_true rfl, Nat.le_of_ble_eq_true rfl⟩ hl.1 rfl (Nat.le_of_ble_eq_true rfl) dX3_makesNone_95 ⟨Nat.le_of_ble_eq_true rfl, Nat.le_of_ble_eq_true rfl⟩ ?_
        refine lv_topi (fun v95 e95 => ?_)
        refine lv_if_eq (tgt := 105) hx hb dX3_makesNone_98 (by decide) (fun c98 => ?_) (fun c98 => ?_)
        · refine lv_iconst (v := 0) hx hb dX3_makesNone_105 (by decide) ?_
          exact pf_zret hx hb hr hlk dX3_makesNone_106 rfl (by have := x.toNat_lt; have := y.toNat_lt; rw [num64] at h1 h2; simp only [e76, e90, e95, m_end_0, ceq_zero] at c79 c91 c98; (try simp only [ceq64, dneg_toNat] at c79 c91 c98); refine m_none_0 ?_; rw [s1_2, mn2]; omega)
        · refine lv_iconst (v := 1) hx hb dX3_makesNone_101 (by decide) ?_
          refine lv_goto (tgt := 106) hx hb dX3_makesNone_102 (by decide) ?_
          exact pf_zret hx hb hr hlk dX3_makesNone_106 rfl (by have := x.toNat_lt; have := y.toNat_lt; rw [num64] at h1 h2; simp only [e76, e90, e95, m_end_0, ceq_zero] at c79 c91 c98; (try simp only [ceq64, dneg_toNat] at c79 c91 c98); refine m_none_1 ?_; rw [s1_2, mn2]; omega)
    · refine lv_dload_n hx hb dX3_makesNone_82 rfl (lv_at hl 2 rfl) ?_
      refine lv_dconst0 hx hb dX3_makesNone_83 ?_
      refine lv_dcmp hx hb dX3_makesNone_84 ?_
      refine lv_topi (fun v84 e84 => ?_)
      refine lv_if_eq (tgt := 101) hx hb dX3_makesNone_85 (by decide) (fun c85 => ?_) (fun c85 => ?_)
      · refine lv_iconst (v := 1) hx hb dX3_makesNone_101 (by decide) ?_
        refine lv_goto (tgt := 106) hx hb dX3_makesNone_102 (by decide) ?_
        exact pf_zret hx hb hr hlk dX3_makesNone_106 rfl (by have := x.toNat_lt; have := y.toNat_lt; rw [num64] at h1 h2; simp only [e76, e84, m_end_0, ceq_zero] at c79 c85; (try simp only [ceq64, dneg_toNat] at c79 c85); refine m_none_1 ?_; rw [s1_2, mn2]; omega)
      · refine lv_dload_n hx hb dX3_makesNone_88 rfl (lv_at hl 1 rfl) ?_
        refine lv_dconst0 hx hb dX3_makesNone_89 ?_
        refine lv_dcmp hx hb dX3_makesNone_90 ?_
        refine lv_topi (fun v90 e90 => ?_)
        refine lv_if_ne (tgt := 105) hx hb dX3_makesNone_91 (by decide) (fun c91 => ?_) (fun c91 => ?_)
        · refine lv_iconst (v := 0) hx hb dX3_makesNone_105 (by decide) ?_
          exact pf_zret hx hb hr hlk dX3_makesNone_106 rfl (by have := x.toNat_lt; have := y.toNat_lt; rw [num64] at h1 h2; simp only [e76, e84, e90, m_end_0, ceq_zero] at c79 c85 c91; (try simp only [ceq64, dneg_toNat] at c79 c85 c91); refine m_none_0 ?_; rw [s1_2, mn2]; omega)
        · refine lv_dload_n hx hb dX3_makesNone_94 rfl (lv_at hl 2 rfl) ?_
          refine pf_S 1 hx hb hml hown hts (As := [.double y]) (met_X3_isEndless l y) (lw_S q1154 q1155 q28 q1156) (by decide +kernel) rfl ⟨Nat.le_of_ble_eq_true rfl, Nat.le_of_ble_eq_true rfl⟩ hl.1 rfl (Nat.le_of_ble_eq_true rfl) dX3_makesNone_95 ⟨Nat.le_of_ble_eq_true rfl, Nat.le_of_ble_eq_true rfl⟩ ?_
          refine lv_topi (fun v95 e95 => ?_)
          refine lv_if_eq (tgt := 105) hx hb dX3_makesNone_98 (by decide) (fun c98 => ?_) (fun c98 => ?_)
          · refine lv_iconst (v := 0) hx hb dX3_makesNone_105 (by decide) ?_
            exact pf_zret hx hb hr hlk dX3_makesNone_106 rfl (by have := x.toNat_lt; have := y.toNat_lt; rw [num64] at h1 h2; simp only [e76, e84, e90, e95, m_end_0, ceq_zero] at c79 c85 c91 c98; (try simp only [ceq64, dneg_toNat] at c79 c85 c91 c98); refine m_none_0 ?_; rw [s1_2, mn2]; omega)
          · refine lv_iconst (v := 1) hx hb dX3_makesNone_101 (by decide) ?_
            refine lv_goto (tgt := 106) hx hb dX3_makesNone_102 (by decide) ?_
            exact pf_zret hx hb hr hlk dX3_makesNone_106 rfl (by have := x.toNat_lt; have := y.toNat_lt; rw [num64] at h1 h2; simp only [e76, e84, e90, e95, m_end_0, ceq_zero] at c79 c85 c91 c98; (try simp only [ceq64, dneg_toNat] at c79 c85 c91 c98); refine m_none_1 ?_; rw [s1_2, mn2]; omega)
  by_cases s1_3 : op = 3
  · refine lv_tableIn (tgt := 107) hx hb dX3_makesNone_1 (by rw [s1_3]; decide) (by rw [s1_3]; decide) (by rw [s1_3]; rfl) (by decide) ?_
    refine lv_dload_n hx hb dX3_makesNone_107 rfl (lv_at hl 1 rfl) ?_
    refine pf_S 1 hx hb hml hown hts (As := [.double x]) (met_X3_isEndless l x) (lw_S q1154 q1155 q28 q1156) (by decide +kernel) rfl ⟨Nat.le_of_ble_eq_true rfl, Nat.le_of_ble_eq_true rfl⟩ hl.1 rfl (Nat.le_of_ble_eq_true rfl) dX3_makesNone_108 ⟨Nat.le_of_ble_eq_true rfl, Nat.le_of_ble_eq_true rfl⟩ ?_
    refine lv_topi (fun v108 e108 => ?_)
    refine lv_if_eq (tgt := 121) hx hb dX3_makesNone_111 (by decide) (fun c111 => ?_) (fun c111 => ?_)
    · refine lv_dload_n hx hb dX3_makesNone_121 rfl (lv_at hl 1 rfl) ?_
      refine lv_dconst0 hx hb dX3_makesNone_122 ?_
      refine lv_dcmp hx hb dX3_makesNone_123 ?_
      refine lv_topi (fun v123 e123 => ?_)
      refine lv_if_ne (tgt := 137) hx hb dX3_makesNone_124 (by decide) (fun c124 => ?_) (fun c124 => ?_)
      · refine lv_iconst (v := 0) hx hb dX3_makesNone_137 (by decide) ?_
        exact pf_zret hx hb hr hlk dX3_makesNone_138 rfl (by have := x.toNat_lt; have := y.toNat_lt; rw [num64] at h1 h2; simp only [e108, e123, m_end_0, ceq_zero] at c111 c124; (try simp only [ceq64, dneg_toNat] at c111 c124); refine m_none_0 ?_; rw [s1_3, mn3]; omega)
      · refine lv_dload_n hx hb dX3_makesNone_127 rfl (lv_at hl 2 rfl) ?_
        refine lv_dconst0 hx hb dX3_makesNone_128 ?_
        refine lv_dcmp hx hb dX3_makesNone_129 ?_
        refine lv_topi (fun v129 e129 => ?_)
        refine lv_if_ne (tgt := 137) hx hb dX3_makesNone_130 (by decide) (fun c130 => ?_) (fun c130 => ?_)
        · refine lv_iconst (v := 0) hx hb dX3_makesNone_137 (by decide) ?_
          exact pf_zret hx hb hr hlk dX3_makesNone_138 rfl (by have := x.toNat_lt; have := y.toNat_lt; rw [num64] at h1 h2; simp only [e108, e123, e129, m_end_0, ceq_zero] at c111 c124 c130; (try simp only [ceq64, dneg_toNat] at c111 c124 c130); refine m_none_0 ?_; rw [s1_3, mn3]; omega)
        · refine lv_iconst (v := 1) hx hb dX3_makesNone_133 (by decide) ?_
          refine lv_goto (tgt := 138) hx hb dX3_makesNone_134 (by decide) ?_
          exact pf_zret hx hb hr hlk dX3_makesNone_138 rfl (by have := x.toNat_lt; have := y.toNat_lt; rw [num64] at h1 h2; simp only [e108, e123, e129, m_end_0, ceq_zero] at c111 c124 c130; (try simp only [ceq64, dneg_toNat] at c111 c124 c130); refine m_none_1 ?_; rw [s1_3, mn3]; omega)
    · refine lv_dload_n hx hb dX3_makesNone_114 rfl (lv_at hl 2 rfl) ?_
      refine pf_S 1 hx hb hml hown hts (As := [.double y]) (met_X3_isEndless l y) (lw_S q1154 q1155 q28 q1156) (by decide +kernel) rfl ⟨Nat.le_of_ble_eq_true rfl, Nat.le_of_ble_eq_true rfl⟩ hl.1 rfl (Nat.le_of_ble_eq_true rfl) dX3_makesNone_115 ⟨Nat.le_of_ble_eq_true rfl, Nat.le_of_ble_eq_true rfl⟩ ?_
      refine lv_topi (fun v115 e115 => ?_)
      refine lv_if_ne (tgt := 133) hx hb dX3_makesNone_118 (by decide) (fun c118 => ?_) (fun c118 => ?_)
      · refine lv_iconst (v := 1) hx hb dX3_makesNone_133 (by decide) ?_
        refine lv_goto (tgt := 138) hx hb dX3_makesNone_134 (by decide) ?_
        exact pf_zret hx hb hr hlk dX3_makesNone_138 rfl (by have := x.toNat_lt; have := y.toNat_lt; rw [num64] at h1 h2; simp only [e108, e115, m_end_0, ceq_zero] at c111 c118; (try simp only [ceq64, dneg_toNat] at c111 c118); refine m_none_1 ?_; rw [s1_3, mn3]; omega)
      · refine lv_dload_n hx hb dX3_makesNone_121 rfl (lv_at hl 1 rfl) ?_
        refine lv_dconst0 hx hb dX3_makesNone_122 ?_
        refine lv_dcmp hx hb dX3_makesNone_123 ?_
        refine lv_topi (fun v123 e123 => ?_)
        refine lv_if_ne (tgt := 137) hx hb dX3_makesNone_124 (by decide) (fun c124 => ?_) (fun c124 => ?_)
        · refine lv_iconst (v := 0) hx hb dX3_makesNone_137 (by decide) ?_
          exact pf_zret hx hb hr hlk dX3_makesNone_138 rfl (by have := x.toNat_lt; have := y.toNat_lt; rw [num64] at h1 h2; simp only [e108, e115, e123, m_end_0, ceq_zero] at c111 c118 c124; (try simp only [ceq64, dneg_toNat] at c111 c118 c124); refine m_none_0 ?_; rw [s1_3, mn3]; omega)
        · refine lv_dload_n hx hb dX3_makesNone_127 rfl (lv_at hl 2 rfl) ?_
          refine lv_dconst0 hx hb dX3_makesNone_128 ?_
          refine lv_dcmp hx hb dX3_makesNone_129 ?_
          refine lv_topi (fun v129 e129 => ?_)
          refine lv_if_ne (tgt := 137) hx hb dX3_makesNone_130 (by decide) (fun c130 => ?_) (fun c130 => ?_)
          · refine lv_iconst (v := 0) hx hb dX3_makesNone_137 (by decide) ?_
            exact pf_zret hx hb hr hlk dX3_makesNone_138 rfl (by have := x.toNat_lt; have := y.toNat_lt; rw [num64] at h1 h2; simp only [e108, e115, e123, e129, m_end_0, ceq_zero] at c111 c118 c124 c130; (try simp only [ceq64, dneg_toNat] at c111 c118 c124 c130); refine m_none_0 ?_; rw [s1_3, mn3]; omega)
          · refine lv_iconst (v := 1) hx hb dX3_makesNone_133 (by decide) ?_
            refine lv_goto (tgt := 138) hx hb dX3_makesNone_134 (by decide) ?_
            exact pf_zret hx hb hr hlk dX3_makesNone_138 rfl (by have := x.toNat_lt; have := y.toNat_lt; rw [num64] at h1 h2; simp only [e108, e115, e123, e129, m_end_0, ceq_zero] at c111 c118 c124 c130; (try simp only [ceq64, dneg_toNat] at c111 c118 c124 c130); refine m_none_1 ?_; rw [s1_3, mn3]; omega)
  by_cases s1_4 : op = 4
  · refine lv_tableIn (tgt := 139) hx hb dX3_makesNone_1 (by rw [s1_4]; decide) (by rw [s1_4]; decide) (by rw [s1_4]; rfl) (by decide) ?_
    refine lv_dload_n hx hb dX3_makesNone_139 rfl (lv_at hl 1 rfl) ?_
    refine pf_S 1 hx hb hml hown hts (As := [.double x]) (met_X3_isEndless l x) (lw_S q1154 q1155 q28 q1156) (by decide +kernel) rfl ⟨Nat.le_of_ble_eq_true rfl, Nat.le_of_ble_eq_true rfl⟩ hl.1 rfl (Nat.le_of_ble_eq_true rfl) dX3_makesNone_140 ⟨Nat.le_of_ble_eq_true rfl, Nat.le_of_ble_eq_true rfl⟩ ?_
    refine lv_topi (fun v140 e140 => ?_)
    refine lv_if_ne (tgt := 152) hx hb dX3_makesNone_143 (by decide) (fun c143 => ?_) (fun c143 => ?_)
    · refine lv_iconst (v := 1) hx hb dX3_makesNone_152 (by decide) ?_
      refine lv_goto (tgt := 157) hx hb dX3_makesNone_153 (by decide) ?_
      exact pf_zret hx hb hr hlk dX3_makesNone_157 rfl (by have := x.toNat_lt; have := y.toNat_lt; rw [num64] at h1 h2; simp only [e140, m_end_0, ceq_zero] at c143; (try simp only [ceq64, dneg_toNat] at c143); refine m_none_1 ?_; rw [s1_4, mn4]; omega)
    · refine lv_dload_n hx hb dX3_makesNone_146 rfl (lv_at hl 2 rfl) ?_
      refine lv_dconst0 hx hb dX3_makesNone_147 ?_
      refine lv_dcmp hx hb dX3_makesNone_148 ?_
      refine lv_topi (fun v148 e148 => ?_)
      refine lv_if_ne (tgt := 156) hx hb dX3_makesNone_149 (by decide) (fun c149 => ?_) (fun c149 => ?_)
      · refine lv_iconst (v := 0) hx hb dX3_makesNone_156 (by decide) ?_
        exact pf_zret hx hb hr hlk dX3_makesNone_157 rfl (by have := x.toNat_lt; have := y.toNat_lt; rw [num64] at h1 h2; simp only [e140, e148, m_end_0, ceq_zero] at c143 c149; (try simp only [ceq64, dneg_toNat] at c143 c149); refine m_none_0 ?_; rw [s1_4, mn4]; omega)
      · refine lv_iconst (v := 1) hx hb dX3_makesNone_152 (by decide) ?_
        refine lv_goto (tgt := 157) hx hb dX3_makesNone_153 (by decide) ?_
        exact pf_zret hx hb hr hlk dX3_makesNone_157 rfl (by have := x.toNat_lt; have := y.toNat_lt; rw [num64] at h1 h2; simp only [e140, e148, m_end_0, ceq_zero] at c143 c149; (try simp only [ceq64, dneg_toNat] at c143 c149); refine m_none_1 ?_; rw [s1_4, mn4]; omega)
  refine lv_tableOut (tgt := 158) hx hb dX3_makesNone_1 (by have t0 := lv_neT (k := 0) (a := 0) s1_0 rfl; have t1 := lv_neT (k := 1) (a := 1) s1_1 rfl; have t2 := lv_neT (k := 2) (a := 2) s1_2 rfl; have t3 := lv_neT (k := 3) (a := 3) s1_3 rfl; have t4 := lv_neT (k := 4) (a := 4) s1_4 rfl; omega) (by decide) ?_
  refine lv_iconst (v := 0) hx hb dX3_makesNone_158 (by decide) ?_
  exact pf_zret hx hb hr hlk dX3_makesNone_159 rfl (by have := x.toNat_lt; have := y.toNat_lt; rw [num64] at h1 h2; refine m_none_0 ?_; unfold m_noneP; simp only [s1_0, s1_1, s1_2, s1_3, s1_4, if_false, not_false_eq_true])
set_option maxHeartbeats 4000000 in
theorem met_X3_wide (l : Launch) (b : Int32) : PF l yX3_wide cX3_wide 2 (some .double) 3 [.int b] (.double (m_wide b)) := by
  refine pf_of (by decide) (Nat.le_of_ble_eq_true rfl) ?_
  intro p e s m args below meth c ls hx hb hr hts hown hlk hml hl
  have hl : lv_has ls 2 [(0, .int b)] := hl
  refine lv_iload_n hx hb dX3_wide_0 rfl (lv_at hl 0 rfl) ?_
  refine pf_S 1 hx hb hml hown hts (As := [.int b]) (met_X3_single l b) (lw_S q1061 q1062 q28 q1063) (by decide +kernel) rfl ⟨Nat.le_of_ble_eq_true rfl, Nat.le_of_ble_eq_true rfl⟩ hl.1 rfl (Nat.le_of_ble_eq_true rfl) dX3_wide_1 ⟨Nat.le_of_ble_eq_true rfl, Nat.le_of_ble_eq_true rfl⟩ ?_
  refine lv_topf (fun v1 e1 => ?_)
  refine lv_fstore_n (lv' := [(1, .float v1), (0, .int b)]) hx hb dX3_wide_4 rfl hl (by decide) rfl (fun ls hl => ?_)
  refine lv_fload_n hx hb dX3_wide_5 rfl (lv_at hl 0 rfl) ?_
  refine lv_fload_n hx hb dX3_wide_6 rfl (lv_at hl 0 rfl) ?_
  refine lv_fcmp hx hb dX3_wide_7 ?_
  refine lv_topi (fun v7 e7 => ?_)
  refine lv_if_eq (tgt := 17) hx hb dX3_wide_8 (by decide) (fun c8 => ?_) (fun c8 => ?_)
  · have hn : FV32 v1 ≠ .nan := num32.mpr (ceq_self32.mp (by rw [← e7]; exact c8))
    refine lv_fload_n hx hb dX3_wide_17 rfl (lv_at hl 0 rfl) ?_
    refine lv_f2d hx hb dX3_wide_18 (vf_of64 (f2d_nn hn)) ?_
    refine lv_topd (fun v18 e18 => ?_)
    exact pf_dret hx hb hr hlk dX3_wide_19 (by rw [e7, ceq_self32] at c8; unfold m_wide; grind)
  · refine lv_ldc2d (v := 9221120237041090560) hx hb hown (hts _ q1077) dX3_wide_11 ?_
    refine lv_goto (tgt := 19) hx hb dX3_wide_14 (by decide) ?_
    exact pf_dret hx hb hr hlk dX3_wide_19 (by rw [e7, ceq_self32] at c8; unfold m_wide; grind)
