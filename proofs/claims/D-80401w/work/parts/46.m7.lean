/-! java.lang.Math, walked -/
set_option maxRecDepth 100000
theorem cgt64 {a b : UInt64} (ha : FV64 a ≠ .nan) (hb : FV64 b ≠ .nan) : (Op.cmpValue (FP.dcmp a b) .l < 0 ↔ key64 a < key64 b) ∧ (Op.cmpValue (FP.dcmp a b) .g > 0 ↔ key64 b < key64 a) ∧ (Op.cmpValue (FP.dcmp a b) .l > 0 ↔ key64 b < key64 a) ∧ (Op.cmpValue (FP.dcmp a b) .g < 0 ↔ key64 a < key64 b) ∧ (Op.cmpValue (FP.dcmp a b) .l = 0 ↔ key64 a = key64 b) ∧ (Op.cmpValue (FP.dcmp a b) .g ≥ 0 ↔ ¬ key64 a < key64 b) ∧ (Op.cmpValue (FP.dcmp a b) .l ≤ 0 ↔ ¬ key64 b < key64 a) := by
  have h1 := @fc_lt64 a b
  have h2 := @fc_gt64 a b
  have h3 := @fc_eq64 a b
  refine ⟨?_, ?_, ?_, ?_, ?_, ?_, ?_⟩
  · rw [cv_lt_l, h2, h3]; simp only [ha, hb, ne_eq, not_false_eq_true, true_and]; omega
  · rw [cv_gt_g, h1, h3]; simp only [ha, hb, ne_eq, not_false_eq_true, true_and]; omega
  · rw [cv_gt_l, h2]; simp only [ha, hb, ne_eq, not_false_eq_true, true_and]
  · rw [cv_lt_g, h1]; simp only [ha, hb, ne_eq, not_false_eq_true, true_and]
  · rw [cv_eq_l, h3]; simp only [ha, hb, ne_eq, not_false_eq_true, true_and]
  · rw [cv_ge_g, h1]; simp only [ha, hb, ne_eq, not_false_eq_true, true_and]
  · rw [cv_le_l, h2]; simp only [ha, hb, ne_eq, not_false_eq_true, true_and]
theorem cgt32 {a b : UInt32} (ha : FV32 a ≠ .nan) (hb : FV32 b ≠ .nan) : (Op.cmpValue (FP.fcmp a b) .l < 0 ↔ key32 a < key32 b) ∧ (Op.cmpValue (FP.fcmp a b) .g > 0 ↔ key32 b < key32 a) ∧ (Op.cmpValue (FP.fcmp a b) .l > 0 ↔ key32 b < key32 a) ∧ (Op.cmpValue (FP.fcmp a b) .g < 0 ↔ key32 a < key32 b) ∧ (Op.cmpValue (FP.fcmp a b) .l = 0 ↔ key32 a = key32 b) ∧ (Op.cmpValue (FP.fcmp a b) .g ≥ 0 ↔ ¬ key32 a < key32 b) ∧ (Op.cmpValue (FP.fcmp a b) .l ≤ 0 ↔ ¬ key32 b < key32 a) := by
  have h1 := @fc_lt32 a b
  have h2 := @fc_gt32 a b
  have h3 := @fc_eq32 a b
  refine ⟨?_, ?_, ?_, ?_, ?_, ?_, ?_⟩
  · rw [cv_lt_l, h2, h3]; simp only [ha, hb, ne_eq, not_false_eq_true, true_and]; omega
  · rw [cv_gt_g, h1, h3]; simp only [ha, hb, ne_eq, not_false_eq_true, true_and]; omega
  · rw [cv_gt_l, h2]; simp only [ha, hb, ne_eq, not_false_eq_true, true_and]
  · rw [cv_lt_g, h1]; simp only [ha, hb, ne_eq, not_false_eq_true, true_and]
  · rw [cv_eq_l, h3]; simp only [ha, hb, ne_eq, not_false_eq_true, true_and]
  · rw [cv_ge_g, h1]; simp only [ha, hb, ne_eq, not_false_eq_true, true_and]
  · rw [cv_le_l, h2]; simp only [ha, hb, ne_eq, not_false_eq_true, true_and]
/-- the larger, as the JDK tells it -/
theorem max_z64 {a b : UInt64} (h1 : a.toNat % 2 ^ 63 = 0) (h2 : b.toNat % 2 ^ 63 = 0) (h3 : a.toInt64 = -9223372036854775808) : b = m_max64 a b := by
  have h4 : a.toNat = 2 ^ 63 := by have := congrArg Int64.toUInt64 h3; rw [i64_of] at this; rw [this]; rfl
  unfold m_max64
  rw [key_zero64 h1, key_zero64 h2, if_neg (by omega)]
theorem max_n64 {a b : UInt64} (h : ¬ (a.toNat % 2 ^ 63 = 0 ∧ b.toNat % 2 ^ 63 = 0 ∧ a.toInt64 = -9223372036854775808)) : (key64 a < key64 b → b = m_max64 a b) ∧ (¬ key64 a < key64 b → a = m_max64 a b) := by
  have ha := a.toNat_lt
  unfold m_max64
  constructor
  · intro g; rw [if_neg (by omega)]
  · intro g
    by_cases e : key64 a = key64 b
    · by_cases z : a.toNat % 2 ^ 63 = 0
      · by_cases s : a.toNat < 2 ^ 63
        · rw [if_pos (Or.inr ⟨e, s⟩)]
        · exfalso
          refine h ⟨z, ?_, ?_⟩
          · rw [key_zero64 z] at e; exact kz_iff64.mp e.symm
          · have : a = 9223372036854775808 := UInt64.toNat_inj.mp (show a.toNat = 9223372036854775808 by omega)
            rw [this]; rfl
      · have := key_eq64 e z
        subst this
        simp
    · rw [if_pos (Or.inl (by omega))]
theorem min_z64 {a b : UInt64} (h1 : a.toNat % 2 ^ 63 = 0) (h2 : b.toNat % 2 ^ 63 = 0) (h3 : b.toInt64 = -9223372036854775808) : b = m_min64 a b := by
  have h4 : b.toNat = 2 ^ 63 := by have := congrArg Int64.toUInt64 h3; rw [i64_of] at this; rw [this]; rfl
  unfold m_min64
  split
  · rename_i g
    rw [key_zero64 h1, key_zero64 h2] at g
    have ha := a.toNat_lt
    exact UInt64.toNat_inj.mp (by omega)
  · rfl
theorem min_n64 {a b : UInt64} (h : ¬ (a.toNat % 2 ^ 63 = 0 ∧ b.toNat % 2 ^ 63 = 0 ∧ b.toInt64 = -9223372036854775808)) : (key64 b < key64 a → b = m_min64 a b) ∧ (¬ key64 b < key64 a → a = m_min64 a b) := by
  have ha := a.toNat_lt
  have hb := b.toNat_lt
  unfold m_min64
  constructor
  · intro g; rw [if_neg (by omega)]
  · intro g
    by_cases e : key64 a = key64 b
    · by_cases z : a.toNat % 2 ^ 63 = 0
      · have zb : b.toNat % 2 ^ 63 = 0 := by rw [key_zero64 z] at e; exact kz_iff64.mp e.symm
        have sb : b.toNat < 2 ^ 63 := by
          rcases Nat.lt_or_ge b.toNat (2 ^ 63) with q | q
          · exact q
          · exfalso
            refine h ⟨z, zb, ?_⟩
            have : b = 9223372036854775808 := UInt64.toNat_inj.mp (show b.toNat = 9223372036854775808 by omega)
            rw [this]; rfl
        split
        · rfl
        · exact UInt64.toNat_inj.mp (by omega)
      · have := key_eq64 e z
        subst this
        simp
    · rw [if_pos (Or.inl (by omega))]
theorem neg32 {a : UInt32} (h : a.toInt32.toInt64 = -2147483648) : a.toNat = 2 ^ 31 := by
  have h1 := congrArg Int64.toInt h
  rw [Int32.toInt_toInt64] at h1
  have h2 := i32_toNat a.toInt32
  rw [i32_of] at h2
  have h3 : (-2147483648 : Int64).toInt = -2147483648 := rfl
  omega
/-- the larger, as the JDK tells it -/
theorem max_z32 {a b : UInt32} (h1 : a.toNat % 2 ^ 31 = 0) (h2 : b.toNat % 2 ^ 31 = 0) (h3 : a.toInt32 = -2147483648) : b = m_max32 a b := by
  have h4 : a.toNat = 2 ^ 31 := by have := congrArg Int64.toUInt32 h3; rw [i64_of] at this; rw [this]; rfl
  unfold m_max32
  rw [key_zero32 h1, key_zero32 h2, if_neg (by omega)]
theorem max_n32 {a b : UInt32} (h : ¬ (a.toNat % 2 ^ 31 = 0 ∧ b.toNat % 2 ^ 31 = 0 ∧ a.toInt32 = -2147483648)) : (key32 a < key32 b → b = m_max32 a b) ∧ (¬ key32 a < key32 b → a = m_max32 a b) := by
  have ha := a.toNat_lt
  unfold m_max32
  constructor
  · intro g; rw [if_neg (by omega)]
  · intro g
    by_cases e : key32 a = key32 b
    · by_cases z : a.toNat % 2 ^ 31 = 0
      · by_cases s : a.toNat < 2 ^ 31
        · rw [if_pos (Or.inr ⟨e, s⟩)]
        · exfalso
          refine h ⟨z, ?_, ?_⟩
          · rw [key_zero32 z] at e; exact kz_iff32.mp e.symm
          · have : a = 2147483648 := UInt32.toNat_inj.mp (show a.toNat = 2147483648 by omega)
            rw [this]; rfl
      · have := key_eq32 e z
        subst this
        simp
    · rw [if_pos (Or.inl (by omega))]
theorem min_z32 {a b : UInt32} (h1 : a.toNat % 2 ^ 31 = 0) (h2 : b.toNat % 2 ^ 31 = 0) (h3 : b.toInt32 = -2147483648) : b = m_min32 a b := by
  have h4 : b.toNat = 2 ^ 31 := by have := congrArg Int64.toUInt32 h3; rw [i64_of] at this; rw [this]; rfl
  unfold m_min32
  split
  · rename_i g
    rw [key_zero32 h1, key_zero32 h2] at g
    have ha := a.toNat_lt
    exact UInt32.toNat_inj.mp (by omega)
  · rfl
theorem min_n32 {a b : UInt32} (h : ¬ (a.toNat % 2 ^ 31 = 0 ∧ b.toNat % 2 ^ 31 = 0 ∧ b.toInt32 = -2147483648)) : (key32 b < key32 a → b = m_min32 a b) ∧ (¬ key32 b < key32 a → a = m_min32 a b) := by
  have ha := a.toNat_lt
  have hb := b.toNat_lt
  unfold m_min32
  constructor
  · intro g; rw [if_neg (by omega)]
  · intro g
    by_cases e : key32 a = key32 b
    · by_cases z : a.toNat % 2 ^ 31 = 0
      · have zb : b.toNat % 2 ^ 31 = 0 := by rw [key_zero32 z] at e; exact kz_iff32.mp e.symm
        have sb : b.toNat < 2 ^ 31 := by
          rcases Nat.lt_or_ge b.toNat (2 ^ 31) with q | q
          · exact q
          · exfalso
            refine h ⟨z, zb, ?_⟩
            have : b = 2147483648 := UInt32.toNat_inj.mp (show b.toNat = 2147483648 by omega)
            rw [this]; rfl
        split
        · rfl
        · exact UInt32.toNat_inj.mp (by omega)
      · have := key_eq32 e z
        subst this
        simp
    · rw [if_pos (Or.inl (by omega))]
/-- the next one up: against infinity -/
theorem next_ge64 {x : UInt64} (h : FV64 x ≠ .nan) : Op.cmpValue (FP.dcmp x 9218868437227405312) .g ≥ 0 ↔ x.toNat = 9218868437227405312 := by
  have h1 := num64.mp h
  have h2 := x.toNat_lt
  have hi : FV64 9218868437227405312 ≠ .nan := by rw [num64]; decide +kernel
  rw [(cgt64 h hi).2.2.2.2.2.1, show key64 9218868437227405312 = 9218868437227405312 by decide +kernel]
  unfold key64
  split <;> omega
theorem next_ge32 {x : UInt32} (h : FV32 x ≠ .nan) : Op.cmpValue (FP.fcmp x 2139095040) .g ≥ 0 ↔ x.toNat = 2139095040 := by
  have h1 := num32.mp h
  have h2 := x.toNat_lt
  have hi : FV32 2139095040 ≠ .nan := by rw [num32]; decide +kernel
  rw [(cgt32 h hi).2.2.2.2.2.1, show key32 2139095040 = 2139095040 by decide +kernel]
  unfold key32
  split <;> omega
theorem next_add64 {x : UInt64} (h : FV64 x ≠ .nan) (hi : x.toNat ≠ 9218868437227405312) {t u : Int64} (ht : t = (FP.dadd x FP.dconst0).toInt64) : (t < 0 → u = t + (-1) → u.toUInt64.toNat = (m_next64 x).toNat) ∧ (¬ t < 0 → u = t + 1 → u.toUInt64.toNat = (m_next64 x).toNat) := by
  have h1 := num64.mp h
  have h2 := x.toNat_lt
  rw [add_zero64 h] at ht
  subst ht
  have e1 : (-1 : Int64).toUInt64.toNat = 2 ^ 64 - 1 := by decide +kernel
  have e2 : (1 : Int64).toUInt64.toNat = 1 := by decide +kernel
  by_cases z : x.toNat % 2 ^ 63 = 0
  · rw [if_pos z]
    have en : m_next64 x = 1 := by unfold m_next64; rw [if_neg hi, if_pos z]
    rw [en]
    exact ⟨fun g => absurd g (by decide +kernel), fun _ hu => by rw [hu]; decide +kernel⟩
  · rw [if_neg z]
    have en : m_next64 x = if x.toNat < 2 ^ 63 then .ofNat (x.toNat + 1) else .ofNat (x.toNat - 1) := by unfold m_next64; rw [if_neg hi, if_neg z]
    rw [en]
    constructor
    · intro g hu
      have g := i64_neg.mp g
      rw [i64_of] at g
      rw [hu, i64_add, i64_of, e1, if_neg (by omega)]
      show _ = (UInt64.ofNat _).toNat
      rw [UInt64.toNat_ofNat']
      omega
    · intro g hu
      have g : ¬ 2 ^ 63 ≤ x.toNat := fun q => g (i64_neg.mpr (by rw [i64_of]; exact q))
      rw [hu, i64_add, i64_of, e2, if_pos (by omega)]
      show _ = (UInt64.ofNat _).toNat
      rw [UInt64.toNat_ofNat']
theorem next_add32 {x : UInt32} (h : FV32 x ≠ .nan) (hi : x.toNat ≠ 2139095040) {t u : Int32} (ht : t = (FP.fadd x FP.fconst0).toInt32) : (t < 0 → u = t + (-1) → u.toUInt32.toNat = (m_next32 x).toNat) ∧ (¬ t < 0 → u = t + 1 → u.toUInt32.toNat = (m_next32 x).toNat) := by
  have h1 := num32.mp h
  have h2 := x.toNat_lt
  rw [add_zero32 h] at ht
  subst ht
  have e1 : (-1 : Int32).toUInt32.toNat = 2 ^ 32 - 1 := by decide +kernel
  have e2 : (1 : Int32).toUInt32.toNat = 1 := by decide +kernel
  by_cases z : x.toNat % 2 ^ 31 = 0
  · rw [if_pos z]
    have en : m_next32 x = 1 := by unfold m_next32; rw [if_neg hi, if_pos z]
    rw [en]
    exact ⟨fun g => absurd g (by decide +kernel), fun _ hu => by rw [hu]; decide +kernel⟩
  · rw [if_neg z]
    have en : m_next32 x = if x.toNat < 2 ^ 31 then .ofNat (x.toNat + 1) else .ofNat (x.toNat - 1) := by unfold m_next32; rw [if_neg hi, if_neg z]
    rw [en]
    constructor
    · intro g hu
      have g := i32_neg.mp g
      rw [i32_of] at g
      rw [hu, i32_add, i32_of, e1, if_neg (by omega)]
      show _ = (UInt32.ofNat _).toNat
      rw [UInt32.toNat_ofNat']
      omega
    · intro g hu
      have g : ¬ 2 ^ 31 ≤ x.toNat := fun q => g (i32_neg.mpr (by rw [i32_of]; exact q))
      rw [hu, i32_add, i32_of, e2, if_pos (by omega)]
      show _ = (UInt32.ofNat _).toNat
      rw [UInt32.toNat_ofNat']
theorem next_num64 {x : UInt64} (h : x.toNat % 2 ^ 63 ≤ 9218868437227405312) (hi : x.toNat ≠ 9218868437227405312) : (m_next64 x).toNat % 2 ^ 63 ≤ 9218868437227405312 := by
  have h2 := x.toNat_lt
  unfold m_next64
  rw [if_neg hi]
  split
  · decide +kernel
  · split
    · show (UInt64.ofNat _).toNat % _ ≤ _
      rw [UInt64.toNat_ofNat']; omega
    · show (UInt64.ofNat _).toNat % _ ≤ _
      rw [UInt64.toNat_ofNat']; omega
theorem next_num32 {x : UInt32} (h : x.toNat % 2 ^ 31 ≤ 2139095040) (hi : x.toNat ≠ 2139095040) : (m_next32 x).toNat % 2 ^ 31 ≤ 2139095040 := by
  have h2 := x.toNat_lt
  unfold m_next32
  rw [if_neg hi]
  split
  · decide +kernel
  · split
    · show (UInt32.ofNat _).toNat % _ ≤ _
      rw [UInt32.toNat_ofNat']; omega
    · show (UInt32.ofNat _).toNat % _ ≤ _
      rw [UInt32.toNat_ofNat']; omega
theorem nn_add0_64 {x : UInt64} (h : FV64 x ≠ .nan) : vf_n64 (FP.dadd x FP.dconst0) := vf_of64 (by rw [add_zero64 h]; split; exact num_0; exact h)
theorem nn_add0_32 {x : UInt32} (h : FV32 x ≠ .nan) : vf_n32 (FP.fadd x FP.fconst0) := vf_of32 (by rw [add_zero32 h]; split; rw [num32]; decide +kernel; exact h)

set_option maxHeartbeats 4000000 in
theorem met_J0_max_2 (l : Launch) (x : UInt64) (y : UInt64) (h1 : FV64 x ≠ .nan) (h2 : FV64 y ≠ .nan) : PZ l yJ0_max_2 cJ0_max_2 4 (some .double) 1 [.double x, .double y] (.double (m_max64 x y)) := by
  refine pz_ofF (by decide +kernel) (Nat.le_of_ble_eq_true rfl) ?_
  intro p e s m args below meth c ls hx hb hr hts hown hlk hml hl hZ
  have hl : lv_has ls 4 [(0, .double x), (2, .double y)] := hl
  refine lv_dload_n hx hb dJ0_max_2_0 rfl (lv_at hl 0 rfl) ?_
  refine lv_dload_n hx hb dJ0_max_2_1 rfl (lv_at hl 0 rfl) ?_
  refine lv_dcmp hx hb dJ0_max_2_2 ?_
  refine lv_topi (fun v2 e2 => ?_)
  refine lv_if_eq (tgt := 8) hx hb dJ0_max_2_3 (by decide) (fun c3 => ?_) (fun c3 => ?_)
  · refine lv_dload_n hx hb dJ0_max_2_8 rfl (lv_at hl 0 rfl) ?_
    refine lv_dconst0 hx hb dJ0_max_2_9 ?_
    refine lv_dcmp hx hb dJ0_max_2_10 ?_
    refine lv_topi (fun v10 e10 => ?_)
    refine lv_if_ne (tgt := 33) hx hb dJ0_max_2_11 (by decide) (fun c11 => ?_) (fun c11 => ?_)
    · refine lv_dload_n hx hb dJ0_max_2_33 rfl (lv_at hl 0 rfl) ?_
      refine lv_dload_n hx hb dJ0_max_2_34 rfl (lv_at hl 1 rfl) ?_
      refine lv_dcmp hx hb dJ0_max_2_35 ?_
      refine lv_topi (fun v35 e35 => ?_)
      refine lv_if_lt (tgt := 43) hx hb dJ0_max_2_36 (by decide) (fun c36 => ?_) (fun c36 => ?_)
      · refine lv_dload_n hx hb dJ0_max_2_43 rfl (lv_at hl 1 rfl) ?_
        exact pf_dret hx hb hr hlk dJ0_max_2_44 ((max_n64 (fun q => c11 (by rw [e10, ceq_zero]; exact q.1))).1 ((cgt64 h1 h2).1.mp (by rw [← e35]; exact c36)))
      · refine lv_dload_n hx hb dJ0_max_2_39 rfl (lv_at hl 0 rfl) ?_
        refine lv_goto (tgt := 44) hx hb dJ0_max_2_40 (by decide) ?_
        exact pf_dret hx hb hr hlk dJ0_max_2_44 ((max_n64 (fun q => c11 (by rw [e10, ceq_zero]; exact q.1))).2 (fun q => c36 (by rw [e35]; exact (cgt64 h1 h2).1.mpr q)))
    · refine lv_dload_n hx hb dJ0_max_2_14 rfl (lv_at hl 1 rfl) ?_
      refine lv_dconst0 hx hb dJ0_max_2_15 ?_
      refine lv_dcmp hx hb dJ0_max_2_16 ?_
      refine lv_topi (fun v16 e16 => ?_)
      refine lv_if_ne (tgt := 33) hx hb dJ0_max_2_17 (by decide) (fun c17 => ?_) (fun c17 => ?_)
      · refine lv_dload_n hx hb dJ0_max_2_33 rfl (lv_at hl 0 rfl) ?_
        refine lv_dload_n hx hb dJ0_max_2_34 rfl (lv_at hl 1 rfl) ?_
        refine lv_dcmp hx hb dJ0_max_2_35 ?_
        refine lv_topi (fun v35 e35 => ?_)
        refine lv_if_lt (tgt := 43) hx hb dJ0_max_2_36 (by decide) (fun c36 => ?_) (fun c36 => ?_)
        · refine lv_dload_n hx hb dJ0_max_2_43 rfl (lv_at hl 1 rfl) ?_
          exact pf_dret hx hb hr hlk dJ0_max_2_44 ((max_n64 (fun q => c17 (by rw [e16, ceq_zero]; exact q.2.1))).1 ((cgt64 h1 h2).1.mp (by rw [← e35]; exact c36)))
        · refine lv_dload_n hx hb dJ0_max_2_39 rfl (lv_at hl 0 rfl) ?_
          refine lv_goto (tgt := 44) hx hb dJ0_max_2_40 (by decide) ?_
          exact pf_dret hx hb hr hlk dJ0_max_2_44 ((max_n64 (fun q => c17 (by rw [e16, ceq_zero]; exact q.2.1))).2 (fun q => c36 (by rw [e35]; exact (cgt64 h1 h2).1.mpr q)))
      · refine lv_dload_n hx hb dJ0_max_2_20 rfl (lv_at hl 0 rfl) ?_
        refine vn_d2l hx hb (hml.trans hl.1.symm) hown (hts _ q711) (hts _ q453) (hts _ q452) (hts _ q45) (Nat.le_of_ble_eq_true rfl) (Nat.le_of_ble_eq_true rfl) dJ0_max_2_21 ?_
        refine lv_topl (fun v21 e21 => ?_)
        refine zz_gets hx hb hZ.1 hown (hts _ q712) dJ0_max_2_24 ?_
        refine W.lcmp hx hb dJ0_max_2_27 ?_
        refine lv_topi (fun v27 e27 => ?_)
        refine lv_if_ne (tgt := 33) hx hb dJ0_max_2_28 (by decide) (fun c28 => ?_) (fun c28 => ?_)
        · refine lv_dload_n hx hb dJ0_max_2_33 rfl (lv_at hl 0 rfl) ?_
          refine lv_dload_n hx hb dJ0_max_2_34 rfl (lv_at hl 1 rfl) ?_
          refine lv_dcmp hx hb dJ0_max_2_35 ?_
          refine lv_topi (fun v35 e35 => ?_)
          refine lv_if_lt (tgt := 43) hx hb dJ0_max_2_36 (by decide) (fun c36 => ?_) (fun c36 => ?_)
          · refine lv_dload_n hx hb dJ0_max_2_43 rfl (lv_at hl 1 rfl) ?_
            exact pf_dret hx hb hr hlk dJ0_max_2_44 ((max_n64 (fun q => c28 (by rw [e27, zg_cmp0, e21]; exact q.2.2))).1 ((cgt64 h1 h2).1.mp (by rw [← e35]; exact c36)))
          · refine lv_dload_n hx hb dJ0_max_2_39 rfl (lv_at hl 0 rfl) ?_
            refine lv_goto (tgt := 44) hx hb dJ0_max_2_40 (by decide) ?_
            exact pf_dret hx hb hr hlk dJ0_max_2_44 ((max_n64 (fun q => c28 (by rw [e27, zg_cmp0, e21]; exact q.2.2))).2 (fun q => c36 (by rw [e35]; exact (cgt64 h1 h2).1.mpr q)))
        · refine lv_dload_n hx hb dJ0_max_2_31 rfl (lv_at hl 1 rfl) ?_
          exact pf_dret hx hb hr hlk dJ0_max_2_32 (max_z64 (ceq_zero.mp (by rw [← e10]; exact c11)) (ceq_zero.mp (by rw [← e16]; exact c17)) (by rw [← e21]; rw [e27, zg_cmp0] at c28; exact c28))
  · refine lv_dload_n hx hb dJ0_max_2_6 rfl (lv_at hl 0 rfl) ?_
    exact pf_dret hx hb hr hlk dJ0_max_2_7 (absurd (by rw [e2]; exact cv_eq_l.mpr (fc_self64.mpr h1)) c3)
set_option maxHeartbeats 4000000 in
theorem met_J0_min_2 (l : Launch) (x : UInt64) (y : UInt64) (h1 : FV64 x ≠ .nan) (h2 : FV64 y ≠ .nan) : PZ l yJ0_min_2 cJ0_min_2 4 (some .double) 1 [.double x, .double y] (.double (m_min64 x y)) := by
  refine pz_ofF (by decide +kernel) (Nat.le_of_ble_eq_true rfl) ?_
  intro p e s m args below meth c ls hx hb hr hts hown hlk hml hl hZ
  have hl : lv_has ls 4 [(0, .double x), (2, .double y)] := hl
  refine lv_dload_n hx hb dJ0_min_2_0 rfl (lv_at hl 0 rfl) ?_
  refine lv_dload_n hx hb dJ0_min_2_1 rfl (lv_at hl 0 rfl) ?_
  refine lv_dcmp hx hb dJ0_min_2_2 ?_
  refine lv_topi (fun v2 e2 => ?_)
  refine lv_if_eq (tgt := 8) hx hb dJ0_min_2_3 (by decide) (fun c3 => ?_) (fun c3 => ?_)
  · refine lv_dload_n hx hb dJ0_min_2_8 rfl (lv_at hl 0 rfl) ?_
    refine lv_dconst0 hx hb dJ0_min_2_9 ?_
    refine lv_dcmp hx hb dJ0_min_2_10 ?_
    refine lv_topi (fun v10 e10 => ?_)
    refine lv_if_ne (tgt := 33) hx hb dJ0_min_2_11 (by decide) (fun c11 => ?_) (fun c11 => ?_)
    · refine lv_dload_n hx hb dJ0_min_2_33 rfl (lv_at hl 0 rfl) ?_
      refine lv_dload_n hx hb dJ0_min_2_34 rfl (lv_at hl 1 rfl) ?_
      refine lv_dcmp hx hb dJ0_min_2_35 ?_
      refine lv_topi (fun v35 e35 => ?_)
      refine lv_if_gt (tgt := 43) hx hb dJ0_min_2_36 (by decide) (fun c36 => ?_) (fun c36 => ?_)
      · refine lv_dload_n hx hb dJ0_min_2_43 rfl (lv_at hl 1 rfl) ?_
        exact pf_dret hx hb hr hlk dJ0_min_2_44 ((min_n64 (fun q => c11 (by rw [e10, ceq_zero]; exact q.1))).1 ((cgt64 h1 h2).2.1.mp (by rw [← e35]; exact c36)))
      · refine lv_dload_n hx hb dJ0_min_2_39 rfl (lv_at hl 0 rfl) ?_
        refine lv_goto (tgt := 44) hx hb dJ0_min_2_40 (by decide) ?_
        exact pf_dret hx hb hr hlk dJ0_min_2_44 ((min_n64 (fun q => c11 (by rw [e10, ceq_zero]; exact q.1))).2 (fun q => c36 (by rw [e35]; exact (cgt64 h1 h2).2.1.mpr q)))
    · refine lv_dload_n hx hb dJ0_min_2_14 rfl (lv_at hl 1 rfl) ?_
      refine lv_dconst0 hx hb dJ0_min_2_15 ?_
      refine lv_dcmp hx hb dJ0_min_2_16 ?_
      refine lv_topi (fun v16 e16 => ?_)
      refine lv_if_ne (tgt := 33) hx hb dJ0_min_2_17 (by decide) (fun c17 => ?_) (fun c17 => ?_)
      · refine lv_dload_n hx hb dJ0_min_2_33 rfl (lv_at hl 0 rfl) ?_
        refine lv_dload_n hx hb dJ0_min_2_34 rfl (lv_at hl 1 rfl) ?_
        refine lv_dcmp hx hb dJ0_min_2_35 ?_
        refine lv_topi (fun v35 e35 => ?_)
        refine lv_if_gt (tgt := 43) hx hb dJ0_min_2_36 (by decide) (fun c36 => ?_) (fun c36 => ?_)
        · refine lv_dload_n hx hb dJ0_min_2_43 rfl (lv_at hl 1 rfl) ?_
          exact pf_dret hx hb hr hlk dJ0_min_2_44 ((min_n64 (fun q => c17 (by rw [e16, ceq_zero]; exact q.2.1))).1 ((cgt64 h1 h2).2.1.mp (by rw [← e35]; exact c36)))
        · refine lv_dload_n hx hb dJ0_min_2_39 rfl (lv_at hl 0 rfl) ?_
          refine lv_goto (tgt := 44) hx hb dJ0_min_2_40 (by decide) ?_
          exact pf_dret hx hb hr hlk dJ0_min_2_44 ((min_n64 (fun q => c17 (by rw [e16, ceq_zero]; exact q.2.1))).2 (fun q => c36 (by rw [e35]; exact (cgt64 h1 h2).2.1.mpr q)))
      · refine lv_dload_n hx hb dJ0_min_2_20 rfl (lv_at hl 1 rfl) ?_
        refine vn_d2l hx hb (hml.trans hl.1.symm) hown (hts _ q711) (hts _ q453) (hts _ q452) (hts _ q45) (Nat.le_of_ble_eq_true rfl) (Nat.le_of_ble_eq_true rfl) dJ0_min_2_21 ?_
        refine lv_topl (fun v21 e21 => ?_)
        refine zz_gets hx hb hZ.1 hown (hts _ q712) dJ0_min_2_24 ?_
        refine W.lcmp hx hb dJ0_min_2_27 ?_
        refine lv_topi (fun v27 e27 => ?_)
        refine lv_if_ne (tgt := 33) hx hb dJ0_min_2_28 (by decide) (fun c28 => ?_) (fun c28 => ?_)
        · refine lv_dload_n hx hb dJ0_min_2_33 rfl (lv_at hl 0 rfl) ?_
          refine lv_dload_n hx hb dJ0_min_2_34 rfl (lv_at hl 1 rfl) ?_
          refine lv_dcmp hx hb dJ0_min_2_35 ?_
          refine lv_topi (fun v35 e35 => ?_)
          refine lv_if_gt (tgt := 43) hx hb dJ0_min_2_36 (by decide) (fun c36 => ?_) (fun c36 => ?_)
          · refine lv_dload_n hx hb dJ0_min_2_43 rfl (lv_at hl 1 rfl) ?_
            exact pf_dret hx hb hr hlk dJ0_min_2_44 ((min_n64 (fun q => c28 (by rw [e27, zg_cmp0, e21]; exact q.2.2))).1 ((cgt64 h1 h2).2.1.mp (by rw [← e35]; exact c36)))
          · refine lv_dload_n hx hb dJ0_min_2_39 rfl (lv_at hl 0 rfl) ?_
            refine lv_goto (tgt := 44) hx hb dJ0_min_2_40 (by decide) ?_
            exact pf_dret hx hb hr hlk dJ0_min_2_44 ((min_n64 (fun q => c28 (by rw [e27, zg_cmp0, e21]; exact q.2.2))).2 (fun q => c36 (by rw [e35]; exact (cgt64 h1 h2).2.1.mpr q)))
        · refine lv_dload_n hx hb dJ0_min_2_31 rfl (lv_at hl 1 rfl) ?_
          exact pf_dret hx hb hr hlk dJ0_min_2_32 (min_z64 (ceq_zero.mp (by rw [← e10]; exact c11)) (ceq_zero.mp (by rw [← e16]; exact c17)) (by rw [← e21]; rw [e27, zg_cmp0] at c28; exact c28))
  · refine lv_dload_n hx hb dJ0_min_2_6 rfl (lv_at hl 0 rfl) ?_
    exact pf_dret hx hb hr hlk dJ0_min_2_7 (absurd (by rw [e2]; exact cv_eq_l.mpr (fc_self64.mpr h1)) c3)
set_option maxHeartbeats 4000000 in
theorem met_J0_max_3 (l : Launch) (x : UInt32) (y : UInt32) (h1 : FV32 x ≠ .nan) (h2 : FV32 y ≠ .nan) : PZ l yJ0_max_3 cJ0_max_3 2 (some .float) 1 [.float x, .float y] (.float (m_max32 x y)) := by
  refine pz_ofF (by decide +kernel) (Nat.le_of_ble_eq_true rfl) ?_
  intro p e s m args below meth c ls hx hb hr hts hown hlk hml hl hZ
  have hl : lv_has ls 2 [(0, .float x), (1, .float y)] := hl
  refine lv_fload_n hx hb dJ0_max_3_0 rfl (lv_at hl 0 rfl) ?_
  refine lv_fload_n hx hb dJ0_max_3_1 rfl (lv_at hl 0 rfl) ?_
  refine lv_fcmp hx hb dJ0_max_3_2 ?_
  refine lv_topi (fun v2 e2 => ?_)
  refine lv_if_eq (tgt := 8) hx hb dJ0_max_3_3 (by decide) (fun c3 => ?_) (fun c3 => ?_)
  · refine lv_fload_n hx hb dJ0_max_3_8 rfl (lv_at hl 0 rfl) ?_
    refine lv_fconst0 hx hb dJ0_max_3_9 ?_
    refine lv_fcmp hx hb dJ0_max_3_10 ?_
    refine lv_topi (fun v10 e10 => ?_)
    refine lv_if_ne (tgt := 34) hx hb dJ0_max_3_11 (by decide) (fun c11 => ?_) (fun c11 => ?_)
    · refine lv_fload_n hx hb dJ0_max_3_34 rfl (lv_at hl 0 rfl) ?_
      refine lv_fload_n hx hb dJ0_max_3_35 rfl (lv_at hl 1 rfl) ?_
      refine lv_fcmp hx hb dJ0_max_3_36 ?_
      refine lv_topi (fun v36 e36 => ?_)
      refine lv_if_lt (tgt := 44) hx hb dJ0_max_3_37 (by decide) (fun c37 => ?_) (fun c37 => ?_)
      · refine lv_fload_n hx hb dJ0_max_3_44 rfl (lv_at hl 1 rfl) ?_
        exact pf_fret hx hb hr hlk dJ0_max_3_45 ((max_n32 (fun q => c11 (by rw [e10, ceq_zeroF]; exact q.1))).1 ((cgt32 h1 h2).1.mp (by rw [← e36]; exact c37)))
      · refine lv_fload_n hx hb dJ0_max_3_40 rfl (lv_at hl 0 rfl) ?_
        refine lv_goto (tgt := 45) hx hb dJ0_max_3_41 (by decide) ?_
        exact pf_fret hx hb hr hlk dJ0_max_3_45 ((max_n32 (fun q => c11 (by rw [e10, ceq_zeroF]; exact q.1))).2 (fun q => c37 (by rw [e36]; exact (cgt32 h1 h2).1.mpr q)))
    · refine lv_fload_n hx hb dJ0_max_3_14 rfl (lv_at hl 1 rfl) ?_
      refine lv_fconst0 hx hb dJ0_max_3_15 ?_
      refine lv_fcmp hx hb dJ0_max_3_16 ?_
      refine lv_topi (fun v16 e16 => ?_)
      refine lv_if_ne (tgt := 34) hx hb dJ0_max_3_17 (by decide) (fun c17 => ?_) (fun c17 => ?_)
      · refine lv_fload_n hx hb dJ0_max_3_34 rfl (lv_at hl 0 rfl) ?_
        refine lv_fload_n hx hb dJ0_max_3_35 rfl (lv_at hl 1 rfl) ?_
        refine lv_fcmp hx hb dJ0_max_3_36 ?_
        refine lv_topi (fun v36 e36 => ?_)
        refine lv_if_lt (tgt := 44) hx hb dJ0_max_3_37 (by decide) (fun c37 => ?_) (fun c37 => ?_)
        · refine lv_fload_n hx hb dJ0_max_3_44 rfl (lv_at hl 1 rfl) ?_
          exact pf_fret hx hb hr hlk dJ0_max_3_45 ((max_n32 (fun q => c17 (by rw [e16, ceq_zeroF]; exact q.2.1))).1 ((cgt32 h1 h2).1.mp (by rw [← e36]; exact c37)))
        · refine lv_fload_n hx hb dJ0_max_3_40 rfl (lv_at hl 0 rfl) ?_
          refine lv_goto (tgt := 45) hx hb dJ0_max_3_41 (by decide) ?_
          exact pf_fret hx hb hr hlk dJ0_max_3_45 ((max_n32 (fun q => c17 (by rw [e16, ceq_zeroF]; exact q.2.1))).2 (fun q => c37 (by rw [e36]; exact (cgt32 h1 h2).1.mpr q)))
      · refine lv_fload_n hx hb dJ0_max_3_20 rfl (lv_at hl 0 rfl) ?_
        refine vn_f2i hx hb (hml.trans hl.1.symm) hown (hts _ q791) (hts _ q443) (hts _ q442) (hts _ q44) (Nat.le_of_ble_eq_true rfl) (Nat.le_of_ble_eq_true rfl) dJ0_max_3_21 ?_
        refine lv_topi (fun v21 e21 => ?_)
        refine lv_i2l hx hb dJ0_max_3_24 rfl ?_
        refine lv_topl (fun v24 e24 => ?_)
        refine zz_gets hx hb hZ.2.1 hown (hts _ q792) dJ0_max_3_25 ?_
        refine W.lcmp hx hb dJ0_max_3_28 ?_
        refine lv_topi (fun v28 e28 => ?_)
        refine lv_if_ne (tgt := 34) hx hb dJ0_max_3_29 (by decide) (fun c29 => ?_) (fun c29 => ?_)
        · refine lv_fload_n hx hb dJ0_max_3_34 rfl (lv_at hl 0 rfl) ?_
          refine lv_fload_n hx hb dJ0_max_3_35 rfl (lv_at hl 1 rfl) ?_
          refine lv_fcmp hx hb dJ0_max_3_36 ?_
          refine lv_topi (fun v36 e36 => ?_)
          refine lv_if_lt (tgt := 44) hx hb dJ0_max_3_37 (by decide) (fun c37 => ?_) (fun c37 => ?_)
          · refine lv_fload_n hx hb dJ0_max_3_44 rfl (lv_at hl 1 rfl) ?_
            exact pf_fret hx hb hr hlk dJ0_max_3_45 ((max_n32 (fun q => c29 (by rw [e28, zg_cmp0, e24, e21]; exact q.2.2))).1 ((cgt32 h1 h2).1.mp (by rw [← e36]; exact c37)))
          · refine lv_fload_n hx hb dJ0_max_3_40 rfl (lv_at hl 0 rfl) ?_
            refine lv_goto (tgt := 45) hx hb dJ0_max_3_41 (by decide) ?_
            exact pf_fret hx hb hr hlk dJ0_max_3_45 ((max_n32 (fun q => c29 (by rw [e28, zg_cmp0, e24, e21]; exact q.2.2))).2 (fun q => c37 (by rw [e36]; exact (cgt32 h1 h2).1.mpr q)))
        · refine lv_fload_n hx hb dJ0_max_3_32 rfl (lv_at hl 1 rfl) ?_
          exact pf_fret hx hb hr hlk dJ0_max_3_33 (max_z32 (ceq_zeroF.mp (by rw [← e10]; exact c11)) (ceq_zeroF.mp (by rw [← e16]; exact c17)) (by rw [← e21, ← e24]; rw [e28, zg_cmp0] at c29; exact c29))
  · refine lv_fload_n hx hb dJ0_max_3_6 rfl (lv_at hl 0 rfl) ?_
    exact pf_fret hx hb hr hlk dJ0_max_3_7 (absurd (by rw [e2]; exact cv_eq_l.mpr (fc_self32.mpr h1)) c3)
set_option maxHeartbeats 4000000 in
theorem met_J0_min_3 (l : Launch) (x : UInt32) (y : UInt32) (h1 : FV32 x ≠ .nan) (h2 : FV32 y ≠ .nan) : PZ l yJ0_min_3 cJ0_min_3 2 (some .float) 1 [.float x, .float y] (.float (m_min32 x y)) := by
  refine pz_ofF (by decide +kernel) (Nat.le_of_ble_eq_true rfl) ?_
  intro p e s m args below meth c ls hx hb hr hts hown hlk hml hl hZ
  have hl : lv_has ls 2 [(0, .float x), (1, .float y)] := hl
  refine lv_fload_n hx hb dJ0_min_3_0 rfl (lv_at hl 0 rfl) ?_
  refine lv_fload_n hx hb dJ0_min_3_1 rfl (lv_at hl 0 rfl) ?_
  refine lv_fcmp hx hb dJ0_min_3_2 ?_
  refine lv_topi (fun v2 e2 => ?_)
  refine lv_if_eq (tgt := 8) hx hb dJ0_min_3_3 (by decide) (fun c3 => ?_) (fun c3 => ?_)
  · refine lv_fload_n hx hb dJ0_min_3_8 rfl (lv_at hl 0 rfl) ?_
    refine lv_fconst0 hx hb dJ0_min_3_9 ?_
    refine lv_fcmp hx hb dJ0_min_3_10 ?_
    refine lv_topi (fun v10 e10 => ?_)
    refine lv_if_ne (tgt := 34) hx hb dJ0_min_3_11 (by decide) (fun c11 => ?_) (fun c11 => ?_)
    · refine lv_fload_n hx hb dJ0_min_3_34 rfl (lv_at hl 0 rfl) ?_
      refine lv_fload_n hx hb dJ0_min_3_35 rfl (lv_at hl 1 rfl) ?_
      refine lv_fcmp hx hb dJ0_min_3_36 ?_
      refine lv_topi (fun v36 e36 => ?_)
      refine lv_if_gt (tgt := 44) hx hb dJ0_min_3_37 (by decide) (fun c37 => ?_) (fun c37 => ?_)
      · refine lv_fload_n hx hb dJ0_min_3_44 rfl (lv_at hl 1 rfl) ?_
        exact pf_fret hx hb hr hlk dJ0_min_3_45 ((min_n32 (fun q => c11 (by rw [e10, ceq_zeroF]; exact q.1))).1 ((cgt32 h1 h2).2.1.mp (by rw [← e36]; exact c37)))
      · refine lv_fload_n hx hb dJ0_min_3_40 rfl (lv_at hl 0 rfl) ?_
        refine lv_goto (tgt := 45) hx hb dJ0_min_3_41 (by decide) ?_
        exact pf_fret hx hb hr hlk dJ0_min_3_45 ((min_n32 (fun q => c11 (by rw [e10, ceq_zeroF]; exact q.1))).2 (fun q => c37 (by rw [e36]; exact (cgt32 h1 h2).2.1.mpr q)))
    · refine lv_fload_n hx hb dJ0_min_3_14 rfl (lv_at hl 1 rfl) ?_
      refine lv_fconst0 hx hb dJ0_min_3_15 ?_
      refine lv_fcmp hx hb dJ0_min_3_16 ?_
      refine lv_topi (fun v16 e16 => ?_)
      refine lv_if_ne (tgt := 34) hx hb dJ0_min_3_17 (by decide) (fun c17 => ?_) (fun c17 => ?_)
      · refine lv_fload_n hx hb dJ0_min_3_34 rfl (lv_at hl 0 rfl) ?_
        refine lv_fload_n hx hb dJ0_min_3_35 rfl (lv_at hl 1 rfl) ?_
        refine lv_fcmp hx hb dJ0_min_3_36 ?_
        refine lv_topi (fun v36 e36 => ?_)
        refine lv_if_gt (tgt := 44) hx hb dJ0_min_3_37 (by decide) (fun c37 => ?_) (fun c37 => ?_)
        · refine lv_fload_n hx hb dJ0_min_3_44 rfl (lv_at hl 1 rfl) ?_
          exact pf_fret hx hb hr hlk dJ0_min_3_45 ((min_n32 (fun q => c17 (by rw [e16, ceq_zeroF]; exact q.2.1))).1 ((cgt32 h1 h2).2.1.mp (by rw [← e36]; exact c37)))
        · refine lv_fload_n hx hb dJ0_min_3_40 rfl (lv_at hl 0 rfl) ?_
          refine lv_goto (tgt := 45) hx hb dJ0_min_3_41 (by decide) ?_
          exact pf_fret hx hb hr hlk dJ0_min_3_45 ((min_n32 (fun q => c17 (by rw [e16, ceq_zeroF]; exact q.2.1))).2 (fun q => c37 (by rw [e36]; exact (cgt32 h1 h2).2.1.mpr q)))
      · refine lv_fload_n hx hb dJ0_min_3_20 rfl (lv_at hl 1 rfl) ?_
        refine vn_f2i hx hb (hml.trans hl.1.symm) hown (hts _ q791) (hts _ q443) (hts _ q442) (hts _ q44) (Nat.le_of_ble_eq_true rfl) (Nat.le_of_ble_eq_true rfl) dJ0_min_3_21 ?_
        refine lv_topi (fun v21 e21 => ?_)
        refine lv_i2l hx hb dJ0_min_3_24 rfl ?_
        refine lv_topl (fun v24 e24 => ?_)
        refine zz_gets hx hb hZ.2.1 hown (hts _ q792) dJ0_min_3_25 ?_
        refine W.lcmp hx hb dJ0_min_3_28 ?_
        refine lv_topi (fun v28 e28 => ?_)
        refine lv_if_ne (tgt := 34) hx hb dJ0_min_3_29 (by decide) (fun c29 => ?_) (fun c29 => ?_)
        · refine lv_fload_n hx hb dJ0_min_3_34 rfl (lv_at hl 0 rfl) ?_
          refine lv_fload_n hx hb dJ0_min_3_35 rfl (lv_at hl 1 rfl) ?_
          refine lv_fcmp hx hb dJ0_min_3_36 ?_
          refine lv_topi (fun v36 e36 => ?_)
          refine lv_if_gt (tgt := 44) hx hb dJ0_min_3_37 (by decide) (fun c37 => ?_) (fun c37 => ?_)
          · refine lv_fload_n hx hb dJ0_min_3_44 rfl (lv_at hl 1 rfl) ?_
            exact pf_fret hx hb hr hlk dJ0_min_3_45 ((min_n32 (fun q => c29 (by rw [e28, zg_cmp0, e24, e21]; exact q.2.2))).1 ((cgt32 h1 h2).2.1.mp (by rw [← e36]; exact c37)))
          · refine lv_fload_n hx hb dJ0_min_3_40 rfl (lv_at hl 0 rfl) ?_
            refine lv_goto (tgt := 45) hx hb dJ0_min_3_41 (by decide) ?_
            exact pf_fret hx hb hr hlk dJ0_min_3_45 ((min_n32 (fun q => c29 (by rw [e28, zg_cmp0, e24, e21]; exact q.2.2))).2 (fun q => c37 (by rw [e36]; exact (cgt32 h1 h2).2.1.mpr q)))
        · refine lv_fload_n hx hb dJ0_min_3_32 rfl (lv_at hl 1 rfl) ?_
          exact pf_fret hx hb hr hlk dJ0_min_3_33 (min_z32 (ceq_zeroF.mp (by rw [← e10]; exact c11)) (ceq_zeroF.mp (by rw [← e16]; exact c17)) (by rw [← e21, ← e24]; rw [e28, zg_cmp0] at c29; exact c29))
  · refine lv_fload_n hx hb dJ0_min_3_6 rfl (lv_at hl 0 rfl) ?_
    exact pf_fret hx hb hr hlk dJ0_min_3_7 (absurd (by rw [e2]; exact cv_eq_l.mpr (fc_self32.mpr h1)) c3)
set_option maxHeartbeats 4000000 in
theorem met_J0_copySign (l : Launch) (x : UInt64) (y : UInt64) (h1 : x.toNat % 2 ^ 63 ≤ 9218868437227405312) : PF l yJ0_copySign cJ0_copySign 4 (some .double) 1 [.double x, .double y] (.double (m_cps64 x y)) := by
  refine pf_ofF (by decide +kernel) (Nat.le_of_ble_eq_true rfl) ?_
  intro p e s m args below meth c ls hx hb hr hts hown hlk hml hl
  have hl : lv_has ls 4 [(0, .double x), (2, .double y)] := hl
  refine lv_dload_n hx hb dJ0_copySign_0 rfl (lv_at hl 1 rfl) ?_
  refine vn_d2l hx hb (hml.trans hl.1.symm) hown (hts _ q711) (hts _ q453) (hts _ q452) (hts _ q45) (Nat.le_of_ble_eq_true rfl) (Nat.le_of_ble_eq_true rfl) dJ0_copySign_1 ?_
  refine lv_topl (fun v1 e1 => ?_)
  refine lv_ldc2 (v := (-9223372036854775808)) hx hb hown (hts _ q720) dJ0_copySign_4 ?_
  refine lv_land hx hb dJ0_copySign_7 ?_
  refine lv_topl (fun v7 e7 => ?_)
  refine lv_dload_n hx hb dJ0_copySign_8 rfl (lv_at hl 0 rfl) ?_
  refine vn_d2l hx hb (hml.trans hl.1.symm) hown (hts _ q711) (hts _ q453) (hts _ q452) (hts _ q45) (Nat.le_of_ble_eq_true rfl) (Nat.le_of_ble_eq_true rfl) dJ0_copySign_9 ?_
  refine lv_topl (fun v9 e9 => ?_)
  refine lv_ldc2 (v := 9223372036854775807) hx hb hown (hts _ q721) dJ0_copySign_12 ?_
  refine lv_land hx hb dJ0_copySign_15 ?_
  refine lv_topl (fun v15 e15 => ?_)
  refine lv_lor hx hb dJ0_copySign_16 ?_
  refine lv_topl (fun v16 e16 => ?_)
  have hv : v16.toUInt64.toNat = (m_cps64 x y).toNat := by rw [e16, i64_or, e7, e15, i64_and, i64_and, e1, e9, i64_of, i64_of, cps_toNat64]; show (y.toNat &&& 2 ^ 63) ||| (x.toNat &&& (2 ^ 63 - 1)) = _; rw [Nat.and_two_pow_sub_one_eq_mod, and_hi64 y.toNat_lt, ← Nat.two_pow_add_eq_or_of_lt (Nat.mod_lt _ (by decide)), Nat.add_comm]
  refine vn_l2d hx hb (hml.trans hl.1.symm) hown (hts _ q722) (hts _ q491) (hts _ q490) (hts _ q45) (snl2d_of (by rw [hv, cps_toNat64]; omega)) (Nat.le_of_ble_eq_true rfl) (Nat.le_of_ble_eq_true rfl) dJ0_copySign_17 ?_
  refine lv_topd (fun v17 e17 => ?_)
  exact pf_dret hx hb hr hlk dJ0_copySign_20 (by rw [e17]; exact UInt64.toNat_inj.mp hv)
set_option maxHeartbeats 4000000 in
theorem met_J0_copySign_2 (l : Launch) (x : UInt32) (y : UInt32) (h1 : x.toNat % 2 ^ 31 ≤ 2139095040) : PF l yJ0_copySign_2 cJ0_copySign_2 2 (some .float) 1 [.float x, .float y] (.float (m_cps32 x y)) := by
  refine pf_ofF (by decide +kernel) (Nat.le_of_ble_eq_true rfl) ?_
  intro p e s m args below meth c ls hx hb hr hts hown hlk hml hl
  have hl : lv_has ls 2 [(0, .float x), (1, .float y)] := hl
  refine lv_fload_n hx hb dJ0_copySign_2_0 rfl (lv_at hl 1 rfl) ?_
  refine vn_f2i hx hb (hml.trans hl.1.symm) hown (hts _ q791) (hts _ q443) (hts _ q442) (hts _ q44) (Nat.le_of_ble_eq_true rfl) (Nat.le_of_ble_eq_true rfl) dJ0_copySign_2_1 ?_
  refine lv_topi (fun v1 e1 => ?_)
  refine lv_ldc (v := (-2147483648)) hx hb hown (hts _ q800) dJ0_copySign_2_4 ?_
  refine lv_iand hx hb dJ0_copySign_2_6 ?_
  refine lv_topi (fun v6 e6 => ?_)
  refine lv_fload_n hx hb dJ0_copySign_2_7 rfl (lv_at hl 0 rfl) ?_
  refine vn_f2i hx hb (hml.trans hl.1.symm) hown (hts _ q791) (hts _ q443) (hts _ q442) (hts _ q44) (Nat.le_of_ble_eq_true rfl) (Nat.le_of_ble_eq_true rfl) dJ0_copySign_2_8 ?_
  refine lv_topi (fun v8 e8 => ?_)
  refine lv_ldc (v := 2147483647) hx hb hown (hts _ q801) dJ0_copySign_2_11 ?_
  refine lv_iand hx hb dJ0_copySign_2_13 ?_
  refine lv_topi (fun v13 e13 => ?_)
  refine lv_ior hx hb dJ0_copySign_2_14 ?_
  refine lv_topi (fun v14 e14 => ?_)
  have hv : v14.toUInt32.toNat = (m_cps32 x y).toNat := by rw [e14, i32_or, e6, e13, i32_and, i32_and, e1, e8, i32_of, i32_of, cps_toNat32]; show (y.toNat &&& 2 ^ 31) ||| (x.toNat &&& (2 ^ 31 - 1)) = _; rw [Nat.and_two_pow_sub_one_eq_mod, and_hi32 y.toNat_lt, ← Nat.two_pow_add_eq_or_of_lt (Nat.mod_lt _ (by decide)), Nat.add_comm]
  refine vn_i2f hx hb (hml.trans hl.1.symm) hown (hts _ q802) (hts _ q480) (hts _ q479) (hts _ q44) (sni2f_of (by rw [hv, cps_toNat32]; omega)) (Nat.le_of_ble_eq_true rfl) (Nat.le_of_ble_eq_true rfl) dJ0_copySign_2_15 ?_
  refine lv_topf (fun v15 e15 => ?_)
  exact pf_fret hx hb hr hlk dJ0_copySign_2_18 (by rw [e15]; exact UInt32.toNat_inj.mp hv)
set_option maxHeartbeats 4000000 in
theorem met_J0_abs (l : Launch) (x : UInt64) (h1 : x.toNat % 2 ^ 63 ≤ 9218868437227405312) : PF l yJ0_abs cJ0_abs 2 (some .double) 1 [.double x] (.double (m_abs64 x)) := by
  refine pf_ofF (by decide +kernel) (Nat.le_of_ble_eq_true rfl) ?_
  intro p e s m args below meth c ls hx hb hr hts hown hlk hml hl
  have hl : lv_has ls 2 [(0, .double x)] := hl
  refine lv_dload_n hx hb dJ0_abs_0 rfl (lv_at hl 0 rfl) ?_
  refine vn_d2l hx hb (hml.trans hl.1.symm) hown (hts _ q711) (hts _ q453) (hts _ q452) (hts _ q45) (Nat.le_of_ble_eq_true rfl) (Nat.le_of_ble_eq_true rfl) dJ0_abs_1 ?_
  refine lv_topl (fun v1 e1 => ?_)
  refine lv_ldc2 (v := 9223372036854775807) hx hb hown (hts _ q721) dJ0_abs_4 ?_
  refine lv_land hx hb dJ0_abs_7 ?_
  refine lv_topl (fun v7 e7 => ?_)
  have hv : v7.toUInt64.toNat = (m_abs64 x).toNat := by rw [e7, i64_and, e1, i64_of, abs_toNat64]; show (x.toNat &&& (2 ^ 63 - 1)) = _; rw [Nat.and_two_pow_sub_one_eq_mod]
  refine vn_l2d hx hb (hml.trans hl.1.symm) hown (hts _ q722) (hts _ q491) (hts _ q490) (hts _ q45) (snl2d_of (by rw [hv, abs_toNat64]; omega)) (Nat.le_of_ble_eq_true rfl) (Nat.le_of_ble_eq_true rfl) dJ0_abs_8 ?_
  refine lv_topd (fun v8 e8 => ?_)
  exact pf_dret hx hb hr hlk dJ0_abs_11 (by rw [e8]; exact UInt64.toNat_inj.mp hv)
set_option maxHeartbeats 4000000 in
theorem met_J0_abs_2 (l : Launch) (x : UInt32) (h1 : x.toNat % 2 ^ 31 ≤ 2139095040) : PF l yJ0_abs_2 cJ0_abs_2 1 (some .float) 1 [.float x] (.float (m_abs32 x)) := by
  refine pf_ofF (by decide +kernel) (Nat.le_of_ble_eq_true rfl) ?_
  intro p e s m args below meth c ls hx hb hr hts hown hlk hml hl
  have hl : lv_has ls 1 [(0, .float x)] := hl
  refine lv_fload_n hx hb dJ0_abs_2_0 rfl (lv_at hl 0 rfl) ?_
  refine vn_f2i hx hb (hml.trans hl.1.symm) hown (hts _ q791) (hts _ q443) (hts _ q442) (hts _ q44) (Nat.le_of_ble_eq_true rfl) (Nat.le_of_ble_eq_true rfl) dJ0_abs_2_1 ?_
  refine lv_topi (fun v1 e1 => ?_)
  refine lv_ldc (v := 2147483647) hx hb hown (hts _ q801) dJ0_abs_2_4 ?_
  refine lv_iand hx hb dJ0_abs_2_6 ?_
  refine lv_topi (fun v6 e6 => ?_)
  have hv : v6.toUInt32.toNat = (m_abs32 x).toNat := by rw [e6, i32_and, e1, i32_of, abs_toNat32]; show (x.toNat &&& (2 ^ 31 - 1)) = _; rw [Nat.and_two_pow_sub_one_eq_mod]
  refine vn_i2f hx hb (hml.trans hl.1.symm) hown (hts _ q802) (hts _ q480) (hts _ q479) (hts _ q44) (sni2f_of (by rw [hv, abs_toNat32]; omega)) (Nat.le_of_ble_eq_true rfl) (Nat.le_of_ble_eq_true rfl) dJ0_abs_2_7 ?_
  refine lv_topf (fun v7 e7 => ?_)
  exact pf_fret hx hb hr hlk dJ0_abs_2_10 (by rw [e7]; exact UInt32.toNat_inj.mp hv)
set_option maxHeartbeats 4000000 in
theorem met_J0_signum (l : Launch) (x : UInt64) (h1 : FV64 x ≠ .nan) : PF l yJ0_signum cJ0_signum 2 (some .double) 2 [.double x] (.double (m_sgnm64 x)) := by
  refine pf_ofF (by decide +kernel) (Nat.le_of_ble_eq_true rfl) ?_
  intro p e s m args below meth c ls hx hb hr hts hown hlk hml hl
  have hl : lv_has ls 2 [(0, .double x)] := hl
  refine lv_dload_n hx hb dJ0_signum_0 rfl (lv_at hl 0 rfl) ?_
  refine lv_dconst0 hx hb dJ0_signum_1 ?_
  refine lv_dcmp hx hb dJ0_signum_2 ?_
  refine lv_topi (fun v2 e2 => ?_)
  refine lv_if_eq (tgt := 13) hx hb dJ0_signum_3 (by decide) (fun c3 => ?_) (fun c3 => ?_)
  · refine lv_dload_n hx hb dJ0_signum_13 rfl (lv_at hl 0 rfl) ?_
    refine lv_goto (tgt := 22) hx hb dJ0_signum_14 (by decide) ?_
    exact pf_dret hx hb hr hlk dJ0_signum_22 (by unfold m_sgnm64; rw [if_pos (ceq_zero.mp (by rw [← e2]; exact c3))])
  · refine lv_dload_n hx hb dJ0_signum_6 rfl (lv_at hl 0 rfl) ?_
    refine pf_S 1 hx hb hml hown hts (As := [.double x]) (met_J11_isNaN l x) (lw_S q766 q449 q45 q450) (by decide +kernel) rfl ⟨Nat.le_of_ble_eq_true rfl, Nat.le_of_ble_eq_true rfl⟩ hl.1 rfl (Nat.le_of_ble_eq_true rfl) dJ0_signum_7 ⟨Nat.le_of_ble_eq_true rfl, Nat.le_of_ble_eq_true rfl⟩ ?_
    refine lv_topi (fun v7 e7 => ?_)
    refine lv_if_eq (tgt := 17) hx hb dJ0_signum_10 (by decide) (fun c10 => ?_) (fun c10 => ?_)
    · refine lv_dconst1 hx hb dJ0_signum_17 ?_
      refine lv_dload_n hx hb dJ0_signum_18 rfl (lv_at hl 0 rfl) ?_
      refine pf_S 2 hx hb hml hown hts (As := [.double FP.dconst1, .double x]) (met_J0_copySign l FP.dconst1 x (by decide)) (lw_S q767 q718 q26 q719) (by decide +kernel) rfl ⟨Nat.le_of_ble_eq_true rfl, Nat.le_of_ble_eq_true rfl⟩ hl.1 rfl (Nat.le_of_ble_eq_true rfl) dJ0_signum_19 ⟨Nat.le_of_ble_eq_true rfl, Nat.le_of_ble_eq_true rfl⟩ ?_
      refine lv_topd (fun v19 e19 => ?_)
      exact pf_dret hx hb hr hlk dJ0_signum_22 (by rw [e19]; unfold m_sgnm64; rw [if_neg (fun q => c3 (by rw [e2]; exact ceq_zero.mpr q))])
    · refine lv_dload_n hx hb dJ0_signum_13 rfl (lv_at hl 0 rfl) ?_
      refine lv_goto (tgt := 22) hx hb dJ0_signum_14 (by decide) ?_
      exact pf_dret hx hb hr hlk dJ0_signum_22 (absurd (by rw [e7, nan64_0]; exact num64.mp h1) c10)
set_option maxHeartbeats 4000000 in
theorem met_J0_signum_2 (l : Launch) (x : UInt32) (h1 : FV32 x ≠ .nan) : PF l yJ0_signum_2 cJ0_signum_2 1 (some .float) 2 [.float x] (.float (m_sgnm32 x)) := by
  refine pf_ofF (by decide +kernel) (Nat.le_of_ble_eq_true rfl) ?_
  intro p e s m args below meth c ls hx hb hr hts hown hlk hml hl
  have hl : lv_has ls 1 [(0, .float x)] := hl
  refine lv_fload_n hx hb dJ0_signum_2_0 rfl (lv_at hl 0 rfl) ?_
  refine lv_fconst0 hx hb dJ0_signum_2_1 ?_
  refine lv_fcmp hx hb dJ0_signum_2_2 ?_
  refine lv_topi (fun v2 e2 => ?_)
  refine lv_if_eq (tgt := 13) hx hb dJ0_signum_2_3 (by decide) (fun c3 => ?_) (fun c3 => ?_)
  · refine lv_fload_n hx hb dJ0_signum_2_13 rfl (lv_at hl 0 rfl) ?_
    refine lv_goto (tgt := 22) hx hb dJ0_signum_2_14 (by decide) ?_
    exact pf_fret hx hb hr hlk dJ0_signum_2_22 (by unfold m_sgnm32; rw [if_pos (ceq_zeroF.mp (by rw [← e2]; exact c3))])
  · refine lv_fload_n hx hb dJ0_signum_2_6 rfl (lv_at hl 0 rfl) ?_
    refine pf_S 1 hx hb hml hown hts (As := [.float x]) (met_J10_isNaN l x) (lw_S q809 q439 q44 q440) (by decide +kernel) rfl ⟨Nat.le_of_ble_eq_true rfl, Nat.le_of_ble_eq_true rfl⟩ hl.1 rfl (Nat.le_of_ble_eq_true rfl) dJ0_signum_2_7 ⟨Nat.le_of_ble_eq_true rfl, Nat.le_of_ble_eq_true rfl⟩ ?_
    refine lv_topi (fun v7 e7 => ?_)
    refine lv_if_eq (tgt := 17) hx hb dJ0_signum_2_10 (by decide) (fun c10 => ?_) (fun c10 => ?_)
    · refine lv_fconst1 hx hb dJ0_signum_2_17 ?_
      refine lv_fload_n hx hb dJ0_signum_2_18 rfl (lv_at hl 0 rfl) ?_
      refine pf_S 2 hx hb hml hown hts (As := [.float FP.fconst1, .float x]) (met_J0_copySign_2 l FP.fconst1 x (by decide)) (lw_S q810 q798 q26 q799) (by decide +kernel) rfl ⟨Nat.le_of_ble_eq_true rfl, Nat.le_of_ble_eq_true rfl⟩ hl.1 rfl (Nat.le_of_ble_eq_true rfl) dJ0_signum_2_19 ⟨Nat.le_of_ble_eq_true rfl, Nat.le_of_ble_eq_true rfl⟩ ?_
      refine lv_topf (fun v19 e19 => ?_)
      exact pf_fret hx hb hr hlk dJ0_signum_2_22 (by rw [e19]; unfold m_sgnm32; rw [if_neg (fun q => c3 (by rw [e2]; exact ceq_zeroF.mpr q))])
    · refine lv_fload_n hx hb dJ0_signum_2_13 rfl (lv_at hl 0 rfl) ?_
      refine lv_goto (tgt := 22) hx hb dJ0_signum_2_14 (by decide) ?_
      exact pf_fret hx hb hr hlk dJ0_signum_2_22 (absurd (by rw [e7, nan32_0]; exact num32.mp h1) c10)
set_option maxHeartbeats 4000000 in
theorem met_J0_nextUp (l : Launch) (x : UInt64) (h1 : FV64 x ≠ .nan) : PF l yJ0_nextUp cJ0_nextUp 4 (some .double) 1 [.double x] (.double (m_next64 x)) := by
  refine pf_ofF (by decide +kernel) (Nat.le_of_ble_eq_true rfl) ?_
  intro p e s m args below meth c ls hx hb hr hts hown hlk hml hl
  have hl : lv_has ls 4 [(0, .double x)] := hl
  refine lv_dload_n hx hb dJ0_nextUp_0 rfl (lv_at hl 0 rfl) ?_
  refine lv_ldc2d (v := 9218868437227405312) hx hb hown (hts _ q771) dJ0_nextUp_1 ?_
  refine lv_dcmp hx hb dJ0_nextUp_4 ?_
  refine lv_topi (fun v4 e4 => ?_)
  refine lv_if_ge (tgt := 34) hx hb dJ0_nextUp_5 (by decide) (fun c5 => ?_) (fun c5 => ?_)
  · refine lv_dload_n hx hb dJ0_nextUp_34 rfl (lv_at hl 0 rfl) ?_
    exact pf_dret hx hb hr hlk dJ0_nextUp_35 (by unfold m_next64; rw [if_pos ((next_ge64 h1).mp (by rw [← e4]; exact c5))])
  · have hni : x.toNat ≠ 9218868437227405312 := fun q => c5 (by rw [e4]; exact (next_ge64 h1).mpr q)
    refine lv_dload_n hx hb dJ0_nextUp_8 rfl (lv_at hl 0 rfl) ?_
    refine lv_dconst0 hx hb dJ0_nextUp_9 ?_
    refine lv_dadd hx hb dJ0_nextUp_10 (nn_add0_64 h1) ?_
    refine lv_topd (fun v10 e10 => ?_)
    refine vn_d2l hx hb (hml.trans hl.1.symm) hown (hts _ q711) (hts _ q453) (hts _ q452) (hts _ q45) (Nat.le_of_ble_eq_true rfl) (Nat.le_of_ble_eq_true rfl) dJ0_nextUp_11 ?_
    refine lv_topl (fun v11 e11 => ?_)
    refine lv_lstore_n (lv' := [(2, .long v11), (0, .double x)]) hx hb dJ0_nextUp_14 rfl hl (by decide) rfl (fun ls hl => ?_)
    refine lv_lload_n hx hb dJ0_nextUp_15 rfl (lv_at hl 0 rfl) ?_
    refine lv_lload_n hx hb dJ0_nextUp_16 rfl (lv_at hl 0 rfl) ?_
    refine lv_lconst (v := 0) hx hb dJ0_nextUp_17 (by decide) ?_
    refine W.lcmp hx hb dJ0_nextUp_18 ?_
    refine lv_topi (fun v18 e18 => ?_)
    refine lv_if_lt (tgt := 26) hx hb dJ0_nextUp_19 (by decide) (fun c19 => ?_) (fun c19 => ?_)
    · refine lv_ldc2 (v := (-1)) hx hb hown (hts _ q772) dJ0_nextUp_26 ?_
      refine lv_ladd hx hb dJ0_nextUp_29 ?_
      refine lv_topl (fun v29 e29 => ?_)
      have hv := (next_add64 h1 hni (t := v11) (u := v29) (by rw [e11, e10])).1 (Int64.lt_iff_toInt_lt.mpr (by have := i0_lt c19; rw [e18] at this; have h9 := mt (zg_cmp_ge (x := v11) (y := 0)).mpr; have h8 : v11 < 0 := Decidable.byContradiction fun q => absurd (i0_ge (zg_cmp_ge.mpr q)) (by omega); exact Int64.lt_iff_toInt_lt.mp h8)) e29
      refine vn_l2d hx hb (hml.trans hl.1.symm) hown (hts _ q722) (hts _ q491) (hts _ q490) (hts _ q45) (snl2d_of (by rw [hv]; exact next_num64 (num64.mp h1) hni)) (Nat.le_of_ble_eq_true rfl) (Nat.le_of_ble_eq_true rfl) dJ0_nextUp_30 ?_
      refine lv_topd (fun v30 e30 => ?_)
      exact pf_dret hx hb hr hlk dJ0_nextUp_33 (by rw [e30]; exact UInt64.toNat_inj.mp hv)
    · refine lv_lconst (v := 1) hx hb dJ0_nextUp_22 (by decide) ?_
      refine lv_goto (tgt := 29) hx hb dJ0_nextUp_23 (by decide) ?_
      refine lv_ladd hx hb dJ0_nextUp_29 ?_
      refine lv_topl (fun v29 e29 => ?_)
      have hv := (next_add64 h1 hni (t := v11) (u := v29) (by rw [e11, e10])).2 (zg_cmp_ge.mp (by rw [← e18]; exact Int32.le_iff_toInt_le.mpr (i0_nlt c19))) e29
      refine vn_l2d hx hb (hml.trans hl.1.symm) hown (hts _ q722) (hts _ q491) (hts _ q490) (hts _ q45) (snl2d_of (by rw [hv]; exact next_num64 (num64.mp h1) hni)) (Nat.le_of_ble_eq_true rfl) (Nat.le_of_ble_eq_true rfl) dJ0_nextUp_30 ?_
      refine lv_topd (fun v30 e30 => ?_)
      exact pf_dret hx hb hr hlk dJ0_nextUp_33 (by rw [e30]; exact UInt64.toNat_inj.mp hv)
set_option maxHeartbeats 4000000 in
theorem met_J0_nextUp_2 (l : Launch) (x : UInt32) (h1 : FV32 x ≠ .nan) : PF l yJ0_nextUp_2 cJ0_nextUp_2 2 (some .float) 1 [.float x] (.float (m_next32 x)) := by
  refine pf_ofF (by decide +kernel) (Nat.le_of_ble_eq_true rfl) ?_
  intro p e s m args below meth c ls hx hb hr hts hown hlk hml hl
  have hl : lv_has ls 2 [(0, .float x)] := hl
  refine lv_fload_n hx hb dJ0_nextUp_2_0 rfl (lv_at hl 0 rfl) ?_
  refine zz_ldcwf (v := 2139095040) hx hb hown (hts _ q814) dJ0_nextUp_2_1 ?_
  refine lv_fcmp hx hb dJ0_nextUp_2_4 ?_
  refine lv_topi (fun v4 e4 => ?_)
  refine lv_if_ge (tgt := 30) hx hb dJ0_nextUp_2_5 (by decide) (fun c5 => ?_) (fun c5 => ?_)
  · refine lv_fload_n hx hb dJ0_nextUp_2_30 rfl (lv_at hl 0 rfl) ?_
    exact pf_fret hx hb hr hlk dJ0_nextUp_2_31 (by unfold m_next32; rw [if_pos ((next_ge32 h1).mp (by rw [← e4]; exact c5))])
  · have hni : x.toNat ≠ 2139095040 := fun q => c5 (by rw [e4]; exact (next_ge32 h1).mpr q)
    refine lv_fload_n hx hb dJ0_nextUp_2_8 rfl (lv_at hl 0 rfl) ?_
    refine lv_fconst0 hx hb dJ0_nextUp_2_9 ?_
    refine lv_fadd hx hb dJ0_nextUp_2_10 (nn_add0_32 h1) ?_
    refine lv_topf (fun v10 e10 => ?_)
    refine vn_f2i hx hb (hml.trans hl.1.symm) hown (hts _ q791) (hts _ q443) (hts _ q442) (hts _ q44) (Nat.le_of_ble_eq_true rfl) (Nat.le_of_ble_eq_true rfl) dJ0_nextUp_2_11 ?_
    refine lv_topi (fun v11 e11 => ?_)
    refine lv_istore_n (lv' := [(1, .int v11), (0, .float x)]) hx hb dJ0_nextUp_2_14 rfl hl (by decide) rfl (fun ls hl => ?_)
    refine lv_iload_n hx hb dJ0_nextUp_2_15 rfl (lv_at hl 0 rfl) ?_
    refine lv_iload_n hx hb dJ0_nextUp_2_16 rfl (lv_at hl 0 rfl) ?_
    refine lv_if_lt (tgt := 24) hx hb dJ0_nextUp_2_17 (by decide) (fun c17 => ?_) (fun c17 => ?_)
    · refine lv_iconst (v := -1) hx hb dJ0_nextUp_2_24 (by decide) ?_
      refine lv_iadd hx hb dJ0_nextUp_2_25 ?_
      refine lv_topi (fun v25 e25 => ?_)
      have hv := (next_add32 h1 hni (t := v11) (u := v25) (by rw [e11, e10])).1 c17 e25
      refine vn_i2f hx hb (hml.trans hl.1.symm) hown (hts _ q802) (hts _ q480) (hts _ q479) (hts _ q44) (sni2f_of (by rw [hv]; exact next_num32 (num32.mp h1) hni)) (Nat.le_of_ble_eq_true rfl) (Nat.le_of_ble_eq_true rfl) dJ0_nextUp_2_26 ?_
      refine lv_topf (fun v26 e26 => ?_)
      exact pf_fret hx hb hr hlk dJ0_nextUp_2_29 (by rw [e26]; exact UInt32.toNat_inj.mp hv)
    · refine lv_iconst (v := 1) hx hb dJ0_nextUp_2_20 (by decide) ?_
      refine lv_goto (tgt := 25) hx hb dJ0_nextUp_2_21 (by decide) ?_
      refine lv_iadd hx hb dJ0_nextUp_2_25 ?_
      refine lv_topi (fun v25 e25 => ?_)
      have hv := (next_add32 h1 hni (t := v11) (u := v25) (by rw [e11, e10])).2 c17 e25
      refine vn_i2f hx hb (hml.trans hl.1.symm) hown (hts _ q802) (hts _ q480) (hts _ q479) (hts _ q44) (sni2f_of (by rw [hv]; exact next_num32 (num32.mp h1) hni)) (Nat.le_of_ble_eq_true rfl) (Nat.le_of_ble_eq_true rfl) dJ0_nextUp_2_26 ?_
      refine lv_topf (fun v26 e26 => ?_)
      exact pf_fret hx hb hr hlk dJ0_nextUp_2_29 (by rw [e26]; exact UInt32.toNat_inj.mp hv)
