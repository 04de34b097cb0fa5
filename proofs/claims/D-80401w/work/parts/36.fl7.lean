/-! Math on bits -/
set_option maxRecDepth 100000

/-! ===== Math, binary64 ===== -/
theorem and_hi64 {n : Nat} (h : n < 2 ^ 64) : n &&& 2 ^ 63 = 2 ^ 63 * (n / 2 ^ 63) := by
  have h0 : ∀ r : Nat, r < 2 ^ 63 → r &&& 2 ^ 63 = 0 := by
    intro r hr
    apply Nat.eq_of_testBit_eq
    intro i
    rw [Nat.testBit_and, Nat.testBit_two_pow, Nat.zero_testBit]
    by_cases hi : 63 = i
    · subst hi; rw [Nat.testBit_lt_two_pow hr]; rfl
    · simp [hi]
  by_cases g : n < 2 ^ 63
  · rw [h0 n g, Nat.div_eq_of_lt g]
  · obtain ⟨r, hr, e⟩ : ∃ r, r < 2 ^ 63 ∧ n = 2 ^ 63 * 1 ||| r := ⟨n - 2 ^ 63, by omega, by rw [← Nat.two_pow_add_eq_or_of_lt (by omega)]; omega⟩
    rw [show n / 2 ^ 63 = 1 by omega, e, Nat.and_or_distrib_right, h0 r hr, Nat.mul_one, Nat.and_self, Nat.or_zero]
/-- the bits put together: a magnitude, a sign -/
def m_cps64 (a b : UInt64) : UInt64 := .ofNat (a.toNat % 2 ^ 63 + 2 ^ 63 * (b.toNat / 2 ^ 63))
theorem cps_toNat64 (a b : UInt64) : (m_cps64 a b).toNat = a.toNat % 2 ^ 63 + 2 ^ 63 * (b.toNat / 2 ^ 63) := by
  have h := b.toNat_lt
  show (UInt64.ofNat _).toNat = _
  rw [UInt64.toNat_ofNat', Nat.mod_eq_of_lt (by omega)]
def m_abs64 (a : UInt64) : UInt64 := .ofNat (a.toNat % 2 ^ 63)
theorem abs_toNat64 (a : UInt64) : (m_abs64 a).toNat = a.toNat % 2 ^ 63 := by
  show (UInt64.ofNat _).toNat = _
  rw [UInt64.toNat_ofNat', Nat.mod_eq_of_lt (by omega)]
def m_max64 (a b : UInt64) : UInt64 := if key64 b < key64 a ∨ (key64 a = key64 b ∧ a.toNat < 2 ^ 63) then a else b
def m_min64 (a b : UInt64) : UInt64 := if key64 a < key64 b ∨ (key64 a = key64 b ∧ 2 ^ 63 ≤ a.toNat) then a else b
def m_sgnm64 (a : UInt64) : UInt64 := if a.toNat % 2 ^ 63 = 0 then a else m_cps64 FP.dconst1 a
def m_next64 (a : UInt64) : UInt64 := if a.toNat = 9218868437227405312 then a else if a.toNat % 2 ^ 63 = 0 then 1 else if a.toNat < 2 ^ 63 then .ofNat (a.toNat + 1) else .ofNat (a.toNat - 1)
/-- zero added -/
theorem add_zero64 {a : UInt64} (h : FV64 a ≠ .nan) : FP.dadd a FP.dconst0 = if a.toNat % 2 ^ 63 = 0 then 0 else a := by
  show FO64 (FP.Core.round FP.Core.b64 (FP.Core.exactSum (FV64 a) (FV64 FP.dconst0))) = _
  have hz : FV64 FP.dconst0 = .fin false 0 (-1074) := by decide +kernel
  rw [hz]
  rcases fV_cases64 a with ⟨c, q, h1, h2, h3, h4⟩ | ⟨h1, h2⟩ | ⟨h1, -⟩
  · have hq := h2.2.1
    have e : FP.Core.sumUnits (decide (2 ^ 63 ≤ a.toNat)) c q false 0 (-1074) (min q (-1074)) = FP.Core.signed (decide (2 ^ 63 ≤ a.toNat)) (c * 2 ^ (q + 1074).toNat) := by
      unfold FP.Core.sumUnits FP.Core.inUnits
      rw [show min q (-1074 : Int) = -1074 by omega, show (q - (-1074 : Int)).toNat = (q + 1074).toNat by omega, Nat.zero_mul]
      show _ + ((0 : Nat) : Int) = _
      omega
    have hz : c = 0 ↔ a.toNat % 2 ^ 63 = 0 := by
      obtain ⟨f1, f2, f3, f4⟩ := h2
      omega
    rw [h1]
    show FO64 (FP.Core.round FP.Core.b64 (.fin (FP.Core.sumSign _ _ (FP.Core.sumUnits _ _ _ _ _ _ _)) (FP.Core.sumUnits _ _ _ _ _ _ _).natAbs _)) = _
    rw [e]
    by_cases c0 : c = 0
    · rw [if_pos (hz.mp c0)]
      subst c0
      rw [Nat.zero_mul]
      by_cases g : 2 ^ 63 ≤ a.toNat
      · rw [decide_eq_true g, show min q (-1074 : Int) = -1074 by omega]; decide +kernel
      · rw [decide_eq_false g, show min q (-1074 : Int) = -1074 by omega]; decide +kernel
    · rw [if_neg (fun g => c0 (hz.mpr g))]
      have hp := Nat.two_pow_pos (q + 1074).toNat
      have hx : 0 < c * 2 ^ (q + 1074).toNat := Nat.mul_pos (by omega) hp
      have es : FP.Core.sumSign (decide (2 ^ 63 ≤ a.toNat)) false (FP.Core.signed (decide (2 ^ 63 ≤ a.toNat)) (c * 2 ^ (q + 1074).toNat)) = decide (2 ^ 63 ≤ a.toNat) := by
        unfold FP.Core.sumSign FP.Core.signed
        by_cases g : 2 ^ 63 ≤ a.toNat
        · rw [decide_eq_true g]
          simp only [if_true]
          rw [if_neg (by omega), decide_eq_true (by omega)]
        · rw [decide_eq_false g]
          simp only [Bool.false_eq_true, if_false]
          rw [if_neg (by omega), decide_eq_false (by omega)]
      have en : (FP.Core.signed (decide (2 ^ 63 ≤ a.toNat)) (c * 2 ^ (q + 1074).toNat)).natAbs = c * 2 ^ (q + 1074).toNat := by
        unfold FP.Core.signed
        split <;> omega
      rw [es, en, rnd_exact64 (c := c) (q := q) h2 (by rw [show min q (-1074 : Int) = -1074 by omega, show (-1074 - q : Int).toNat = 0 by omega, show (q - (-1074 : Int)).toNat = (q + 1074).toNat by omega, Nat.pow_zero, Nat.mul_one])]
      exact fO_fV64 h1
  · rw [h1, if_neg (by omega)]
    apply fV_inj64
    · show FV64 (FO64 (.inf _)) = _
      rw [h1]
      by_cases g : 2 ^ 63 ≤ a.toNat
      · rw [decide_eq_true g]; decide +kernel
      · rw [decide_eq_false g]; decide +kernel
    · exact nn_inf64 _
  · exact absurd h1 h
theorem key_eq64 {a b : UInt64} (h : key64 a = key64 b) (hz : a.toNat % 2 ^ 63 ≠ 0) : a = b := by
  apply UInt64.toNat_inj.mp
  have h1 := a.toNat_lt
  have h2 := b.toNat_lt
  unfold key64 at h
  split at h <;> split at h <;> omega
theorem key_zero64 {a : UInt64} (hz : a.toNat % 2 ^ 63 = 0) : key64 a = 0 := by
  unfold key64
  rw [hz]
  simp
theorem kz_iff64 {a : UInt64} : key64 a = 0 ↔ a.toNat % 2 ^ 63 = 0 := by
  unfold key64
  split <;> omega


/-! ===== Math, binary32 ===== -/
theorem and_hi32 {n : Nat} (h : n < 2 ^ 32) : n &&& 2 ^ 31 = 2 ^ 31 * (n / 2 ^ 31) := by
  have h0 : ∀ r : Nat, r < 2 ^ 31 → r &&& 2 ^ 31 = 0 := by
    intro r hr
    apply Nat.eq_of_testBit_eq
    intro i
    rw [Nat.testBit_and, Nat.testBit_two_pow, Nat.zero_testBit]
    by_cases hi : 31 = i
    · subst hi; rw [Nat.testBit_lt_two_pow hr]; rfl
    · simp [hi]
  by_cases g : n < 2 ^ 31
  · rw [h0 n g, Nat.div_eq_of_lt g]
  · obtain ⟨r, hr, e⟩ : ∃ r, r < 2 ^ 31 ∧ n = 2 ^ 31 * 1 ||| r := ⟨n - 2 ^ 31, by omega, by rw [← Nat.two_pow_add_eq_or_of_lt (by omega)]; omega⟩
    rw [show n / 2 ^ 31 = 1 by omega, e, Nat.and_or_distrib_right, h0 r hr, Nat.mul_one, Nat.and_self, Nat.or_zero]
/-- the bits put together: a magnitude, a sign -/
def m_cps32 (a b : UInt32) : UInt32 := .ofNat (a.toNat % 2 ^ 31 + 2 ^ 31 * (b.toNat / 2 ^ 31))
theorem cps_toNat32 (a b : UInt32) : (m_cps32 a b).toNat = a.toNat % 2 ^ 31 + 2 ^ 31 * (b.toNat / 2 ^ 31) := by
  have h := b.toNat_lt
  show (UInt32.ofNat _).toNat = _
  rw [UInt32.toNat_ofNat', Nat.mod_eq_of_lt (by omega)]
def m_abs32 (a : UInt32) : UInt32 := .ofNat (a.toNat % 2 ^ 31)
theorem abs_toNat32 (a : UInt32) : (m_abs32 a).toNat = a.toNat % 2 ^ 31 := by
  show (UInt32.ofNat _).toNat = _
  rw [UInt32.toNat_ofNat', Nat.mod_eq_of_lt (by omega)]
def m_max32 (a b : UInt32) : UInt32 := if key32 b < key32 a ∨ (key32 a = key32 b ∧ a.toNat < 2 ^ 31) then a else b
def m_min32 (a b : UInt32) : UInt32 := if key32 a < key32 b ∨ (key32 a = key32 b ∧ 2 ^ 31 ≤ a.toNat) then a else b
def m_sgnm32 (a : UInt32) : UInt32 := if a.toNat % 2 ^ 31 = 0 then a else m_cps32 FP.fconst1 a
def m_next32 (a : UInt32) : UInt32 := if a.toNat = 2139095040 then a else if a.toNat % 2 ^ 31 = 0 then 1 else if a.toNat < 2 ^ 31 then .ofNat (a.toNat + 1) else .ofNat (a.toNat - 1)
/-- zero added -/
theorem add_zero32 {a : UInt32} (h : FV32 a ≠ .nan) : FP.fadd a FP.fconst0 = if a.toNat % 2 ^ 31 = 0 then 0 else a := by
  show FO32 (FP.Core.round FP.Core.b32 (FP.Core.exactSum (FV32 a) (FV32 FP.fconst0))) = _
  have hz : FV32 FP.fconst0 = .fin false 0 (-149) := by decide +kernel
  rw [hz]
  rcases fV_cases32 a with ⟨c, q, h1, h2, h3, h4⟩ | ⟨h1, h2⟩ | ⟨h1, -⟩
  · have hq := h2.2.1
    have e : FP.Core.sumUnits (decide (2 ^ 31 ≤ a.toNat)) c q false 0 (-149) (min q (-149)) = FP.Core.signed (decide (2 ^ 31 ≤ a.toNat)) (c * 2 ^ (q + 149).toNat) := by
      unfold FP.Core.sumUnits FP.Core.inUnits
      rw [show min q (-149 : Int) = -149 by omega, show (q - (-149 : Int)).toNat = (q + 149).toNat by omega, Nat.zero_mul]
      show _ + ((0 : Nat) : Int) = _
      omega
    have hz : c = 0 ↔ a.toNat % 2 ^ 31 = 0 := by
      obtain ⟨f1, f2, f3, f4⟩ := h2
      omega
    rw [h1]
    show FO32 (FP.Core.round FP.Core.b32 (.fin (FP.Core.sumSign _ _ (FP.Core.sumUnits _ _ _ _ _ _ _)) (FP.Core.sumUnits _ _ _ _ _ _ _).natAbs _)) = _
    rw [e]
    by_cases c0 : c = 0
    · rw [if_pos (hz.mp c0)]
      subst c0
      rw [Nat.zero_mul]
      by_cases g : 2 ^ 31 ≤ a.toNat
      · rw [decide_eq_true g, show min q (-149 : Int) = -149 by omega]; decide +kernel
      · rw [decide_eq_false g, show min q (-149 : Int) = -149 by omega]; decide +kernel
    · rw [if_neg (fun g => c0 (hz.mpr g))]
      have hp := Nat.two_pow_pos (q + 149).toNat
      have hx : 0 < c * 2 ^ (q + 149).toNat := Nat.mul_pos (by omega) hp
      have es : FP.Core.sumSign (decide (2 ^ 31 ≤ a.toNat)) false (FP.Core.signed (decide (2 ^ 31 ≤ a.toNat)) (c * 2 ^ (q + 149).toNat)) = decide (2 ^ 31 ≤ a.toNat) := by
        unfold FP.Core.sumSign FP.Core.signed
        by_cases g : 2 ^ 31 ≤ a.toNat
        · rw [decide_eq_true g]
          simp only [if_true]
          rw [if_neg (by omega), decide_eq_true (by omega)]
        · rw [decide_eq_false g]
          simp only [Bool.false_eq_true, if_false]
          rw [if_neg (by omega), decide_eq_false (by omega)]
      have en : (FP.Core.signed (decide (2 ^ 31 ≤ a.toNat)) (c * 2 ^ (q + 149).toNat)).natAbs = c * 2 ^ (q + 149).toNat := by
        unfold FP.Core.signed
        split <;> omega
      rw [es, en, rnd_exact32 (c := c) (q := q) h2 (by rw [show min q (-149 : Int) = -149 by omega, show (-149 - q : Int).toNat = 0 by omega, show (q - (-149 : Int)).toNat = (q + 149).toNat by omega, Nat.pow_zero, Nat.mul_one])]
      exact fO_fV32 h1
  · rw [h1, if_neg (by omega)]
    apply fV_inj32
    · show FV32 (FO32 (.inf _)) = _
      rw [h1]
      by_cases g : 2 ^ 31 ≤ a.toNat
      · rw [decide_eq_true g]; decide +kernel
      · rw [decide_eq_false g]; decide +kernel
    · exact nn_inf32 _
  · exact absurd h1 h
theorem key_eq32 {a b : UInt32} (h : key32 a = key32 b) (hz : a.toNat % 2 ^ 31 ≠ 0) : a = b := by
  apply UInt32.toNat_inj.mp
  have h1 := a.toNat_lt
  have h2 := b.toNat_lt
  unfold key32 at h
  split at h <;> split at h <;> omega
theorem key_zero32 {a : UInt32} (hz : a.toNat % 2 ^ 31 = 0) : key32 a = 0 := by
  unfold key32
  rw [hz]
  simp
theorem kz_iff32 {a : UInt32} : key32 a = 0 ↔ a.toNat % 2 ^ 31 = 0 := by
  unfold key32
  split <;> omega


theorem i64_of (a : UInt64) : a.toInt64.toUInt64 = a := rfl
theorem i32_of (a : UInt32) : a.toInt32.toUInt32 = a := rfl
theorem i64_add (a b : Int64) : (a + b).toUInt64.toNat = (a.toUInt64.toNat + b.toUInt64.toNat) % 2 ^ 64 := by
  show (a + b).toBitVec.toNat = _
  rw [Int64.toBitVec_add, BitVec.toNat_add]
  rfl
theorem i32_add (a b : Int32) : (a + b).toUInt32.toNat = (a.toUInt32.toNat + b.toUInt32.toNat) % 2 ^ 32 := by
  show (a + b).toBitVec.toNat = _
  rw [Int32.toBitVec_add, BitVec.toNat_add]
  rfl

