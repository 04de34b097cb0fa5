/-! the fields of bits, as the reference takes them -/
set_option maxRecDepth 100000
theorem toInt_of_lt {w : Nat} {x : BitVec w} {n : Nat} (h : x.toNat = n) (hn : 2 * n < 2 ^ w) : x.toInt = (n : Int) := by
  rw [← h]
  exact BitVec.toInt_eq_toNat_of_lt (by omega)
theorem u64_shr (x : UInt64) (k : Nat) (hk : k < 64) : (x >>> UInt64.ofNat k).toNat = x.toNat / 2 ^ k := by
  rw [UInt64.toNat_shiftRight, UInt64.toNat_ofNat', Nat.mod_eq_of_lt (show k < 2 ^ 64 by omega), Nat.mod_eq_of_lt hk, Nat.shiftRight_eq_div_pow]
theorem u32_shr (x : UInt32) (k : Nat) (hk : k < 32) : (x >>> UInt32.ofNat k).toNat = x.toNat / 2 ^ k := by
  rw [UInt32.toNat_shiftRight, UInt32.toNat_ofNat', Nat.mod_eq_of_lt (show k < 2 ^ 32 by omega), Nat.mod_eq_of_lt hk, Nat.shiftRight_eq_div_pow]
theorem lv_u52 (b : Int64) : ((b.toUInt64 >>> ((52 : Int32).toInt64.toUInt64 &&& Int64.toUInt64 63)).toInt64.toInt32 &&& 2047).toInt = ((b.toUInt64.toNat / 2 ^ 52 % 2048 : Nat) : Int) := by
  refine toInt_of_lt (x := ((b.toUInt64 >>> ((52 : Int32).toInt64.toUInt64 &&& Int64.toUInt64 63)).toInt64.toInt32 &&& 2047).toBitVec) ?_ (by omega)
  rw [show ((52 : Int32).toInt64.toUInt64 &&& Int64.toUInt64 63) = UInt64.ofNat 52 by decide +kernel, Int32.toBitVec_and, BitVec.toNat_and]
  show _ &&& (2 ^ 11 - 1) = _
  rw [Nat.and_two_pow_sub_one_eq_mod]
  have e2 : (b.toUInt64 >>> UInt64.ofNat 52).toInt64.toInt32.toBitVec.toNat = (b.toUInt64 >>> UInt64.ofNat 52).toNat % 2 ^ 32 := by
    show ((b.toUInt64 >>> UInt64.ofNat 52).toInt64.toBitVec.signExtend 32).toNat = _
    rw [BitVec.signExtend_eq_setWidth_of_le _ (by decide), BitVec.toNat_setWidth]
    rfl
  rw [e2, u64_shr _ 52 (by decide)]
  omega
theorem lv_a52 (b : Int64) : (b &&& 4503599627370495).toInt = ((b.toUInt64.toNat % 2 ^ 52 : Nat) : Int) := by
  refine toInt_of_lt (x := (b &&& 4503599627370495).toBitVec) ?_ (by omega)
  rw [Int64.toBitVec_and, BitVec.toNat_and]
  show _ &&& (2 ^ 52 - 1) = _
  rw [Nat.and_two_pow_sub_one_eq_mod]
  rfl
theorem lv_o52 (b : Int64) : ((b &&& 4503599627370495) ||| 4503599627370496).toInt = ((2 ^ 52 + b.toUInt64.toNat % 2 ^ 52 : Nat) : Int) := by
  refine toInt_of_lt (x := ((b &&& 4503599627370495) ||| 4503599627370496).toBitVec) ?_ (by omega)
  rw [Int64.toBitVec_or, BitVec.toNat_or, Int64.toBitVec_and, BitVec.toNat_and]
  show (_ &&& (2 ^ 52 - 1)) ||| 2 ^ 52 = _
  rw [Nat.and_two_pow_sub_one_eq_mod, Nat.or_comm]
  have h := Nat.two_pow_add_eq_or_of_lt (Nat.mod_lt b.toBitVec.toNat (Nat.two_pow_pos 52)) 1
  rw [Nat.mul_one] at h
  rw [← h]
  rfl
theorem lv_u23 (b : Int32) : ((b.toUInt32 >>> ((23 : Int32).toUInt32 &&& Int32.toUInt32 31)).toInt32 &&& 255).toInt = ((b.toUInt32.toNat / 2 ^ 23 % 256 : Nat) : Int) := by
  refine toInt_of_lt (x := ((b.toUInt32 >>> ((23 : Int32).toUInt32 &&& Int32.toUInt32 31)).toInt32 &&& 255).toBitVec) ?_ (by omega)
  rw [show ((23 : Int32).toUInt32 &&& Int32.toUInt32 31) = UInt32.ofNat 23 by decide +kernel, Int32.toBitVec_and, BitVec.toNat_and]
  show _ &&& (2 ^ 8 - 1) = _
  rw [Nat.and_two_pow_sub_one_eq_mod]
  show (b.toUInt32 >>> UInt32.ofNat 23).toNat % _ = _
  rw [u32_shr _ 23 (by decide)]
theorem lv_a23 (b : Int32) : (b &&& 8388607).toInt = ((b.toUInt32.toNat % 2 ^ 23 : Nat) : Int) := by
  refine toInt_of_lt (x := (b &&& 8388607).toBitVec) ?_ (by omega)
  rw [Int32.toBitVec_and, BitVec.toNat_and]
  show _ &&& (2 ^ 23 - 1) = _
  rw [Nat.and_two_pow_sub_one_eq_mod]
  rfl
theorem lv_o23 (b : Int32) : ((b &&& 8388607) ||| 8388608).toInt = ((2 ^ 23 + b.toUInt32.toNat % 2 ^ 23 : Nat) : Int) := by
  refine toInt_of_lt (x := ((b &&& 8388607) ||| 8388608).toBitVec) ?_ (by omega)
  rw [Int32.toBitVec_or, BitVec.toNat_or, Int32.toBitVec_and, BitVec.toNat_and]
  show (_ &&& (2 ^ 23 - 1)) ||| 2 ^ 23 = _
  rw [Nat.and_two_pow_sub_one_eq_mod, Nat.or_comm]
  have h := Nat.two_pow_add_eq_or_of_lt (Nat.mod_lt b.toBitVec.toNat (Nat.two_pow_pos 23)) 1
  rw [Nat.mul_one] at h
  rw [← h]
  rfl
/-- what the reference's 'real' and 'single' answer: the float of the bits, NaNs made one -/
def m_real (b : Int64) : UInt64 := if 9218868437227405312 < b.toUInt64.toNat % 2 ^ 63 then 9221120237041090560 else b.toUInt64
def m_single (b : Int32) : UInt32 := if 2139095040 < b.toUInt32.toNat % 2 ^ 31 then 2143289344 else b.toUInt32
theorem zg_cmp0 {x y : Int64} : lg_cmp x y = 0 ↔ x = y := by
  unfold lg_cmp
  grind
theorem zg_cmp_ge {x y : Int64} : lg_cmp x y ≥ 0 ↔ ¬ x < y := by
  unfold lg_cmp
  grind
theorem u64_of {a b : UInt64} (h : a.toNat = b.toNat) : a = b := UInt64.toNat_inj.mp h
/-- a finite number with the fields E, T and no sign -/
theorem real_pos {b : Int64} {v : UInt64} {E M : Nat} (hE : E = b.toUInt64.toNat / 2 ^ 52 % 2048) (hM : M = b.toUInt64.toNat % 2 ^ 52) (h1 : E ≠ 2047) (hv : (E = 0 ∧ Dy64 v false M (-1074)) ∨ (E ≠ 0 ∧ Dy64 v false (2 ^ 52 + M) ((E : Int) - 1075))) : v.toNat = b.toUInt64.toNat % 2 ^ 63 := by
  have hb := b.toUInt64.toNat_lt
  obtain ⟨s, c, q, hf, hd, hn⟩ : ∃ (s : Bool) (c : Nat) (q : Int), Fit64 c q ∧ Dy64 v false c q ∧ b.toUInt64.toNat % 2 ^ 63 = (if c < 2 ^ 52 then c else ((q + 1075) * 2 ^ 52 + (c - 2 ^ 52)).toNat) := by
    rcases hv with ⟨h, hd⟩ | ⟨h, hd⟩
    · exact ⟨false, M, -1074, ⟨by omega, by omega, by omega, Or.inl rfl⟩, hd, by rw [if_pos (by omega)]; omega⟩
    · exact ⟨false, 2 ^ 52 + M, (E : Int) - 1075, ⟨by omega, by omega, by omega, Or.inr (by omega)⟩, hd, by rw [if_neg (by omega)]; omega⟩
  have e := fO_toNat64 (s := false) hf
  rw [← dy_uniq64 hd (dy_of64 hf)] at e
  rw [e, hn]
  simp
theorem real_fin {b : Int64} {v : UInt64} (h1 : b.toUInt64.toNat / 2 ^ 52 % 2048 ≠ 2047) (hv : v.toNat = b.toUInt64.toNat % 2 ^ 63) : (b < 0 → FP.dneg v = m_real b) ∧ (¬ b < 0 → v = m_real b) := by
  have hb := b.toUInt64.toNat_lt
  have e : m_real b = b.toUInt64 := by unfold m_real; rw [if_neg (by omega)]
  rw [e]
  constructor
  · intro h
    have := i64_neg.mp h
    apply u64_of
    rw [dneg_toNat, if_neg (by omega)]
    omega
  · intro h
    have : ¬ 2 ^ 63 ≤ b.toUInt64.toNat := fun q => h (i64_neg.mpr q)
    apply u64_of
    omega
theorem real_top {b : Int64} (h1 : b.toUInt64.toNat / 2 ^ 52 % 2048 = 2047) : (b.toUInt64.toNat % 2 ^ 52 ≠ 0 → (9221120237041090560 : UInt64) = m_real b) ∧ (b.toUInt64.toNat % 2 ^ 52 = 0 → (b < 0 → (18442240474082181120 : UInt64) = m_real b) ∧ (¬ b < 0 → (9218868437227405312 : UInt64) = m_real b)) := by
  have hb := b.toUInt64.toNat_lt
  constructor
  · intro h
    unfold m_real
    rw [if_pos (by omega)]
  · intro h
    have e : m_real b = b.toUInt64 := by unfold m_real; rw [if_neg (by omega)]
    rw [e]
    constructor
    · intro h2
      have := i64_neg.mp h2
      apply u64_of
      show 18442240474082181120 = _
      omega
    · intro h2
      have : ¬ 2 ^ 63 ≤ b.toUInt64.toNat := fun q => h2 (i64_neg.mpr q)
      apply u64_of
      show 9218868437227405312 = _
      omega
