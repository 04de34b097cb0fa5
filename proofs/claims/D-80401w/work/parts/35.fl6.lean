/-! the sign, and the bits told by hand -/
set_option maxRecDepth 100000
def m_below (v : UInt64) : Int32 := if 2 ^ 63 ≤ v.toNat then 1 else 0
theorem key_0 : key64 FP.dconst0 = 0 := by decide +kernel
theorem num_0 : FV64 FP.dconst0 ≠ .nan := by rw [num64]; decide +kernel
theorem below_a {v : UInt64} (c : Op.cmpValue (FP.dcmp v FP.dconst0) .g < 0) : 1 = m_below v := by
  have h := (fc_lt64.mp (cv_lt_g.mp c)).2.2
  rw [key_0] at h
  unfold key64 at h
  unfold m_below
  split at h
  · rename_i g; rw [if_pos g]
  · omega
theorem below_b {v : UInt64} (h : FV64 v ≠ .nan) (c : ¬ Op.cmpValue (FP.dcmp v FP.dconst0) .g < 0) (c' : ¬ Op.cmpValue (FP.dcmp v FP.dconst0) .l = 0) : 0 = m_below v := by
  have h1 : ¬ key64 v < 0 := fun q => c (cv_lt_g.mpr (fc_lt64.mpr ⟨h, num_0, by rw [key_0]; exact q⟩))
  have h2 : ¬ key64 v = 0 := fun q => c' (cv_eq_l.mpr (fc_eq64.mpr ⟨h, num_0, by rw [key_0]; exact q⟩))
  unfold key64 at h1 h2
  unfold m_below
  split at h1
  · rename_i g; rw [if_pos g] at h2; omega
  · rename_i g; rw [if_neg g]
theorem zero_or {v : UInt64} (c : Op.cmpValue (FP.dcmp v FP.dconst0) .l = 0) : v = 0 ∨ v = 9223372036854775808 := by
  have h := (fc_eq64.mp (cv_eq_l.mp c)).2.2
  rw [key_0] at h
  unfold key64 at h
  have hv := v.toNat_lt
  split at h
  · exact Or.inr (UInt64.toNat_inj.mp (show v.toNat = 9223372036854775808 by omega))
  · exact Or.inl (UInt64.toNat_inj.mp (show v.toNat = 0 by omega))
theorem below_c {v : UInt64} (c : Op.cmpValue (FP.dcmp v FP.dconst0) .l = 0) : vf_n64 (FP.ddiv FP.dconst1 v) ∧ (Op.cmpValue (FP.dcmp (FP.ddiv FP.dconst1 v) FP.dconst0) .g < 0 → 1 = m_below v) ∧ (¬ Op.cmpValue (FP.dcmp (FP.ddiv FP.dconst1 v) FP.dconst0) .g < 0 → 0 = m_below v) := by
  rcases zero_or c with rfl | rfl
  · refine ⟨vf_of64 (by rw [num64]; decide +kernel), fun h => absurd h (by decide +kernel), fun _ => by decide +kernel⟩
  · refine ⟨vf_of64 (by rw [num64]; decide +kernel), fun _ => by decide +kernel, fun h => absurd (by decide +kernel) h⟩
def m_bits (d : UInt64) : Int64 := if 9218868437227405312 < d.toNat % 2 ^ 63 then 9221120237041090560 else d.toInt64
def m_sg (d : UInt64) : Int64 := if 2 ^ 63 ≤ d.toNat then -9223372036854775808 else 0
def m_bos (f : UInt32) : Int32 := if 2139095040 < f.toNat % 2 ^ 31 then 2143289344 else f.toInt32
theorem i64_inj {a b : Int64} (h : a.toUInt64.toNat = b.toUInt64.toNat) : a = b := by
  have := i64_toNat a
  have := i64_toNat b
  have := a.toInt_lt
  have := b.toInt_lt
  have := a.le_toInt
  have := b.le_toInt
  exact Int64.toInt_inj.mp (by omega)
theorem i64_or (a b : Int64) : (a ||| b).toUInt64.toNat = a.toUInt64.toNat ||| b.toUInt64.toNat := by
  show (a ||| b).toBitVec.toNat = _
  rw [Int64.toBitVec_or, BitVec.toNat_or]
  rfl
theorem i64_and (a b : Int64) : (a &&& b).toUInt64.toNat = a.toUInt64.toNat &&& b.toUInt64.toNat := by
  show (a &&& b).toBitVec.toNat = _
  rw [Int64.toBitVec_and, BitVec.toNat_and]
  rfl
theorem i64_ofNat {n : Nat} (h : n < 2 ^ 64) : (Int64.ofNat n).toUInt64.toNat = n := by
  show (Int64.ofNat n).toBitVec.toNat = n
  rw [show (Int64.ofNat n).toBitVec = BitVec.ofNat 64 n from rfl, BitVec.toNat_ofNat, Nat.mod_eq_of_lt h]
theorem sg_nat (d : UInt64) : (m_sg d).toUInt64.toNat = 2 ^ 63 * (d.toNat / 2 ^ 63) := by
  have h := d.toNat_lt
  unfold m_sg
  split
  · rw [show d.toNat / 2 ^ 63 = 1 by omega]; decide +kernel
  · rw [show d.toNat / 2 ^ 63 = 0 by omega]; decide +kernel
/-- the sign beside a magnitude -/
theorem sg_or {d : UInt64} {x : Int64} (h : x.toUInt64.toNat = d.toNat % 2 ^ 63) (hn : FV64 d ≠ .nan) : m_sg d ||| x = m_bits d := by
  unfold m_bits
  rw [if_neg (by have := num64.mp hn; omega)]
  apply i64_inj
  rw [i64_or, sg_nat, h, ← Nat.two_pow_add_eq_or_of_lt (Nat.mod_lt _ (by decide))]
  show _ = d.toNat
  omega
theorem below_sg {d : UInt64} : (m_below d = 0 → 0 = m_sg d) ∧ (¬ m_below d = 0 → -9223372036854775808 = m_sg d) := by
  unfold m_below m_sg
  split
  · exact ⟨fun h => absurd h (by decide), fun _ => rfl⟩
  · exact ⟨fun _ => rfl, fun h => absurd rfl h⟩
/-- the magnitude -/
theorem abs_a {d : UInt64} (c : Op.cmpValue (FP.dcmp d FP.dconst0) .g < 0) : (FP.dneg d).toNat = d.toNat % 2 ^ 63 := by
  have h := below_a c
  unfold m_below at h
  have hd := d.toNat_lt
  rw [dneg_toNat]
  split at h
  · rename_i g; rw [if_pos g]; omega
  · cases h
theorem abs_b {d : UInt64} (hn : FV64 d ≠ .nan) (c : ¬ Op.cmpValue (FP.dcmp d FP.dconst0) .g < 0) : d.toNat = d.toNat % 2 ^ 63 ∨ d.toNat % 2 ^ 63 = 0 := by
  have h1 : ¬ key64 d < 0 := fun q => c (cv_lt_g.mpr (fc_lt64.mpr ⟨hn, num_0, by rw [key_0]; exact q⟩))
  unfold key64 at h1
  have hd := d.toNat_lt
  split at h1 <;> omega
theorem zero_bits {d : UInt64} (h : d.toNat % 2 ^ 63 = 0) : m_sg d = m_bits d := by
  have h1 := sg_or (d := d) (x := 0) (by rw [h]; decide +kernel) (by rw [num64]; omega)
  rw [← h1]
  exact (Int64.or_zero).symm
theorem key_pos {v : UInt64} (h : v.toNat < 2 ^ 63) : key64 v = (v.toNat : Int) := by
  unfold key64
  rw [if_neg (by omega)]
  omega
theorem key_nat {v : UInt64} {n : Nat} (h : v.toNat = n) (hn : n < 2 ^ 63) : key64 v = (n : Int) := by rw [key_pos (by omega), h]
/-- a magnitude against a written one -/
theorem mag_lt_g {v w : UInt64} {n k : Nat} (h : v.toNat = n) (g : w.toNat = k) (h1 : n ≤ 9218868437227405312) (g1 : k ≤ 9218868437227405312) : (Op.cmpValue (FP.dcmp v w) .g < 0 ↔ n < k) ∧ (Op.cmpValue (FP.dcmp v w) .l = 0 ↔ n = k) ∧ (Op.cmpValue (FP.dcmp v w) .l < 0 ↔ n < k) ∧ (Op.cmpValue (FP.dcmp v w) .g ≥ 0 ↔ ¬ n < k) := by
  have hv : FV64 v ≠ .nan := by rw [num64]; omega
  have hw : FV64 w ≠ .nan := by rw [num64]; omega
  have kv := key_nat h (by omega)
  have kw := key_nat g (by omega)
  have hc := fcmp_key64 hv hw
  rw [kv, kw] at hc
  refine ⟨?_, ?_, ?_, ?_⟩
  · rw [cv_lt_g, fc_lt64, kv, kw]; exact ⟨fun h => by omega, fun h => ⟨hv, hw, by omega⟩⟩
  · rw [cv_eq_l, fc_eq64, kv, kw]; exact ⟨fun h => by omega, fun h => ⟨hv, hw, by omega⟩⟩
  · rw [cv_lt_l, fc_gt64, fc_eq64, kv, kw]; exact ⟨fun h => (Decidable.byContradiction fun q => h (by rcases Nat.lt_or_ge k n with r | r; exact Or.inl ⟨hv, hw, by omega⟩; exact Or.inr ⟨hv, hw, by omega⟩)), fun h => by omega⟩
  · rw [cv_ge_g, fc_lt64, kv, kw]; exact ⟨fun h q => h ⟨hv, hw, by omega⟩, fun h q => by omega⟩
theorem pw_nat {k : Int} (h1 : -1022 ≤ k) (h2 : k ≤ 1023) : (pw k).toNat = ((k + 1023) * 2 ^ 52).toNat := by
  unfold pw
  rw [fO_toNat64 (pw_fit h1 h2), if_neg (by decide)]
  simp
  omega
/-- a magnitude as a number -/
theorem mag_sub {v : UInt64} {n : Nat} (h : v.toNat = n) (h1 : n < 2 ^ 52) : Dy64 v false n (-1074) := by
  have e := fV_sub64 (a := v) (by omega)
  rw [decide_eq_false (by omega), h, Nat.mod_eq_of_lt h1] at e
  exact ⟨n, -1074, e, rfl⟩
theorem mag_norm {v : UInt64} {n : Nat} (h : v.toNat = n) (h1 : 2 ^ 52 ≤ n) (h2 : n < 9218868437227405312) : ∃ (C : Nat) (Q : Int), Dy64 v false C Q ∧ 2 ^ 52 ≤ C ∧ C < 2 ^ 53 ∧ -1074 ≤ Q ∧ Q ≤ 971 ∧ (n : Int) = (Q + 1075) * 2 ^ 52 + (C - 2 ^ 52) := by
  have e := fV_norm64 (a := v) (by omega) (by omega)
  rw [decide_eq_false (by omega)] at e
  exact ⟨_, _, ⟨_, _, e, rfl⟩, by omega, by omega, by omega, by omega, by omega⟩
theorem sgn_f (n : Nat) : FP.Core.signed false n = (n : Int) := rfl
/-- the loops' conditions: at least 2^P, below 2^M -/
theorem cond_hi {v : UInt64} {C P : Nat} {x k : Int} (h : Dy64 v false C x) (hP : 1 ≤ P) (h1 : 2 ^ (P - 1) ≤ C) (h2 : C < 2 ^ P) (hx : -1074 ≤ x) (hk : k = P) (hP2 : P ≤ 53) : Op.cmpValue (FP.dcmp v (pw k)) .l < 0 ↔ x < 1 := by
  subst hk
  have hw := pw_dy1 (k := (P : Int)) (by omega) (by omega)
  rw [cv_lt_l, fc_dy64 h hw]
  rw [sgn_f, sgn_f]
  rw [Option.some_inj, cmp_gt_iff, Option.some_inj, cmp_eq_iff, Nat.one_mul]
  by_cases hx1 : x < 1
  · have : C * 2 ^ (x + 3000).toNat < 2 ^ ((P : Int) + 3000).toNat := by
      calc C * 2 ^ (x + 3000).toNat < 2 ^ P * 2 ^ (x + 3000).toNat := Nat.mul_lt_mul_of_pos_right h2 (Nat.two_pow_pos _)
        _ = 2 ^ (P + (x + 3000).toNat) := (Nat.pow_add _ _ _).symm
        _ ≤ _ := Nat.pow_le_pow_right (by decide) (by omega)
    exact ⟨fun _ => hx1, fun _ => by omega⟩
  · have : 2 ^ ((P : Int) + 3000).toNat ≤ C * 2 ^ (x + 3000).toNat := by
      calc 2 ^ ((P : Int) + 3000).toNat ≤ 2 ^ (P - 1 + (x + 3000).toNat) := Nat.pow_le_pow_right (by decide) (by omega)
        _ = 2 ^ (P - 1) * 2 ^ (x + 3000).toNat := Nat.pow_add _ _ _
        _ ≤ _ := Nat.mul_le_mul_right _ h1
    exact ⟨fun g => by omega, fun g => absurd g hx1⟩
theorem cond_lo {v : UInt64} {C M : Nat} {x k : Int} (h : Dy64 v false C x) (h1 : 2 ^ M ≤ C) (h2 : C < 2 ^ (M + 1)) (hx : -1074 ≤ x) (hk : k = M) (hM : M ≤ 52) : Op.cmpValue (FP.dcmp v (pw k)) .g ≥ 0 ↔ 0 ≤ x := by
  subst hk
  have hw := pw_dy1 (k := (M : Int)) (by omega) (by omega)
  rw [cv_ge_g, fc_dy64 h hw]
  rw [sgn_f, sgn_f]
  rw [Option.some_inj, cmp_lt_iff, Nat.one_mul]
  by_cases hx1 : 0 ≤ x
  · have : 2 ^ ((M : Int) + 3000).toNat ≤ C * 2 ^ (x + 3000).toNat := by
      calc 2 ^ ((M : Int) + 3000).toNat ≤ 2 ^ (M + (x + 3000).toNat) := Nat.pow_le_pow_right (by decide) (by omega)
        _ = 2 ^ M * 2 ^ (x + 3000).toNat := Nat.pow_add _ _ _
        _ ≤ _ := Nat.mul_le_mul_right _ h1
    exact ⟨fun _ => hx1, fun _ => by omega⟩
  · have : C * 2 ^ (x + 3000).toNat < 2 ^ ((M : Int) + 3000).toNat := by
      calc C * 2 ^ (x + 3000).toNat < 2 ^ (M + 1) * 2 ^ (x + 3000).toNat := Nat.mul_lt_mul_of_pos_right h2 (Nat.two_pow_pos _)
        _ = 2 ^ (M + 1 + (x + 3000).toNat) := (Nat.pow_add _ _ _).symm
        _ ≤ _ := Nat.pow_le_pow_right (by decide) (by omega)
    exact ⟨fun g => by omega, fun g => absurd g hx1⟩
theorem pw_53 : (4845873199050653696 : UInt64) = pw 53 := by decide +kernel
theorem pw_52 : (4841369599423283200 : UInt64) = pw 52 := by decide +kernel
theorem pw_24 : (4715268809856909312 : UInt64) = pw 24 := by decide +kernel
theorem pw_23 : (4710765210229538816 : UInt64) = pw 23 := by decide +kernel
/-- exponent and digits put together -/
theorem put64 {d : UInt64} {C : Nat} {Q : Int} {ev : Int32} (hn : FV64 d ≠ .nan) (h1 : 2 ^ 52 ≤ C) (h2 : C < 2 ^ 53) (h3 : -1074 ≤ Q) (h4 : Q ≤ 971) (h5 : ((d.toNat % 2 ^ 63 : Nat) : Int) = (Q + 1075) * 2 ^ 52 + (C - 2 ^ 52)) (he : ev.toInt = Q) : m_sg d ||| ((ev + 1075).toInt64 <<< ((52 : Int32).toInt64 &&& 63)) ||| (Int64.ofNat C &&& 4503599627370495) = m_bits d := by
  have e1 : ((ev + 1075).toInt64).toUInt64.toNat = (Q + 1075).toNat := by
    have h6 : (ev + 1075).toInt64.toInt = Q + 1075 := by
      rw [Int32.toInt_toInt64, Int32.toInt_add, he, show (1075 : Int32).toInt = 1075 from rfl, Int.bmod_eq_of_le (by omega) (by omega)]
    have := i64_toNat (ev + 1075).toInt64
    omega
  have e2 : ((ev + 1075).toInt64 <<< ((52 : Int32).toInt64 &&& 63)).toUInt64.toNat = (Q + 1075).toNat * 2 ^ 52 := by
    show ((ev + 1075).toInt64 <<< ((52 : Int32).toInt64 &&& 63)).toBitVec.toNat = _
    rw [show ((52 : Int32).toInt64 &&& 63) = (52 : Int64) by decide +kernel, Int64.toBitVec_shiftLeft, show ((52 : Int64).toBitVec.smod 64) = 52#64 by decide +kernel]
    show (BitVec.shiftLeft _ 52).toNat = _
    rw [show BitVec.shiftLeft (ev + 1075).toInt64.toBitVec 52 = (ev + 1075).toInt64.toBitVec <<< 52 from rfl, BitVec.toNat_shiftLeft, show (ev + 1075).toInt64.toBitVec.toNat = (Q + 1075).toNat from e1, Nat.shiftLeft_eq]
    omega
  have e3 : (Int64.ofNat C &&& 4503599627370495).toUInt64.toNat = C - 2 ^ 52 := by
    rw [i64_and, i64_ofNat (by omega)]
    show _ &&& (2 ^ 52 - 1) = _
    rw [Nat.and_two_pow_sub_one_eq_mod]
    omega
  rw [Int64.or_assoc]
  refine sg_or ?_ hn
  rw [i64_or, e2, e3, Nat.mul_comm, ← Nat.two_pow_add_eq_or_of_lt (by omega)]
  omega
/-! the same for floats -/
theorem i32_inj {a b : Int32} (h : a.toUInt32.toNat = b.toUInt32.toNat) : a = b := by
  have := i32_toNat a
  have := i32_toNat b
  have := a.toInt_lt
  have := b.toInt_lt
  have := a.le_toInt
  have := b.le_toInt
  exact Int32.toInt_inj.mp (by omega)
theorem i32_or (a b : Int32) : (a ||| b).toUInt32.toNat = a.toUInt32.toNat ||| b.toUInt32.toNat := by
  show (a ||| b).toBitVec.toNat = _
  rw [Int32.toBitVec_or, BitVec.toNat_or]
  rfl
theorem i32_and (a b : Int32) : (a &&& b).toUInt32.toNat = a.toUInt32.toNat &&& b.toUInt32.toNat := by
  show (a &&& b).toBitVec.toNat = _
  rw [Int32.toBitVec_and, BitVec.toNat_and]
  rfl
theorem i32_ofNat {n : Nat} (h : n < 2 ^ 32) : (Int32.ofNat n).toUInt32.toNat = n := by
  show (Int32.ofNat n).toBitVec.toNat = n
  rw [show (Int32.ofNat n).toBitVec = BitVec.ofNat 32 n from rfl, BitVec.toNat_ofNat, Nat.mod_eq_of_lt h]
def m_sf (d : UInt32) : Int32 := if 2 ^ 31 ≤ d.toNat then -2147483648 else 0
theorem sf_nat (d : UInt32) : (m_sf d).toUInt32.toNat = 2 ^ 31 * (d.toNat / 2 ^ 31) := by
  have h := d.toNat_lt
  unfold m_sf
  split
  · rw [show d.toNat / 2 ^ 31 = 1 by omega]; decide +kernel
  · rw [show d.toNat / 2 ^ 31 = 0 by omega]; decide +kernel
theorem sf_or {d : UInt32} {x : Int32} (h : x.toUInt32.toNat = d.toNat % 2 ^ 31) (hn : FV32 d ≠ .nan) : m_sf d ||| x = m_bos d := by
  unfold m_bos
  rw [if_neg (by have := num32.mp hn; omega)]
  apply i32_inj
  rw [i32_or, sf_nat, h, ← Nat.two_pow_add_eq_or_of_lt (Nat.mod_lt _ (by decide))]
  show _ = d.toNat
  omega
/-- a float as a double: its sign, and what it is -/
theorem f2d_sign {f : UInt32} (h : FV32 f ≠ .nan) : (2 ^ 63 ≤ (FP.f2d f).toNat ↔ 2 ^ 31 ≤ f.toNat) ∧ ((FP.f2d f).toNat % 2 ^ 63 = 0 ↔ f.toNat % 2 ^ 31 = 0) ∧ ((FP.f2d f).toNat % 2 ^ 63 = 9218868437227405312 ↔ f.toNat % 2 ^ 31 = 2139095040) := by
  rcases fV_cases32 f with ⟨c, q, h1, h2, h3, h4⟩ | ⟨h1, h2⟩ | ⟨h1, -⟩
  · obtain ⟨d, r, g1, g2, g3⟩ := dy_fit64 (f2d_dy (dy_self32 h1))
    rcases fV_cases64 (FP.f2d f) with ⟨d', r', k1, k2, k3, k4⟩ | ⟨k1, -⟩ | ⟨k1, -⟩
    · rw [g1] at k1
      injection k1 with j1 j2 j3
      subst j2; subst j3
      have j1 := decide_eq_decide.mp j1
      have z : d = 0 ↔ c = 0 := by
        have p1 := Nat.two_pow_pos (r + 3000).toNat
        have p2 := Nat.two_pow_pos (q + 3000).toNat
        constructor
        · rintro rfl
          rw [Nat.zero_mul] at g3
          rcases Nat.mul_eq_zero.mp g3.symm with h | h <;> omega
        · rintro rfl
          rw [Nat.zero_mul] at g3
          rcases Nat.mul_eq_zero.mp g3 with h | h <;> omega
      obtain ⟨f1, f2, f3, f4⟩ := h2
      obtain ⟨l1, l2, l3, l4⟩ := g2
      refine ⟨j1.symm, ?_, ?_⟩ <;> omega
    · rw [g1] at k1; cases k1
    · rw [g1] at k1; cases k1
  · have g := f2d_inf h1
    rcases fV_cases64 (FP.f2d f) with ⟨d', r', k1, k2, k3, k4⟩ | ⟨k1, k2⟩ | ⟨k1, -⟩
    · rw [g] at k1; cases k1
    · rw [g] at k1
      injection k1 with j1
      have j1 := decide_eq_decide.mp j1
      refine ⟨j1.symm, ?_, ?_⟩ <;> omega
    · rw [g] at k1; cases k1
  · exact absurd h1 h
theorem zero_bos {f : UInt32} (h : f.toNat % 2 ^ 31 = 0) : m_sf f = m_bos f := by
  have h1 := sf_or (d := f) (x := 0) (by rw [h]; decide +kernel) (by rw [num32]; omega)
  rw [← h1]
  exact (Int32.or_zero).symm
theorem below_sf {f : UInt32} (h : FV32 f ≠ .nan) : (m_below (FP.f2d f) = 0 → 0 = m_sf f) ∧ (¬ m_below (FP.f2d f) = 0 → -2147483648 = m_sf f) := by
  have hs := (f2d_sign h).1
  unfold m_below m_sf
  by_cases g : 2 ^ 31 ≤ f.toNat
  · rw [if_pos g, if_pos (hs.mpr g)]
    exact ⟨fun h => absurd h (by decide), fun _ => rfl⟩
  · rw [if_neg g, if_neg (fun q => g (hs.mp q))]
    exact ⟨fun _ => rfl, fun h => absurd rfl h⟩
/-- a double without sign that is a finite float's magnitude: its digits -/
theorem single_mag {f : UInt32} {v : UInt64} (hv : v.toNat = (FP.f2d f).toNat % 2 ^ 63) (h : f.toNat % 2 ^ 31 < 2139095040) : (f.toNat % 2 ^ 31 < 2 ^ 23 ∧ Dy64 v false (f.toNat % 2 ^ 31) (-149)) ∨ (2 ^ 23 ≤ f.toNat % 2 ^ 31 ∧ ∃ (C : Nat) (Q : Int), Dy64 v false C Q ∧ 2 ^ 23 ≤ C ∧ C < 2 ^ 24 ∧ -149 ≤ Q ∧ Q ≤ 104 ∧ ((f.toNat % 2 ^ 31 : Nat) : Int) = (Q + 150) * 2 ^ 23 + (C - 2 ^ 23)) := by
  rcases fV_cases32 f with ⟨c, q, h1, h2, h3, h4⟩ | ⟨h1, h2⟩ | ⟨h1, h2⟩
  · have hd : Dy64 v false c q := by
      obtain ⟨d, r, g1, g2, g3⟩ := dy_fit64 (f2d_dy (dy_self32 h1))
      refine ⟨d, r, ?_, g3⟩
      rcases fV_cases64 (FP.f2d f) with ⟨d', r', k1, k2, k3, k4⟩ | ⟨k1, -⟩ | ⟨k1, -⟩
      · rw [g1] at k1
        injection k1 with j1 j2 j3
        subst j2; subst j3
        have e := fO_toNat64 (s := false) g2
        have e2 := fV_fO64 (s := false) g2
        have e3 : v = FO64 (.fin false d r) := by
          apply UInt64.toNat_inj.mp
          rw [hv, e]
          simp
          obtain ⟨l1, l2, l3, l4⟩ := g2
          split <;> omega
        rw [e3, e2]
      · rw [g1] at k1; cases k1
      · rw [g1] at k1; cases k1
    rcases h4 with ⟨g1, g2, g3⟩ | ⟨g1, g2⟩
    · subst g2
      exact Or.inl ⟨by omega, by rw [g3]; exact hd⟩
    · obtain ⟨f1, f2, f3, f4⟩ := h2
      exact Or.inr ⟨by omega, c, q, hd, g1, f1, f2, f3, g2⟩
  · omega
  · omega
/-- a float's magnitude against the least normal one -/
theorem cond_sub {v : UInt64} {n : Nat} (h : (n < 2 ^ 23 ∧ Dy64 v false n (-149)) ∨ (2 ^ 23 ≤ n ∧ ∃ (C : Nat) (Q : Int), Dy64 v false C Q ∧ 2 ^ 23 ≤ C ∧ C < 2 ^ 24 ∧ -149 ≤ Q ∧ Q ≤ 104 ∧ (n : Int) = (Q + 150) * 2 ^ 23 + (C - 2 ^ 23))) : Op.cmpValue (FP.dcmp v (pw (-126 : Int32).toInt)) .g ≥ 0 ↔ 2 ^ 23 ≤ n := by
  rw [show (-126 : Int32).toInt = -126 from rfl]
  have hw := pw_dy1 (k := -126) (by decide) (by decide)
  rcases h with ⟨h1, h2⟩ | ⟨h1, C, Q, h2, h3, h4, h5, h6, -⟩
  · rw [cv_ge_g, fc_dy64 h2 hw, sgn_f, sgn_f, Option.some_inj, cmp_lt_iff, Nat.one_mul]
    have : n * 2 ^ ((-149 : Int) + 3000).toNat < 2 ^ ((-126 : Int) + 3000).toNat := by
      calc n * 2 ^ ((-149 : Int) + 3000).toNat < 2 ^ 23 * 2 ^ ((-149 : Int) + 3000).toNat := Nat.mul_lt_mul_of_pos_right h1 (Nat.two_pow_pos _)
        _ = _ := by rw [← Nat.pow_add]; rfl
    exact ⟨fun g => absurd (Int.ofNat_lt.mpr this) g, fun g => by omega⟩
  · rw [cv_ge_g, fc_dy64 h2 hw, sgn_f, sgn_f, Option.some_inj, cmp_lt_iff, Nat.one_mul]
    have : 2 ^ ((-126 : Int) + 3000).toNat ≤ C * 2 ^ (Q + 3000).toNat := by
      calc 2 ^ ((-126 : Int) + 3000).toNat = 2 ^ (23 + ((-149 : Int) + 3000).toNat) := rfl
        _ = 2 ^ 23 * 2 ^ ((-149 : Int) + 3000).toNat := Nat.pow_add _ _ _
        _ ≤ C * 2 ^ (Q + 3000).toNat := Nat.mul_le_mul h3 (Nat.pow_le_pow_right (by decide) (by omega))
    exact ⟨fun _ => h1, fun _ g => by have := Int.ofNat_le.mpr this; omega⟩
theorem put32 {f : UInt32} {C : Nat} {Q : Int} {ev : Int32} (hn : FV32 f ≠ .nan) (h1 : 2 ^ 23 ≤ C) (h2 : C < 2 ^ 24) (h3 : -149 ≤ Q) (h4 : Q ≤ 104) (h5 : ((f.toNat % 2 ^ 31 : Nat) : Int) = (Q + 150) * 2 ^ 23 + (C - 2 ^ 23)) (he : ev.toInt = Q) : m_sf f ||| ((ev + 150) <<< ((23 : Int32) &&& 31)) ||| (Int32.ofNat C &&& 8388607) = m_bos f := by
  have e1 : (ev + 150).toUInt32.toNat = (Q + 150).toNat := by
    have h6 : (ev + 150).toInt = Q + 150 := by
      rw [Int32.toInt_add, he, show (150 : Int32).toInt = 150 from rfl, Int.bmod_eq_of_le (by omega) (by omega)]
    have := i32_toNat (ev + 150)
    omega
  have e2 : ((ev + 150) <<< ((23 : Int32) &&& 31)).toUInt32.toNat = (Q + 150).toNat * 2 ^ 23 := by
    show ((ev + 150) <<< ((23 : Int32) &&& 31)).toBitVec.toNat = _
    rw [show ((23 : Int32) &&& 31) = (23 : Int32) by decide +kernel, Int32.toBitVec_shiftLeft, show ((23 : Int32).toBitVec.smod 32) = 23#32 by decide +kernel]
    show (BitVec.shiftLeft _ 23).toNat = _
    rw [show BitVec.shiftLeft (ev + 150).toBitVec 23 = (ev + 150).toBitVec <<< 23 from rfl, BitVec.toNat_shiftLeft, show (ev + 150).toBitVec.toNat = (Q + 150).toNat from e1, Nat.shiftLeft_eq]
    omega
  have e3 : (Int32.ofNat C &&& 8388607).toUInt32.toNat = C - 2 ^ 23 := by
    rw [i32_and, i32_ofNat (by omega)]
    show _ &&& (2 ^ 23 - 1) = _
    rw [Nat.and_two_pow_sub_one_eq_mod]
    omega
  rw [Int32.or_assoc]
  refine sf_or ?_ hn
  rw [i32_or, e2, e3, Nat.mul_comm, ← Nat.two_pow_add_eq_or_of_lt (by omega)]
  omega

