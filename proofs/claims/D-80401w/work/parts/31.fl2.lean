/-! numbers by powers of two -/
set_option maxRecDepth 100000
theorem dy_cong {N : Int} {c m : Nat} {q e : Int} (hq : -N ≤ q) (he : -N ≤ e) : c * 2 ^ (q + N).toNat = m * 2 ^ (e + N).toNat ↔ c * 2 ^ (q - e).toNat = m * 2 ^ (e - q).toNat := by
  rcases Int.le_total q e with h | h
  · have h1 : (e + N).toNat = (e - q).toNat + (q + N).toNat := by omega
    have h2 : (q - e).toNat = 0 := by omega
    rw [h1, h2, Nat.pow_add, Nat.pow_zero, Nat.mul_one, ← Nat.mul_assoc]
    exact ⟨fun h => Nat.eq_of_mul_eq_mul_right (Nat.two_pow_pos _) h, fun h => by rw [h]⟩
  · have h1 : (q + N).toNat = (q - e).toNat + (e + N).toNat := by omega
    have h2 : (e - q).toNat = 0 := by omega
    rw [h1, h2, Nat.pow_add, Nat.pow_zero, Nat.mul_one, ← Nat.mul_assoc]
    exact ⟨fun h => Nat.eq_of_mul_eq_mul_right (Nat.two_pow_pos _) h, fun h => by rw [h]⟩

/-! ===== numbers m * 2^e of binary64 ===== -/
/-- a is the number (-1)^s * m * 2^e -/
def Dy64 (a : UInt64) (s : Bool) (m : Nat) (e : Int) : Prop := ∃ (c : Nat) (q : Int), FV64 a = .fin s c q ∧ c * 2 ^ (q + 3000).toNat = m * 2 ^ (e + 3000).toNat
theorem canon64 : ∀ (n : Nat) (m : Nat) (e : Int), (e + 1074).toNat = n → m < 2 ^ 53 → -1074 ≤ e → e ≤ 971 → ∃ (c : Nat) (q : Int), Fit64 c q ∧ c * 2 ^ (q + 3000).toNat = m * 2 ^ (e + 3000).toNat := by
  intro n
  induction n with
  | zero => exact fun m e h hm h1 h2 => ⟨m, e, ⟨hm, h1, h2, Or.inl (by omega)⟩, rfl⟩
  | succ n ih =>
    intro m e h hm h1 h2
    by_cases hc : 2 ^ 52 ≤ m
    · exact ⟨m, e, ⟨hm, h1, h2, Or.inr hc⟩, rfl⟩
    · obtain ⟨c, q, h3, h4⟩ := ih (m * 2) (e - 1) (by omega) (by omega) (by omega) (by omega)
      refine ⟨c, q, h3, h4.trans ?_⟩
      rw [show (e + 3000).toNat = 1 + (e - 1 + 3000).toNat by omega, Nat.pow_add, Nat.mul_assoc]
theorem dy_fit64 {a : UInt64} {s : Bool} {m : Nat} {e : Int} (h : Dy64 a s m e) : ∃ (c : Nat) (q : Int), FV64 a = .fin s c q ∧ Fit64 c q ∧ c * 2 ^ (q + 3000).toNat = m * 2 ^ (e + 3000).toNat := by
  obtain ⟨c, q, h1, h2⟩ := h
  exact ⟨c, q, h1, fV_fit64 h1, h2⟩
theorem dy_nan64 {a : UInt64} {s : Bool} {c : Nat} {q : Int} (h : Dy64 a s c q) : FV64 a ≠ .nan := by
  obtain ⟨c, q, h2, -⟩ := h
  rw [h2]
  exact fun h => by cases h
theorem dy_vf64 {a : UInt64} {s : Bool} {c : Nat} {q : Int} (h : Dy64 a s c q) : vf_n64 a := vf_of64 (dy_nan64 h)
theorem dy_of64 {s : Bool} {c : Nat} {q : Int} (h : Fit64 c q) : Dy64 (FO64 (.fin s c q)) s c q := ⟨c, q, fV_fO64 h, rfl⟩
/-- what rounds to a number of the format, at any scale N -/
theorem rnd_dy64 {s : Bool} {m c : Nat} {e q : Int} {N : Int} (hq : -N ≤ q) (he : -N ≤ e) (hf : Fit64 c q) (h : m * 2 ^ (e + N).toNat = c * 2 ^ (q + N).toNat) : FP.Core.round FP.Core.b64 (.fin s m e) = .fin s c q := rnd_exact64 hf ((dy_cong (N := N) he hq).mp h)
/-- the one float that is the number -/
theorem dy_uniq64 {a b : UInt64} {s : Bool} {m : Nat} {e : Int} (h : Dy64 a s m e) (g : Dy64 b s m e) : a = b := by
  obtain ⟨c, q, h1, h2, h3⟩ := dy_fit64 h
  obtain ⟨d, r, g1, g2, g3⟩ := dy_fit64 g
  have e1 := rnd_exact64 (s := s) (m := c) (e := q) h2 rfl
  have e2 := rnd_dy64 (s := s) (m := c) (e := q) (N := 3000) (by have := g2.2.1; omega) (by have := h2.2.1; omega) g2 (h3.trans g3.symm)
  rw [e1] at e2
  exact fV_inj64 (by rw [h1, g1, e2]) (dy_nan64 h)
theorem dy_re64 {a : UInt64} {s : Bool} {m n : Nat} {e f : Int} (h : Dy64 a s m e) (he : -3000 ≤ e) (hf : -3000 ≤ f) (h1 : m * 2 ^ (e - f).toNat = n * 2 ^ (f - e).toNat) : Dy64 a s n f := by
  obtain ⟨c, q, h2, h3⟩ := h
  exact ⟨c, q, h2, h3.trans ((dy_cong he hf).mpr h1)⟩
/-- a datum rounded, where it is a number of the format -/
theorem dy_rnd64 {s : Bool} {m k : Nat} {e g : Int} {N : Int} (hN : 3000 ≤ N) (he : -N ≤ e) (hk : k < 2 ^ 53) (h1 : -1074 ≤ g) (h2 : g ≤ 971) (h : m * 2 ^ (e + N).toNat = k * 2 ^ (g + N).toNat) : Dy64 (FO64 (FP.Core.round FP.Core.b64 (.fin s m e))) s k g := by
  obtain ⟨c, q, h3, h4⟩ := canon64 _ k g rfl hk h1 h2
  have hq := h3.2.1
  have h5 : c * 2 ^ (q + N).toNat = k * 2 ^ (g + N).toNat := by
    rw [show (q + N).toNat = (q + 3000).toNat + (N - 3000).toNat by omega, show (g + N).toNat = (g + 3000).toNat + (N - 3000).toNat by omega, Nat.pow_add, Nat.pow_add, ← Nat.mul_assoc, h4, Nat.mul_assoc]
  rw [rnd_dy64 (s := s) (N := N) (by omega) he h3 (h.trans h5.symm)]
  exact ⟨c, q, fV_fO64 h3, h4⟩


/-! ===== numbers m * 2^e of binary32 ===== -/
/-- a is the number (-1)^s * m * 2^e -/
def Dy32 (a : UInt32) (s : Bool) (m : Nat) (e : Int) : Prop := ∃ (c : Nat) (q : Int), FV32 a = .fin s c q ∧ c * 2 ^ (q + 3000).toNat = m * 2 ^ (e + 3000).toNat
theorem canon32 : ∀ (n : Nat) (m : Nat) (e : Int), (e + 149).toNat = n → m < 2 ^ 24 → -149 ≤ e → e ≤ 104 → ∃ (c : Nat) (q : Int), Fit32 c q ∧ c * 2 ^ (q + 3000).toNat = m * 2 ^ (e + 3000).toNat := by
  intro n
  induction n with
  | zero => exact fun m e h hm h1 h2 => ⟨m, e, ⟨hm, h1, h2, Or.inl (by omega)⟩, rfl⟩
  | succ n ih =>
    intro m e h hm h1 h2
    by_cases hc : 2 ^ 23 ≤ m
    · exact ⟨m, e, ⟨hm, h1, h2, Or.inr hc⟩, rfl⟩
    · obtain ⟨c, q, h3, h4⟩ := ih (m * 2) (e - 1) (by omega) (by omega) (by omega) (by omega)
      refine ⟨c, q, h3, h4.trans ?_⟩
      rw [show (e + 3000).toNat = 1 + (e - 1 + 3000).toNat by omega, Nat.pow_add, Nat.mul_assoc]
theorem dy_fit32 {a : UInt32} {s : Bool} {m : Nat} {e : Int} (h : Dy32 a s m e) : ∃ (c : Nat) (q : Int), FV32 a = .fin s c q ∧ Fit32 c q ∧ c * 2 ^ (q + 3000).toNat = m * 2 ^ (e + 3000).toNat := by
  obtain ⟨c, q, h1, h2⟩ := h
  exact ⟨c, q, h1, fV_fit32 h1, h2⟩
theorem dy_nan32 {a : UInt32} {s : Bool} {c : Nat} {q : Int} (h : Dy32 a s c q) : FV32 a ≠ .nan := by
  obtain ⟨c, q, h2, -⟩ := h
  rw [h2]
  exact fun h => by cases h
theorem dy_vf32 {a : UInt32} {s : Bool} {c : Nat} {q : Int} (h : Dy32 a s c q) : vf_n32 a := vf_of32 (dy_nan32 h)
theorem dy_of32 {s : Bool} {c : Nat} {q : Int} (h : Fit32 c q) : Dy32 (FO32 (.fin s c q)) s c q := ⟨c, q, fV_fO32 h, rfl⟩
/-- what rounds to a number of the format, at any scale N -/
theorem rnd_dy32 {s : Bool} {m c : Nat} {e q : Int} {N : Int} (hq : -N ≤ q) (he : -N ≤ e) (hf : Fit32 c q) (h : m * 2 ^ (e + N).toNat = c * 2 ^ (q + N).toNat) : FP.Core.round FP.Core.b32 (.fin s m e) = .fin s c q := rnd_exact32 hf ((dy_cong (N := N) he hq).mp h)
/-- the one float that is the number -/
theorem dy_uniq32 {a b : UInt32} {s : Bool} {m : Nat} {e : Int} (h : Dy32 a s m e) (g : Dy32 b s m e) : a = b := by
  obtain ⟨c, q, h1, h2, h3⟩ := dy_fit32 h
  obtain ⟨d, r, g1, g2, g3⟩ := dy_fit32 g
  have e1 := rnd_exact32 (s := s) (m := c) (e := q) h2 rfl
  have e2 := rnd_dy32 (s := s) (m := c) (e := q) (N := 3000) (by have := g2.2.1; omega) (by have := h2.2.1; omega) g2 (h3.trans g3.symm)
  rw [e1] at e2
  exact fV_inj32 (by rw [h1, g1, e2]) (dy_nan32 h)
theorem dy_re32 {a : UInt32} {s : Bool} {m n : Nat} {e f : Int} (h : Dy32 a s m e) (he : -3000 ≤ e) (hf : -3000 ≤ f) (h1 : m * 2 ^ (e - f).toNat = n * 2 ^ (f - e).toNat) : Dy32 a s n f := by
  obtain ⟨c, q, h2, h3⟩ := h
  exact ⟨c, q, h2, h3.trans ((dy_cong he hf).mpr h1)⟩
/-- a datum rounded, where it is a number of the format -/
theorem dy_rnd32 {s : Bool} {m k : Nat} {e g : Int} {N : Int} (hN : 3000 ≤ N) (he : -N ≤ e) (hk : k < 2 ^ 24) (h1 : -149 ≤ g) (h2 : g ≤ 104) (h : m * 2 ^ (e + N).toNat = k * 2 ^ (g + N).toNat) : Dy32 (FO32 (FP.Core.round FP.Core.b32 (.fin s m e))) s k g := by
  obtain ⟨c, q, h3, h4⟩ := canon32 _ k g rfl hk h1 h2
  have hq := h3.2.1
  have h5 : c * 2 ^ (q + N).toNat = k * 2 ^ (g + N).toNat := by
    rw [show (q + N).toNat = (q + 3000).toNat + (N - 3000).toNat by omega, show (g + N).toNat = (g + 3000).toNat + (N - 3000).toNat by omega, Nat.pow_add, Nat.pow_add, ← Nat.mul_assoc, h4, Nat.mul_assoc]
  rw [rnd_dy32 (s := s) (N := N) (by omega) he h3 (h.trans h5.symm)]
  exact ⟨c, q, fV_fO32 h3, h4⟩


theorem dy_mul {a b : UInt64} {s t : Bool} {m n k : Nat} {e f g : Int} (ha : Dy64 a s m e) (hb : Dy64 b t n f) (he : -3000 ≤ e) (hf : -3000 ≤ f) (hk : k < 2 ^ 53) (h1 : -1074 ≤ g) (h2 : g ≤ 971) (h : m * n * 2 ^ (e + f + 6000).toNat = k * 2 ^ (g + 6000).toNat) : Dy64 (FP.dmul a b) (s != t) k g := by
  obtain ⟨c, q, a1, a3, a2⟩ := dy_fit64 ha
  obtain ⟨d, r, b1, b3, b2⟩ := dy_fit64 hb
  have q1 := a3.2.1
  have r1 := b3.2.1
  have e0 : FP.dmul a b = FO64 (FP.Core.round FP.Core.b64 (FP.Core.exactProduct (FV64 a) (FV64 b))) := rfl
  rw [e0, a1, b1]
  refine dy_rnd64 (N := 6000) (by decide) (by omega) hk h1 h2 ?_
  rw [← h, show (q + r + 6000).toNat = (q + 3000).toNat + (r + 3000).toNat by omega, show (e + f + 6000).toNat = (e + 3000).toNat + (f + 3000).toNat by omega, Nat.pow_add, Nat.pow_add]
  calc c * d * (2 ^ (q + 3000).toNat * 2 ^ (r + 3000).toNat) = (c * 2 ^ (q + 3000).toNat) * (d * 2 ^ (r + 3000).toNat) := by ac_rfl
    _ = (m * 2 ^ (e + 3000).toNat) * (n * 2 ^ (f + 3000).toNat) := by rw [a2, b2]
    _ = m * n * (2 ^ (e + 3000).toNat * 2 ^ (f + 3000).toNat) := by ac_rfl
/-- 2^k -/
def pw (k : Int) : UInt64 := FO64 (.fin false (2 ^ 52) (k - 52))
theorem pw_fit {k : Int} (h1 : -1022 ≤ k) (h2 : k ≤ 1023) : Fit64 (2 ^ 52) (k - 52) := ⟨by decide, by omega, by omega, Or.inr (Nat.le_refl _)⟩
theorem pw_dy {k : Int} (h1 : -1022 ≤ k) (h2 : k ≤ 1023) : Dy64 (pw k) false (2 ^ 52) (k - 52) := dy_of64 (pw_fit h1 h2)
theorem pw_dy1 {k : Int} (h1 : -1022 ≤ k) (h2 : k ≤ 1023) : Dy64 (pw k) false 1 k := dy_re64 (pw_dy h1 h2) (by omega) (by omega) (by
  rw [show (k - 52 - k).toNat = 0 by omega, show (k - (k - 52)).toNat = 52 by omega])
/-- a number times 2^k, where that is a number of the format again -/
theorem dy_shift {v : UInt64} {s : Bool} {m : Nat} {e k g : Int} (h : Dy64 v s m e) (hm : m < 2 ^ 53) (he : -3000 ≤ e) (k1 : -1022 ≤ k) (k2 : k ≤ 1023) (hg : e + k = g) (h1 : -1074 ≤ g) (h2 : g ≤ 971) : Dy64 (FP.dmul v (pw k)) s m g := by
  subst hg
  have h3 := dy_mul h (pw_dy1 k1 k2) he (by omega) hm h1 h2 (by rw [Nat.mul_one])
  rw [show (s != false) = s by cases s <;> rfl] at h3
  exact h3
theorem pw_mul {i j : Int} (i1 : -1022 ≤ i) (i2 : i ≤ 1023) (j1 : -1022 ≤ j) (j2 : j ≤ 1023) (h1 : -1022 ≤ i + j) (h2 : i + j ≤ 1023) : FP.dmul (pw i) (pw j) = pw (i + j) :=
  dy_uniq64 (dy_shift (g := i + j - 52) (pw_dy i1 i2) (by decide) (by omega) j1 j2 (by omega) (by omega) (by omega)) (pw_dy h1 h2)
theorem pw_0 : FP.dconst1 = pw 0 := by decide +kernel
theorem pw_m1 : (4602678819172646912 : UInt64) = pw (-1) := by decide +kernel
theorem pw_1 : (4611686018427387904 : UInt64) = pw 1 := by decide +kernel
theorem pw_dyn {k : Int} (h1 : -1022 ≤ k) (h2 : k ≤ 1023) : vf_n64 (pw k) := dy_vf64 (pw_dy h1 h2)
theorem i64_toNat (b : Int64) : (b.toInt < 0 ∧ (b.toUInt64.toNat : Int) = b.toInt + 2 ^ 64) ∨ (0 ≤ b.toInt ∧ (b.toUInt64.toNat : Int) = b.toInt) := by
  have h : b.toInt = (b.toUInt64.toNat : Int).bmod (2 ^ 64) := by
    show b.toBitVec.toInt = _
    rw [BitVec.toInt_eq_toNat_bmod]
    rfl
  have h3 := b.toUInt64.toNat_lt
  rw [Int.bmod_def] at h
  split at h <;> omega
theorem i64_neg {b : Int64} : b < 0 ↔ 2 ^ 63 ≤ b.toUInt64.toNat := by
  have h1 := i64_toNat b
  have h3 := b.toUInt64.toNat_lt
  have h4 := b.le_toInt
  have h5 := b.toInt_lt
  rw [Int64.lt_iff_toInt_lt, show (0 : Int64).toInt = 0 from rfl]
  omega
theorem i32_toNat (b : Int32) : (b.toInt < 0 ∧ (b.toUInt32.toNat : Int) = b.toInt + 2 ^ 32) ∨ (0 ≤ b.toInt ∧ (b.toUInt32.toNat : Int) = b.toInt) := by
  have h : b.toInt = (b.toUInt32.toNat : Int).bmod (2 ^ 32) := by
    show b.toBitVec.toInt = _
    rw [BitVec.toInt_eq_toNat_bmod]
    rfl
  have h3 := b.toUInt32.toNat_lt
  rw [Int.bmod_def] at h
  split at h <;> omega
theorem i32_neg {b : Int32} : b < 0 ↔ 2 ^ 31 ≤ b.toUInt32.toNat := by
  have h1 := i32_toNat b
  have h3 := b.toUInt32.toNat_lt
  have h4 := b.le_toInt
  have h5 := b.toInt_lt
  rw [Int32.lt_iff_toInt_lt, show (0 : Int32).toInt = 0 from rfl]
  omega
/-- the number m * 2^e, rounded -/
def mv (m : Nat) (e : Int) : UInt64 := FO64 (FP.Core.round FP.Core.b64 (.fin false m e))
theorem mv_dy {m : Nat} {e : Int} (hm : m < 2 ^ 53) (h1 : -1074 ≤ e) (h2 : e ≤ 971) : Dy64 (mv m e) false m e := dy_rnd64 (N := 3000) (by decide) (by omega) hm h1 h2 rfl
theorem l2d_dy {m : Int64} (h0 : 0 ≤ m.toInt) (h : m.toInt < 2 ^ 53) : Dy64 (FP.l2d m) false m.toInt.toNat 0 := by
  have e0 : FP.l2d m = FO64 (FP.Core.round FP.Core.b64 (.fin (decide (m.toInt < 0)) m.toInt.natAbs 0)) := rfl
  rw [e0, decide_eq_false (by omega), show m.toInt.natAbs = m.toInt.toNat by omega]
  exact dy_rnd64 (N := 3000) (by decide) (by decide) (by omega) (by decide) (by decide) rfl
/-- the other sign -/
theorem dneg_toNat (a : UInt64) : (FP.dneg a).toNat = if 2 ^ 63 ≤ a.toNat then a.toNat - 2 ^ 63 else a.toNat + 2 ^ 63 := by
  have h := a.toNat_lt
  show (a ^^^ 0x8000000000000000).toNat = _
  rw [UInt64.toNat_xor]
  show a.toNat ^^^ 2 ^ 63 = _
  have hb : ∀ x : Nat, x < 2 ^ 63 → x ^^^ 2 ^ 63 = x + 2 ^ 63 := by
    intro x hx
    have h1 : x ^^^ 2 ^ 63 = x ||| 2 ^ 63 := by
      apply Nat.eq_of_testBit_eq
      intro i
      rw [Nat.testBit_xor, Nat.testBit_or, Nat.testBit_two_pow]
      by_cases hi : 63 = i
      · subst hi
        rw [Nat.testBit_lt_two_pow hx]
        rfl
      · simp [hi]
    rw [h1, Nat.or_comm, ← Nat.two_pow_add_eq_or_of_lt hx 1]
    omega
  by_cases h1 : 2 ^ 63 ≤ a.toNat
  · rw [if_pos h1]
    have h2 := hb (a.toNat - 2 ^ 63) (by omega)
    have h3 : a.toNat = (a.toNat - 2 ^ 63) ^^^ 2 ^ 63 := by omega
    conv => lhs; rw [h3]
    rw [Nat.xor_assoc, Nat.xor_self, Nat.xor_zero]
  · rw [if_neg h1]
    exact hb _ (by omega)
theorem fneg_toNat (a : UInt32) : (FP.fneg a).toNat = if 2 ^ 31 ≤ a.toNat then a.toNat - 2 ^ 31 else a.toNat + 2 ^ 31 := by
  have h := a.toNat_lt
  show (a ^^^ 0x80000000).toNat = _
  rw [UInt32.toNat_xor]
  show a.toNat ^^^ 2 ^ 31 = _
  have hb : ∀ x : Nat, x < 2 ^ 31 → x ^^^ 2 ^ 31 = x + 2 ^ 31 := by
    intro x hx
    have h1 : x ^^^ 2 ^ 31 = x ||| 2 ^ 31 := by
      apply Nat.eq_of_testBit_eq
      intro i
      rw [Nat.testBit_xor, Nat.testBit_or, Nat.testBit_two_pow]
      by_cases hi : 31 = i
      · subst hi
        rw [Nat.testBit_lt_two_pow hx]
        rfl
      · simp [hi]
    rw [h1, Nat.or_comm, ← Nat.two_pow_add_eq_or_of_lt hx 1]
    omega
  by_cases h1 : 2 ^ 31 ≤ a.toNat
  · rw [if_pos h1]
    have h2 := hb (a.toNat - 2 ^ 31) (by omega)
    have h3 : a.toNat = (a.toNat - 2 ^ 31) ^^^ 2 ^ 31 := by omega
    conv => lhs; rw [h3]
    rw [Nat.xor_assoc, Nat.xor_self, Nat.xor_zero]
  · rw [if_neg h1]
    exact hb _ (by omega)

