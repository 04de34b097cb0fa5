/-! order -/
set_option maxRecDepth 100000
theorem cmp_lt {x y : Int} (h : x < y) : compare x y = .lt := by
  show (if x < y then Ordering.lt else if x = y then .eq else .gt) = _
  rw [if_pos h]
theorem cmp_eq {x y : Int} (h : x = y) : compare x y = .eq := by
  show (if x < y then Ordering.lt else if x = y then .eq else .gt) = _
  rw [if_neg (by omega), if_pos h]
theorem cmp_gt {x y : Int} (h : y < x) : compare x y = .gt := by
  show (if x < y then Ordering.lt else if x = y then .eq else .gt) = _
  rw [if_neg (by omega), if_neg (by omega)]
theorem cmp_lt_iff {x y : Int} : compare x y = .lt ↔ x < y := by
  rcases Int.lt_trichotomy x y with h | h | h
  · exact ⟨fun _ => h, cmp_lt⟩
  · rw [cmp_eq h]; exact ⟨fun h => (by cases h), fun _ => (by omega)⟩
  · rw [cmp_gt h]; exact ⟨fun h => (by cases h), fun _ => (by omega)⟩
theorem cmp_gt_iff {x y : Int} : compare x y = .gt ↔ y < x := by
  rcases Int.lt_trichotomy x y with h | h | h
  · rw [cmp_lt h]; exact ⟨fun h => (by cases h), fun _ => (by omega)⟩
  · rw [cmp_eq h]; exact ⟨fun h => (by cases h), fun _ => (by omega)⟩
  · exact ⟨fun _ => h, cmp_gt⟩
theorem cmp_eq_iff {x y : Int} : compare x y = .eq ↔ x = y := by
  rcases Int.lt_trichotomy x y with h | h | h
  · rw [cmp_lt h]; exact ⟨fun h => (by cases h), fun _ => (by omega)⟩
  · exact ⟨fun _ => h, cmp_eq⟩
  · rw [cmp_gt h]; exact ⟨fun h => (by cases h), fun _ => (by omega)⟩
theorem cmp_cong {x y u v : Int} (h1 : x < y ↔ u < v) (h2 : x = y ↔ u = v) : compare x y = compare u v := by
  rcases Int.lt_trichotomy x y with h | h | h
  · rw [cmp_lt h, cmp_lt (h1.mp h)]
  · rw [cmp_eq h, cmp_eq (h2.mp h)]
  · rw [cmp_gt h, cmp_gt (by omega)]
theorem cmp_scale (s t : Bool) (x y k : Nat) (hk : 0 < k) : compare (FP.Core.signed s x) (FP.Core.signed t y) = compare (FP.Core.signed s (x * k)) (FP.Core.signed t (y * k)) := by
  have h1 : x < y ↔ x * k < y * k := (Nat.mul_lt_mul_right hk).symm
  have h2 : x = y ↔ x * k = y * k := ⟨fun h => by rw [h], fun h => Nat.eq_of_mul_eq_mul_right hk h⟩
  have h3 : x = 0 ↔ x * k = 0 := ⟨fun h => by rw [h, Nat.zero_mul], fun h => by rcases Nat.mul_eq_zero.mp h with h | h; exact h; omega⟩
  have h4 : y = 0 ↔ y * k = 0 := ⟨fun h => by rw [h, Nat.zero_mul], fun h => by rcases Nat.mul_eq_zero.mp h with h | h; exact h; omega⟩
  generalize x * k = u at *
  generalize y * k = v at *
  cases s <;> cases t <;> unfold FP.Core.signed <;> apply cmp_cong <;> simp <;> omega
theorem cmp_keys {s t : Prop} [Decidable s] [Decidable t] {x y u v : Nat} (h1 : x < y ↔ u < v) (h2 : x = y ↔ u = v) (h3 : x = 0 ↔ u = 0) (h4 : y = 0 ↔ v = 0) : compare (FP.Core.signed (decide s) x) (FP.Core.signed (decide t) y) = compare (if s then -(u : Int) else (u : Int)) (if t then -(v : Int) else (v : Int)) := by
  by_cases hs : s <;> by_cases ht : t <;> simp only [hs, ht, decide_true, decide_false, if_true, if_false] <;> unfold FP.Core.signed <;> apply cmp_cong <;> simp <;> omega
/-- what an instruction makes of an order -/
theorem cv_lt_g {o : Option Ordering} : Op.cmpValue o .g < 0 ↔ o = some .lt := by rcases o with _ | (_ | _ | _) <;> decide
theorem cv_ge_g {o : Option Ordering} : Op.cmpValue o .g ≥ 0 ↔ ¬ o = some .lt := by rcases o with _ | (_ | _ | _) <;> decide
theorem cv_le_g {o : Option Ordering} : Op.cmpValue o .g ≤ 0 ↔ (o = some .lt ∨ o = some .eq) := by rcases o with _ | (_ | _ | _) <;> decide
theorem cv_gt_g {o : Option Ordering} : Op.cmpValue o .g > 0 ↔ ¬ (o = some .lt ∨ o = some .eq) := by rcases o with _ | (_ | _ | _) <;> decide
theorem cv_lt_l {o : Option Ordering} : Op.cmpValue o .l < 0 ↔ ¬ (o = some .gt ∨ o = some .eq) := by rcases o with _ | (_ | _ | _) <;> decide
theorem cv_ge_l {o : Option Ordering} : Op.cmpValue o .l ≥ 0 ↔ (o = some .gt ∨ o = some .eq) := by rcases o with _ | (_ | _ | _) <;> decide
theorem cv_le_l {o : Option Ordering} : Op.cmpValue o .l ≤ 0 ↔ ¬ o = some .gt := by rcases o with _ | (_ | _ | _) <;> decide
theorem cv_gt_l {o : Option Ordering} : Op.cmpValue o .l > 0 ↔ o = some .gt := by rcases o with _ | (_ | _ | _) <;> decide
theorem cv_eq_l {o : Option Ordering} : Op.cmpValue o .l = 0 ↔ o = some .eq := by rcases o with _ | (_ | _ | _) <;> decide
theorem cv_eq_g {o : Option Ordering} : Op.cmpValue o .g = 0 ↔ o = some .eq := by rcases o with _ | (_ | _ | _) <;> decide

/-! ===== order of binary64 ===== -/
/-- the bits as a number with a sign -/
def key64 (a : UInt64) : Int := if 2 ^ 63 ≤ a.toNat then -((a.toNat % 2 ^ 63 : Nat) : Int) else ((a.toNat % 2 ^ 63 : Nat) : Int)
theorem mono64 {c d : Nat} {q r : Int} (hc : Fit64 c q) (hd : Fit64 d r) (h : (q + 1074) * 2 ^ 52 + c < (r + 1074) * 2 ^ 52 + d) : c * 2 ^ (q + 1074).toNat < d * 2 ^ (r + 1074).toNat := by
  obtain ⟨c1, c2, c3, c4⟩ := hc
  obtain ⟨d1, d2, d3, d4⟩ := hd
  rcases Int.lt_trichotomy q r with g | g | g
  · have hr : 2 ^ 52 ≤ d := by omega
    calc c * 2 ^ (q + 1074).toNat < 2 ^ 53 * 2 ^ (q + 1074).toNat := Nat.mul_lt_mul_of_pos_right c1 (Nat.two_pow_pos _)
      _ = 2 ^ 52 * 2 ^ ((q + 1074).toNat + 1) := by rw [← Nat.pow_add, ← Nat.pow_add]; congr 1; omega
      _ ≤ 2 ^ 52 * 2 ^ (r + 1074).toNat := Nat.mul_le_mul_left _ (Nat.pow_le_pow_right (by decide) (by omega))
      _ ≤ d * 2 ^ (r + 1074).toNat := Nat.mul_le_mul_right _ hr
  · subst g
    exact Nat.mul_lt_mul_of_pos_right (by omega) (Nat.two_pow_pos _)
  · have hr : 2 ^ 52 ≤ c := by omega
    omega
theorem mono_iff64 {c d : Nat} {q r : Int} (hc : Fit64 c q) (hd : Fit64 d r) : (c * 2 ^ (q + 1074).toNat < d * 2 ^ (r + 1074).toNat ↔ (q + 1074) * 2 ^ 52 + c < (r + 1074) * 2 ^ 52 + d) ∧ (c * 2 ^ (q + 1074).toNat = d * 2 ^ (r + 1074).toNat ↔ (q + 1074) * 2 ^ 52 + c = (r + 1074) * 2 ^ 52 + d) := by
  rcases Int.lt_trichotomy ((q + 1074) * 2 ^ 52 + c) ((r + 1074) * 2 ^ 52 + d) with h | h | h
  · have := mono64 hc hd h
    exact ⟨⟨fun _ => h, fun _ => this⟩, ⟨fun _ => by omega, fun _ => by omega⟩⟩
  · have e : c = d ∧ q = r := by
      obtain ⟨c1, c2, c3, c4⟩ := hc
      obtain ⟨d1, d2, d3, d4⟩ := hd
      omega
    obtain ⟨rfl, rfl⟩ := e
    exact ⟨⟨fun g => absurd g (Nat.lt_irrefl _), fun g => by omega⟩, ⟨fun _ => rfl, fun _ => rfl⟩⟩
  · have := mono64 hd hc h
    exact ⟨⟨fun _ => by omega, fun _ => by omega⟩, ⟨fun _ => by omega, fun _ => by omega⟩⟩
/-- order by values, at the scale of the least number -/
theorem ord_val64 {s t : Bool} {c d : Nat} {q r : Int} (hq : -3000 ≤ q) (hr : -3000 ≤ r) : FP.Core.order (.fin s c q) (.fin t d r) = some (compare (FP.Core.signed s (c * 2 ^ (q + 3000).toNat)) (FP.Core.signed t (d * 2 ^ (r + 3000).toNat))) := by
  show some (compare (FP.Core.signed s (c * 2 ^ (q - min q r).toNat)) (FP.Core.signed t (d * 2 ^ (r - min q r).toNat))) = _
  congr 1
  have e1 : (q + 3000).toNat = (q - min q r).toNat + (min q r + 3000).toNat := by omega
  have e2 : (r + 3000).toNat = (r - min q r).toNat + (min q r + 3000).toNat := by omega
  rw [e1, e2, Nat.pow_add, Nat.pow_add, ← Nat.mul_assoc, ← Nat.mul_assoc]
  have hp := Nat.two_pow_pos (min q r + 3000).toNat
  generalize 2 ^ (min q r + 3000).toNat = k at hp
  generalize c * 2 ^ (q - min q r).toNat = x
  generalize d * 2 ^ (r - min q r).toNat = y
  exact cmp_scale s t x y k hp

theorem fcmp_key64 {a b : UInt64} (ha : FV64 a ≠ .nan) (hb : FV64 b ≠ .nan) : FP.dcmp a b = some (compare (key64 a) (key64 b)) := by
  show FP.Core.order (FV64 a) (FV64 b) = _
  unfold key64
  rcases fV_cases64 a with ⟨c, q, h1, h2, h3, h4⟩ | ⟨h1, h2⟩ | ⟨h1, -⟩
  · have hn : ((a.toNat % 2 ^ 63 : Nat) : Int) = (q + 1074) * 2 ^ 52 + c := by omega
    rcases fV_cases64 b with ⟨d, r, g1, g2, g3, g4⟩ | ⟨g1, g2⟩ | ⟨g1, -⟩
    · have gn : ((b.toNat % 2 ^ 63 : Nat) : Int) = (r + 1074) * 2 ^ 52 + d := by omega
      rw [h1, g1, ord_val64 (by have := h2.2.1; omega) (by have := g2.2.1; omega)]
      congr 1
      obtain ⟨m1, m2⟩ := mono_iff64 h2 g2
      obtain ⟨n1, n2⟩ := mono_iff64 g2 h2
      rw [← hn, ← gn] at m1 m2 n1 n2
      have e1 : (q + 3000).toNat = (q + 1074).toNat + (3000 - 1074) := by have := h2.2.1; omega
      have e2 : (r + 3000).toNat = (r + 1074).toNat + (3000 - 1074) := by have := g2.2.1; omega
      have hz : (c * 2 ^ (q + 1074).toNat = 0 ↔ a.toNat % 2 ^ 63 = 0) ∧ (d * 2 ^ (r + 1074).toNat = 0 ↔ b.toNat % 2 ^ 63 = 0) := by
        have p1 := Nat.two_pow_pos (q + 1074).toNat
        have p2 := Nat.two_pow_pos (r + 1074).toNat
        rw [Nat.mul_eq_zero, Nat.mul_eq_zero]
        omega
      rw [e1, e2, Nat.pow_add, Nat.pow_add, ← Nat.mul_assoc, ← Nat.mul_assoc, ← cmp_scale _ _ _ _ _ (Nat.two_pow_pos _)]
      generalize c * 2 ^ (q + 1074).toNat = x at *
      generalize d * 2 ^ (r + 1074).toNat = y at *
      exact cmp_keys (by omega) (by omega) hz.1 hz.2
    · rw [h1, g1]
      show some (compare (0 : Int) (FP.Core.signed _ 1)) = _
      congr 1
      by_cases z : 2 ^ 63 ≤ b.toNat
      · rw [decide_eq_true z, if_pos z, cmp_gt (show FP.Core.signed true 1 < 0 by decide)]
        symm
        apply cmp_gt
        split <;> omega
      · rw [decide_eq_false z, if_neg z, cmp_lt (show (0 : Int) < FP.Core.signed false 1 by decide)]
        symm
        apply cmp_lt
        split <;> omega
    · exact absurd g1 hb
  · rcases fV_cases64 b with ⟨d, r, g1, g2, g3, g4⟩ | ⟨g1, g2⟩ | ⟨g1, -⟩
    · rw [h1, g1]
      show some (compare (FP.Core.signed _ 1) (0 : Int)) = _
      congr 1
      by_cases z : 2 ^ 63 ≤ a.toNat
      · rw [decide_eq_true z, if_pos z, cmp_lt (show FP.Core.signed true 1 < 0 by decide)]
        symm
        apply cmp_lt
        split <;> omega
      · rw [decide_eq_false z, if_neg z, cmp_gt (show (0 : Int) < FP.Core.signed false 1 by decide)]
        symm
        apply cmp_gt
        split <;> omega
    · rw [h1, g1]
      show some (compare (FP.Core.signed _ 1) (FP.Core.signed _ 1)) = _
      congr 1
      rw [h2, g2]
      by_cases z : 2 ^ 63 ≤ a.toNat <;> by_cases w : 2 ^ 63 ≤ b.toNat
      · rw [decide_eq_true z, decide_eq_true w, if_pos z, if_pos w]; decide
      · rw [decide_eq_true z, decide_eq_false w, if_pos z, if_neg w]; decide
      · rw [decide_eq_false z, decide_eq_true w, if_neg z, if_pos w]; decide
      · rw [decide_eq_false z, decide_eq_false w, if_neg z, if_neg w]; decide
    · exact absurd g1 hb
  · exact absurd h1 ha
theorem fcmp_nan64 {a b : UInt64} : FP.dcmp a b = none ↔ FV64 a = .nan ∨ FV64 b = .nan := by
  constructor
  · intro h
    by_cases ha : FV64 a = .nan
    · exact Or.inl ha
    · by_cases hb : FV64 b = .nan
      · exact Or.inr hb
      · rw [fcmp_key64 ha hb] at h; cases h
  · intro h
    show FP.Core.order (FV64 a) (FV64 b) = none
    rcases h with h | h
    · rw [h]; rfl
    · rw [h]; cases FV64 a <;> rfl
/-- a comparison, by the bits -/
theorem fc_lt64 {a b : UInt64} : FP.dcmp a b = some .lt ↔ FV64 a ≠ .nan ∧ FV64 b ≠ .nan ∧ key64 a < key64 b := by
  by_cases ha : FV64 a = .nan
  · rw [fcmp_nan64.mpr (Or.inl ha)]; exact ⟨fun h => (by cases h), fun h => absurd ha h.1⟩
  · by_cases hb : FV64 b = .nan
    · rw [fcmp_nan64.mpr (Or.inr hb)]; exact ⟨fun h => (by cases h), fun h => absurd hb h.2.1⟩
    · rw [fcmp_key64 ha hb]; exact ⟨fun h => ⟨ha, hb, cmp_lt_iff.mp (Option.some.inj h)⟩, fun h => congrArg some (cmp_lt h.2.2)⟩
theorem fc_gt64 {a b : UInt64} : FP.dcmp a b = some .gt ↔ FV64 a ≠ .nan ∧ FV64 b ≠ .nan ∧ key64 b < key64 a := by
  by_cases ha : FV64 a = .nan
  · rw [fcmp_nan64.mpr (Or.inl ha)]; exact ⟨fun h => (by cases h), fun h => absurd ha h.1⟩
  · by_cases hb : FV64 b = .nan
    · rw [fcmp_nan64.mpr (Or.inr hb)]; exact ⟨fun h => (by cases h), fun h => absurd hb h.2.1⟩
    · rw [fcmp_key64 ha hb]; exact ⟨fun h => ⟨ha, hb, cmp_gt_iff.mp (Option.some.inj h)⟩, fun h => congrArg some (cmp_gt h.2.2)⟩
theorem fc_eq64 {a b : UInt64} : FP.dcmp a b = some .eq ↔ FV64 a ≠ .nan ∧ FV64 b ≠ .nan ∧ key64 a = key64 b := by
  by_cases ha : FV64 a = .nan
  · rw [fcmp_nan64.mpr (Or.inl ha)]; exact ⟨fun h => (by cases h), fun h => absurd ha h.1⟩
  · by_cases hb : FV64 b = .nan
    · rw [fcmp_nan64.mpr (Or.inr hb)]; exact ⟨fun h => (by cases h), fun h => absurd hb h.2.1⟩
    · rw [fcmp_key64 ha hb]; exact ⟨fun h => ⟨ha, hb, cmp_eq_iff.mp (Option.some.inj h)⟩, fun h => congrArg some (cmp_eq h.2.2)⟩
theorem fc_self64 {a : UInt64} : FP.dcmp a a = some .eq ↔ FV64 a ≠ .nan := by
  rw [fc_eq64]
  exact ⟨fun h => h.1, fun h => ⟨h, h, rfl⟩⟩
theorem num64 {a : UInt64} : FV64 a ≠ .nan ↔ a.toNat % 2 ^ 63 ≤ 9218868437227405312 := by
  rw [Ne, nan_iff64]; omega
/-- order by what two floats are -/
theorem fc_dy64 {a b : UInt64} {s t : Bool} {m n : Nat} {e f : Int} (ha : Dy64 a s m e) (hb : Dy64 b t n f) : FP.dcmp a b = some (compare (FP.Core.signed s (m * 2 ^ (e + 3000).toNat)) (FP.Core.signed t (n * 2 ^ (f + 3000).toNat))) := by
  obtain ⟨c, q, a1, a2, a3⟩ := dy_fit64 ha
  obtain ⟨d, r, b1, b2, b3⟩ := dy_fit64 hb
  show FP.Core.order (FV64 a) (FV64 b) = _
  rw [a1, b1, ord_val64 (by have := a2.2.1; omega) (by have := b2.2.1; omega), a3, b3]
theorem fneg_val64 (a : UInt64) : FV64 (FP.dneg a) = FP.Core.negate (FV64 a) := by
  have h := a.toNat_lt
  have e := dneg_toNat a
  have d : decide (2 ^ 63 ≤ (FP.dneg a).toNat) = !decide (2 ^ 63 ≤ a.toNat) := by
    by_cases z : 2 ^ 63 ≤ a.toNat
    · rw [if_pos z] at e
      rw [decide_eq_true z, e, decide_eq_false (by omega)]; rfl
    · rw [if_neg z] at e
      rw [decide_eq_false z, e, decide_eq_true (by omega)]; rfl
  have e1 : (FP.dneg a).toNat / 2 ^ 52 % 2048 = a.toNat / 2 ^ 52 % 2048 := by split at e <;> omega
  have e2 : (FP.dneg a).toNat % 2 ^ 52 = a.toNat % 2 ^ 52 := by split at e <;> omega
  by_cases h0 : a.toNat / 2 ^ 52 % 2048 = 0
  · rw [fV_sub64 h0, fV_sub64 (by rw [e1]; exact h0), d, e2]; rfl
  · by_cases h1 : a.toNat / 2 ^ 52 % 2048 = 2047
    · by_cases h2 : a.toNat % 2 ^ 52 = 0
      · rw [fV_inf64 h1 h2, fV_inf64 (by rw [e1]; exact h1) (by rw [e2]; exact h2), d]; rfl
      · rw [fV_nan64 h1 h2, fV_nan64 (by rw [e1]; exact h1) (by rw [e2]; exact h2)]; rfl
    · rw [fV_norm64 h0 h1, fV_norm64 (by rw [e1]; exact h0) (by rw [e1]; exact h1), d, e1, e2]; rfl
theorem dy_neg64 {a : UInt64} {s : Bool} {m : Nat} {e : Int} (h : Dy64 a s m e) : Dy64 (FP.dneg a) (!s) m e := by
  obtain ⟨c, q, h1, h2⟩ := h
  exact ⟨c, q, by rw [fneg_val64, h1]; rfl, h2⟩


/-! ===== order of binary32 ===== -/
/-- the bits as a number with a sign -/
def key32 (a : UInt32) : Int := if 2 ^ 31 ≤ a.toNat then -((a.toNat % 2 ^ 31 : Nat) : Int) else ((a.toNat % 2 ^ 31 : Nat) : Int)
theorem mono32 {c d : Nat} {q r : Int} (hc : Fit32 c q) (hd : Fit32 d r) (h : (q + 149) * 2 ^ 23 + c < (r + 149) * 2 ^ 23 + d) : c * 2 ^ (q + 149).toNat < d * 2 ^ (r + 149).toNat := by
  obtain ⟨c1, c2, c3, c4⟩ := hc
  obtain ⟨d1, d2, d3, d4⟩ := hd
  rcases Int.lt_trichotomy q r with g | g | g
  · have hr : 2 ^ 23 ≤ d := by omega
    calc c * 2 ^ (q + 149).toNat < 2 ^ 24 * 2 ^ (q + 149).toNat := Nat.mul_lt_mul_of_pos_right c1 (Nat.two_pow_pos _)
      _ = 2 ^ 23 * 2 ^ ((q + 149).toNat + 1) := by rw [← Nat.pow_add, ← Nat.pow_add]; congr 1; omega
      _ ≤ 2 ^ 23 * 2 ^ (r + 149).toNat := Nat.mul_le_mul_left _ (Nat.pow_le_pow_right (by decide) (by omega))
      _ ≤ d * 2 ^ (r + 149).toNat := Nat.mul_le_mul_right _ hr
  · subst g
    exact Nat.mul_lt_mul_of_pos_right (by omega) (Nat.two_pow_pos _)
  · have hr : 2 ^ 23 ≤ c := by omega
    omega
theorem mono_iff32 {c d : Nat} {q r : Int} (hc : Fit32 c q) (hd : Fit32 d r) : (c * 2 ^ (q + 149).toNat < d * 2 ^ (r + 149).toNat ↔ (q + 149) * 2 ^ 23 + c < (r + 149) * 2 ^ 23 + d) ∧ (c * 2 ^ (q + 149).toNat = d * 2 ^ (r + 149).toNat ↔ (q + 149) * 2 ^ 23 + c = (r + 149) * 2 ^ 23 + d) := by
  rcases Int.lt_trichotomy ((q + 149) * 2 ^ 23 + c) ((r + 149) * 2 ^ 23 + d) with h | h | h
  · have := mono32 hc hd h
    exact ⟨⟨fun _ => h, fun _ => this⟩, ⟨fun _ => by omega, fun _ => by omega⟩⟩
  · have e : c = d ∧ q = r := by
      obtain ⟨c1, c2, c3, c4⟩ := hc
      obtain ⟨d1, d2, d3, d4⟩ := hd
      omega
    obtain ⟨rfl, rfl⟩ := e
    exact ⟨⟨fun g => absurd g (Nat.lt_irrefl _), fun g => by omega⟩, ⟨fun _ => rfl, fun _ => rfl⟩⟩
  · have := mono32 hd hc h
    exact ⟨⟨fun _ => by omega, fun _ => by omega⟩, ⟨fun _ => by omega, fun _ => by omega⟩⟩
/-- order by values, at the scale of the least number -/
theorem ord_val32 {s t : Bool} {c d : Nat} {q r : Int} (hq : -3000 ≤ q) (hr : -3000 ≤ r) : FP.Core.order (.fin s c q) (.fin t d r) = some (compare (FP.Core.signed s (c * 2 ^ (q + 3000).toNat)) (FP.Core.signed t (d * 2 ^ (r + 3000).toNat))) := by
  show some (compare (FP.Core.signed s (c * 2 ^ (q - min q r).toNat)) (FP.Core.signed t (d * 2 ^ (r - min q r).toNat))) = _
  congr 1
  have e1 : (q + 3000).toNat = (q - min q r).toNat + (min q r + 3000).toNat := by omega
  have e2 : (r + 3000).toNat = (r - min q r).toNat + (min q r + 3000).toNat := by omega
  rw [e1, e2, Nat.pow_add, Nat.pow_add, ← Nat.mul_assoc, ← Nat.mul_assoc]
  have hp := Nat.two_pow_pos (min q r + 3000).toNat
  generalize 2 ^ (min q r + 3000).toNat = k at hp
  generalize c * 2 ^ (q - min q r).toNat = x
  generalize d * 2 ^ (r - min q r).toNat = y
  exact cmp_scale s t x y k hp

theorem fcmp_key32 {a b : UInt32} (ha : FV32 a ≠ .nan) (hb : FV32 b ≠ .nan) : FP.fcmp a b = some (compare (key32 a) (key32 b)) := by
  show FP.Core.order (FV32 a) (FV32 b) = _
  unfold key32
  rcases fV_cases32 a with ⟨c, q, h1, h2, h3, h4⟩ | ⟨h1, h2⟩ | ⟨h1, -⟩
  · have hn : ((a.toNat % 2 ^ 31 : Nat) : Int) = (q + 149) * 2 ^ 23 + c := by omega
    rcases fV_cases32 b with ⟨d, r, g1, g2, g3, g4⟩ | ⟨g1, g2⟩ | ⟨g1, -⟩
    · have gn : ((b.toNat % 2 ^ 31 : Nat) : Int) = (r + 149) * 2 ^ 23 + d := by omega
      rw [h1, g1, ord_val32 (by have := h2.2.1; omega) (by have := g2.2.1; omega)]
      congr 1
      obtain ⟨m1, m2⟩ := mono_iff32 h2 g2
      obtain ⟨n1, n2⟩ := mono_iff32 g2 h2
      rw [← hn, ← gn] at m1 m2 n1 n2
      have e1 : (q + 3000).toNat = (q + 149).toNat + (3000 - 149) := by have := h2.2.1; omega
      have e2 : (r + 3000).toNat = (r + 149).toNat + (3000 - 149) := by have := g2.2.1; omega
      have hz : (c * 2 ^ (q + 149).toNat = 0 ↔ a.toNat % 2 ^ 31 = 0) ∧ (d * 2 ^ (r + 149).toNat = 0 ↔ b.toNat % 2 ^ 31 = 0) := by
        have p1 := Nat.two_pow_pos (q + 149).toNat
        have p2 := Nat.two_pow_pos (r + 149).toNat
        rw [Nat.mul_eq_zero, Nat.mul_eq_zero]
        omega
      rw [e1, e2, Nat.pow_add, Nat.pow_add, ← Nat.mul_assoc, ← Nat.mul_assoc, ← cmp_scale _ _ _ _ _ (Nat.two_pow_pos _)]
      generalize c * 2 ^ (q + 149).toNat = x at *
      generalize d * 2 ^ (r + 149).toNat = y at *
      exact cmp_keys (by omega) (by omega) hz.1 hz.2
    · rw [h1, g1]
      show some (compare (0 : Int) (FP.Core.signed _ 1)) = _
      congr 1
      by_cases z : 2 ^ 31 ≤ b.toNat
      · rw [decide_eq_true z, if_pos z, cmp_gt (show FP.Core.signed true 1 < 0 by decide)]
        symm
        apply cmp_gt
        split <;> omega
      · rw [decide_eq_false z, if_neg z, cmp_lt (show (0 : Int) < FP.Core.signed false 1 by decide)]
        symm
        apply cmp_lt
        split <;> omega
    · exact absurd g1 hb
  · rcases fV_cases32 b with ⟨d, r, g1, g2, g3, g4⟩ | ⟨g1, g2⟩ | ⟨g1, -⟩
    · rw [h1, g1]
      show some (compare (FP.Core.signed _ 1) (0 : Int)) = _
      congr 1
      by_cases z : 2 ^ 31 ≤ a.toNat
      · rw [decide_eq_true z, if_pos z, cmp_lt (show FP.Core.signed true 1 < 0 by decide)]
        symm
        apply cmp_lt
        split <;> omega
      · rw [decide_eq_false z, if_neg z, cmp_gt (show (0 : Int) < FP.Core.signed false 1 by decide)]
        symm
        apply cmp_gt
        split <;> omega
    · rw [h1, g1]
      show some (compare (FP.Core.signed _ 1) (FP.Core.signed _ 1)) = _
      congr 1
      rw [h2, g2]
      by_cases z : 2 ^ 31 ≤ a.toNat <;> by_cases w : 2 ^ 31 ≤ b.toNat
      · rw [decide_eq_true z, decide_eq_true w, if_pos z, if_pos w]; decide
      · rw [decide_eq_true z, decide_eq_false w, if_pos z, if_neg w]; decide
      · rw [decide_eq_false z, decide_eq_true w, if_neg z, if_pos w]; decide
      · rw [decide_eq_false z, decide_eq_false w, if_neg z, if_neg w]; decide
    · exact absurd g1 hb
  · exact absurd h1 ha
theorem fcmp_nan32 {a b : UInt32} : FP.fcmp a b = none ↔ FV32 a = .nan ∨ FV32 b = .nan := by
  constructor
  · intro h
    by_cases ha : FV32 a = .nan
    · exact Or.inl ha
    · by_cases hb : FV32 b = .nan
      · exact Or.inr hb
      · rw [fcmp_key32 ha hb] at h; cases h
  · intro h
    show FP.Core.order (FV32 a) (FV32 b) = none
    rcases h with h | h
    · rw [h]; rfl
    · rw [h]; cases FV32 a <;> rfl
/-- a comparison, by the bits -/
theorem fc_lt32 {a b : UInt32} : FP.fcmp a b = some .lt ↔ FV32 a ≠ .nan ∧ FV32 b ≠ .nan ∧ key32 a < key32 b := by
  by_cases ha : FV32 a = .nan
  · rw [fcmp_nan32.mpr (Or.inl ha)]; exact ⟨fun h => (by cases h), fun h => absurd ha h.1⟩
  · by_cases hb : FV32 b = .nan
    · rw [fcmp_nan32.mpr (Or.inr hb)]; exact ⟨fun h => (by cases h), fun h => absurd hb h.2.1⟩
    · rw [fcmp_key32 ha hb]; exact ⟨fun h => ⟨ha, hb, cmp_lt_iff.mp (Option.some.inj h)⟩, fun h => congrArg some (cmp_lt h.2.2)⟩
theorem fc_gt32 {a b : UInt32} : FP.fcmp a b = some .gt ↔ FV32 a ≠ .nan ∧ FV32 b ≠ .nan ∧ key32 b < key32 a := by
  by_cases ha : FV32 a = .nan
  · rw [fcmp_nan32.mpr (Or.inl ha)]; exact ⟨fun h => (by cases h), fun h => absurd ha h.1⟩
  · by_cases hb : FV32 b = .nan
    · rw [fcmp_nan32.mpr (Or.inr hb)]; exact ⟨fun h => (by cases h), fun h => absurd hb h.2.1⟩
    · rw [fcmp_key32 ha hb]; exact ⟨fun h => ⟨ha, hb, cmp_gt_iff.mp (Option.some.inj h)⟩, fun h => congrArg some (cmp_gt h.2.2)⟩
theorem fc_eq32 {a b : UInt32} : FP.fcmp a b = some .eq ↔ FV32 a ≠ .nan ∧ FV32 b ≠ .nan ∧ key32 a = key32 b := by
  by_cases ha : FV32 a = .nan
  · rw [fcmp_nan32.mpr (Or.inl ha)]; exact ⟨fun h => (by cases h), fun h => absurd ha h.1⟩
  · by_cases hb : FV32 b = .nan
    · rw [fcmp_nan32.mpr (Or.inr hb)]; exact ⟨fun h => (by cases h), fun h => absurd hb h.2.1⟩
    · rw [fcmp_key32 ha hb]; exact ⟨fun h => ⟨ha, hb, cmp_eq_iff.mp (Option.some.inj h)⟩, fun h => congrArg some (cmp_eq h.2.2)⟩
theorem fc_self32 {a : UInt32} : FP.fcmp a a = some .eq ↔ FV32 a ≠ .nan := by
  rw [fc_eq32]
  exact ⟨fun h => h.1, fun h => ⟨h, h, rfl⟩⟩
theorem num32 {a : UInt32} : FV32 a ≠ .nan ↔ a.toNat % 2 ^ 31 ≤ 2139095040 := by
  rw [Ne, nan_iff32]; omega
/-- order by what two floats are -/
theorem fc_dy32 {a b : UInt32} {s t : Bool} {m n : Nat} {e f : Int} (ha : Dy32 a s m e) (hb : Dy32 b t n f) : FP.fcmp a b = some (compare (FP.Core.signed s (m * 2 ^ (e + 3000).toNat)) (FP.Core.signed t (n * 2 ^ (f + 3000).toNat))) := by
  obtain ⟨c, q, a1, a2, a3⟩ := dy_fit32 ha
  obtain ⟨d, r, b1, b2, b3⟩ := dy_fit32 hb
  show FP.Core.order (FV32 a) (FV32 b) = _
  rw [a1, b1, ord_val32 (by have := a2.2.1; omega) (by have := b2.2.1; omega), a3, b3]
theorem fneg_val32 (a : UInt32) : FV32 (FP.fneg a) = FP.Core.negate (FV32 a) := by
  have h := a.toNat_lt
  have e := fneg_toNat a
  have d : decide (2 ^ 31 ≤ (FP.fneg a).toNat) = !decide (2 ^ 31 ≤ a.toNat) := by
    by_cases z : 2 ^ 31 ≤ a.toNat
    · rw [if_pos z] at e
      rw [decide_eq_true z, e, decide_eq_false (by omega)]; rfl
    · rw [if_neg z] at e
      rw [decide_eq_false z, e, decide_eq_true (by omega)]; rfl
  have e1 : (FP.fneg a).toNat / 2 ^ 23 % 256 = a.toNat / 2 ^ 23 % 256 := by split at e <;> omega
  have e2 : (FP.fneg a).toNat % 2 ^ 23 = a.toNat % 2 ^ 23 := by split at e <;> omega
  by_cases h0 : a.toNat / 2 ^ 23 % 256 = 0
  · rw [fV_sub32 h0, fV_sub32 (by rw [e1]; exact h0), d, e2]; rfl
  · by_cases h1 : a.toNat / 2 ^ 23 % 256 = 255
    · by_cases h2 : a.toNat % 2 ^ 23 = 0
      · rw [fV_inf32 h1 h2, fV_inf32 (by rw [e1]; exact h1) (by rw [e2]; exact h2), d]; rfl
      · rw [fV_nan32 h1 h2, fV_nan32 (by rw [e1]; exact h1) (by rw [e2]; exact h2)]; rfl
    · rw [fV_norm32 h0 h1, fV_norm32 (by rw [e1]; exact h0) (by rw [e1]; exact h1), d, e1, e2]; rfl
theorem dy_neg32 {a : UInt32} {s : Bool} {m : Nat} {e : Int} (h : Dy32 a s m e) : Dy32 (FP.fneg a) (!s) m e := by
  obtain ⟨c, q, h1, h2⟩ := h
  exact ⟨c, q, by rw [fneg_val32, h1]; rfl, h2⟩

