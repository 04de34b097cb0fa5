/-! floating point: what the proofs need of rounding, coding and order -/
set_option maxRecDepth 100000

/-! ===== binary64 ===== -/
abbrev FV64 (a : UInt64) : FP.Core.Datum := FP.Core.decode FP.Core.b64 a.toNat
abbrev FO64 (d : FP.Core.Datum) : UInt64 := .ofNat (FP.Core.encode FP.Core.b64 d)
/-- a finite datum written as the format writes it -/
def Fit64 (c : Nat) (q : Int) : Prop := c < 2 ^ 53 ∧ -1074 ≤ q ∧ q ≤ 971 ∧ (q = -1074 ∨ 2 ^ 52 ≤ c)
theorem fE64 (n : Nat) : FP.Core.fieldE FP.Core.b64 n = n / 2 ^ 52 % 2048 := rfl
theorem fT64 (n : Nat) : FP.Core.fieldT FP.Core.b64 n = n % 2 ^ 52 := rfl
theorem fS64 (a : UInt64) : FP.Core.fieldS FP.Core.b64 a.toNat = decide (2 ^ 63 ≤ a.toNat) := by
  have h := a.toNat_lt
  show (a.toNat / 2 ^ 52 / 2048 % 2 == 1) = _
  by_cases h1 : 2 ^ 63 ≤ a.toNat
  · rw [decide_eq_true h1, show a.toNat / 2 ^ 52 / 2048 % 2 = 1 by omega]
    rfl
  · rw [decide_eq_false h1, show a.toNat / 2 ^ 52 / 2048 % 2 = 0 by omega]
    rfl
theorem fV_norm64 {a : UInt64} (h1 : a.toNat / 2 ^ 52 % 2048 ≠ 0) (h2 : a.toNat / 2 ^ 52 % 2048 ≠ 2047) : FV64 a = .fin (decide (2 ^ 63 ≤ a.toNat)) (2 ^ 52 + a.toNat % 2 ^ 52) (((a.toNat / 2 ^ 52 % 2048 : Nat) : Int) - 1075) := by
  show FP.Core.decode FP.Core.b64 a.toNat = _
  unfold FP.Core.decode
  rw [fE64, fT64, fS64, if_neg (by exact h2), if_neg h1]
  congr 1
  show (-1074 : Int) + (_ - 1) = _
  omega
theorem fV_sub64 {a : UInt64} (h1 : a.toNat / 2 ^ 52 % 2048 = 0) : FV64 a = .fin (decide (2 ^ 63 ≤ a.toNat)) (a.toNat % 2 ^ 52) (-1074) := by
  show FP.Core.decode FP.Core.b64 a.toNat = _
  unfold FP.Core.decode
  rw [fE64, fT64, fS64, if_neg (by rw [h1]; decide), if_pos h1]
  rfl
theorem fV_inf64 {a : UInt64} (h1 : a.toNat / 2 ^ 52 % 2048 = 2047) (h2 : a.toNat % 2 ^ 52 = 0) : FV64 a = .inf (decide (2 ^ 63 ≤ a.toNat)) := by
  show FP.Core.decode FP.Core.b64 a.toNat = _
  unfold FP.Core.decode
  rw [fE64, fT64, fS64, if_pos (by rw [h1]; rfl), if_pos h2]
theorem fV_nan64 {a : UInt64} (h1 : a.toNat / 2 ^ 52 % 2048 = 2047) (h2 : a.toNat % 2 ^ 52 ≠ 0) : FV64 a = .nan := by
  show FP.Core.decode FP.Core.b64 a.toNat = _
  unfold FP.Core.decode
  rw [fE64, fT64, fS64, if_pos (by rw [h1]; rfl), if_neg h2]
/-- what bits stand for, by their number -/
theorem fV_cases64 (a : UInt64) : (∃ c q, FV64 a = .fin (decide (2 ^ 63 ≤ a.toNat)) c q ∧ Fit64 c q ∧ a.toNat % 2 ^ 63 < 9218868437227405312 ∧ ((c < 2 ^ 52 ∧ q = -1074 ∧ a.toNat % 2 ^ 63 = c) ∨ (2 ^ 52 ≤ c ∧ ((a.toNat % 2 ^ 63 : Nat) : Int) = (q + 1075) * 2 ^ 52 + (c - 2 ^ 52)))) ∨ (FV64 a = .inf (decide (2 ^ 63 ≤ a.toNat)) ∧ a.toNat % 2 ^ 63 = 9218868437227405312) ∨ (FV64 a = .nan ∧ 9218868437227405312 < a.toNat % 2 ^ 63) := by
  have h := a.toNat_lt
  by_cases h0 : a.toNat / 2 ^ 52 % 2048 = 0
  · exact Or.inl ⟨_, _, fV_sub64 h0, ⟨by omega, by omega, by omega, Or.inl rfl⟩, by omega, Or.inl ⟨by omega, rfl, by omega⟩⟩
  · by_cases h1 : a.toNat / 2 ^ 52 % 2048 = 2047
    · by_cases h2 : a.toNat % 2 ^ 52 = 0
      · exact Or.inr (Or.inl ⟨fV_inf64 h1 h2, by omega⟩)
      · exact Or.inr (Or.inr ⟨fV_nan64 h1 h2, by omega⟩)
    · exact Or.inl ⟨_, _, fV_norm64 h0 h1, ⟨by omega, by omega, by omega, Or.inr (by omega)⟩, by omega, Or.inr ⟨by omega, by omega⟩⟩
theorem fO_toNat64 {s : Bool} {c : Nat} {q : Int} (h : Fit64 c q) : (FO64 (.fin s c q)).toNat = (if s then 2 ^ 63 else 0) + (if c < 2 ^ 52 then c else ((q + 1075) * 2 ^ 52 + (c - 2 ^ 52)).toNat) := by
  obtain ⟨h1, h2, h3, h4⟩ := h
  have e : FP.Core.encode FP.Core.b64 (.fin s c q) = (if c < 2 ^ 52 then (s.toNat * 2048 + 0) * 2 ^ 52 + c else (s.toNat * 2048 + ((q - (-1074)).toNat + 1)) * 2 ^ 52 + (c - 2 ^ 52)) := rfl
  show (UInt64.ofNat _).toNat = _
  rw [e, UInt64.toNat_ofNat']
  cases s
  · simp only [Bool.toNat_false, Bool.false_eq_true, if_false]
    split <;> omega
  · simp only [Bool.toNat_true, if_true]
    split <;> omega
theorem fV_fO64 {s : Bool} {c : Nat} {q : Int} (h : Fit64 c q) : FV64 (FO64 (.fin s c q)) = .fin s c q := by
  have e := fO_toNat64 (s := s) h
  obtain ⟨h1, h2, h3, h4⟩ := h
  have hs : ∀ x : Nat, x < 2 ^ 63 → decide (2 ^ 63 ≤ (if s then 2 ^ 63 else 0) + x) = s := by
    intro x hx
    cases s
    · exact decide_eq_false (by simp; omega)
    · exact decide_eq_true (by simp)
  have hm : ∀ x k : Nat, ((if s then 2 ^ 63 else 0) + x) / 2 ^ 52 % 2048 = x / 2 ^ 52 % 2048 := by
    intro x k
    cases s
    · simp
    · simp only [if_true]; omega
  have hm2 : ∀ x : Nat, ((if s then 2 ^ 63 else 0) + x) % 2 ^ 52 = x % 2 ^ 52 := by
    intro x
    cases s
    · simp
    · simp only [if_true]; omega
  by_cases hc : c < 2 ^ 52
  · rw [if_pos hc] at e
    rw [fV_sub64 (by rw [e, hm _ 0]; omega), e, hs _ (by omega), hm2, show c % 2 ^ 52 = c by omega, show q = -1074 by omega]
  · rw [if_neg hc] at e
    have hb : ((q + 1075) * 2 ^ 52 + (c - 2 ^ 52)).toNat = (q + 1075).toNat * 2 ^ 52 + (c - 2 ^ 52) := by omega
    rw [hb] at e
    have e1 : ((q + 1075).toNat * 2 ^ 52 + (c - 2 ^ 52)) / 2 ^ 52 % 2048 = (q + 1075).toNat := by omega
    rw [fV_norm64 (by rw [e, hm _ 0, e1]; omega) (by rw [e, hm _ 0, e1]; omega), e, hs _ (by omega), hm2, hm _ 0, e1, show 2 ^ 52 + ((q + 1075).toNat * 2 ^ 52 + (c - 2 ^ 52)) % 2 ^ 52 = c by omega, show (((q + 1075).toNat : Nat) : Int) - 1075 = q by omega]
theorem fV_fit64 {a : UInt64} {s : Bool} {c : Nat} {q : Int} (h : FV64 a = .fin s c q) : Fit64 c q := by
  rcases fV_cases64 a with ⟨c', q', h1, h2, -⟩ | ⟨h1, -⟩ | ⟨h1, -⟩
  · rw [h] at h1
    cases h1
    exact h2
  · rw [h] at h1; cases h1
  · rw [h] at h1; cases h1
/-- bits that are no NaN are told by their datum -/
theorem fV_inj64 {a b : UInt64} (h : FV64 a = FV64 b) (hn : FV64 a ≠ .nan) : a = b := by
  have ha := a.toNat_lt
  have hb := b.toNat_lt
  apply UInt64.toNat_inj.mp
  rcases fV_cases64 a with ⟨c, q, h1, -, -, h2⟩ | ⟨h1, h2⟩ | ⟨h1, -⟩
  · rcases fV_cases64 b with ⟨d, r, g1, -, -, g2⟩ | ⟨g1, g2⟩ | ⟨g1, -⟩
    · rw [h1, g1] at h
      injection h with e1 e2 e3
      subst e2; subst e3
      have e1 := decide_eq_decide.mp e1
      omega
    · rw [h1, g1] at h; cases h
    · rw [h1, g1] at h; cases h
  · rcases fV_cases64 b with ⟨d, r, g1, -, -, g2⟩ | ⟨g1, g2⟩ | ⟨g1, -⟩
    · rw [h1, g1] at h; cases h
    · rw [h1, g1] at h
      injection h with e1
      have e1 := decide_eq_decide.mp e1
      omega
    · rw [h1, g1] at h; cases h
  · exact absurd h1 hn
theorem fO_fV64 {a : UInt64} {s : Bool} {c : Nat} {q : Int} (h : FV64 a = .fin s c q) : FO64 (.fin s c q) = a :=
  fV_inj64 (by rw [fV_fO64 (fV_fit64 h), h]) (by rw [fV_fO64 (fV_fit64 h)]; exact fun h => by cases h)
theorem nan_iff64 (a : UInt64) : FV64 a = .nan ↔ 9218868437227405312 < a.toNat % 2 ^ 63 := by
  rcases fV_cases64 a with ⟨c, q, h1, -, h2, -⟩ | ⟨h1, h2⟩ | ⟨h1, h2⟩
  · rw [h1]; exact ⟨fun h => (by cases h), fun h => (by omega)⟩
  · rw [h1]; exact ⟨fun h => (by cases h), fun h => (by omega)⟩
  · exact ⟨fun _ => h2, fun _ => h1⟩
theorem vf_of64 {r : UInt64} (h : FV64 r ≠ .nan) : vf_n64 r := by
  have h1 : ¬ 9218868437227405312 < r.toNat % 2 ^ 63 := fun q => h ((nan_iff64 r).mpr q)
  unfold vf_n64
  rw [UInt64.le_iff_toNat_le, UInt64.toNat_and]
  show r.toNat &&& (2 ^ 63 - 1) ≤ 9218868437227405312
  rw [Nat.and_two_pow_sub_one_eq_mod]
  omega
/-- rounding where the last digit's exponent is known -/
theorem rnd_at64 {s : Bool} {m : Nat} {e q : Int} (hm : m ≠ 0) (hq : FP.Core.quantum FP.Core.b64 m 1 e = q) : FP.Core.round FP.Core.b64 (.fin s m e) = FP.Core.settle FP.Core.b64 s (FP.Core.nearest (m * 2 ^ (e - q).toNat) (1 * 2 ^ (q - e).toNat)) q := by
  show FP.Core.roundRatio _ _ _ _ _ = _
  unfold FP.Core.roundRatio
  rw [if_neg hm, hq]
  rfl
theorem lead1 (m : Nat) (hm : m ≠ 0) : FP.Core.leading m 1 = m.log2 := by
  unfold FP.Core.leading
  have h1 : (1 : Nat).log2 = 0 := rfl
  have h2 := Nat.log2_self_le hm
  rw [h1]
  show (if 1 * 2 ^ ((m.log2 : Int) - (0 : Nat)).toNat ≤ m * 2 ^ (-((m.log2 : Int) - (0 : Nat))).toNat then _ else _) = _
  rw [show ((m.log2 : Int) - ((0 : Nat) : Int)).toNat = m.log2 by omega, show (-((m.log2 : Int) - ((0 : Nat) : Int))).toNat = 0 by omega, Nat.one_mul, Nat.pow_zero, Nat.mul_one, if_pos h2]
  omega
theorem quant64 {m : Nat} {e : Int} (hm : m ≠ 0) : FP.Core.quantum FP.Core.b64 m 1 e = max (-1074) ((m.log2 : Int) + e - 52) := by
  unfold FP.Core.quantum
  rw [lead1 m hm]
  rfl
theorem log2_pow (m a : Nat) (hm : m ≠ 0) : (m * 2 ^ a).log2 = m.log2 + a := by
  rw [Nat.log2_eq_iff (Nat.mul_ne_zero hm (Nat.ne_of_gt (Nat.two_pow_pos a)))]
  have h1 := Nat.log2_self_le hm
  have h2 := Nat.lt_log2_self (n := m)
  constructor
  · rw [Nat.pow_add]; exact Nat.mul_le_mul_right _ h1
  · rw [show m.log2 + a + 1 = (m.log2 + 1) + a by omega, Nat.pow_add]; exact Nat.mul_lt_mul_of_pos_right h2 (Nat.two_pow_pos a)
/-- a number of the format is rounded to itself -/
theorem rnd_exact64 {s : Bool} {m c : Nat} {e q : Int} (hf : Fit64 c q) (h : m * 2 ^ (e - q).toNat = c * 2 ^ (q - e).toNat) : FP.Core.round FP.Core.b64 (.fin s m e) = .fin s c q := by
  obtain ⟨h1, h2, h3, h4⟩ := hf
  have p1 := Nat.two_pow_pos (e - q).toNat
  have p2 := Nat.two_pow_pos (q - e).toNat
  by_cases hm : m = 0
  · subst hm
    have hc : c = 0 := by
      rw [Nat.zero_mul] at h
      rcases Nat.mul_eq_zero.mp h.symm with h | h
      · exact h
      · omega
    subst hc
    have hq : q = -1074 := by rcases h4 with h | h; exact h; exact absurd h (by decide)
    subst hq
    rfl
  · have hc : c ≠ 0 := by
      rintro rfl
      rw [Nat.zero_mul] at h
      rcases Nat.mul_eq_zero.mp h with h | h
      · exact hm h
      · omega
    have hl := congrArg Nat.log2 h
    rw [log2_pow _ _ hm, log2_pow _ _ hc] at hl
    have hq : FP.Core.quantum FP.Core.b64 m 1 e = q := by
      rw [quant64 hm]
      have l1 : c.log2 < 53 := (Nat.log2_lt hc).mpr h1
      rcases h4 with h4 | h4
      · omega
      · have l2 : 52 ≤ c.log2 := (Nat.le_log2 hc).mpr h4
        omega
    rw [rnd_at64 hm hq, h, Nat.one_mul]
    have hn : FP.Core.nearest (c * 2 ^ (q - e).toNat) (2 ^ (q - e).toNat) = c := by
      unfold FP.Core.nearest
      rw [Nat.mul_mod_left, Nat.mul_div_cancel _ p2, if_pos (by omega)]
    rw [hn]
    unfold FP.Core.settle FP.Core.bound
    rw [if_pos (show c < 2 ^ FP.Core.b64.p from h1), if_pos (show q ≤ FP.Core.b64.qmax from h3)]


/-! ===== binary32 ===== -/
abbrev FV32 (a : UInt32) : FP.Core.Datum := FP.Core.decode FP.Core.b32 a.toNat
abbrev FO32 (d : FP.Core.Datum) : UInt32 := .ofNat (FP.Core.encode FP.Core.b32 d)
/-- a finite datum written as the format writes it -/
def Fit32 (c : Nat) (q : Int) : Prop := c < 2 ^ 24 ∧ -149 ≤ q ∧ q ≤ 104 ∧ (q = -149 ∨ 2 ^ 23 ≤ c)
theorem fE32 (n : Nat) : FP.Core.fieldE FP.Core.b32 n = n / 2 ^ 23 % 256 := rfl
theorem fT32 (n : Nat) : FP.Core.fieldT FP.Core.b32 n = n % 2 ^ 23 := rfl
theorem fS32 (a : UInt32) : FP.Core.fieldS FP.Core.b32 a.toNat = decide (2 ^ 31 ≤ a.toNat) := by
  have h := a.toNat_lt
  show (a.toNat / 2 ^ 23 / 256 % 2 == 1) = _
  by_cases h1 : 2 ^ 31 ≤ a.toNat
  · rw [decide_eq_true h1, show a.toNat / 2 ^ 23 / 256 % 2 = 1 by omega]
    rfl
  · rw [decide_eq_false h1, show a.toNat / 2 ^ 23 / 256 % 2 = 0 by omega]
    rfl
theorem fV_norm32 {a : UInt32} (h1 : a.toNat / 2 ^ 23 % 256 ≠ 0) (h2 : a.toNat / 2 ^ 23 % 256 ≠ 255) : FV32 a = .fin (decide (2 ^ 31 ≤ a.toNat)) (2 ^ 23 + a.toNat % 2 ^ 23) (((a.toNat / 2 ^ 23 % 256 : Nat) : Int) - 150) := by
  show FP.Core.decode FP.Core.b32 a.toNat = _
  unfold FP.Core.decode
  rw [fE32, fT32, fS32, if_neg (by exact h2), if_neg h1]
  congr 1
  show (-149 : Int) + (_ - 1) = _
  omega
theorem fV_sub32 {a : UInt32} (h1 : a.toNat / 2 ^ 23 % 256 = 0) : FV32 a = .fin (decide (2 ^ 31 ≤ a.toNat)) (a.toNat % 2 ^ 23) (-149) := by
  show FP.Core.decode FP.Core.b32 a.toNat = _
  unfold FP.Core.decode
  rw [fE32, fT32, fS32, if_neg (by rw [h1]; decide), if_pos h1]
  rfl
theorem fV_inf32 {a : UInt32} (h1 : a.toNat / 2 ^ 23 % 256 = 255) (h2 : a.toNat % 2 ^ 23 = 0) : FV32 a = .inf (decide (2 ^ 31 ≤ a.toNat)) := by
  show FP.Core.decode FP.Core.b32 a.toNat = _
  unfold FP.Core.decode
  rw [fE32, fT32, fS32, if_pos (by rw [h1]; rfl), if_pos h2]
theorem fV_nan32 {a : UInt32} (h1 : a.toNat / 2 ^ 23 % 256 = 255) (h2 : a.toNat % 2 ^ 23 ≠ 0) : FV32 a = .nan := by
  show FP.Core.decode FP.Core.b32 a.toNat = _
  unfold FP.Core.decode
  rw [fE32, fT32, fS32, if_pos (by rw [h1]; rfl), if_neg h2]
/-- what bits stand for, by their number -/
theorem fV_cases32 (a : UInt32) : (∃ c q, FV32 a = .fin (decide (2 ^ 31 ≤ a.toNat)) c q ∧ Fit32 c q ∧ a.toNat % 2 ^ 31 < 2139095040 ∧ ((c < 2 ^ 23 ∧ q = -149 ∧ a.toNat % 2 ^ 31 = c) ∨ (2 ^ 23 ≤ c ∧ ((a.toNat % 2 ^ 31 : Nat) : Int) = (q + 150) * 2 ^ 23 + (c - 2 ^ 23)))) ∨ (FV32 a = .inf (decide (2 ^ 31 ≤ a.toNat)) ∧ a.toNat % 2 ^ 31 = 2139095040) ∨ (FV32 a = .nan ∧ 2139095040 < a.toNat % 2 ^ 31) := by
  have h := a.toNat_lt
  by_cases h0 : a.toNat / 2 ^ 23 % 256 = 0
  · exact Or.inl ⟨_, _, fV_sub32 h0, ⟨by omega, by omega, by omega, Or.inl rfl⟩, by omega, Or.inl ⟨by omega, rfl, by omega⟩⟩
  · by_cases h1 : a.toNat / 2 ^ 23 % 256 = 255
    · by_cases h2 : a.toNat % 2 ^ 23 = 0
      · exact Or.inr (Or.inl ⟨fV_inf32 h1 h2, by omega⟩)
      · exact Or.inr (Or.inr ⟨fV_nan32 h1 h2, by omega⟩)
    · exact Or.inl ⟨_, _, fV_norm32 h0 h1, ⟨by omega, by omega, by omega, Or.inr (by omega)⟩, by omega, Or.inr ⟨by omega, by omega⟩⟩
theorem fO_toNat32 {s : Bool} {c : Nat} {q : Int} (h : Fit32 c q) : (FO32 (.fin s c q)).toNat = (if s then 2 ^ 31 else 0) + (if c < 2 ^ 23 then c else ((q + 150) * 2 ^ 23 + (c - 2 ^ 23)).toNat) := by
  obtain ⟨h1, h2, h3, h4⟩ := h
  have e : FP.Core.encode FP.Core.b32 (.fin s c q) = (if c < 2 ^ 23 then (s.toNat * 256 + 0) * 2 ^ 23 + c else (s.toNat * 256 + ((q - (-149)).toNat + 1)) * 2 ^ 23 + (c - 2 ^ 23)) := rfl
  show (UInt32.ofNat _).toNat = _
  rw [e, UInt32.toNat_ofNat']
  cases s
  · simp only [Bool.toNat_false, Bool.false_eq_true, if_false]
    split <;> omega
  · simp only [Bool.toNat_true, if_true]
    split <;> omega
theorem fV_fO32 {s : Bool} {c : Nat} {q : Int} (h : Fit32 c q) : FV32 (FO32 (.fin s c q)) = .fin s c q := by
  have e := fO_toNat32 (s := s) h
  obtain ⟨h1, h2, h3, h4⟩ := h
  have hs : ∀ x : Nat, x < 2 ^ 31 → decide (2 ^ 31 ≤ (if s then 2 ^ 31 else 0) + x) = s := by
    intro x hx
    cases s
    · exact decide_eq_false (by simp; omega)
    · exact decide_eq_true (by simp)
  have hm : ∀ x k : Nat, ((if s then 2 ^ 31 else 0) + x) / 2 ^ 23 % 256 = x / 2 ^ 23 % 256 := by
    intro x k
    cases s
    · simp
    · simp only [if_true]; omega
  have hm2 : ∀ x : Nat, ((if s then 2 ^ 31 else 0) + x) % 2 ^ 23 = x % 2 ^ 23 := by
    intro x
    cases s
    · simp
    · simp only [if_true]; omega
  by_cases hc : c < 2 ^ 23
  · rw [if_pos hc] at e
    rw [fV_sub32 (by rw [e, hm _ 0]; omega), e, hs _ (by omega), hm2, show c % 2 ^ 23 = c by omega, show q = -149 by omega]
  · rw [if_neg hc] at e
    have hb : ((q + 150) * 2 ^ 23 + (c - 2 ^ 23)).toNat = (q + 150).toNat * 2 ^ 23 + (c - 2 ^ 23) := by omega
    rw [hb] at e
    have e1 : ((q + 150).toNat * 2 ^ 23 + (c - 2 ^ 23)) / 2 ^ 23 % 256 = (q + 150).toNat := by omega
    rw [fV_norm32 (by rw [e, hm _ 0, e1]; omega) (by rw [e, hm _ 0, e1]; omega), e, hs _ (by omega), hm2, hm _ 0, e1, show 2 ^ 23 + ((q + 150).toNat * 2 ^ 23 + (c - 2 ^ 23)) % 2 ^ 23 = c by omega, show (((q + 150).toNat : Nat) : Int) - 150 = q by omega]
theorem fV_fit32 {a : UInt32} {s : Bool} {c : Nat} {q : Int} (h : FV32 a = .fin s c q) : Fit32 c q := by
  rcases fV_cases32 a with ⟨c', q', h1, h2, -⟩ | ⟨h1, -⟩ | ⟨h1, -⟩
  · rw [h] at h1
    cases h1
    exact h2
  · rw [h] at h1; cases h1
  · rw [h] at h1; cases h1
/-- bits that are no NaN are told by their datum -/
theorem fV_inj32 {a b : UInt32} (h : FV32 a = FV32 b) (hn : FV32 a ≠ .nan) : a = b := by
  have ha := a.toNat_lt
  have hb := b.toNat_lt
  apply UInt32.toNat_inj.mp
  rcases fV_cases32 a with ⟨c, q, h1, -, -, h2⟩ | ⟨h1, h2⟩ | ⟨h1, -⟩
  · rcases fV_cases32 b with ⟨d, r, g1, -, -, g2⟩ | ⟨g1, g2⟩ | ⟨g1, -⟩
    · rw [h1, g1] at h
      injection h with e1 e2 e3
      subst e2; subst e3
      have e1 := decide_eq_decide.mp e1
      omega
    · rw [h1, g1] at h; cases h
    · rw [h1, g1] at h; cases h
  · rcases fV_cases32 b with ⟨d, r, g1, -, -, g2⟩ | ⟨g1, g2⟩ | ⟨g1, -⟩
    · rw [h1, g1] at h; cases h
    · rw [h1, g1] at h
      injection h with e1
      have e1 := decide_eq_decide.mp e1
      omega
    · rw [h1, g1] at h; cases h
  · exact absurd h1 hn
theorem fO_fV32 {a : UInt32} {s : Bool} {c : Nat} {q : Int} (h : FV32 a = .fin s c q) : FO32 (.fin s c q) = a :=
  fV_inj32 (by rw [fV_fO32 (fV_fit32 h), h]) (by rw [fV_fO32 (fV_fit32 h)]; exact fun h => by cases h)
theorem nan_iff32 (a : UInt32) : FV32 a = .nan ↔ 2139095040 < a.toNat % 2 ^ 31 := by
  rcases fV_cases32 a with ⟨c, q, h1, -, h2, -⟩ | ⟨h1, h2⟩ | ⟨h1, h2⟩
  · rw [h1]; exact ⟨fun h => (by cases h), fun h => (by omega)⟩
  · rw [h1]; exact ⟨fun h => (by cases h), fun h => (by omega)⟩
  · exact ⟨fun _ => h2, fun _ => h1⟩
theorem vf_of32 {r : UInt32} (h : FV32 r ≠ .nan) : vf_n32 r := by
  have h1 : ¬ 2139095040 < r.toNat % 2 ^ 31 := fun q => h ((nan_iff32 r).mpr q)
  unfold vf_n32
  rw [UInt32.le_iff_toNat_le, UInt32.toNat_and]
  show r.toNat &&& (2 ^ 31 - 1) ≤ 2139095040
  rw [Nat.and_two_pow_sub_one_eq_mod]
  omega
/-- rounding where the last digit's exponent is known -/
theorem rnd_at32 {s : Bool} {m : Nat} {e q : Int} (hm : m ≠ 0) (hq : FP.Core.quantum FP.Core.b32 m 1 e = q) : FP.Core.round FP.Core.b32 (.fin s m e) = FP.Core.settle FP.Core.b32 s (FP.Core.nearest (m * 2 ^ (e - q).toNat) (1 * 2 ^ (q - e).toNat)) q := by
  show FP.Core.roundRatio _ _ _ _ _ = _
  unfold FP.Core.roundRatio
  rw [if_neg hm, hq]
  rfl
theorem quant32 {m : Nat} {e : Int} (hm : m ≠ 0) : FP.Core.quantum FP.Core.b32 m 1 e = max (-149) ((m.log2 : Int) + e - 23) := by
  unfold FP.Core.quantum
  rw [lead1 m hm]
  rfl
/-- a number of the format is rounded to itself -/
theorem rnd_exact32 {s : Bool} {m c : Nat} {e q : Int} (hf : Fit32 c q) (h : m * 2 ^ (e - q).toNat = c * 2 ^ (q - e).toNat) : FP.Core.round FP.Core.b32 (.fin s m e) = .fin s c q := by
  obtain ⟨h1, h2, h3, h4⟩ := hf
  have p1 := Nat.two_pow_pos (e - q).toNat
  have p2 := Nat.two_pow_pos (q - e).toNat
  by_cases hm : m = 0
  · subst hm
    have hc : c = 0 := by
      rw [Nat.zero_mul] at h
      rcases Nat.mul_eq_zero.mp h.symm with h | h
      · exact h
      · omega
    subst hc
    have hq : q = -149 := by rcases h4 with h | h; exact h; exact absurd h (by decide)
    subst hq
    rfl
  · have hc : c ≠ 0 := by
      rintro rfl
      rw [Nat.zero_mul] at h
      rcases Nat.mul_eq_zero.mp h with h | h
      · exact hm h
      · omega
    have hl := congrArg Nat.log2 h
    rw [log2_pow _ _ hm, log2_pow _ _ hc] at hl
    have hq : FP.Core.quantum FP.Core.b32 m 1 e = q := by
      rw [quant32 hm]
      have l1 : c.log2 < 24 := (Nat.log2_lt hc).mpr h1
      rcases h4 with h4 | h4
      · omega
      · have l2 : 23 ≤ c.log2 := (Nat.le_log2 hc).mpr h4
        omega
    rw [rnd_at32 hm hq, h, Nat.one_mul]
    have hn : FP.Core.nearest (c * 2 ^ (q - e).toNat) (2 ^ (q - e).toNat) = c := by
      unfold FP.Core.nearest
      rw [Nat.mul_mod_left, Nat.mul_div_cancel _ p2, if_pos (by omega)]
    rw [hn]
    unfold FP.Core.settle FP.Core.bound
    rw [if_pos (show c < 2 ^ FP.Core.b32.p from h1), if_pos (show q ≤ FP.Core.b32.qmax from h3)]

