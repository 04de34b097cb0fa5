/-! numbers that results are -/
set_option maxRecDepth 100000

/-! ===== results that are numbers, binary64 ===== -/
theorem nn_fin64 {s : Bool} {c : Nat} {q : Int} (hc : c < 2 ^ 53) (hq : q ≤ 971) : FV64 (FO64 (.fin s c q)) ≠ .nan := by
  rw [num64]
  have e : FP.Core.encode FP.Core.b64 (.fin s c q) = (if c < 2 ^ 52 then (s.toNat * 2048 + 0) * 2 ^ 52 + c else (s.toNat * 2048 + ((q - (-1074)).toNat + 1)) * 2 ^ 52 + (c - 2 ^ 52)) := rfl
  show (UInt64.ofNat _).toNat % _ ≤ _
  rw [e, UInt64.toNat_ofNat']
  cases s
  · simp only [Bool.toNat_false]
    split <;> omega
  · simp only [Bool.toNat_true]
    split <;> omega
theorem nn_inf64 (s : Bool) : FV64 (FO64 (.inf s)) ≠ .nan := by
  rw [num64]
  cases s <;> decide +kernel
theorem nn_rr64 (s : Bool) (A B : Nat) (e : Int) : FV64 (FO64 (FP.Core.roundRatio FP.Core.b64 s A B e)) ≠ .nan := by
  unfold FP.Core.roundRatio
  split
  · exact nn_fin64 (by decide) (by decide)
  · unfold FP.Core.roundAt FP.Core.settle FP.Core.bound
    split
    · rename_i hc
      split
      · rename_i hq
        exact nn_fin64 hc hq
      · exact nn_inf64 _
    · split
      · rename_i hq
        exact nn_fin64 (by decide) hq
      · exact nn_inf64 _
theorem nn_round64 {d : FP.Core.Datum} (h : d ≠ .nan) : FV64 (FO64 (FP.Core.round FP.Core.b64 d)) ≠ .nan := by
  cases d with
  | nan => exact absurd rfl h
  | inf s => exact nn_inf64 s
  | fin s c q => exact nn_rr64 s c 1 q
theorem inf_of64 {a : UInt64} {s : Bool} (h : FV64 a = .inf s) : a.toNat % 2 ^ 63 = 9218868437227405312 := by
  rcases fV_cases64 a with ⟨c, q, h1, -⟩ | ⟨h1, h2⟩ | ⟨h1, -⟩
  · rw [h] at h1; cases h1
  · exact h2
  · rw [h] at h1; cases h1
theorem inf_iff64 (a : UInt64) : a.toNat % 2 ^ 63 = 9218868437227405312 ↔ ∃ s, FV64 a = .inf s := by
  constructor
  · intro h
    rcases fV_cases64 a with ⟨c, q, h1, -, h2, -⟩ | ⟨h1, h2⟩ | ⟨h1, h2⟩
    · omega
    · exact ⟨_, h1⟩
    · omega
  · rintro ⟨s, h⟩; exact inf_of64 h
theorem zero_iff64 {a : UInt64} : (∃ s q, FV64 a = .fin s 0 q) ↔ a.toNat % 2 ^ 63 = 0 := by
  constructor
  · rintro ⟨s, q, h⟩
    rcases fV_cases64 a with ⟨c, r, h1, h2, h3, h4⟩ | ⟨h1, h2⟩ | ⟨h1, h2⟩
    · rw [h] at h1; injection h1 with e1 e2 e3; subst e2; omega
    · rw [h] at h1; cases h1
    · rw [h] at h1; cases h1
  · intro h
    rcases fV_cases64 a with ⟨c, r, h1, h2, h3, h4⟩ | ⟨h1, h2⟩ | ⟨h1, h2⟩
    · obtain ⟨f1, f2, f3, f4⟩ := h2
      have : c = 0 := by omega
      subst this
      exact ⟨_, _, h1⟩
    · omega
    · omega
/-- a sum is a number, but for infinities of two signs -/
theorem nn_add64 {a b : UInt64} (ha : FV64 a ≠ .nan) (hb : FV64 b ≠ .nan) (h : ¬ (a.toNat % 2 ^ 63 = 9218868437227405312 ∧ b.toNat % 2 ^ 63 = 9218868437227405312 ∧ a ≠ b)) : FV64 (FP.dadd a b) ≠ .nan := by
  show FV64 (FO64 (FP.Core.round FP.Core.b64 (FP.Core.exactSum (FV64 a) (FV64 b)))) ≠ _
  apply nn_round64
  cases ea : FV64 a with
  | nan => exact absurd ea ha
  | inf s =>
    cases eb : FV64 b with
    | nan => exact absurd eb hb
    | inf t =>
      show (if s = t then FP.Core.Datum.inf s else .nan) ≠ _
      split
      · exact fun h => by cases h
      · rename_i g
        refine absurd ⟨inf_of64 ea, inf_of64 eb, fun q => ?_⟩ h
        subst q
        rw [ea] at eb
        injection eb with e
        exact g e
    | fin t d r => exact fun h => by cases h
  | fin s c q =>
    cases eb : FV64 b with
    | nan => exact absurd eb hb
    | inf t => exact fun h => by cases h
    | fin t d r => exact fun h => by cases h
theorem nn_sub64 {a b : UInt64} (ha : FV64 a ≠ .nan) (hb : FV64 b ≠ .nan) (h : ¬ (a.toNat % 2 ^ 63 = 9218868437227405312 ∧ a = b)) : FV64 (FP.dsub a b) ≠ .nan := by
  show FV64 (FO64 (FP.Core.round FP.Core.b64 (FP.Core.exactSum (FV64 a) (FP.Core.negate (FV64 b))))) ≠ _
  apply nn_round64
  cases ea : FV64 a with
  | nan => exact absurd ea ha
  | inf s =>
    cases eb : FV64 b with
    | nan => exact absurd eb hb
    | inf t =>
      show (if s = !t then FP.Core.Datum.inf s else .nan) ≠ _
      split
      · exact fun h => by cases h
      · rename_i g
        refine absurd ⟨inf_of64 ea, fV_inj64 ?_ ha⟩ h
        rw [ea, eb]
        cases s <;> cases t <;> simp_all
    | fin t d r => exact fun h => by cases h
  | fin s c q =>
    cases eb : FV64 b with
    | nan => exact absurd eb hb
    | inf t => exact fun h => by cases h
    | fin t d r => exact fun h => by cases h
theorem nn_mul64 {a b : UInt64} (ha : FV64 a ≠ .nan) (hb : FV64 b ≠ .nan) (h : ¬ (a.toNat % 2 ^ 63 = 9218868437227405312 ∧ b.toNat % 2 ^ 63 = 0)) (h' : ¬ (a.toNat % 2 ^ 63 = 0 ∧ b.toNat % 2 ^ 63 = 9218868437227405312)) : FV64 (FP.dmul a b) ≠ .nan := by
  show FV64 (FO64 (FP.Core.round FP.Core.b64 (FP.Core.exactProduct (FV64 a) (FV64 b)))) ≠ _
  apply nn_round64
  cases ea : FV64 a with
  | nan => exact absurd ea ha
  | inf s =>
    cases eb : FV64 b with
    | nan => exact absurd eb hb
    | inf t => exact fun h => by cases h
    | fin t d r =>
      show (if d = 0 then FP.Core.Datum.nan else .inf (s != t)) ≠ _
      split
      · rename_i g
        subst g
        exact absurd ⟨inf_of64 ea, zero_iff64.mp ⟨_, _, eb⟩⟩ h
      · exact fun h => by cases h
  | fin s c q =>
    cases eb : FV64 b with
    | nan => exact absurd eb hb
    | inf t =>
      show (if c = 0 then FP.Core.Datum.nan else .inf (s != t)) ≠ _
      split
      · rename_i g
        subst g
        exact absurd ⟨zero_iff64.mp ⟨_, _, ea⟩, inf_of64 eb⟩ h'
      · exact fun h => by cases h
    | fin t d r => exact fun h => by cases h
theorem nn_div64 {a b : UInt64} (ha : FV64 a ≠ .nan) (hb : FV64 b ≠ .nan) (h : ¬ (a.toNat % 2 ^ 63 = 9218868437227405312 ∧ b.toNat % 2 ^ 63 = 9218868437227405312)) (h' : ¬ (a.toNat % 2 ^ 63 = 0 ∧ b.toNat % 2 ^ 63 = 0)) : FV64 (FP.ddiv a b) ≠ .nan := by
  show FV64 (FO64 (FP.Core.quotient FP.Core.b64 (FV64 a) (FV64 b))) ≠ _
  cases ea : FV64 a with
  | nan => exact absurd ea ha
  | inf s =>
    cases eb : FV64 b with
    | nan => exact absurd eb hb
    | inf t => exact absurd ⟨inf_of64 ea, inf_of64 eb⟩ h
    | fin t d r => exact nn_inf64 _
  | fin s c q =>
    cases eb : FV64 b with
    | nan => exact absurd eb hb
    | inf t => exact nn_fin64 (by decide) (by decide)
    | fin t d r =>
      show FV64 (FO64 (if d = 0 then (if c = 0 then FP.Core.Datum.nan else .inf (s != t)) else FP.Core.roundRatio FP.Core.b64 (s != t) c d (q - r))) ≠ _
      split
      · split
        · rename_i g1 g2
          subst g1; subst g2
          exact absurd ⟨zero_iff64.mp ⟨_, _, ea⟩, zero_iff64.mp ⟨_, _, eb⟩⟩ h'
        · exact nn_inf64 _
      · exact nn_rr64 _ _ _ _
theorem nn_rem64 {a b : UInt64} (ha : FV64 a ≠ .nan) (hb : FV64 b ≠ .nan) (h : ¬ a.toNat % 2 ^ 63 = 9218868437227405312) (h' : ¬ b.toNat % 2 ^ 63 = 0) : FV64 (FP.drem a b) ≠ .nan := by
  show FV64 (FO64 (FP.Core.round FP.Core.b64 (FP.Core.exactRemainder (FV64 a) (FV64 b)))) ≠ _
  apply nn_round64
  cases ea : FV64 a with
  | nan => exact absurd ea ha
  | inf s => exact absurd (inf_of64 ea) h
  | fin s c q =>
    cases eb : FV64 b with
    | nan => exact absurd eb hb
    | inf t => exact fun h => by cases h
    | fin t d r =>
      show (if d = 0 then FP.Core.Datum.nan else _) ≠ _
      split
      · rename_i g
        subst g
        exact absurd (zero_iff64.mp ⟨_, _, eb⟩) h'
      · exact fun h => by cases h
theorem nn_neg64 {a : UInt64} (ha : FV64 a ≠ .nan) : FV64 (FP.dneg a) ≠ .nan := by
  rw [fneg_val64]
  cases ea : FV64 a with
  | nan => exact absurd ea ha
  | inf s => exact fun h => by cases h
  | fin s c q => exact fun h => by cases h


/-! ===== results that are numbers, binary32 ===== -/
theorem nn_fin32 {s : Bool} {c : Nat} {q : Int} (hc : c < 2 ^ 24) (hq : q ≤ 104) : FV32 (FO32 (.fin s c q)) ≠ .nan := by
  rw [num32]
  have e : FP.Core.encode FP.Core.b32 (.fin s c q) = (if c < 2 ^ 23 then (s.toNat * 256 + 0) * 2 ^ 23 + c else (s.toNat * 256 + ((q - (-149)).toNat + 1)) * 2 ^ 23 + (c - 2 ^ 23)) := rfl
  show (UInt32.ofNat _).toNat % _ ≤ _
  rw [e, UInt32.toNat_ofNat']
  cases s
  · simp only [Bool.toNat_false]
    split <;> omega
  · simp only [Bool.toNat_true]
    split <;> omega
theorem nn_inf32 (s : Bool) : FV32 (FO32 (.inf s)) ≠ .nan := by
  rw [num32]
  cases s <;> decide +kernel
theorem nn_rr32 (s : Bool) (A B : Nat) (e : Int) : FV32 (FO32 (FP.Core.roundRatio FP.Core.b32 s A B e)) ≠ .nan := by
  unfold FP.Core.roundRatio
  split
  · exact nn_fin32 (by decide) (by decide)
  · unfold FP.Core.roundAt FP.Core.settle FP.Core.bound
    split
    · rename_i hc
      split
      · rename_i hq
        exact nn_fin32 hc hq
      · exact nn_inf32 _
    · split
      · rename_i hq
        exact nn_fin32 (by decide) hq
      · exact nn_inf32 _
theorem nn_round32 {d : FP.Core.Datum} (h : d ≠ .nan) : FV32 (FO32 (FP.Core.round FP.Core.b32 d)) ≠ .nan := by
  cases d with
  | nan => exact absurd rfl h
  | inf s => exact nn_inf32 s
  | fin s c q => exact nn_rr32 s c 1 q
theorem inf_of32 {a : UInt32} {s : Bool} (h : FV32 a = .inf s) : a.toNat % 2 ^ 31 = 2139095040 := by
  rcases fV_cases32 a with ⟨c, q, h1, -⟩ | ⟨h1, h2⟩ | ⟨h1, -⟩
  · rw [h] at h1; cases h1
  · exact h2
  · rw [h] at h1; cases h1
theorem inf_iff32 (a : UInt32) : a.toNat % 2 ^ 31 = 2139095040 ↔ ∃ s, FV32 a = .inf s := by
  constructor
  · intro h
    rcases fV_cases32 a with ⟨c, q, h1, -, h2, -⟩ | ⟨h1, h2⟩ | ⟨h1, h2⟩
    · omega
    · exact ⟨_, h1⟩
    · omega
  · rintro ⟨s, h⟩; exact inf_of32 h
theorem zero_iff32 {a : UInt32} : (∃ s q, FV32 a = .fin s 0 q) ↔ a.toNat % 2 ^ 31 = 0 := by
  constructor
  · rintro ⟨s, q, h⟩
    rcases fV_cases32 a with ⟨c, r, h1, h2, h3, h4⟩ | ⟨h1, h2⟩ | ⟨h1, h2⟩
    · rw [h] at h1; injection h1 with e1 e2 e3; subst e2; omega
    · rw [h] at h1; cases h1
    · rw [h] at h1; cases h1
  · intro h
    rcases fV_cases32 a with ⟨c, r, h1, h2, h3, h4⟩ | ⟨h1, h2⟩ | ⟨h1, h2⟩
    · obtain ⟨f1, f2, f3, f4⟩ := h2
      have : c = 0 := by omega
      subst this
      exact ⟨_, _, h1⟩
    · omega
    · omega
/-- a sum is a number, but for infinities of two signs -/
theorem nn_add32 {a b : UInt32} (ha : FV32 a ≠ .nan) (hb : FV32 b ≠ .nan) (h : ¬ (a.toNat % 2 ^ 31 = 2139095040 ∧ b.toNat % 2 ^ 31 = 2139095040 ∧ a ≠ b)) : FV32 (FP.fadd a b) ≠ .nan := by
  show FV32 (FO32 (FP.Core.round FP.Core.b32 (FP.Core.exactSum (FV32 a) (FV32 b)))) ≠ _
  apply nn_round32
  cases ea : FV32 a with
  | nan => exact absurd ea ha
  | inf s =>
    cases eb : FV32 b with
    | nan => exact absurd eb hb
    | inf t =>
      show (if s = t then FP.Core.Datum.inf s else .nan) ≠ _
      split
      · exact fun h => by cases h
      · rename_i g
        refine absurd ⟨inf_of32 ea, inf_of32 eb, fun q => ?_⟩ h
        subst q
        rw [ea] at eb
        injection eb with e
        exact g e
    | fin t d r => exact fun h => by cases h
  | fin s c q =>
    cases eb : FV32 b with
    | nan => exact absurd eb hb
    | inf t => exact fun h => by cases h
    | fin t d r => exact fun h => by cases h
theorem nn_sub32 {a b : UInt32} (ha : FV32 a ≠ .nan) (hb : FV32 b ≠ .nan) (h : ¬ (a.toNat % 2 ^ 31 = 2139095040 ∧ a = b)) : FV32 (FP.fsub a b) ≠ .nan := by
  show FV32 (FO32 (FP.Core.round FP.Core.b32 (FP.Core.exactSum (FV32 a) (FP.Core.negate (FV32 b))))) ≠ _
  apply nn_round32
  cases ea : FV32 a with
  | nan => exact absurd ea ha
  | inf s =>
    cases eb : FV32 b with
    | nan => exact absurd eb hb
    | inf t =>
      show (if s = !t then FP.Core.Datum.inf s else .nan) ≠ _
      split
      · exact fun h => by cases h
      · rename_i g
        refine absurd ⟨inf_of32 ea, fV_inj32 ?_ ha⟩ h
        rw [ea, eb]
        cases s <;> cases t <;> simp_all
    | fin t d r => exact fun h => by cases h
  | fin s c q =>
    cases eb : FV32 b with
    | nan => exact absurd eb hb
    | inf t => exact fun h => by cases h
    | fin t d r => exact fun h => by cases h
theorem nn_mul32 {a b : UInt32} (ha : FV32 a ≠ .nan) (hb : FV32 b ≠ .nan) (h : ¬ (a.toNat % 2 ^ 31 = 2139095040 ∧ b.toNat % 2 ^ 31 = 0)) (h' : ¬ (a.toNat % 2 ^ 31 = 0 ∧ b.toNat % 2 ^ 31 = 2139095040)) : FV32 (FP.fmul a b) ≠ .nan := by
  show FV32 (FO32 (FP.Core.round FP.Core.b32 (FP.Core.exactProduct (FV32 a) (FV32 b)))) ≠ _
  apply nn_round32
  cases ea : FV32 a with
  | nan => exact absurd ea ha
  | inf s =>
    cases eb : FV32 b with
    | nan => exact absurd eb hb
    | inf t => exact fun h => by cases h
    | fin t d r =>
      show (if d = 0 then FP.Core.Datum.nan else .inf (s != t)) ≠ _
      split
      · rename_i g
        subst g
        exact absurd ⟨inf_of32 ea, zero_iff32.mp ⟨_, _, eb⟩⟩ h
      · exact fun h => by cases h
  | fin s c q =>
    cases eb : FV32 b with
    | nan => exact absurd eb hb
    | inf t =>
      show (if c = 0 then FP.Core.Datum.nan else .inf (s != t)) ≠ _
      split
      · rename_i g
        subst g
        exact absurd ⟨zero_iff32.mp ⟨_, _, ea⟩, inf_of32 eb⟩ h'
      · exact fun h => by cases h
    | fin t d r => exact fun h => by cases h
theorem nn_div32 {a b : UInt32} (ha : FV32 a ≠ .nan) (hb : FV32 b ≠ .nan) (h : ¬ (a.toNat % 2 ^ 31 = 2139095040 ∧ b.toNat % 2 ^ 31 = 2139095040)) (h' : ¬ (a.toNat % 2 ^ 31 = 0 ∧ b.toNat % 2 ^ 31 = 0)) : FV32 (FP.fdiv a b) ≠ .nan := by
  show FV32 (FO32 (FP.Core.quotient FP.Core.b32 (FV32 a) (FV32 b))) ≠ _
  cases ea : FV32 a with
  | nan => exact absurd ea ha
  | inf s =>
    cases eb : FV32 b with
    | nan => exact absurd eb hb
    | inf t => exact absurd ⟨inf_of32 ea, inf_of32 eb⟩ h
    | fin t d r => exact nn_inf32 _
  | fin s c q =>
    cases eb : FV32 b with
    | nan => exact absurd eb hb
    | inf t => exact nn_fin32 (by decide) (by decide)
    | fin t d r =>
      show FV32 (FO32 (if d = 0 then (if c = 0 then FP.Core.Datum.nan else .inf (s != t)) else FP.Core.roundRatio FP.Core.b32 (s != t) c d (q - r))) ≠ _
      split
      · split
        · rename_i g1 g2
          subst g1; subst g2
          exact absurd ⟨zero_iff32.mp ⟨_, _, ea⟩, zero_iff32.mp ⟨_, _, eb⟩⟩ h'
        · exact nn_inf32 _
      · exact nn_rr32 _ _ _ _
theorem nn_rem32 {a b : UInt32} (ha : FV32 a ≠ .nan) (hb : FV32 b ≠ .nan) (h : ¬ a.toNat % 2 ^ 31 = 2139095040) (h' : ¬ b.toNat % 2 ^ 31 = 0) : FV32 (FP.frem a b) ≠ .nan := by
  show FV32 (FO32 (FP.Core.round FP.Core.b32 (FP.Core.exactRemainder (FV32 a) (FV32 b)))) ≠ _
  apply nn_round32
  cases ea : FV32 a with
  | nan => exact absurd ea ha
  | inf s => exact absurd (inf_of32 ea) h
  | fin s c q =>
    cases eb : FV32 b with
    | nan => exact absurd eb hb
    | inf t => exact fun h => by cases h
    | fin t d r =>
      show (if d = 0 then FP.Core.Datum.nan else _) ≠ _
      split
      · rename_i g
        subst g
        exact absurd (zero_iff32.mp ⟨_, _, eb⟩) h'
      · exact fun h => by cases h
theorem nn_neg32 {a : UInt32} (ha : FV32 a ≠ .nan) : FV32 (FP.fneg a) ≠ .nan := by
  rw [fneg_val32]
  cases ea : FV32 a with
  | nan => exact absurd ea ha
  | inf s => exact fun h => by cases h
  | fin s c q => exact fun h => by cases h


/-! ===== from one format to the other ===== -/
theorem f2d_core {x : UInt32} (h : FV32 x ≠ .nan) : FP.f2d x = FO64 (FP.Core.round FP.Core.b64 (FV32 x)) := by
  unfold FP.f2d
  rw [if_neg]
  · rfl
  · intro g
    exact h (of_decide_eq_true g)
theorem d2f_core {x : UInt64} (h : FV64 x ≠ .nan) : FP.d2f x = FO32 (FP.Core.round FP.Core.b32 (FV64 x)) := by
  unfold FP.d2f
  rw [if_neg]
  · rfl
  · intro g
    exact h (of_decide_eq_true g)
theorem f2d_dy {x : UInt32} {s : Bool} {m : Nat} {e : Int} (h : Dy32 x s m e) : Dy64 (FP.f2d x) s m e := by
  obtain ⟨c, q, h1, h2, h3⟩ := dy_fit32 h
  rw [f2d_core (dy_nan32 h), h1]
  obtain ⟨g1, g2, g3, -⟩ := h2
  have := dy_rnd64 (s := s) (m := c) (e := q) (k := c) (g := q) (N := 3000) (by decide) (by omega) (by omega) (by omega) (by omega) rfl
  obtain ⟨c', q', a1, a2⟩ := this
  exact ⟨c', q', a1, a2.trans h3⟩
theorem d2f_dy {x : UInt64} {s : Bool} {m k : Nat} {e g : Int} (h : Dy64 x s m e) (he : -3000 ≤ e) (hk : k < 2 ^ 24) (h1 : -149 ≤ g) (h2 : g ≤ 104) (hv : m * 2 ^ (e + 3000).toNat = k * 2 ^ (g + 3000).toNat) : Dy32 (FP.d2f x) s k g := by
  obtain ⟨c, q, a1, a2, a3⟩ := dy_fit64 h
  rw [d2f_core (dy_nan64 h), a1]
  exact dy_rnd32 (N := 3000) (by decide) (by have := a2.2.1; omega) hk h1 h2 (a3.trans hv)
theorem f2d_nn {x : UInt32} (h : FV32 x ≠ .nan) : FV64 (FP.f2d x) ≠ .nan := by
  rw [f2d_core h]
  exact nn_round64 h
theorem d2f_nn {x : UInt64} (h : FV64 x ≠ .nan) : FV32 (FP.d2f x) ≠ .nan := by
  rw [d2f_core h]
  exact nn_round32 h
theorem f2d_inf {x : UInt32} {s : Bool} (h : FV32 x = .inf s) : FV64 (FP.f2d x) = .inf s := by
  rw [f2d_core (by rw [h]; exact fun h => by cases h), h]
  cases s <;> decide +kernel
theorem l2d_nn (x : Int64) : FV64 (FP.l2d x) ≠ .nan := nn_rr64 _ _ 1 0
theorem l2f_nn (x : Int64) : FV32 (FP.l2f x) ≠ .nan := nn_rr32 _ _ 1 0
theorem dy_self32 {a : UInt32} {s : Bool} {c : Nat} {q : Int} (h : FV32 a = .fin s c q) : Dy32 a s c q := ⟨c, q, h, rfl⟩
theorem dy_self64 {a : UInt64} {s : Bool} {c : Nat} {q : Int} (h : FV64 a = .fin s c q) : Dy64 a s c q := ⟨c, q, h, rfl⟩
theorem fcmp_f2d {x y : UInt32} (hx : FV32 x ≠ .nan) (hy : FV32 y ≠ .nan) : FP.dcmp (FP.f2d x) (FP.f2d y) = FP.fcmp x y := by
  cases ex : FV32 x with
  | nan => exact absurd ex hx
  | inf s =>
    show FP.Core.order (FV64 _) (FV64 _) = FP.Core.order (FV32 _) (FV32 _)
    cases ey : FV32 y with
    | nan => exact absurd ey hy
    | inf t => rw [f2d_inf ex, f2d_inf ey, ex]
    | fin t d r =>
      obtain ⟨c, q, h1, -⟩ := f2d_dy (dy_self32 ey)
      rw [f2d_inf ex, h1, ex]
      rfl
  | fin s c q =>
    cases ey : FV32 y with
    | nan => exact absurd ey hy
    | inf t =>
      obtain ⟨c', q', h1, -⟩ := f2d_dy (dy_self32 ex)
      show FP.Core.order (FV64 _) (FV64 _) = FP.Core.order (FV32 _) (FV32 _)
      rw [f2d_inf ey, h1, ex, ey]
      rfl
    | fin t d r => rw [fc_dy64 (f2d_dy (dy_self32 ex)) (f2d_dy (dy_self32 ey)), fc_dy32 (dy_self32 ex) (dy_self32 ey)]
/-- a whole number as a long, an int -/
theorem trunc_dy {c m : Nat} {q : Int} (hq : -3000 ≤ q) (h : c * 2 ^ (q + 3000).toNat = m * 2 ^ (0 + 3000 : Int).toNat) : c * 2 ^ q.toNat / 2 ^ (-q).toNat = m := by
  have h1 := (dy_cong (N := 3000) hq (by decide)).mp h
  rw [Int.sub_zero, Int.zero_sub] at h1
  rw [h1, Nat.mul_div_cancel _ (Nat.two_pow_pos _)]
theorem d2l_dy {v : UInt64} {m : Nat} (h : Dy64 v false m 0) (hm : m < 2 ^ 63) : FP.d2l v = Int64.ofNat m := by
  obtain ⟨c, q, h1, h2, h3⟩ := dy_fit64 h
  have ht := trunc_dy (by have := h2.2.1; omega) h3
  show Int64.ofInt (FP.Core.toInt (-2 ^ 63) (2 ^ 63 - 1) (FV64 v)) = _
  rw [h1]
  show Int64.ofInt (max (-2 ^ 63) (min (2 ^ 63 - 1) ((c * 2 ^ q.toNat / 2 ^ (-q).toNat : Nat) : Int))) = _
  rw [ht, show max (-2 ^ 63) (min (2 ^ 63 - 1) (m : Int)) = (m : Int) by omega]
  rfl
theorem d2i_dy {v : UInt64} {m : Nat} (h : Dy64 v false m 0) (hm : m < 2 ^ 31) : FP.d2i v = Int32.ofNat m := by
  obtain ⟨c, q, h1, h2, h3⟩ := dy_fit64 h
  have ht := trunc_dy (by have := h2.2.1; omega) h3
  show Int32.ofInt (FP.Core.toInt (-2 ^ 31) (2 ^ 31 - 1) (FV64 v)) = _
  rw [h1]
  show Int32.ofInt (max (-2 ^ 31) (min (2 ^ 31 - 1) ((c * 2 ^ q.toNat / 2 ^ (-q).toNat : Nat) : Int))) = _
  rw [ht, show max (-2 ^ 31) (min (2 ^ 31 - 1) (m : Int)) = (m : Int) by omega]
  rfl

