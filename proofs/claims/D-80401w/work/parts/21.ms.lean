/-! the reference: its state as a tuple, its world (one object, twelve arrays), the rows over it, the form of its contracts -/
set_option maxRecDepth 100000
abbrev MS : Type := (Int32) × (Nat → Int32) × (Nat → Int32) × (Nat → Int32) × (Nat → Int32) × (Nat → Int32) × (Nat → Int64) × (Int32) × (Int32) × (Nat → Int64) × (Int32) × (Nat → Int32) × (Nat → Int32) × (Nat → Int32) × (Nat → Int64) × (Nat → Int32)
def mlC : List vw_C := [(RX3, TX3, 17), (RX1, TX1, 6), (RX2, TX2, 4), (RX4, TX4, 1), (RX5, TX5, 1), (RX6, TX6, 1), (RX7, TX7, 1), (RX8, TX8, 7)]
/-- the classes of the arrays: int, boolean, byte, char, short, long, float, double, int[], Plain, Grown, Slot -/
def mlT (t : Nat → ClassId) : List (ClassId × FieldType) := [(t 0, .int), (t 1, .boolean), (t 2, .byte), (t 3, .char), (t 4, .short), (t 5, .long), (t 6, .float), (t 7, .double), (t 8, .array .int), (t 9, .object "MixedLeaves$Plain"), (t 10, .object "MixedLeaves$Grown"), (t 11, .object "MixedLeaves$Slot")]
abbrev mWx (bk : Int32) (a : Nat → Nat) (t : Nat → ClassId) (fa : Int32) (fs : Nat → Int32) (ho : Nat → Int32) (ki : Nat → Int32) (le : Nat → Int32) (us : Nat → Int32) (it : Nat → Int64) (fr : Int32) (at_ : Int32) (mi : Nat → Int64) (tr : Int32) (hl : Nat → Int32) (lk : Nat → Int32) (ll : Nat → Int32) (li : Nat → Int64) (wr : Nat → Int32) : va_W := [(a 0, .inr (0, [.int bk, .int fa, .ref (a 1), .ref (a 2), .ref (a 3), .ref (a 4), .ref (a 5), .ref (a 6), .int fr, .int at_, .ref (a 7), .int tr, .ref (a 8), .ref (a 9), .ref (a 10), .ref (a 11), .ref (a 12)])), (a 1, .inl (t 0, 8, .inl fs)), (a 2, .inl (t 0, 16, .inl ho)), (a 3, .inl (t 0, 1500, .inl ki)), (a 4, .inl (t 0, 1500, .inl le)), (a 5, .inl (t 1, 1500, .inl us)), (a 6, .inl (t 5, 60000, .inr (.inl it))), (a 7, .inl (t 5, 40, .inr (.inl mi))), (a 8, .inl (t 1, 16, .inl hl)), (a 9, .inl (t 0, 16, .inl lk)), (a 10, .inl (t 0, 16, .inl ll)), (a 11, .inl (t 5, 640, .inr (.inl li))), (a 12, .inl (t 0, 16, .inl wr))]
def mW (bk : Int32) (a : Nat → Nat) (t : Nat → ClassId) (σ : MS) : va_W := match σ with
  | (fa, fs, ho, ki, le, us, it, fr, at_, mi, tr, hl, lk, ll, li, wr) => mWx bk a t fa fs ho ki le us it fr at_ mi tr hl lk ll li wr
/-- the reference's world at a place of a method's walk: the cells hold it, they are apart and its own, nothing else was written -/
def mY (D : va_G) (t : Nat → ClassId) (bk : Int32) (a : Nat → Nat) (A : Nat → Prop) (H0 : Heap) (s : State) (σ : MS) (H : Heap) (locs : List Loc) : Prop :=
  va_P D mlC (mW bk a t σ) H ∧ va_D A (mW bk a t σ) ∧ va_S A H0 H locs ∧ va_K D mlC (mlT t) s
/-- the cells that the reference may write -/
def mA (a : Nat → Nat) : Nat → Prop := fun q => ∃ k, k < 13 ∧ q = a k
theorem mA_of {a : Nat → Nat} {bk : Int32} {t : Nat → ClassId} {σ : MS} {q : Nat} : (∃ (k : Nat) (e : va_E), (mW bk a t σ)[k]? = some (q, e)) → mA a q := by
  obtain ⟨fa, fs, ho, ki, le, us, it, fr, at_, mi, tr, hl, lk, ll, li, wr⟩ := σ
  rintro ⟨k, e, h⟩
  show mA a q
  match k, h with
  | 0, h => cases h; exact ⟨0, by decide, rfl⟩
  | 1, h => cases h; exact ⟨1, by decide, rfl⟩
  | 2, h => cases h; exact ⟨2, by decide, rfl⟩
  | 3, h => cases h; exact ⟨3, by decide, rfl⟩
  | 4, h => cases h; exact ⟨4, by decide, rfl⟩
  | 5, h => cases h; exact ⟨5, by decide, rfl⟩
  | 6, h => cases h; exact ⟨6, by decide, rfl⟩
  | 7, h => cases h; exact ⟨7, by decide, rfl⟩
  | 8, h => cases h; exact ⟨8, by decide, rfl⟩
  | 9, h => cases h; exact ⟨9, by decide, rfl⟩
  | 10, h => cases h; exact ⟨10, by decide, rfl⟩
  | 11, h => cases h; exact ⟨11, by decide, rfl⟩
  | 12, h => cases h; exact ⟨12, by decide, rfl⟩
  | k + 13, h => exact absurd (List.getElem?_eq_some_iff.mp h).1 (by show ¬ (k + 13 < 13); omega)
theorem mA_self {a : Nat → Nat} {bk : Int32} {t : Nat → ClassId} {σ : MS} {A : Nat → Prop} (hD : va_D A (mW bk a t σ)) : ∀ q, mA a q → A q := by
  obtain ⟨fa, fs, ho, ki, le, us, it, fr, at_, mi, tr, hl, lk, ll, li, wr⟩ := σ
  rintro q ⟨k, hk, rfl⟩
  match k, hk with
  | 0, _ => exact hD.2 0 _ rfl
  | 1, _ => exact hD.2 1 _ rfl
  | 2, _ => exact hD.2 2 _ rfl
  | 3, _ => exact hD.2 3 _ rfl
  | 4, _ => exact hD.2 4 _ rfl
  | 5, _ => exact hD.2 5 _ rfl
  | 6, _ => exact hD.2 6 _ rfl
  | 7, _ => exact hD.2 7 _ rfl
  | 8, _ => exact hD.2 8 _ rfl
  | 9, _ => exact hD.2 9 _ rfl
  | 10, _ => exact hD.2 10 _ rfl
  | 11, _ => exact hD.2 11 _ rfl
  | 12, _ => exact hD.2 12 _ rfl
  | k + 13, hk => exact absurd hk (by omega)
theorem mD_self {a : Nat → Nat} {bk : Int32} {t : Nat → ClassId} {σ : MS} {A : Nat → Prop} (hD : va_D A (mW bk a t σ)) : va_D (mA a) (mW bk a t σ) := ⟨hD.1, fun k q hk => mA_of ⟨k, q.2, hk⟩⟩
/-- the worlds of one reference have the same addresses -/
theorem mD_move {a : Nat → Nat} {bk : Int32} {t : Nat → ClassId} {σ σ' : MS} {A : Nat → Prop} (hD : va_D A (mW bk a t σ)) : va_D A (mW bk a t σ') := by
  have hA := mA_self hD
  have key : ∀ (τ : MS) (k : Nat) (q : Nat × va_E), (mW bk a t τ)[k]? = some q → k < 13 ∧ q.1 = a k := by
    intro τ k q h
    obtain ⟨fa, fs, ho, ki, le, us, it, fr, at_, mi, tr, hl, lk, ll, li, wr⟩ := τ
    match k, h with
    | 0, h => cases h; exact ⟨by decide, rfl⟩
    | 1, h => cases h; exact ⟨by decide, rfl⟩
    | 2, h => cases h; exact ⟨by decide, rfl⟩
    | 3, h => cases h; exact ⟨by decide, rfl⟩
    | 4, h => cases h; exact ⟨by decide, rfl⟩
    | 5, h => cases h; exact ⟨by decide, rfl⟩
    | 6, h => cases h; exact ⟨by decide, rfl⟩
    | 7, h => cases h; exact ⟨by decide, rfl⟩
    | 8, h => cases h; exact ⟨by decide, rfl⟩
    | 9, h => cases h; exact ⟨by decide, rfl⟩
    | 10, h => cases h; exact ⟨by decide, rfl⟩
    | 11, h => cases h; exact ⟨by decide, rfl⟩
    | 12, h => cases h; exact ⟨by decide, rfl⟩
    | k + 13, h => exact absurd (List.getElem?_eq_some_iff.mp h).1 (by show ¬ (k + 13 < 13); omega)
  have back : ∀ (k : Nat), k < 13 → ∃ q, (mW bk a t σ)[k]? = some q ∧ q.1 = a k := by
    intro k hk
    obtain ⟨fa, fs, ho, ki, le, us, it, fr, at_, mi, tr, hl, lk, ll, li, wr⟩ := σ
    match k, hk with
    | 0, _ => exact ⟨_, rfl, rfl⟩
    | 1, _ => exact ⟨_, rfl, rfl⟩
    | 2, _ => exact ⟨_, rfl, rfl⟩
    | 3, _ => exact ⟨_, rfl, rfl⟩
    | 4, _ => exact ⟨_, rfl, rfl⟩
    | 5, _ => exact ⟨_, rfl, rfl⟩
    | 6, _ => exact ⟨_, rfl, rfl⟩
    | 7, _ => exact ⟨_, rfl, rfl⟩
    | 8, _ => exact ⟨_, rfl, rfl⟩
    | 9, _ => exact ⟨_, rfl, rfl⟩
    | 10, _ => exact ⟨_, rfl, rfl⟩
    | 11, _ => exact ⟨_, rfl, rfl⟩
    | 12, _ => exact ⟨_, rfl, rfl⟩
    | k + 13, hk => exact absurd hk (by omega)
  refine ⟨fun i j x y hi hj hxy => ?_, fun k q hk => ?_⟩
  · obtain ⟨i1, i2⟩ := key σ' i x hi
    obtain ⟨j1, j2⟩ := key σ' j y hj
    obtain ⟨u, u1, u2⟩ := back i i1
    obtain ⟨w, w1, w2⟩ := back j j1
    exact hD.1 i j u w u1 w1 (by rw [u2, w2, ← i2, ← j2, hxy])
  · obtain ⟨k1, k2⟩ := key σ' k q hk
    rw [k2]
    exact hA _ ⟨k, k1, rfl⟩
section
variable {p : Program} {l : Launch} {e : Env} {R : Room} {s : State} {m : MethodId} {args : Array Value} {below : List Frame} {meth : Method} {c : Code} {H : Heap} {locs : List Loc} {cells slots : Nat} {Q : State → Prop} {cc : ByteArray} {pc : Nat} {ls : Array Slot} {rest st0 : List Value} {D : va_G} {t : Nat → ClassId} {bk : Int32} {a : Nat → Nat} {A : Nat → Prop} {H0 : Heap}
variable {fa : Int32} {fs : Nat → Int32} {ho : Nat → Int32} {ki : Nat → Int32} {le : Nat → Int32} {us : Nat → Int32} {it : Nat → Int64} {fr : Int32} {at_ : Int32} {mi : Nat → Int64} {tr : Int32} {hl : Nat → Int32} {lk : Nat → Int32} {ll : Nat → Int32} {li : Nat → Int64} {wr : Nat → Int32}
theorem mr_get_block (hx : p.tables.exec = Jvm.exec) (hb : c.code = cc) (hts : ∀ w ∈ lw_all, w.before args s = true) (hown : s.vm.findClass RX3 = some m.cls) (Y : mY D t bk a A H0 s (fa, fs, ho, ki, le, us, it, fr, at_, mi, tr, hl, lk, ll, li, wr) H locs) (d : decode cc pc = .ok (.getfield 53, 3)) (k : W p l e R s m args below meth c H locs cells slots Q (F0 m (pc + 3) ls (.int bk :: rest))) : W p l e R s m args below meth c H locs cells slots Q (F0 m pc ls (.ref (a 0) :: rest)) :=
  va_get (D := D) (ci := 0) (v := .int bk) (C := RX3) (T := TX3) (N := 17) hx hb hts in_X3 hown Y.2.2.2 Y.1 0 rfl rfl 0 (by decide) (hts _ q859) (fun _ h9 => h9) rfl d k
theorem mr_get_fault (hx : p.tables.exec = Jvm.exec) (hb : c.code = cc) (hts : ∀ w ∈ lw_all, w.before args s = true) (hown : s.vm.findClass RX3 = some m.cls) (Y : mY D t bk a A H0 s (fa, fs, ho, ki, le, us, it, fr, at_, mi, tr, hl, lk, ll, li, wr) H locs) (d : decode cc pc = .ok (.getfield 56, 3)) (k : W p l e R s m args below meth c H locs cells slots Q (F0 m (pc + 3) ls (.int fa :: rest))) : W p l e R s m args below meth c H locs cells slots Q (F0 m pc ls (.ref (a 0) :: rest)) :=
  va_get (D := D) (ci := 0) (v := .int fa) (C := RX3) (T := TX3) (N := 17) hx hb hts in_X3 hown Y.2.2.2 Y.1 0 rfl rfl 1 (by decide) (hts _ q860) (fun _ h9 => h9) rfl d k
theorem mr_put_fault {x : Int32} (hx : p.tables.exec = Jvm.exec) (hb : c.code = cc) (hts : ∀ w ∈ lw_all, w.before args s = true) (hown : s.vm.findClass RX3 = some m.cls) (Y : mY D t bk a A H0 s (fa, fs, ho, ki, le, us, it, fr, at_, mi, tr, hl, lk, ll, li, wr) H locs) (d : decode cc pc = .ok (.putfield 56, 3)) (k : ∀ (H1 : Heap) (locs1 : List Loc), mY D t bk a A H0 s (x, fs, ho, ki, le, us, it, fr, at_, mi, tr, hl, lk, ll, li, wr) H1 locs1 → W p l e R s m args below meth c H1 locs1 cells slots Q (F0 m (pc + 3) ls rest)) : W p l e R s m args below meth c H locs cells slots Q (F0 m pc ls (.int x :: .ref (a 0) :: rest)) :=
  va_put (D := D) (ci := 0) (v := .int x) (ty := .int) (C := RX3) (T := TX3) (N := 17) hx hb hts in_X3 tyX3 tyX3_ok nmX3 hown Y.2.2.2 Y.1 Y.2.1 Y.2.2.1 0 rfl rfl 1 (by decide) (hts _ q860) (fun _ h9 => h9) rfl (by decide +kernel) rfl rfl (Nat.le_of_ble_eq_true rfl) d (fun H1 locs1 hP hD hS => k H1 locs1 ⟨hP, hD, hS, Y.2.2.2⟩)
theorem mr_get_faults (hx : p.tables.exec = Jvm.exec) (hb : c.code = cc) (hts : ∀ w ∈ lw_all, w.before args s = true) (hown : s.vm.findClass RX3 = some m.cls) (Y : mY D t bk a A H0 s (fa, fs, ho, ki, le, us, it, fr, at_, mi, tr, hl, lk, ll, li, wr) H locs) (d : decode cc pc = .ok (.getfield 7, 3)) (k : W p l e R s m args below meth c H locs cells slots Q (F0 m (pc + 3) ls (.ref (a 1) :: rest))) : W p l e R s m args below meth c H locs cells slots Q (F0 m pc ls (.ref (a 0) :: rest)) :=
  va_get (D := D) (ci := 0) (v := .ref (a 1)) (C := RX3) (T := TX3) (N := 17) hx hb hts in_X3 hown Y.2.2.2 Y.1 0 rfl rfl 2 (by decide) (hts _ q861) (fun _ h9 => h9) rfl d k
theorem mr_get_holds (hx : p.tables.exec = Jvm.exec) (hb : c.code = cc) (hts : ∀ w ∈ lw_all, w.before args s = true) (hown : s.vm.findClass RX3 = some m.cls) (Y : mY D t bk a A H0 s (fa, fs, ho, ki, le, us, it, fr, at_, mi, tr, hl, lk, ll, li, wr) H locs) (d : decode cc pc = .ok (.getfield 13, 3)) (k : W p l e R s m args below meth c H locs cells slots Q (F0 m (pc + 3) ls (.ref (a 2) :: rest))) : W p l e R s m args below meth c H locs cells slots Q (F0 m pc ls (.ref (a 0) :: rest)) :=
  va_get (D := D) (ci := 0) (v := .ref (a 2)) (C := RX3) (T := TX3) (N := 17) hx hb hts in_X3 hown Y.2.2.2 Y.1 0 rfl rfl 3 (by decide) (hts _ q862) (fun _ h9 => h9) rfl d k
theorem mr_get_kind (hx : p.tables.exec = Jvm.exec) (hb : c.code = cc) (hts : ∀ w ∈ lw_all, w.before args s = true) (hown : s.vm.findClass RX3 = some m.cls) (Y : mY D t bk a A H0 s (fa, fs, ho, ki, le, us, it, fr, at_, mi, tr, hl, lk, ll, li, wr) H locs) (d : decode cc pc = .ok (.getfield 16, 3)) (k : W p l e R s m args below meth c H locs cells slots Q (F0 m (pc + 3) ls (.ref (a 3) :: rest))) : W p l e R s m args below meth c H locs cells slots Q (F0 m pc ls (.ref (a 0) :: rest)) :=
  va_get (D := D) (ci := 0) (v := .ref (a 3)) (C := RX3) (T := TX3) (N := 17) hx hb hts in_X3 hown Y.2.2.2 Y.1 0 rfl rfl 4 (by decide) (hts _ q863) (fun _ h9 => h9) rfl d k
theorem mr_get_length (hx : p.tables.exec = Jvm.exec) (hb : c.code = cc) (hts : ∀ w ∈ lw_all, w.before args s = true) (hown : s.vm.findClass RX3 = some m.cls) (Y : mY D t bk a A H0 s (fa, fs, ho, ki, le, us, it, fr, at_, mi, tr, hl, lk, ll, li, wr) H locs) (d : decode cc pc = .ok (.getfield 19, 3)) (k : W p l e R s m args below meth c H locs cells slots Q (F0 m (pc + 3) ls (.ref (a 4) :: rest))) : W p l e R s m args below meth c H locs cells slots Q (F0 m pc ls (.ref (a 0) :: rest)) :=
  va_get (D := D) (ci := 0) (v := .ref (a 4)) (C := RX3) (T := TX3) (N := 17) hx hb hts in_X3 hown Y.2.2.2 Y.1 0 rfl rfl 5 (by decide) (hts _ q864) (fun _ h9 => h9) rfl d k
theorem mr_get_used (hx : p.tables.exec = Jvm.exec) (hb : c.code = cc) (hts : ∀ w ∈ lw_all, w.before args s = true) (hown : s.vm.findClass RX3 = some m.cls) (Y : mY D t bk a A H0 s (fa, fs, ho, ki, le, us, it, fr, at_, mi, tr, hl, lk, ll, li, wr) H locs) (d : decode cc pc = .ok (.getfield 22, 3)) (k : W p l e R s m args below meth c H locs cells slots Q (F0 m (pc + 3) ls (.ref (a 5) :: rest))) : W p l e R s m args below meth c H locs cells slots Q (F0 m pc ls (.ref (a 0) :: rest)) :=
  va_get (D := D) (ci := 0) (v := .ref (a 5)) (C := RX3) (T := TX3) (N := 17) hx hb hts in_X3 hown Y.2.2.2 Y.1 0 rfl rfl 6 (by decide) (hts _ q865) (fun _ h9 => h9) rfl d k
theorem mr_get_item (hx : p.tables.exec = Jvm.exec) (hb : c.code = cc) (hts : ∀ w ∈ lw_all, w.before args s = true) (hown : s.vm.findClass RX3 = some m.cls) (Y : mY D t bk a A H0 s (fa, fs, ho, ki, le, us, it, fr, at_, mi, tr, hl, lk, ll, li, wr) H locs) (d : decode cc pc = .ok (.getfield 27, 3)) (k : W p l e R s m args below meth c H locs cells slots Q (F0 m (pc + 3) ls (.ref (a 6) :: rest))) : W p l e R s m args below meth c H locs cells slots Q (F0 m pc ls (.ref (a 0) :: rest)) :=
  va_get (D := D) (ci := 0) (v := .ref (a 6)) (C := RX3) (T := TX3) (N := 17) hx hb hts in_X3 hown Y.2.2.2 Y.1 0 rfl rfl 7 (by decide) (hts _ q866) (fun _ h9 => h9) rfl d k
theorem mr_get_free (hx : p.tables.exec = Jvm.exec) (hb : c.code = cc) (hts : ∀ w ∈ lw_all, w.before args s = true) (hown : s.vm.findClass RX3 = some m.cls) (Y : mY D t bk a A H0 s (fa, fs, ho, ki, le, us, it, fr, at_, mi, tr, hl, lk, ll, li, wr) H locs) (d : decode cc pc = .ok (.getfield 31, 3)) (k : W p l e R s m args below meth c H locs cells slots Q (F0 m (pc + 3) ls (.int fr :: rest))) : W p l e R s m args below meth c H locs cells slots Q (F0 m pc ls (.ref (a 0) :: rest)) :=
  va_get (D := D) (ci := 0) (v := .int fr) (C := RX3) (T := TX3) (N := 17) hx hb hts in_X3 hown Y.2.2.2 Y.1 0 rfl rfl 8 (by decide) (hts _ q867) (fun _ h9 => h9) rfl d k
theorem mr_put_free {x : Int32} (hx : p.tables.exec = Jvm.exec) (hb : c.code = cc) (hts : ∀ w ∈ lw_all, w.before args s = true) (hown : s.vm.findClass RX3 = some m.cls) (Y : mY D t bk a A H0 s (fa, fs, ho, ki, le, us, it, fr, at_, mi, tr, hl, lk, ll, li, wr) H locs) (d : decode cc pc = .ok (.putfield 31, 3)) (k : ∀ (H1 : Heap) (locs1 : List Loc), mY D t bk a A H0 s (fa, fs, ho, ki, le, us, it, x, at_, mi, tr, hl, lk, ll, li, wr) H1 locs1 → W p l e R s m args below meth c H1 locs1 cells slots Q (F0 m (pc + 3) ls rest)) : W p l e R s m args below meth c H locs cells slots Q (F0 m pc ls (.int x :: .ref (a 0) :: rest)) :=
  va_put (D := D) (ci := 0) (v := .int x) (ty := .int) (C := RX3) (T := TX3) (N := 17) hx hb hts in_X3 tyX3 tyX3_ok nmX3 hown Y.2.2.2 Y.1 Y.2.1 Y.2.2.1 0 rfl rfl 8 (by decide) (hts _ q867) (fun _ h9 => h9) rfl (by decide +kernel) rfl rfl (Nat.le_of_ble_eq_true rfl) d (fun H1 locs1 hP hD hS => k H1 locs1 ⟨hP, hD, hS, Y.2.2.2⟩)
theorem mr_get_at (hx : p.tables.exec = Jvm.exec) (hb : c.code = cc) (hts : ∀ w ∈ lw_all, w.before args s = true) (hown : s.vm.findClass RX3 = some m.cls) (Y : mY D t bk a A H0 s (fa, fs, ho, ki, le, us, it, fr, at_, mi, tr, hl, lk, ll, li, wr) H locs) (d : decode cc pc = .ok (.getfield 78, 3)) (k : W p l e R s m args below meth c H locs cells slots Q (F0 m (pc + 3) ls (.int at_ :: rest))) : W p l e R s m args below meth c H locs cells slots Q (F0 m pc ls (.ref (a 0) :: rest)) :=
  va_get (D := D) (ci := 0) (v := .int at_) (C := RX3) (T := TX3) (N := 17) hx hb hts in_X3 hown Y.2.2.2 Y.1 0 rfl rfl 9 (by decide) (hts _ q868) (fun _ h9 => h9) rfl d k
theorem mr_put_at {x : Int32} (hx : p.tables.exec = Jvm.exec) (hb : c.code = cc) (hts : ∀ w ∈ lw_all, w.before args s = true) (hown : s.vm.findClass RX3 = some m.cls) (Y : mY D t bk a A H0 s (fa, fs, ho, ki, le, us, it, fr, at_, mi, tr, hl, lk, ll, li, wr) H locs) (d : decode cc pc = .ok (.putfield 78, 3)) (k : ∀ (H1 : Heap) (locs1 : List Loc), mY D t bk a A H0 s (fa, fs, ho, ki, le, us, it, fr, x, mi, tr, hl, lk, ll, li, wr) H1 locs1 → W p l e R s m args below meth c H1 locs1 cells slots Q (F0 m (pc + 3) ls rest)) : W p l e R s m args below meth c H locs cells slots Q (F0 m pc ls (.int x :: .ref (a 0) :: rest)) :=
  va_put (D := D) (ci := 0) (v := .int x) (ty := .int) (C := RX3) (T := TX3) (N := 17) hx hb hts in_X3 tyX3 tyX3_ok nmX3 hown Y.2.2.2 Y.1 Y.2.1 Y.2.2.1 0 rfl rfl 9 (by decide) (hts _ q868) (fun _ h9 => h9) rfl (by decide +kernel) rfl rfl (Nat.le_of_ble_eq_true rfl) d (fun H1 locs1 hP hD hS => k H1 locs1 ⟨hP, hD, hS, Y.2.2.2⟩)
theorem mr_get_middle (hx : p.tables.exec = Jvm.exec) (hb : c.code = cc) (hts : ∀ w ∈ lw_all, w.before args s = true) (hown : s.vm.findClass RX3 = some m.cls) (Y : mY D t bk a A H0 s (fa, fs, ho, ki, le, us, it, fr, at_, mi, tr, hl, lk, ll, li, wr) H locs) (d : decode cc pc = .ok (.getfield 35, 3)) (k : W p l e R s m args below meth c H locs cells slots Q (F0 m (pc + 3) ls (.ref (a 7) :: rest))) : W p l e R s m args below meth c H locs cells slots Q (F0 m pc ls (.ref (a 0) :: rest)) :=
  va_get (D := D) (ci := 0) (v := .ref (a 7)) (C := RX3) (T := TX3) (N := 17) hx hb hts in_X3 hown Y.2.2.2 Y.1 0 rfl rfl 10 (by decide) (hts _ q869) (fun _ h9 => h9) rfl d k
theorem mr_get_trail (hx : p.tables.exec = Jvm.exec) (hb : c.code = cc) (hts : ∀ w ∈ lw_all, w.before args s = true) (hown : s.vm.findClass RX3 = some m.cls) (Y : mY D t bk a A H0 s (fa, fs, ho, ki, le, us, it, fr, at_, mi, tr, hl, lk, ll, li, wr) H locs) (d : decode cc pc = .ok (.getfield 221, 3)) (k : W p l e R s m args below meth c H locs cells slots Q (F0 m (pc + 3) ls (.int tr :: rest))) : W p l e R s m args below meth c H locs cells slots Q (F0 m pc ls (.ref (a 0) :: rest)) :=
  va_get (D := D) (ci := 0) (v := .int tr) (C := RX3) (T := TX3) (N := 17) hx hb hts in_X3 hown Y.2.2.2 Y.1 0 rfl rfl 11 (by decide) (hts _ q870) (fun _ h9 => h9) rfl d k
theorem mr_put_trail {x : Int32} (hx : p.tables.exec = Jvm.exec) (hb : c.code = cc) (hts : ∀ w ∈ lw_all, w.before args s = true) (hown : s.vm.findClass RX3 = some m.cls) (Y : mY D t bk a A H0 s (fa, fs, ho, ki, le, us, it, fr, at_, mi, tr, hl, lk, ll, li, wr) H locs) (d : decode cc pc = .ok (.putfield 221, 3)) (k : ∀ (H1 : Heap) (locs1 : List Loc), mY D t bk a A H0 s (fa, fs, ho, ki, le, us, it, fr, at_, mi, x, hl, lk, ll, li, wr) H1 locs1 → W p l e R s m args below meth c H1 locs1 cells slots Q (F0 m (pc + 3) ls rest)) : W p l e R s m args below meth c H locs cells slots Q (F0 m pc ls (.int x :: .ref (a 0) :: rest)) :=
  va_put (D := D) (ci := 0) (v := .int x) (ty := .int) (C := RX3) (T := TX3) (N := 17) hx hb hts in_X3 tyX3 tyX3_ok nmX3 hown Y.2.2.2 Y.1 Y.2.1 Y.2.2.1 0 rfl rfl 11 (by decide) (hts _ q870) (fun _ h9 => h9) rfl (by decide +kernel) rfl rfl (Nat.le_of_ble_eq_true rfl) d (fun H1 locs1 hP hD hS => k H1 locs1 ⟨hP, hD, hS, Y.2.2.2⟩)
theorem mr_get_hasLeaf (hx : p.tables.exec = Jvm.exec) (hb : c.code = cc) (hts : ∀ w ∈ lw_all, w.before args s = true) (hown : s.vm.findClass RX3 = some m.cls) (Y : mY D t bk a A H0 s (fa, fs, ho, ki, le, us, it, fr, at_, mi, tr, hl, lk, ll, li, wr) H locs) (d : decode cc pc = .ok (.getfield 38, 3)) (k : W p l e R s m args below meth c H locs cells slots Q (F0 m (pc + 3) ls (.ref (a 8) :: rest))) : W p l e R s m args below meth c H locs cells slots Q (F0 m pc ls (.ref (a 0) :: rest)) :=
  va_get (D := D) (ci := 0) (v := .ref (a 8)) (C := RX3) (T := TX3) (N := 17) hx hb hts in_X3 hown Y.2.2.2 Y.1 0 rfl rfl 12 (by decide) (hts _ q871) (fun _ h9 => h9) rfl d k
theorem mr_get_leafKind (hx : p.tables.exec = Jvm.exec) (hb : c.code = cc) (hts : ∀ w ∈ lw_all, w.before args s = true) (hown : s.vm.findClass RX3 = some m.cls) (Y : mY D t bk a A H0 s (fa, fs, ho, ki, le, us, it, fr, at_, mi, tr, hl, lk, ll, li, wr) H locs) (d : decode cc pc = .ok (.getfield 41, 3)) (k : W p l e R s m args below meth c H locs cells slots Q (F0 m (pc + 3) ls (.ref (a 9) :: rest))) : W p l e R s m args below meth c H locs cells slots Q (F0 m pc ls (.ref (a 0) :: rest)) :=
  va_get (D := D) (ci := 0) (v := .ref (a 9)) (C := RX3) (T := TX3) (N := 17) hx hb hts in_X3 hown Y.2.2.2 Y.1 0 rfl rfl 13 (by decide) (hts _ q872) (fun _ h9 => h9) rfl d k
theorem mr_get_leafLength (hx : p.tables.exec = Jvm.exec) (hb : c.code = cc) (hts : ∀ w ∈ lw_all, w.before args s = true) (hown : s.vm.findClass RX3 = some m.cls) (Y : mY D t bk a A H0 s (fa, fs, ho, ki, le, us, it, fr, at_, mi, tr, hl, lk, ll, li, wr) H locs) (d : decode cc pc = .ok (.getfield 44, 3)) (k : W p l e R s m args below meth c H locs cells slots Q (F0 m (pc + 3) ls (.ref (a 10) :: rest))) : W p l e R s m args below meth c H locs cells slots Q (F0 m pc ls (.ref (a 0) :: rest)) :=
  va_get (D := D) (ci := 0) (v := .ref (a 10)) (C := RX3) (T := TX3) (N := 17) hx hb hts in_X3 hown Y.2.2.2 Y.1 0 rfl rfl 14 (by decide) (hts _ q873) (fun _ h9 => h9) rfl d k
theorem mr_get_leafItem (hx : p.tables.exec = Jvm.exec) (hb : c.code = cc) (hts : ∀ w ∈ lw_all, w.before args s = true) (hown : s.vm.findClass RX3 = some m.cls) (Y : mY D t bk a A H0 s (fa, fs, ho, ki, le, us, it, fr, at_, mi, tr, hl, lk, ll, li, wr) H locs) (d : decode cc pc = .ok (.getfield 47, 3)) (k : W p l e R s m args below meth c H locs cells slots Q (F0 m (pc + 3) ls (.ref (a 11) :: rest))) : W p l e R s m args below meth c H locs cells slots Q (F0 m pc ls (.ref (a 0) :: rest)) :=
  va_get (D := D) (ci := 0) (v := .ref (a 11)) (C := RX3) (T := TX3) (N := 17) hx hb hts in_X3 hown Y.2.2.2 Y.1 0 rfl rfl 15 (by decide) (hts _ q874) (fun _ h9 => h9) rfl d k
theorem mr_get_written (hx : p.tables.exec = Jvm.exec) (hb : c.code = cc) (hts : ∀ w ∈ lw_all, w.before args s = true) (hown : s.vm.findClass RX3 = some m.cls) (Y : mY D t bk a A H0 s (fa, fs, ho, ki, le, us, it, fr, at_, mi, tr, hl, lk, ll, li, wr) H locs) (d : decode cc pc = .ok (.getfield 50, 3)) (k : W p l e R s m args below meth c H locs cells slots Q (F0 m (pc + 3) ls (.ref (a 12) :: rest))) : W p l e R s m args below meth c H locs cells slots Q (F0 m pc ls (.ref (a 0) :: rest)) :=
  va_get (D := D) (ci := 0) (v := .ref (a 12)) (C := RX3) (T := TX3) (N := 17) hx hb hts in_X3 hown Y.2.2.2 Y.1 0 rfl rfl 16 (by decide) (hts _ q875) (fun _ h9 => h9) rfl d k
theorem mr_ld_fs {i : Int32} (hx : p.tables.exec = Jvm.exec) (hb : c.code = cc) (Y : mY D t bk a A H0 s (fa, fs, ho, ki, le, us, it, fr, at_, mi, tr, hl, lk, ll, li, wr) H locs) (hin : vp_in i 8) (d : decode cc pc = .ok (.iaload, 1)) (k : W p l e R s m args below meth c H locs cells slots Q (F0 m (pc + 1) ls (.int (fs i.toNatClampNeg) :: rest))) : W p l e R s m args below meth c H locs cells slots Q (F0 m pc ls (.int i :: .ref (a 1) :: rest)) :=
  va_iald hx hb Y.2.2.2 Y.1 1 0 rfl rfl hin d k
theorem mr_st_fs {i : Int32} {x : Int32} (hx : p.tables.exec = Jvm.exec) (hb : c.code = cc) (Y : mY D t bk a A H0 s (fa, fs, ho, ki, le, us, it, fr, at_, mi, tr, hl, lk, ll, li, wr) H locs) (hin : vp_in i 8) (d : decode cc pc = .ok (.iastore, 1)) (k : ∀ (H1 : Heap) (locs1 : List Loc), mY D t bk a A H0 s (fa, upd fs i.toNatClampNeg x, ho, ki, le, us, it, fr, at_, mi, tr, hl, lk, ll, li, wr) H1 locs1 → W p l e R s m args below meth c H1 locs1 cells slots Q (F0 m (pc + 1) ls rest)) : W p l e R s m args below meth c H locs cells slots Q (F0 m pc ls (.int x :: .int i :: .ref (a 1) :: rest)) :=
  va_iast hx hb Y.2.2.2 Y.1 Y.2.1 Y.2.2.1 1 0 rfl rfl hin d (fun H1 locs1 hP hD hS => k H1 locs1 ⟨hP, hD, hS, Y.2.2.2⟩)
theorem mr_ld_ho {i : Int32} (hx : p.tables.exec = Jvm.exec) (hb : c.code = cc) (Y : mY D t bk a A H0 s (fa, fs, ho, ki, le, us, it, fr, at_, mi, tr, hl, lk, ll, li, wr) H locs) (hin : vp_in i 16) (d : decode cc pc = .ok (.iaload, 1)) (k : W p l e R s m args below meth c H locs cells slots Q (F0 m (pc + 1) ls (.int (ho i.toNatClampNeg) :: rest))) : W p l e R s m args below meth c H locs cells slots Q (F0 m pc ls (.int i :: .ref (a 2) :: rest)) :=
  va_iald hx hb Y.2.2.2 Y.1 2 0 rfl rfl hin d k
theorem mr_st_ho {i : Int32} {x : Int32} (hx : p.tables.exec = Jvm.exec) (hb : c.code = cc) (Y : mY D t bk a A H0 s (fa, fs, ho, ki, le, us, it, fr, at_, mi, tr, hl, lk, ll, li, wr) H locs) (hin : vp_in i 16) (d : decode cc pc = .ok (.iastore, 1)) (k : ∀ (H1 : Heap) (locs1 : List Loc), mY D t bk a A H0 s (fa, fs, upd ho i.toNatClampNeg x, ki, le, us, it, fr, at_, mi, tr, hl, lk, ll, li, wr) H1 locs1 → W p l e R s m args below meth c H1 locs1 cells slots Q (F0 m (pc + 1) ls rest)) : W p l e R s m args below meth c H locs cells slots Q (F0 m pc ls (.int x :: .int i :: .ref (a 2) :: rest)) :=
  va_iast hx hb Y.2.2.2 Y.1 Y.2.1 Y.2.2.1 2 0 rfl rfl hin d (fun H1 locs1 hP hD hS => k H1 locs1 ⟨hP, hD, hS, Y.2.2.2⟩)
theorem mr_ld_ki {i : Int32} (hx : p.tables.exec = Jvm.exec) (hb : c.code = cc) (Y : mY D t bk a A H0 s (fa, fs, ho, ki, le, us, it, fr, at_, mi, tr, hl, lk, ll, li, wr) H locs) (hin : vp_in i 1500) (d : decode cc pc = .ok (.iaload, 1)) (k : W p l e R s m args below meth c H locs cells slots Q (F0 m (pc + 1) ls (.int (ki i.toNatClampNeg) :: rest))) : W p l e R s m args below meth c H locs cells slots Q (F0 m pc ls (.int i :: .ref (a 3) :: rest)) :=
  va_iald hx hb Y.2.2.2 Y.1 3 0 rfl rfl hin d k
theorem mr_st_ki {i : Int32} {x : Int32} (hx : p.tables.exec = Jvm.exec) (hb : c.code = cc) (Y : mY D t bk a A H0 s (fa, fs, ho, ki, le, us, it, fr, at_, mi, tr, hl, lk, ll, li, wr) H locs) (hin : vp_in i 1500) (d : decode cc pc = .ok (.iastore, 1)) (k : ∀ (H1 : Heap) (locs1 : List Loc), mY D t bk a A H0 s (fa, fs, ho, upd ki i.toNatClampNeg x, le, us, it, fr, at_, mi, tr, hl, lk, ll, li, wr) H1 locs1 → W p l e R s m args below meth c H1 locs1 cells slots Q (F0 m (pc + 1) ls rest)) : W p l e R s m args below meth c H locs cells slots Q (F0 m pc ls (.int x :: .int i :: .ref (a 3) :: rest)) :=
  va_iast hx hb Y.2.2.2 Y.1 Y.2.1 Y.2.2.1 3 0 rfl rfl hin d (fun H1 locs1 hP hD hS => k H1 locs1 ⟨hP, hD, hS, Y.2.2.2⟩)
theorem mr_ld_le {i : Int32} (hx : p.tables.exec = Jvm.exec) (hb : c.code = cc) (Y : mY D t bk a A H0 s (fa, fs, ho, ki, le, us, it, fr, at_, mi, tr, hl, lk, ll, li, wr) H locs) (hin : vp_in i 1500) (d : decode cc pc = .ok (.iaload, 1)) (k : W p l e R s m args below meth c H locs cells slots Q (F0 m (pc + 1) ls (.int (le i.toNatClampNeg) :: rest))) : W p l e R s m args below meth c H locs cells slots Q (F0 m pc ls (.int i :: .ref (a 4) :: rest)) :=
  va_iald hx hb Y.2.2.2 Y.1 4 0 rfl rfl hin d k
theorem mr_st_le {i : Int32} {x : Int32} (hx : p.tables.exec = Jvm.exec) (hb : c.code = cc) (Y : mY D t bk a A H0 s (fa, fs, ho, ki, le, us, it, fr, at_, mi, tr, hl, lk, ll, li, wr) H locs) (hin : vp_in i 1500) (d : decode cc pc = .ok (.iastore, 1)) (k : ∀ (H1 : Heap) (locs1 : List Loc), mY D t bk a A H0 s (fa, fs, ho, ki, upd le i.toNatClampNeg x, us, it, fr, at_, mi, tr, hl, lk, ll, li, wr) H1 locs1 → W p l e R s m args below meth c H1 locs1 cells slots Q (F0 m (pc + 1) ls rest)) : W p l e R s m args below meth c H locs cells slots Q (F0 m pc ls (.int x :: .int i :: .ref (a 4) :: rest)) :=
  va_iast hx hb Y.2.2.2 Y.1 Y.2.1 Y.2.2.1 4 0 rfl rfl hin d (fun H1 locs1 hP hD hS => k H1 locs1 ⟨hP, hD, hS, Y.2.2.2⟩)
theorem mr_ld_us {i : Int32} (hx : p.tables.exec = Jvm.exec) (hb : c.code = cc) (Y : mY D t bk a A H0 s (fa, fs, ho, ki, le, us, it, fr, at_, mi, tr, hl, lk, ll, li, wr) H locs) (hin : vp_in i 1500) (d : decode cc pc = .ok (.baload, 1)) (k : W p l e R s m args below meth c H locs cells slots Q (F0 m (pc + 1) ls (.int (us i.toNatClampNeg) :: rest))) : W p l e R s m args below meth c H locs cells slots Q (F0 m pc ls (.int i :: .ref (a 5) :: rest)) :=
  va_zald hx hb Y.2.2.2 Y.1 5 1 rfl rfl hin d k
theorem mr_st_us {i : Int32} {x : Int32} (hx : p.tables.exec = Jvm.exec) (hb : c.code = cc) (Y : mY D t bk a A H0 s (fa, fs, ho, ki, le, us, it, fr, at_, mi, tr, hl, lk, ll, li, wr) H locs) (hin : vp_in i 1500) (d : decode cc pc = .ok (.bastore, 1)) (k : ∀ (H1 : Heap) (locs1 : List Loc), mY D t bk a A H0 s (fa, fs, ho, ki, le, upd us i.toNatClampNeg (vp_nar .boolean x), it, fr, at_, mi, tr, hl, lk, ll, li, wr) H1 locs1 → W p l e R s m args below meth c H1 locs1 cells slots Q (F0 m (pc + 1) ls rest)) : W p l e R s m args below meth c H locs cells slots Q (F0 m pc ls (.int x :: .int i :: .ref (a 5) :: rest)) :=
  va_zast hx hb Y.2.2.2 Y.1 Y.2.1 Y.2.2.1 5 1 rfl rfl hin d (fun H1 locs1 hP hD hS => k H1 locs1 ⟨hP, hD, hS, Y.2.2.2⟩)
theorem mr_ld_it {i : Int32} (hx : p.tables.exec = Jvm.exec) (hb : c.code = cc) (Y : mY D t bk a A H0 s (fa, fs, ho, ki, le, us, it, fr, at_, mi, tr, hl, lk, ll, li, wr) H locs) (hin : vp_in i 60000) (d : decode cc pc = .ok (.laload, 1)) (k : W p l e R s m args below meth c H locs cells slots Q (F0 m (pc + 1) ls (.long (it i.toNatClampNeg) :: rest))) : W p l e R s m args below meth c H locs cells slots Q (F0 m pc ls (.int i :: .ref (a 6) :: rest)) :=
  va_lald hx hb Y.2.2.2 Y.1 6 5 rfl rfl hin d k
theorem mr_st_it {i : Int32} {x : Int64} (hx : p.tables.exec = Jvm.exec) (hb : c.code = cc) (Y : mY D t bk a A H0 s (fa, fs, ho, ki, le, us, it, fr, at_, mi, tr, hl, lk, ll, li, wr) H locs) (hin : vp_in i 60000) (d : decode cc pc = .ok (.lastore, 1)) (k : ∀ (H1 : Heap) (locs1 : List Loc), mY D t bk a A H0 s (fa, fs, ho, ki, le, us, vp_updL it i.toNatClampNeg x, fr, at_, mi, tr, hl, lk, ll, li, wr) H1 locs1 → W p l e R s m args below meth c H1 locs1 cells slots Q (F0 m (pc + 1) ls rest)) : W p l e R s m args below meth c H locs cells slots Q (F0 m pc ls (.long x :: .int i :: .ref (a 6) :: rest)) :=
  va_last hx hb Y.2.2.2 Y.1 Y.2.1 Y.2.2.1 6 5 rfl rfl hin d (fun H1 locs1 hP hD hS => k H1 locs1 ⟨hP, hD, hS, Y.2.2.2⟩)
theorem mr_ld_mi {i : Int32} (hx : p.tables.exec = Jvm.exec) (hb : c.code = cc) (Y : mY D t bk a A H0 s (fa, fs, ho, ki, le, us, it, fr, at_, mi, tr, hl, lk, ll, li, wr) H locs) (hin : vp_in i 40) (d : decode cc pc = .ok (.laload, 1)) (k : W p l e R s m args below meth c H locs cells slots Q (F0 m (pc + 1) ls (.long (mi i.toNatClampNeg) :: rest))) : W p l e R s m args below meth c H locs cells slots Q (F0 m pc ls (.int i :: .ref (a 7) :: rest)) :=
  va_lald hx hb Y.2.2.2 Y.1 7 5 rfl rfl hin d k
theorem mr_st_mi {i : Int32} {x : Int64} (hx : p.tables.exec = Jvm.exec) (hb : c.code = cc) (Y : mY D t bk a A H0 s (fa, fs, ho, ki, le, us, it, fr, at_, mi, tr, hl, lk, ll, li, wr) H locs) (hin : vp_in i 40) (d : decode cc pc = .ok (.lastore, 1)) (k : ∀ (H1 : Heap) (locs1 : List Loc), mY D t bk a A H0 s (fa, fs, ho, ki, le, us, it, fr, at_, vp_updL mi i.toNatClampNeg x, tr, hl, lk, ll, li, wr) H1 locs1 → W p l e R s m args below meth c H1 locs1 cells slots Q (F0 m (pc + 1) ls rest)) : W p l e R s m args below meth c H locs cells slots Q (F0 m pc ls (.long x :: .int i :: .ref (a 7) :: rest)) :=
  va_last hx hb Y.2.2.2 Y.1 Y.2.1 Y.2.2.1 7 5 rfl rfl hin d (fun H1 locs1 hP hD hS => k H1 locs1 ⟨hP, hD, hS, Y.2.2.2⟩)
theorem mr_ld_hl {i : Int32} (hx : p.tables.exec = Jvm.exec) (hb : c.code = cc) (Y : mY D t bk a A H0 s (fa, fs, ho, ki, le, us, it, fr, at_, mi, tr, hl, lk, ll, li, wr) H locs) (hin : vp_in i 16) (d : decode cc pc = .ok (.baload, 1)) (k : W p l e R s m args below meth c H locs cells slots Q (F0 m (pc + 1) ls (.int (hl i.toNatClampNeg) :: rest))) : W p l e R s m args below meth c H locs cells slots Q (F0 m pc ls (.int i :: .ref (a 8) :: rest)) :=
  va_zald hx hb Y.2.2.2 Y.1 8 1 rfl rfl hin d k
theorem mr_st_hl {i : Int32} {x : Int32} (hx : p.tables.exec = Jvm.exec) (hb : c.code = cc) (Y : mY D t bk a A H0 s (fa, fs, ho, ki, le, us, it, fr, at_, mi, tr, hl, lk, ll, li, wr) H locs) (hin : vp_in i 16) (d : decode cc pc = .ok (.bastore, 1)) (k : ∀ (H1 : Heap) (locs1 : List Loc), mY D t bk a A H0 s (fa, fs, ho, ki, le, us, it, fr, at_, mi, tr, upd hl i.toNatClampNeg (vp_nar .boolean x), lk, ll, li, wr) H1 locs1 → W p l e R s m args below meth c H1 locs1 cells slots Q (F0 m (pc + 1) ls rest)) : W p l e R s m args below meth c H locs cells slots Q (F0 m pc ls (.int x :: .int i :: .ref (a 8) :: rest)) :=
  va_zast hx hb Y.2.2.2 Y.1 Y.2.1 Y.2.2.1 8 1 rfl rfl hin d (fun H1 locs1 hP hD hS => k H1 locs1 ⟨hP, hD, hS, Y.2.2.2⟩)
theorem mr_ld_lk {i : Int32} (hx : p.tables.exec = Jvm.exec) (hb : c.code = cc) (Y : mY D t bk a A H0 s (fa, fs, ho, ki, le, us, it, fr, at_, mi, tr, hl, lk, ll, li, wr) H locs) (hin : vp_in i 16) (d : decode cc pc = .ok (.iaload, 1)) (k : W p l e R s m args below meth c H locs cells slots Q (F0 m (pc + 1) ls (.int (lk i.toNatClampNeg) :: rest))) : W p l e R s m args below meth c H locs cells slots Q (F0 m pc ls (.int i :: .ref (a 9) :: rest)) :=
  va_iald hx hb Y.2.2.2 Y.1 9 0 rfl rfl hin d k
theorem mr_st_lk {i : Int32} {x : Int32} (hx : p.tables.exec = Jvm.exec) (hb : c.code = cc) (Y : mY D t bk a A H0 s (fa, fs, ho, ki, le, us, it, fr, at_, mi, tr, hl, lk, ll, li, wr) H locs) (hin : vp_in i 16) (d : decode cc pc = .ok (.iastore, 1)) (k : ∀ (H1 : Heap) (locs1 : List Loc), mY D t bk a A H0 s (fa, fs, ho, ki, le, us, it, fr, at_, mi, tr, hl, upd lk i.toNatClampNeg x, ll, li, wr) H1 locs1 → W p l e R s m args below meth c H1 locs1 cells slots Q (F0 m (pc + 1) ls rest)) : W p l e R s m args below meth c H locs cells slots Q (F0 m pc ls (.int x :: .int i :: .ref (a 9) :: rest)) :=
  va_iast hx hb Y.2.2.2 Y.1 Y.2.1 Y.2.2.1 9 0 rfl rfl hin d (fun H1 locs1 hP hD hS => k H1 locs1 ⟨hP, hD, hS, Y.2.2.2⟩)
theorem mr_ld_ll {i : Int32} (hx : p.tables.exec = Jvm.exec) (hb : c.code = cc) (Y : mY D t bk a A H0 s (fa, fs, ho, ki, le, us, it, fr, at_, mi, tr, hl, lk, ll, li, wr) H locs) (hin : vp_in i 16) (d : decode cc pc = .ok (.iaload, 1)) (k : W p l e R s m args below meth c H locs cells slots Q (F0 m (pc + 1) ls (.int (ll i.toNatClampNeg) :: rest))) : W p l e R s m args below meth c H locs cells slots Q (F0 m pc ls (.int i :: .ref (a 10) :: rest)) :=
  va_iald hx hb Y.2.2.2 Y.1 10 0 rfl rfl hin d k
theorem mr_st_ll {i : Int32} {x : Int32} (hx : p.tables.exec = Jvm.exec) (hb : c.code = cc) (Y : mY D t bk a A H0 s (fa, fs, ho, ki, le, us, it, fr, at_, mi, tr, hl, lk, ll, li, wr) H locs) (hin : vp_in i 16) (d : decode cc pc = .ok (.iastore, 1)) (k : ∀ (H1 : Heap) (locs1 : List Loc), mY D t bk a A H0 s (fa, fs, ho, ki, le, us, it, fr, at_, mi, tr, hl, lk, upd ll i.toNatClampNeg x, li, wr) H1 locs1 → W p l e R s m args below meth c H1 locs1 cells slots Q (F0 m (pc + 1) ls rest)) : W p l e R s m args below meth c H locs cells slots Q (F0 m pc ls (.int x :: .int i :: .ref (a 10) :: rest)) :=
  va_iast hx hb Y.2.2.2 Y.1 Y.2.1 Y.2.2.1 10 0 rfl rfl hin d (fun H1 locs1 hP hD hS => k H1 locs1 ⟨hP, hD, hS, Y.2.2.2⟩)
theorem mr_ld_li {i : Int32} (hx : p.tables.exec = Jvm.exec) (hb : c.code = cc) (Y : mY D t bk a A H0 s (fa, fs, ho, ki, le, us, it, fr, at_, mi, tr, hl, lk, ll, li, wr) H locs) (hin : vp_in i 640) (d : decode cc pc = .ok (.laload, 1)) (k : W p l e R s m args below meth c H locs cells slots Q (F0 m (pc + 1) ls (.long (li i.toNatClampNeg) :: rest))) : W p l e R s m args below meth c H locs cells slots Q (F0 m pc ls (.int i :: .ref (a 11) :: rest)) :=
  va_lald hx hb Y.2.2.2 Y.1 11 5 rfl rfl hin d k
theorem mr_st_li {i : Int32} {x : Int64} (hx : p.tables.exec = Jvm.exec) (hb : c.code = cc) (Y : mY D t bk a A H0 s (fa, fs, ho, ki, le, us, it, fr, at_, mi, tr, hl, lk, ll, li, wr) H locs) (hin : vp_in i 640) (d : decode cc pc = .ok (.lastore, 1)) (k : ∀ (H1 : Heap) (locs1 : List Loc), mY D t bk a A H0 s (fa, fs, ho, ki, le, us, it, fr, at_, mi, tr, hl, lk, ll, vp_updL li i.toNatClampNeg x, wr) H1 locs1 → W p l e R s m args below meth c H1 locs1 cells slots Q (F0 m (pc + 1) ls rest)) : W p l e R s m args below meth c H locs cells slots Q (F0 m pc ls (.long x :: .int i :: .ref (a 11) :: rest)) :=
  va_last hx hb Y.2.2.2 Y.1 Y.2.1 Y.2.2.1 11 5 rfl rfl hin d (fun H1 locs1 hP hD hS => k H1 locs1 ⟨hP, hD, hS, Y.2.2.2⟩)
theorem mr_ld_wr {i : Int32} (hx : p.tables.exec = Jvm.exec) (hb : c.code = cc) (Y : mY D t bk a A H0 s (fa, fs, ho, ki, le, us, it, fr, at_, mi, tr, hl, lk, ll, li, wr) H locs) (hin : vp_in i 16) (d : decode cc pc = .ok (.iaload, 1)) (k : W p l e R s m args below meth c H locs cells slots Q (F0 m (pc + 1) ls (.int (wr i.toNatClampNeg) :: rest))) : W p l e R s m args below meth c H locs cells slots Q (F0 m pc ls (.int i :: .ref (a 12) :: rest)) :=
  va_iald hx hb Y.2.2.2 Y.1 12 0 rfl rfl hin d k
theorem mr_st_wr {i : Int32} {x : Int32} (hx : p.tables.exec = Jvm.exec) (hb : c.code = cc) (Y : mY D t bk a A H0 s (fa, fs, ho, ki, le, us, it, fr, at_, mi, tr, hl, lk, ll, li, wr) H locs) (hin : vp_in i 16) (d : decode cc pc = .ok (.iastore, 1)) (k : ∀ (H1 : Heap) (locs1 : List Loc), mY D t bk a A H0 s (fa, fs, ho, ki, le, us, it, fr, at_, mi, tr, hl, lk, ll, li, upd wr i.toNatClampNeg x) H1 locs1 → W p l e R s m args below meth c H1 locs1 cells slots Q (F0 m (pc + 1) ls rest)) : W p l e R s m args below meth c H locs cells slots Q (F0 m pc ls (.int x :: .int i :: .ref (a 12) :: rest)) :=
  va_iast hx hb Y.2.2.2 Y.1 Y.2.1 Y.2.2.1 12 0 rfl rfl hin d (fun H1 locs1 hP hD hS => k H1 locs1 ⟨hP, hD, hS, Y.2.2.2⟩)
end
/-- the contract of a method of the reference: it answers r, its world is then that of σ' -/
def mQ (D : va_G) (t : Nat → ClassId) (bk : Int32) (a : Nat → Nat) (r : Option Value) (σ' : MS) : Array Value → State → Outcome → State → Prop := fun _ st o T => (o = .returned r ∧ va_P D mlC (mW bk a t σ') T.heap) ∧ va_F (mA a) st T
def MM (l : Launch) (y : MethodName) (bytes : ByteArray) (maxL : Nat) (ret : Option FieldType) (k : Nat) (D : va_G) (t : Nat → ClassId) (bk : Int32) (a : Nat → Nat) (σ : MS) (As : List Value) (r : Option Value) (σ' : MS) : Prop :=
  Met l y (ws_ y bytes maxL ret) (rmL k) (va_Pc (.ref (a 0) :: As) (fun U => va_P D mlC (mW bk a t σ) U.heap ∧ va_K D mlC (mlT t) U ∧ va_D (fun _ => True) (mW bk a t σ))) (mQ D t bk a r σ') 0 0 (mA a)
abbrev mG (y : MethodName) (bytes : ByteArray) (maxL : Nat) (ret : Option FieldType) (k : Nat) (D : va_G) (t : Nat → ClassId) (bk : Int32) (a : Nat → Nat) (r : Option Value) (σ' : MS) (p : Program) (l : Launch) (e : Env) (s : State) (m : MethodId) (args : Array Value) (below : List Frame) (meth : Method) (c : Code) (H : Heap) (locs : List Loc) (g : JFrame) : Prop :=
  W p l e (headSpec (ws_ y bytes maxL ret) (rmL k)).room s m args below meth c H locs 0 0 (MQ below (mQ D t bk a r σ') args s 0 0 (mA a)) g
theorem mm_of {l : Launch} {y : MethodName} {bytes : ByteArray} {maxL : Nat} {ret : Option FieldType} {k : Nat} {D : va_G} {t : Nat → ClassId} {bk : Int32} {a : Nat → Nat} {σ : MS} {As : List Value} {r : Option Value} {σ' : MS} (hy : plainName y.cls = true) (hsz : (lg_sl (.ref (a 0) :: As)).length ≤ maxL)
    (body : ∀ (p : Program) (e : Env) (s : State) (m : MethodId) (args : Array Value) (below : List Frame) (meth : Method) (c : Code) (ls : Array Slot), p.tables.exec = Jvm.exec → c.code = bytes → meth.sig.returnType = ret → (∀ w ∈ lw_all, w.before args s = true) → s.vm.findClass y.cls = some m.cls → meth.locks = false → c.maxLocals = maxL → lv_has ls maxL (lv_args 0 (.ref (a 0) :: As)) → mY D t bk a (mA a) s.heap s σ s.heap [] → mG y bytes maxL ret k D t bk a r σ' p l e s m args below meth c s.heap [] (F0 m 0 ls [])) : MM l y bytes maxL ret k D t bk a σ As r σ' := by
  refine Met.ofW (cc := bytes) (maxL := maxL) (ret := ret) hy rfl ?_
  intro p e s m args below meth c s₁ B hml hv
  obtain ⟨rfl, hP, hK, hD⟩ := hv
  have hts := atoms_spec (ws := ws_ y bytes maxL ret) B.pre
  have hl := lv_entry (.ref (a 0) :: As) (n := maxL) hsz
  rw [lg_entry_eq]
  generalize (lg_sl (.ref (a 0) :: As) ++ List.replicate (maxL - (lg_sl (.ref (a 0) :: As)).length) Slot.unset).toArray = ls at hl ⊢
  exact body p e s m _ below meth c ls B.exec B.bytes B.returns (fun w h => hts w (List.mem_cons_of_mem _ h)) (findClass_of_methodNamed B.named) B.notSynchronized hml hl ⟨hP, mD_self hD, va_S.rf, hK⟩
section
variable {p : Program} {l : Launch} {e : Env} {R : Room} {s : State} {m : MethodId} {args : Array Value} {below : List Frame} {meth : Method} {c : Code} {H : Heap} {locs : List Loc} {cells slots : Nat} {Q : State → Prop} {cc : ByteArray} {pc : Nat} {ls : Array Slot} {rest st0 : List Value} {D : va_G} {t : Nat → ClassId} {bk : Int32} {a : Nat → Nat} {A : Nat → Prop} {H0 : Heap} {σ σ' : MS}
theorem mm_iret {v r : Int32} (hx : p.tables.exec = Jvm.exec) (hb : c.code = cc) (hr : meth.sig.returnType = some .int) (hlk : meth.locks = false) (Y : mY D t bk a (mA a) s.heap s σ H locs) (d : decode cc pc = .ok (.ireturn, 1)) (h : v = r ∧ σ = σ') : W p l e R s m args below meth c H locs 0 0 (MQ below (mQ D t bk a (some (.int r)) σ') args s 0 0 (mA a)) (F0 m pc ls [.int v]) := by
  obtain ⟨rfl, rfl⟩ := h
  exact W.iret hx hb hr (fun T ht _ => ⟨⟨rfl, by rw [ht]; exact Y.1⟩, Y.2.2.1.F ht⟩) Y.2.2.1.2.2 d hlk
theorem mm_lret {v r : Int64} (hx : p.tables.exec = Jvm.exec) (hb : c.code = cc) (hr : meth.sig.returnType = some .long) (hlk : meth.locks = false) (Y : mY D t bk a (mA a) s.heap s σ H locs) (d : decode cc pc = .ok (.lreturn, 1)) (h : v = r ∧ σ = σ') : W p l e R s m args below meth c H locs 0 0 (MQ below (mQ D t bk a (some (.long r)) σ') args s 0 0 (mA a)) (F0 m pc ls [.long v]) := by
  obtain ⟨rfl, rfl⟩ := h
  exact W.lret hx hb hr (fun T ht _ => ⟨⟨rfl, by rw [ht]; exact Y.1⟩, Y.2.2.1.F ht⟩) Y.2.2.1.2.2 d hlk
theorem mm_zret {v r : Int32} (hx : p.tables.exec = Jvm.exec) (hb : c.code = cc) (hr : meth.sig.returnType = some .boolean) (hlk : meth.locks = false) (Y : mY D t bk a (mA a) s.heap s σ H locs) (d : decode cc pc = .ok (.ireturn, 1)) (hn : narrow .boolean (.int v) = .int v) (h : v = r ∧ σ = σ') : W p l e R s m args below meth c H locs 0 0 (MQ below (mQ D t bk a (some (.int r)) σ') args s 0 0 (mA a)) (F0 m pc ls [.int v]) := by
  obtain ⟨rfl, rfl⟩ := h
  exact W.zret (v := v) hx hb hr hn (fun T ht _ => ⟨⟨rfl, by rw [ht]; exact Y.1⟩, Y.2.2.1.F ht⟩) Y.2.2.1.2.2 d hlk
theorem mm_vret (hx : p.tables.exec = Jvm.exec) (hb : c.code = cc) (hr : meth.sig.returnType = none) (hlk : meth.locks = false) (Y : mY D t bk a (mA a) s.heap s σ H locs) (d : decode cc pc = .ok (.return_, 1)) (h : σ = σ') : W p l e R s m args below meth c H locs 0 0 (MQ below (mQ D t bk a none σ') args s 0 0 (mA a)) (F0 m pc ls []) := by
  subst h
  exact W.vret hx hb hr (fun T ht _ => ⟨⟨rfl, by rw [ht]; exact Y.1⟩, Y.2.2.1.F ht⟩) Y.2.2.1.2.2 d hlk
/-- behind a call of a method of the reference -/
theorem mm_back {r : Option Value} {aa : Array Value} (hr : va_Run p l e R s m args below meth c H locs cells slots 0 0 (F0 m pc ls st0) rest (mQ D t bk a r σ' aa) (mA a)) (Y : mY D t bk a A H0 s σ H locs)
    (kk : ∀ (H1 : Heap) (locs1 : List Loc), mY D t bk a A H0 s σ' H1 locs1 → H.size ≤ H1.size → (∀ q : Nat, q < H.size → ¬ mA a q → H1[q]? = H[q]?) → W p l e R s m args below meth c H1 locs1 cells slots Q (F0 m (pc + 3) ls (r.toList ++ rest))) : W p l e R s m args below meth c H locs cells slots Q (F0 m pc ls st0) := by
  intro T hT X
  obtain ⟨v, st₀, u, T', L, h0, X', hL, e1, e2, ⟨⟨hv, hp⟩, hz, hk⟩, st⟩ := hr T hT X
  cases hv
  rw [h0] at hz hk
  have hA := mA_self Y.2.1
  obtain ⟨t2, a1, b1⟩ := kk T'.heap (locs ++ L) ⟨by rw [e1]; exact hp, mD_move Y.2.1, ⟨Nat.le_trans Y.2.2.1.1 (by rw [e1]; exact hz), fun q h1 h2 => by rw [e1, hk q (Nat.lt_of_lt_of_le h1 Y.2.2.1.1) (fun z => h2 (hA q z))]; exact Y.2.2.1.2.1 q h1 h2, fun q hq => by
      rcases List.mem_append.mp hq with h | h
      · exact Y.2.2.1.2.2 q h
      · exact hA _ (hL q h)⟩, Y.2.2.2⟩ (by rw [e1]; exact hz) (fun q h1 h2 => by rw [e1]; exact hk q h1 h2) T' rfl X'
  exact ⟨t2, st t2 a1, b1⟩
/-- a call of a method of the reference on itself -/
theorem mm_V (n : Nat) {y : MethodName} {own : String} {bytes : ByteArray} {index maxL nL k : Nat} {ret : Option FieldType} {As : List Value} {r : Option Value} (hx : p.tables.exec = Jvm.exec) (hb : c.code = cc) (hml : c.maxLocals = nL) (hown : s.vm.findClass own = some m.cls) (hts : ∀ w ∈ lw_all, w.before args s = true) (Y : mY D t bk a A H0 s σ H locs)
    (hM : MM l y bytes maxL ret k D t bk a σ As r σ') (hw : GoodIn lw_all (wsV own index RX3 y (ws_ y bytes maxL ret))) (hd : y.cls = RX3 ∧ y.cls ≠ "java/lang/invoke/MethodHandle" ∧ y.cls ≠ "java/lang/invoke/VarHandle" ∧ (parseMethodDescriptor y.desc).map (fun d => d.parameters.length) = some n) (hn : As.length = n)
    (hR : (rmL k).frames + 1 ≤ R.frames ∧ 8 + (maxL + 11) + (rmL k).locals ≤ R.locals) (hls : ls.size = nL) (hst : st0 = As.reverse ++ .ref (a 0) :: rest) (hroom : (rest.map fun v => v.category).sum ≤ 8) (d : decode cc pc = .ok (.invokevirtual index, 3)) (hf : cells ≤ R.cells ∧ slots ≤ R.slots)
    (kk : ∀ (H1 : Heap) (locs1 : List Loc), mY D t bk a A H0 s σ' H1 locs1 → H.size ≤ H1.size → (∀ q : Nat, q < H.size → ¬ mA a q → H1[q]? = H[q]?) → W p l e R s m args below meth c H1 locs1 cells slots Q (F0 m (pc + 3) ls (r.toList ++ rest))) : W p l e R s m args below meth c H locs cells slots Q (F0 m pc ls st0) := by
  refine mm_back (va_runV (As := As) (rest := rest) ⟨hx, hb, hml, hown, hts⟩ hM (cwV n hts hw rfl rfl rfl hd hR) ⟨fun aa U g mk q => ?_, ?_, fun U hU hW => ⟨rfl, by rw [hU]; exact Y.1, va_K.moved hW.alike Y.2.2.2, Y.2.1.weaken (fun _ _ _ _ => trivial)⟩⟩ rfl hn hls hst (lv_room hroom) d hf) Y kk
  · obtain ⟨q0, qP, qK, qD⟩ := q
    exact ⟨q0, qP, va_K.moved (u := U) (U := U.calling g mk aa) (Vm.Alike.refl U.vm) qK, qD⟩
  · obtain ⟨fa, fs, ho, ki, le, us, it, fr, at_, mi, tr, hl, lk, ll, li, wr⟩ := σ
    exact va_recv Y.2.2.2 Y.1 (ci := 0) (q0 := 0) rfl rfl
end
