/-! pure static methods: a contract that says which value is answered, the heap untouched -/
set_option maxRecDepth 100000
def rmL (k : Nat) : Room := { frames := k + 1, cells := 0, slots := 0, locals := 64 * k + 12 }
def pQ (r : Value) : Array Value → State → Outcome → State → Prop := fun _ st o t => o = .returned (some r) ∧ t.heap = st.heap
def PF (l : Launch) (y : MethodName) (bytes : ByteArray) (maxL : Nat) (ret : Option FieldType) (k : Nat) (av : List Value) (r : Value) : Prop :=
  Met l y (ws_ y bytes maxL ret) (rmL k) (va_Pc av (fun _ => True)) (pQ r) 0 0 (fun _ => False)
abbrev pW (y : MethodName) (bytes : ByteArray) (maxL : Nat) (ret : Option FieldType) (k : Nat) (r : Value) (p : Program) (l : Launch) (e : Env) (s : State) (m : MethodId) (args : Array Value) (below : List Frame) (meth : Method) (c : Code) (g : JFrame) : Prop :=
  W p l e (headSpec (ws_ y bytes maxL ret) (rmL k)).room s m args below meth c s.heap [] 0 0 (MQ below (pQ r) args s 0 0 (fun _ => False)) g
theorem pf_of {l : Launch} {y : MethodName} {bytes : ByteArray} {maxL : Nat} {ret : Option FieldType} {k : Nat} {av : List Value} {r : Value} (hy : plainName y.cls = true) (hsz : (lg_sl av).length ≤ maxL)
    (body : ∀ (p : Program) (e : Env) (s : State) (m : MethodId) (args : Array Value) (below : List Frame) (meth : Method) (c : Code) (ls : Array Slot), p.tables.exec = Jvm.exec → c.code = bytes → meth.sig.returnType = ret → (∀ w ∈ lw_all, w.before args s = true) → s.vm.findClass y.cls = some m.cls → meth.locks = false → c.maxLocals = maxL → lv_has ls maxL (lv_args 0 av) → pW y bytes maxL ret k r p l e s m args below meth c (F0 m 0 ls [])) : PF l y bytes maxL ret k av r := by
  refine Met.ofW (cc := bytes) (maxL := maxL) (ret := ret) hy rfl ?_
  intro p e s m args below meth c s₁ B hml hv
  obtain ⟨rfl, -⟩ := hv
  have hts := atoms_spec (ws := ws_ y bytes maxL ret) B.pre
  have hl := lv_entry av (n := maxL) hsz
  rw [lg_entry_eq]
  generalize (lg_sl av ++ List.replicate (maxL - (lg_sl av).length) Slot.unset).toArray = ls at hl ⊢
  exact body p e s m _ below meth c ls B.exec B.bytes B.returns (fun w h => hts w (List.mem_cons_of_mem _ h)) (findClass_of_methodNamed B.named) B.notSynchronized hml hl
section
variable {p : Program} {l : Launch} {e : Env} {R : Room} {s : State} {m : MethodId} {args : Array Value} {below : List Frame} {meth : Method} {c : Code} {H : Heap} {locs : List Loc} {cells slots : Nat} {Q : State → Prop} {cc : ByteArray} {pc : Nat} {ls : Array Slot} {rest st0 : List Value}
theorem pf_iret {v r : Int32} (hx : p.tables.exec = Jvm.exec) (hb : c.code = cc) (hr : meth.sig.returnType = some .int) (hlk : meth.locks = false) (d : decode cc pc = .ok (.ireturn, 1)) (h : v = r) : W p l e R s m args below meth c s.heap [] 0 0 (MQ below (pQ (.int r)) args s 0 0 (fun _ => False)) (F0 m pc ls [.int v]) := by
  subst h
  exact W.iret hx hb hr (fun t ht _ => ⟨rfl, ht⟩) (fun _ h => by cases h) d hlk
theorem pf_zret {v r : Int32} (hx : p.tables.exec = Jvm.exec) (hb : c.code = cc) (hr : meth.sig.returnType = some .boolean) (hlk : meth.locks = false) (d : decode cc pc = .ok (.ireturn, 1)) (hn : narrow .boolean (.int v) = .int v) (h : v = r) : W p l e R s m args below meth c s.heap [] 0 0 (MQ below (pQ (.int r)) args s 0 0 (fun _ => False)) (F0 m pc ls [.int v]) := by
  subst h
  exact W.zret (v := v) hx hb hr hn (fun t ht _ => ⟨rfl, ht⟩) (fun _ h => by cases h) d hlk
theorem pf_lret {v r : Int64} (hx : p.tables.exec = Jvm.exec) (hb : c.code = cc) (hr : meth.sig.returnType = some .long) (hlk : meth.locks = false) (d : decode cc pc = .ok (.lreturn, 1)) (h : v = r) : W p l e R s m args below meth c s.heap [] 0 0 (MQ below (pQ (.long r)) args s 0 0 (fun _ => False)) (F0 m pc ls [.long v]) := by
  subst h
  exact W.lret hx hb hr (fun t ht _ => ⟨rfl, ht⟩) (fun _ h => by cases h) d hlk
theorem pf_fret {v r : UInt32} (hx : p.tables.exec = Jvm.exec) (hb : c.code = cc) (hr : meth.sig.returnType = some .float) (hlk : meth.locks = false) (d : decode cc pc = .ok (.freturn, 1)) (h : v = r) : W p l e R s m args below meth c s.heap [] 0 0 (MQ below (pQ (.float r)) args s 0 0 (fun _ => False)) (F0 m pc ls [.float v]) := by
  subst h
  exact W.fret hx hb hr (fun t ht _ => ⟨rfl, ht⟩) (fun _ h => by cases h) d hlk
theorem pf_dret {v r : UInt64} (hx : p.tables.exec = Jvm.exec) (hb : c.code = cc) (hr : meth.sig.returnType = some .double) (hlk : meth.locks = false) (d : decode cc pc = .ok (.dreturn, 1)) (h : v = r) : W p l e R s m args below meth c s.heap [] 0 0 (MQ below (pQ (.double r)) args s 0 0 (fun _ => False)) (F0 m pc ls [.double v]) := by
  subst h
  exact W.dret hx hb hr (fun t ht _ => ⟨rfl, ht⟩) (fun _ h => by cases h) d hlk
/-- behind a call of a pure method -/
theorem pf_back {r : Value} {a : Array Value} (hr : CallRun p l e R s m args below meth c H locs cells slots 0 0 (F0 m pc ls st0) rest (pQ r a) (fun _ => False)) (kk : W p l e R s m args below meth c H locs cells slots Q (F0 m (pc + 3) ls (r :: rest))) : W p l e R s m args below meth c H locs cells slots Q (F0 m pc ls st0) := by
  intro T hT X
  obtain ⟨v, st₀, t, T', L, h0, X', hL, e1, ⟨hv, hh⟩, st⟩ := hr T hT X
  cases hv
  obtain ⟨t2, a1, b1⟩ := kk T' (by rw [e1, hh, h0]) (Stand.forget X' (fun q h => (hL q h).elim))
  exact ⟨t2, st t2 a1, b1⟩
/-- a static call of a pure method -/
theorem pf_S (n : Nat) {y : MethodName} {own : String} {bytes : ByteArray} {index maxL nL k : Nat} {ret : Option FieldType} {As : List Value} {r : Value} (hx : p.tables.exec = Jvm.exec) (hb : c.code = cc) (hml : c.maxLocals = nL) (hown : s.vm.findClass own = some m.cls) (hts : ∀ w ∈ lw_all, w.before args s = true)
    (hM : PF l y bytes maxL ret k As r) (hw : GoodIn lw_all (va_wsS own index y (ws_ y bytes maxL ret))) (hd : y.cls ≠ "java/lang/invoke/MethodHandle" ∧ y.cls ≠ "java/lang/invoke/VarHandle" ∧ (parseMethodDescriptor y.desc).map (fun d => d.parameters.length) = some n) (hn : As.length = n)
    (hR : (rmL k).frames + 1 ≤ R.frames ∧ 8 + (maxL + 11) + (rmL k).locals ≤ R.locals) (hls : ls.size = nL) (hst : st0 = As.reverse ++ rest) (hroom : (rest.map fun v => v.category).sum ≤ 8) (d : decode cc pc = .ok (.invokestatic index, 3)) (hf : cells ≤ R.cells ∧ slots ≤ R.slots)
    (kk : W p l e R s m args below meth c H locs cells slots Q (F0 m (pc + 3) ls (r :: rest))) : W p l e R s m args below meth c H locs cells slots Q (F0 m pc ls st0) :=
  pf_back (va_Run.run (va_runS (As := As) (rest := rest) ⟨hx, hb, hml, hown, hts⟩ hM (va_cwS n hts hw rfl rfl rfl hd hR) ⟨fun _ _ _ _ q => q, fun _ _ _ => ⟨rfl, trivial⟩⟩ rfl hn hls hst (lv_room hroom) d hf)) kk
end
/-! comparisons of ints with a constant, for omega -/
theorem i0_ge {x y : Int32} (h : x ≥ y) : y.toInt ≤ x.toInt := Int32.le_iff_toInt_le.mp h
theorem i0_nge {x y : Int32} (h : ¬ x ≥ y) : x.toInt < y.toInt := by
  have h1 : ¬ y.toInt ≤ x.toInt := fun q => h (Int32.le_iff_toInt_le.mpr q)
  omega
theorem i0_lt {x y : Int32} (h : x < y) : x.toInt < y.toInt := Int32.lt_iff_toInt_lt.mp h
theorem i0_nlt {x y : Int32} (h : ¬ x < y) : y.toInt ≤ x.toInt := by
  have h1 : ¬ x.toInt < y.toInt := fun q => h (Int32.lt_iff_toInt_lt.mpr q)
  omega
theorem i0_0 : (0 : Int32).toInt = 0 := rfl
theorem nI_lim {a b : Nat} (h : ¬ nI a ≥ nI b) (ha : a < 2 ^ 31) : a < b := by
  rcases Nat.lt_or_ge a b with q | q
  · exact q
  · exact absurd (nI_le q ha) h
theorem nI_lim' {a b : Nat} (h : nI a ≥ nI b) (hb : b < 2 ^ 31) : b ≤ a := by
  rcases Nat.lt_or_ge a b with q | q
  · exact absurd h (nI_ge q hb)
  · exact q
theorem i0_le {x y : Int32} (h : x ≤ y) : x.toInt ≤ y.toInt := Int32.le_iff_toInt_le.mp h
theorem i0_nle {x y : Int32} (h : ¬ x ≤ y) : y.toInt < x.toInt := by
  have h1 : ¬ x.toInt ≤ y.toInt := fun q => h (Int32.le_iff_toInt_le.mpr q)
  omega
theorem i0_gt {x y : Int32} (h : x > y) : y.toInt < x.toInt := Int32.lt_iff_toInt_lt.mp h
theorem i0_ngt {x y : Int32} (h : ¬ x > y) : x.toInt ≤ y.toInt := i0_nlt h
