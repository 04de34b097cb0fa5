/-! rows that the kit lacks -/
section
variable {p : Program} {l : Launch} {e : Env} {R : Room} {s : State} {m : MethodId} {args : Array Value} {below : List Frame} {meth : Method} {c : Code} {H : Heap} {locs : List Loc} {cells slots : Nat} {Q : State → Prop} {cc : ByteArray} {pc : Nat} {ls : Array Slot} {rest st0 : List Value}
theorem zz_ldcwI {T : State} (X : Stand p l e R s m args below meth c T locs cells slots) (hexec : p.tables.exec = Jvm.exec) {own : String} {index : Nat} {v : UInt32} (hown : s.vm.findClass own = some m.cls)
    (hconst : (Cond.constantFloat own index v).before args s = true) {g : JFrame} (hg : g.method = m) (hdg : decode c.code g.pc = .ok (.ldc_w index, 3)) :
    ∀ target, Steps p.tables e below (T.setTop { g with pc := g.pc + 3, stack := .float v :: g.stack }) target → Steps p.tables e below (T.setTop g) target := by
  obtain ⟨k, cf, hk, hcf, hcp⟩ := Cond.constantFloat_spec hown hconst
  obtain ⟨k', hk', he⟩ := X.warmed.alike.2.2 _ _ hk
  intro target hrest
  subst hg
  jvm_step X.here [hexec, hdg, ldc_w.wp_float (s := T) (f := g) X.here.top hk' (by rw [he]; exact hcf) hcp]
  exact hrest
/-- a float's constant by its wide opcode -/
theorem zz_ldcwf (hexec : p.tables.exec = Jvm.exec) (hb : c.code = cc) {own : String} {index : Nat} {v : UInt32} (hown : s.vm.findClass own = some m.cls) (hconst : (Jvm.Cond.constantFloat own index v).before args s = true) (hdg : decode cc pc = .ok (.ldc_w index, 3)) (k : W p l e R s m args below meth c H locs cells slots Q (F0 m (pc + 3) ls (.float v :: rest))) : W p l e R s m args below meth c H locs cells slots Q (F0 m pc ls rest) := by
  intro T hT X
  obtain ⟨t, a, b⟩ := k T hT X
  exact ⟨t, zz_ldcwI X hexec hown hconst (g := F0 m pc ls rest) rfl (by rw [hb]; exact hdg) t a, b⟩
end
/-! pure methods that read statics of the JDK -/
def zSt (U : State) (H : Heap) : Prop := va_Z "java/lang/Math" "negativeZeroDoubleBits" "J" (.long (-9223372036854775808)) (fun _ => False) U H ∧ va_Z "java/lang/Math" "negativeZeroFloatBits" "J" (.long (-2147483648)) (fun _ => False) U H ∧ va_Z "java/lang/StrictMath" "$assertionsDisabled" "Z" (.int 1) (fun _ => False) U H
theorem zSt.moved {u U : State} {H : Heap} (hvm : u.vm.Alike U.vm) (h : zSt u H) : zSt U H := ⟨h.1.moved hvm, h.2.1.moved hvm, h.2.2.moved hvm⟩
def PZ (l : Launch) (y : MethodName) (bytes : ByteArray) (maxL : Nat) (ret : Option FieldType) (k : Nat) (av : List Value) (r : Value) : Prop :=
  Met l y (ws_ y bytes maxL ret) (rmL k) (va_Pc av (fun U => zSt U U.heap)) (pQ r) 0 0 (fun _ => False)
theorem pz_of {l : Launch} {y : MethodName} {bytes : ByteArray} {maxL : Nat} {ret : Option FieldType} {k : Nat} {av : List Value} {r : Value} (hy : plainName y.cls = true) (hsz : (lg_sl av).length ≤ maxL)
    (body : ∀ (p : Program) (e : Env) (s : State) (m : MethodId) (args : Array Value) (below : List Frame) (meth : Method) (c : Code) (ls : Array Slot), p.tables.exec = Jvm.exec → c.code = bytes → meth.sig.returnType = ret → (∀ w ∈ lw_all, w.before args s = true) → s.vm.findClass y.cls = some m.cls → meth.locks = false → c.maxLocals = maxL → lv_has ls maxL (lv_args 0 av) → zSt s s.heap → pW y bytes maxL ret k r p l e s m args below meth c (F0 m 0 ls [])) : PZ l y bytes maxL ret k av r := by
  refine Met.ofW (cc := bytes) (maxL := maxL) (ret := ret) hy rfl ?_
  intro p e s m args below meth c s₁ B hml hv
  obtain ⟨rfl, hZ⟩ := hv
  have hts := atoms_spec (ws := ws_ y bytes maxL ret) B.pre
  have hl := lv_entry av (n := maxL) hsz
  rw [lg_entry_eq]
  generalize (lg_sl av ++ List.replicate (maxL - (lg_sl av).length) Slot.unset).toArray = ls at hl ⊢
  exact body p e s m _ below meth c ls B.exec B.bytes B.returns (fun w h => hts w (List.mem_cons_of_mem _ h)) (findClass_of_methodNamed B.named) B.notSynchronized hml hl hZ
section
variable {p : Program} {l : Launch} {e : Env} {R : Room} {s : State} {m : MethodId} {args : Array Value} {below : List Frame} {meth : Method} {c : Code} {H : Heap} {locs : List Loc} {cells slots : Nat} {Q : State → Prop} {cc : ByteArray} {pc : Nat} {ls : Array Slot} {rest st0 : List Value}
theorem pz_S (n : Nat) {y : MethodName} {own : String} {bytes : ByteArray} {index maxL nL k : Nat} {ret : Option FieldType} {As : List Value} {r : Value} (hx : p.tables.exec = Jvm.exec) (hb : c.code = cc) (hml : c.maxLocals = nL) (hown : s.vm.findClass own = some m.cls) (hts : ∀ w ∈ lw_all, w.before args s = true) (hZ : zSt s H)
    (hM : PZ l y bytes maxL ret k As r) (hw : GoodIn lw_all (va_wsS own index y (ws_ y bytes maxL ret))) (hd : y.cls ≠ "java/lang/invoke/MethodHandle" ∧ y.cls ≠ "java/lang/invoke/VarHandle" ∧ (parseMethodDescriptor y.desc).map (fun d => d.parameters.length) = some n) (hn : As.length = n)
    (hR : (rmL k).frames + 1 ≤ R.frames ∧ 8 + (maxL + 11) + (rmL k).locals ≤ R.locals) (hls : ls.size = nL) (hst : st0 = As.reverse ++ rest) (hroom : (rest.map fun v => v.category).sum ≤ 8) (d : decode cc pc = .ok (.invokestatic index, 3)) (hf : cells ≤ R.cells ∧ slots ≤ R.slots)
    (kk : W p l e R s m args below meth c H locs cells slots Q (F0 m (pc + 3) ls (r :: rest))) : W p l e R s m args below meth c H locs cells slots Q (F0 m pc ls st0) :=
  pf_back (va_Run.run (va_runS (As := As) (rest := rest) ⟨hx, hb, hml, hown, hts⟩ hM (va_cwS n hts hw rfl rfl rfl hd hR) ⟨fun a U g mk q => ⟨q.1, q.2.moved (U := U.calling g mk a) (Vm.Alike.refl U.vm)⟩, fun U hU hW => ⟨rfl, by show zSt U U.heap; rw [hU]; exact hZ.moved hW.alike⟩⟩ rfl hn hls hst (lv_room hroom) d hf)) kk
/-- a static of the three -/
theorem zz_gets {C n d own ref : String} {v : Value} {index : Nat} (hexec : p.tables.exec = Jvm.exec) (hb : c.code = cc) (hZ : va_Z C n d v (fun _ => False) s s.heap) (hown : s.vm.findClass own = some m.cls) (hlink : (Cond.fieldLink own index C n d).before args s = true) (hdg : decode cc pc = .ok (.getstatic index, 3))
    (kk : W p l e R s m args below meth c s.heap [] cells slots Q (F0 m (pc + 3) ls (v :: rest))) : W p l e R s m args below meth c s.heap [] cells slots Q (F0 m pc ls rest) :=
  va_gets hexec hb hZ va_S.rf hown hlink (fun _ h => h) hdg kk
end
/-! of a class that has entries of the machine's own -/
theorem pf_ofF {l : Launch} {y : MethodName} {bytes : ByteArray} {maxL : Nat} {ret : Option FieldType} {k : Nat} {av : List Value} {r : Value} (hy : plainFor y = true) (hsz : (lg_sl av).length ≤ maxL)
    (body : ∀ (p : Program) (e : Env) (s : State) (m : MethodId) (args : Array Value) (below : List Frame) (meth : Method) (c : Code) (ls : Array Slot), p.tables.exec = Jvm.exec → c.code = bytes → meth.sig.returnType = ret → (∀ w ∈ lw_all, w.before args s = true) → s.vm.findClass y.cls = some m.cls → meth.locks = false → c.maxLocals = maxL → lv_has ls maxL (lv_args 0 av) → pW y bytes maxL ret k r p l e s m args below meth c (F0 m 0 ls [])) : PF l y bytes maxL ret k av r := by
  refine va_MetF (cc := bytes) (maxL := maxL) (ret := ret) hy rfl ?_
  intro p e s m args below meth c s₁ B hml hv
  obtain ⟨rfl, -⟩ := hv
  have hts := atoms_spec (ws := ws_ y bytes maxL ret) B.pre
  have hl := lv_entry av (n := maxL) hsz
  rw [lg_entry_eq]
  generalize (lg_sl av ++ List.replicate (maxL - (lg_sl av).length) Slot.unset).toArray = ls at hl ⊢
  exact body p e s m _ below meth c ls B.exec B.bytes B.returns (fun w h => hts w (List.mem_cons_of_mem _ h)) (findClass_of_methodNamed B.named) B.notSynchronized hml hl
theorem pz_ofF {l : Launch} {y : MethodName} {bytes : ByteArray} {maxL : Nat} {ret : Option FieldType} {k : Nat} {av : List Value} {r : Value} (hy : plainFor y = true) (hsz : (lg_sl av).length ≤ maxL)
    (body : ∀ (p : Program) (e : Env) (s : State) (m : MethodId) (args : Array Value) (below : List Frame) (meth : Method) (c : Code) (ls : Array Slot), p.tables.exec = Jvm.exec → c.code = bytes → meth.sig.returnType = ret → (∀ w ∈ lw_all, w.before args s = true) → s.vm.findClass y.cls = some m.cls → meth.locks = false → c.maxLocals = maxL → lv_has ls maxL (lv_args 0 av) → zSt s s.heap → pW y bytes maxL ret k r p l e s m args below meth c (F0 m 0 ls [])) : PZ l y bytes maxL ret k av r := by
  refine va_MetF (cc := bytes) (maxL := maxL) (ret := ret) hy rfl ?_
  intro p e s m args below meth c s₁ B hml hv
  obtain ⟨rfl, hZ⟩ := hv
  have hts := atoms_spec (ws := ws_ y bytes maxL ret) B.pre
  have hl := lv_entry av (n := maxL) hsz
  rw [lg_entry_eq]
  generalize (lg_sl av ++ List.replicate (maxL - (lg_sl av).length) Slot.unset).toArray = ls at hl ⊢
  exact body p e s m _ below meth c ls B.exec B.bytes B.returns (fun w h => hts w (List.mem_cons_of_mem _ h)) (findClass_of_methodNamed B.named) B.notSynchronized hml hl hZ
