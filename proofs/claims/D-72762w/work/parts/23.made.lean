/-! the classes made for lambdas: their forwarders (by program) -/
def lmB0 : ByteArray := ⟨#[0x2a, 0xb4, 0x00, 0x0f, 0x1b, 0xb8, 0x00, 0x17, 0xac]⟩
theorem lmd0_0 : decode lmB0 0 = .ok (.aload_n 0, 1) := by decide +kernel
theorem lmd0_1 : decode lmB0 1 = .ok (.getfield 15, 3) := by decide +kernel
theorem lmd0_4 : decode lmB0 4 = .ok (.iload_n 1, 1) := by decide +kernel
theorem lmd0_5 : decode lmB0 5 = .ok (.invokestatic 23, 3) := by decide +kernel
theorem lmd0_8 : decode lmB0 8 = .ok (.ireturn, 1) := by decide +kernel
def lmD0 : ClassFile := (lmS0.file "PromiseTries$Reader").getD { minorVersion := 0, majorVersion := 0, constantPool := #[], accessFlags := 0, thisClass := 0, superClass := 0, interfaces := #[], fields := #[], methods := #[], attributes := #[] }
def lmF0 : Method := ((layoutMethods lmD0).bind (·[1]?)).getD default
def lmL0 : Array Field × Array FieldType × Array FieldType := (layoutFields lmD0 0).getD (#[], #[], #[])
theorem lmfile0 : lmS0.file "PromiseTries$Reader" = some lmD0 := by
  have h : (lmS0.file "PromiseTries$Reader").isSome = true := by decide +kernel
  obtain ⟨x, hx⟩ := Option.isSome_iff_exists.mp h
  simp [lmD0, hx]
theorem lmsec0 (ms : Array Method) (hms : layoutMethods lmD0 = some ms) : ms[1]? = some lmF0 := by
  have h : ((layoutMethods lmD0).bind (·[1]?)).isSome = true := by decide +kernel
  obtain ⟨x, hx⟩ := Option.isSome_iff_exists.mp h
  rw [show lmF0 = x from by simp [lmF0, hx]]
  rw [hms] at hx
  exact hx
theorem lmlaid0 : layoutFields lmD0 0 = some lmL0 := by
  have h : (layoutFields lmD0 0).isSome = true := by decide +kernel
  obtain ⟨x, hx⟩ := Option.isSome_iff_exists.mp h
  simp [lmL0, hx]
theorem lmcode0 : (lmF0.code.map fun c => (c.code.data, c.maxLocals)) = some (lmB0.data, 2) := by decide +kernel
theorem lmflag0 : (lmF0.accessFlags, lmF0.sig.returnType) = (0x0001, some FieldType.boolean) := by decide +kernel
theorem lmeM0 : lmD0.constantPool[23]? = some (.methodref 19 22) ∧ lmD0.constantPool.className? 19 = some "PromiseTries$Reader" ∧ lmD0.constantPool.nameAndType? 22 = some ("lambda$wire$0", "(II)Z") := by decide +kernel
theorem lmeC0 : lmD0.constantPool[19]? = some (.class_ 18) ∧ lmD0.constantPool.string? 18 = some "PromiseTries$Reader" ∧ 19 ≠ lmD0.thisClass := by decide +kernel
theorem lmeF0_0 : lmD0.constantPool[15]? = some (.fieldref 2 14) ∧ lmD0.constantPool.nameAndType? 14 = some ("arg$1", "I") ∧ lmL0.1.findIdx? (·.name == "arg$1") = some 0 ∧ (lmL0.1[0]?).map (fun f => (f.isStatic, f.slot)) = some (false, 0) := by decide +kernel
theorem lmfacts0 {s : State} {args : Array Value} {e : Setting} {d c : ClassId} {dk : Class} (hd : s.vm.classes[d]? = some dk) (hname : dk.name = "PromiseTries$Reader") (h : Lambda.isMade e s.vm d lmS0 c = true) (hO : (Cond.instantiable "java/lang/Object" 0).before args s = true) :
    ∃ (k tk : Class) (file : ClassFile) (b : Method) (y : Code) (toy : ClassId) (t : MethodId) (g0 : Field), s.vm.classes[c]? = some k ∧ k.name = "PromiseTries$Reader$$Lambda" ∧ k.cf = some file ∧ file.constantPool = lmD0.constantPool ∧ s.vm.method? ⟨c, 1⟩ = some b ∧ b.code = some y ∧ y.code = lmB0 ∧ y.maxLocals = 2 ∧ b.locks = false ∧ b.accessFlags = 0x0001 ∧ b.sig.returnType = some .boolean ∧
      s.vm.findClass "PromiseTries$Reader" = some toy ∧ s.vm.classes[toy]? = some tk ∧ ((methodIn toy "lambda$wire$0" "(II)Z" tk.isInterface none).ask e s.vm).1 = .ok t ∧ s.vm.methodReady c 23 t ∧ s.vm.classReady c 19 toy ∧ s.vm.fieldReady c 15 c g0 ∧ g0.isStatic = false ∧ g0.slot = 0 := by
  obtain ⟨dk', k, ok, tk, file, cf, object, iface, toy, lay, methods, target, found, hd', hk, hfile, hcf, hobj, -, hok, hlay, hms, ht, htk, hg, -, hrec, -, -, -, hitf, hpool, hmeth, hfields, hty, hres, -⟩ := Lambda.isMade_spec h
  cases hd.symm.trans hd'
  rw [hname, lmfile0] at hcf
  cases hcf
  obtain ⟨cO, kO, hfO, hkO, -, -, -, hsz⟩ := Cond.instantiable_spec hO
  cases hfO.symm.trans hobj
  cases hkO.symm.trans hok
  rw [hsz, lmlaid0] at hlay
  cases hlay
  obtain ⟨b, hb, hsame⟩ := hmeth 1 lmF0 (lmsec0 methods hms)
  simp only [Lambda.sameMethod, Bool.and_eq_true, decide_eq_true_eq] at hsame
  obtain ⟨⟨hn, -, hsig, hfl⟩, hcode⟩ := hsame
  have fc := lmcode0
  have ff := lmflag0
  simp only [Prod.mk.injEq] at ff
  obtain ⟨g0, hg0, hp0⟩ := Option.map_eq_some_iff.mp lmeF0_0.2.2.2
  simp only [Prod.mk.injEq] at hp0
  cases hfc : lmF0.code with
  | none => rw [hfc] at fc; cases fc
  | some x =>
    cases hbc : b.code with
    | none => simp [hfc, hbc] at hcode
    | some y =>
      simp only [hfc, hbc, Bool.and_eq_true, decide_eq_true_eq] at hcode
      simp only [hfc, Option.map_some, Option.some.injEq, Prod.mk.injEq] at fc
      refine ⟨k, tk, file, b, y, toy, target, g0, hk, by rw [hrec.1, hname]; rfl, hfile, hpool.2.1, by simp [Vm.method?, hk, hb], hbc, ?_, by rw [← hcode.1.1.1.1.2.1]; exact fc.2, ?_, by rw [← hfl]; exact ff.1, by rw [← hsig]; exact ff.2, ht, htk, hg,
        ⟨k, hk, hres 23 _ (Lambda.resolvedOf_method lmeM0.1 lmeM0.2.1 ht htk lmeM0.2.2 hg)⟩, ⟨k, hk, hres 19 _ (Lambda.resolvedOf_class lmeC0.1 lmeC0.2.2 lmeC0.2.1 ht)⟩, ⟨k, 0, k, hk, hres 15 _ (Lambda.resolvedOf_field lmeF0_0.1 lmeF0_0.2.1 lmeF0_0.2.2.1), hk, hfields 0 _ hg0⟩, hp0.1, hp0.2⟩
      · rw [← hcode.1.1.1.1.2.2]
        exact ByteArray.ext fc.1
      · simp [Method.locks, Method.isSynchronized, ← hfl, ff.1, hasFlag, Acc.synchronized]
def lmB1 : ByteArray := ⟨#[0x2a, 0xb4, 0x00, 0x0f, 0x1b, 0xb8, 0x00, 0x17, 0xac]⟩
theorem lmd1_0 : decode lmB1 0 = .ok (.aload_n 0, 1) := by decide +kernel
theorem lmd1_1 : decode lmB1 1 = .ok (.getfield 15, 3) := by decide +kernel
theorem lmd1_4 : decode lmB1 4 = .ok (.iload_n 1, 1) := by decide +kernel
theorem lmd1_5 : decode lmB1 5 = .ok (.invokestatic 23, 3) := by decide +kernel
theorem lmd1_8 : decode lmB1 8 = .ok (.ireturn, 1) := by decide +kernel
def lmD1 : ClassFile := (lmS1.file "PromiseTries$Reader").getD { minorVersion := 0, majorVersion := 0, constantPool := #[], accessFlags := 0, thisClass := 0, superClass := 0, interfaces := #[], fields := #[], methods := #[], attributes := #[] }
def lmF1 : Method := ((layoutMethods lmD1).bind (·[1]?)).getD default
def lmL1 : Array Field × Array FieldType × Array FieldType := (layoutFields lmD1 0).getD (#[], #[], #[])
theorem lmfile1 : lmS1.file "PromiseTries$Reader" = some lmD1 := by
  have h : (lmS1.file "PromiseTries$Reader").isSome = true := by decide +kernel
  obtain ⟨x, hx⟩ := Option.isSome_iff_exists.mp h
  simp [lmD1, hx]
theorem lmsec1 (ms : Array Method) (hms : layoutMethods lmD1 = some ms) : ms[1]? = some lmF1 := by
  have h : ((layoutMethods lmD1).bind (·[1]?)).isSome = true := by decide +kernel
  obtain ⟨x, hx⟩ := Option.isSome_iff_exists.mp h
  rw [show lmF1 = x from by simp [lmF1, hx]]
  rw [hms] at hx
  exact hx
theorem lmlaid1 : layoutFields lmD1 0 = some lmL1 := by
  have h : (layoutFields lmD1 0).isSome = true := by decide +kernel
  obtain ⟨x, hx⟩ := Option.isSome_iff_exists.mp h
  simp [lmL1, hx]
theorem lmcode1 : (lmF1.code.map fun c => (c.code.data, c.maxLocals)) = some (lmB1.data, 2) := by decide +kernel
theorem lmflag1 : (lmF1.accessFlags, lmF1.sig.returnType) = (0x0001, some FieldType.boolean) := by decide +kernel
theorem lmeM1 : lmD1.constantPool[23]? = some (.methodref 19 22) ∧ lmD1.constantPool.className? 19 = some "PromiseTries$Reader" ∧ lmD1.constantPool.nameAndType? 22 = some ("lambda$condition$1", "(LPromiseTries$Holds;I)Z") := by decide +kernel
theorem lmeC1 : lmD1.constantPool[19]? = some (.class_ 18) ∧ lmD1.constantPool.string? 18 = some "PromiseTries$Reader" ∧ 19 ≠ lmD1.thisClass := by decide +kernel
theorem lmeF1_0 : lmD1.constantPool[15]? = some (.fieldref 2 14) ∧ lmD1.constantPool.nameAndType? 14 = some ("arg$1", "LPromiseTries$Holds;") ∧ lmL1.1.findIdx? (·.name == "arg$1") = some 0 ∧ (lmL1.1[0]?).map (fun f => (f.isStatic, f.slot)) = some (false, 0) := by decide +kernel
theorem lmfacts1 {s : State} {args : Array Value} {e : Setting} {d c : ClassId} {dk : Class} (hd : s.vm.classes[d]? = some dk) (hname : dk.name = "PromiseTries$Reader") (h : Lambda.isMade e s.vm d lmS1 c = true) (hO : (Cond.instantiable "java/lang/Object" 0).before args s = true) :
    ∃ (k tk : Class) (file : ClassFile) (b : Method) (y : Code) (toy : ClassId) (t : MethodId) (g0 : Field), s.vm.classes[c]? = some k ∧ k.name = "PromiseTries$Reader$$Lambda" ∧ k.cf = some file ∧ file.constantPool = lmD1.constantPool ∧ s.vm.method? ⟨c, 1⟩ = some b ∧ b.code = some y ∧ y.code = lmB1 ∧ y.maxLocals = 2 ∧ b.locks = false ∧ b.accessFlags = 0x0001 ∧ b.sig.returnType = some .boolean ∧
      s.vm.findClass "PromiseTries$Reader" = some toy ∧ s.vm.classes[toy]? = some tk ∧ ((methodIn toy "lambda$condition$1" "(LPromiseTries$Holds;I)Z" tk.isInterface none).ask e s.vm).1 = .ok t ∧ s.vm.methodReady c 23 t ∧ s.vm.classReady c 19 toy ∧ s.vm.fieldReady c 15 c g0 ∧ g0.isStatic = false ∧ g0.slot = 0 := by
  obtain ⟨dk', k, ok, tk, file, cf, object, iface, toy, lay, methods, target, found, hd', hk, hfile, hcf, hobj, -, hok, hlay, hms, ht, htk, hg, -, hrec, -, -, -, hitf, hpool, hmeth, hfields, hty, hres, -⟩ := Lambda.isMade_spec h
  cases hd.symm.trans hd'
  rw [hname, lmfile1] at hcf
  cases hcf
  obtain ⟨cO, kO, hfO, hkO, -, -, -, hsz⟩ := Cond.instantiable_spec hO
  cases hfO.symm.trans hobj
  cases hkO.symm.trans hok
  rw [hsz, lmlaid1] at hlay
  cases hlay
  obtain ⟨b, hb, hsame⟩ := hmeth 1 lmF1 (lmsec1 methods hms)
  simp only [Lambda.sameMethod, Bool.and_eq_true, decide_eq_true_eq] at hsame
  obtain ⟨⟨hn, -, hsig, hfl⟩, hcode⟩ := hsame
  have fc := lmcode1
  have ff := lmflag1
  simp only [Prod.mk.injEq] at ff
  obtain ⟨g0, hg0, hp0⟩ := Option.map_eq_some_iff.mp lmeF1_0.2.2.2
  simp only [Prod.mk.injEq] at hp0
  cases hfc : lmF1.code with
  | none => rw [hfc] at fc; cases fc
  | some x =>
    cases hbc : b.code with
    | none => simp [hfc, hbc] at hcode
    | some y =>
      simp only [hfc, hbc, Bool.and_eq_true, decide_eq_true_eq] at hcode
      simp only [hfc, Option.map_some, Option.some.injEq, Prod.mk.injEq] at fc
      refine ⟨k, tk, file, b, y, toy, target, g0, hk, by rw [hrec.1, hname]; rfl, hfile, hpool.2.1, by simp [Vm.method?, hk, hb], hbc, ?_, by rw [← hcode.1.1.1.1.2.1]; exact fc.2, ?_, by rw [← hfl]; exact ff.1, by rw [← hsig]; exact ff.2, ht, htk, hg,
        ⟨k, hk, hres 23 _ (Lambda.resolvedOf_method lmeM1.1 lmeM1.2.1 ht htk lmeM1.2.2 hg)⟩, ⟨k, hk, hres 19 _ (Lambda.resolvedOf_class lmeC1.1 lmeC1.2.2 lmeC1.2.1 ht)⟩, ⟨k, 0, k, hk, hres 15 _ (Lambda.resolvedOf_field lmeF1_0.1 lmeF1_0.2.1 lmeF1_0.2.2.1), hk, hfields 0 _ hg0⟩, hp0.1, hp0.2⟩
      · rw [← hcode.1.1.1.1.2.2]
        exact ByteArray.ext fc.1
      · simp [Method.locks, Method.isSynchronized, ← hfl, ff.1, hasFlag, Acc.synchronized]
def lmB2 : ByteArray := ⟨#[0x2a, 0xb4, 0x00, 0x10, 0x2a, 0xb4, 0x00, 0x12, 0x1b, 0xb8, 0x00, 0x1a, 0xac]⟩
theorem lmd2_0 : decode lmB2 0 = .ok (.aload_n 0, 1) := by decide +kernel
theorem lmd2_1 : decode lmB2 1 = .ok (.getfield 16, 3) := by decide +kernel
theorem lmd2_4 : decode lmB2 4 = .ok (.aload_n 0, 1) := by decide +kernel
theorem lmd2_5 : decode lmB2 5 = .ok (.getfield 18, 3) := by decide +kernel
theorem lmd2_8 : decode lmB2 8 = .ok (.iload_n 1, 1) := by decide +kernel
theorem lmd2_9 : decode lmB2 9 = .ok (.invokestatic 26, 3) := by decide +kernel
theorem lmd2_12 : decode lmB2 12 = .ok (.ireturn, 1) := by decide +kernel
def lmD2 : ClassFile := (lmS2.file "PromiseTries$Reader").getD { minorVersion := 0, majorVersion := 0, constantPool := #[], accessFlags := 0, thisClass := 0, superClass := 0, interfaces := #[], fields := #[], methods := #[], attributes := #[] }
def lmF2 : Method := ((layoutMethods lmD2).bind (·[1]?)).getD default
def lmL2 : Array Field × Array FieldType × Array FieldType := (layoutFields lmD2 0).getD (#[], #[], #[])
theorem lmfile2 : lmS2.file "PromiseTries$Reader" = some lmD2 := by
  have h : (lmS2.file "PromiseTries$Reader").isSome = true := by decide +kernel
  obtain ⟨x, hx⟩ := Option.isSome_iff_exists.mp h
  simp [lmD2, hx]
theorem lmsec2 (ms : Array Method) (hms : layoutMethods lmD2 = some ms) : ms[1]? = some lmF2 := by
  have h : ((layoutMethods lmD2).bind (·[1]?)).isSome = true := by decide +kernel
  obtain ⟨x, hx⟩ := Option.isSome_iff_exists.mp h
  rw [show lmF2 = x from by simp [lmF2, hx]]
  rw [hms] at hx
  exact hx
theorem lmlaid2 : layoutFields lmD2 0 = some lmL2 := by
  have h : (layoutFields lmD2 0).isSome = true := by decide +kernel
  obtain ⟨x, hx⟩ := Option.isSome_iff_exists.mp h
  simp [lmL2, hx]
theorem lmcode2 : (lmF2.code.map fun c => (c.code.data, c.maxLocals)) = some (lmB2.data, 2) := by decide +kernel
theorem lmflag2 : (lmF2.accessFlags, lmF2.sig.returnType) = (0x0001, some FieldType.boolean) := by decide +kernel
theorem lmeM2 : lmD2.constantPool[26]? = some (.methodref 22 25) ∧ lmD2.constantPool.className? 22 = some "PromiseTries$Reader" ∧ lmD2.constantPool.nameAndType? 25 = some ("lambda$ors$2", "(LPromiseTries$Holds;LPromiseTries$Holds;I)Z") := by decide +kernel
theorem lmeC2 : lmD2.constantPool[22]? = some (.class_ 21) ∧ lmD2.constantPool.string? 21 = some "PromiseTries$Reader" ∧ 22 ≠ lmD2.thisClass := by decide +kernel
theorem lmeF2_0 : lmD2.constantPool[16]? = some (.fieldref 2 15) ∧ lmD2.constantPool.nameAndType? 15 = some ("arg$1", "LPromiseTries$Holds;") ∧ lmL2.1.findIdx? (·.name == "arg$1") = some 0 ∧ (lmL2.1[0]?).map (fun f => (f.isStatic, f.slot)) = some (false, 0) := by decide +kernel
theorem lmeF2_1 : lmD2.constantPool[18]? = some (.fieldref 2 17) ∧ lmD2.constantPool.nameAndType? 17 = some ("arg$2", "LPromiseTries$Holds;") ∧ lmL2.1.findIdx? (·.name == "arg$2") = some 1 ∧ (lmL2.1[1]?).map (fun f => (f.isStatic, f.slot)) = some (false, 1) := by decide +kernel
theorem lmfacts2 {s : State} {args : Array Value} {e : Setting} {d c : ClassId} {dk : Class} (hd : s.vm.classes[d]? = some dk) (hname : dk.name = "PromiseTries$Reader") (h : Lambda.isMade e s.vm d lmS2 c = true) (hO : (Cond.instantiable "java/lang/Object" 0).before args s = true) :
    ∃ (k tk : Class) (file : ClassFile) (b : Method) (y : Code) (toy : ClassId) (t : MethodId) (g0 g1 : Field), s.vm.classes[c]? = some k ∧ k.name = "PromiseTries$Reader$$Lambda" ∧ k.cf = some file ∧ file.constantPool = lmD2.constantPool ∧ s.vm.method? ⟨c, 1⟩ = some b ∧ b.code = some y ∧ y.code = lmB2 ∧ y.maxLocals = 2 ∧ b.locks = false ∧ b.accessFlags = 0x0001 ∧ b.sig.returnType = some .boolean ∧
      s.vm.findClass "PromiseTries$Reader" = some toy ∧ s.vm.classes[toy]? = some tk ∧ ((methodIn toy "lambda$ors$2" "(LPromiseTries$Holds;LPromiseTries$Holds;I)Z" tk.isInterface none).ask e s.vm).1 = .ok t ∧ s.vm.methodReady c 26 t ∧ s.vm.classReady c 22 toy ∧ s.vm.fieldReady c 16 c g0 ∧ g0.isStatic = false ∧ g0.slot = 0 ∧ s.vm.fieldReady c 18 c g1 ∧ g1.isStatic = false ∧ g1.slot = 1 := by
  obtain ⟨dk', k, ok, tk, file, cf, object, iface, toy, lay, methods, target, found, hd', hk, hfile, hcf, hobj, -, hok, hlay, hms, ht, htk, hg, -, hrec, -, -, -, hitf, hpool, hmeth, hfields, hty, hres, -⟩ := Lambda.isMade_spec h
  cases hd.symm.trans hd'
  rw [hname, lmfile2] at hcf
  cases hcf
  obtain ⟨cO, kO, hfO, hkO, -, -, -, hsz⟩ := Cond.instantiable_spec hO
  cases hfO.symm.trans hobj
  cases hkO.symm.trans hok
  rw [hsz, lmlaid2] at hlay
  cases hlay
  obtain ⟨b, hb, hsame⟩ := hmeth 1 lmF2 (lmsec2 methods hms)
  simp only [Lambda.sameMethod, Bool.and_eq_true, decide_eq_true_eq] at hsame
  obtain ⟨⟨hn, -, hsig, hfl⟩, hcode⟩ := hsame
  have fc := lmcode2
  have ff := lmflag2
  simp only [Prod.mk.injEq] at ff
  obtain ⟨g0, hg0, hp0⟩ := Option.map_eq_some_iff.mp lmeF2_0.2.2.2
  simp only [Prod.mk.injEq] at hp0
  obtain ⟨g1, hg1, hp1⟩ := Option.map_eq_some_iff.mp lmeF2_1.2.2.2
  simp only [Prod.mk.injEq] at hp1
  cases hfc : lmF2.code with
  | none => rw [hfc] at fc; cases fc
  | some x =>
    cases hbc : b.code with
    | none => simp [hfc, hbc] at hcode
    | some y =>
      simp only [hfc, hbc, Bool.and_eq_true, decide_eq_true_eq] at hcode
      simp only [hfc, Option.map_some, Option.some.injEq, Prod.mk.injEq] at fc
      refine ⟨k, tk, file, b, y, toy, target, g0, g1, hk, by rw [hrec.1, hname]; rfl, hfile, hpool.2.1, by simp [Vm.method?, hk, hb], hbc, ?_, by rw [← hcode.1.1.1.1.2.1]; exact fc.2, ?_, by rw [← hfl]; exact ff.1, by rw [← hsig]; exact ff.2, ht, htk, hg,
        ⟨k, hk, hres 26 _ (Lambda.resolvedOf_method lmeM2.1 lmeM2.2.1 ht htk lmeM2.2.2 hg)⟩, ⟨k, hk, hres 22 _ (Lambda.resolvedOf_class lmeC2.1 lmeC2.2.2 lmeC2.2.1 ht)⟩, ⟨k, 0, k, hk, hres 16 _ (Lambda.resolvedOf_field lmeF2_0.1 lmeF2_0.2.1 lmeF2_0.2.2.1), hk, hfields 0 _ hg0⟩, hp0.1, hp0.2, ⟨k, 1, k, hk, hres 18 _ (Lambda.resolvedOf_field lmeF2_1.1 lmeF2_1.2.1 lmeF2_1.2.2.1), hk, hfields 1 _ hg1⟩, hp1.1, hp1.2⟩
      · rw [← hcode.1.1.1.1.2.2]
        exact ByteArray.ext fc.1
      · simp [Method.locks, Method.isSynchronized, ← hfl, ff.1, hasFlag, Acc.synchronized]
def lmB3 : ByteArray := ⟨#[0x2a, 0xb4, 0x00, 0x10, 0x2a, 0xb4, 0x00, 0x12, 0x1b, 0xb8, 0x00, 0x1a, 0xac]⟩
theorem lmd3_0 : decode lmB3 0 = .ok (.aload_n 0, 1) := by decide +kernel
theorem lmd3_1 : decode lmB3 1 = .ok (.getfield 16, 3) := by decide +kernel
theorem lmd3_4 : decode lmB3 4 = .ok (.aload_n 0, 1) := by decide +kernel
theorem lmd3_5 : decode lmB3 5 = .ok (.getfield 18, 3) := by decide +kernel
theorem lmd3_8 : decode lmB3 8 = .ok (.iload_n 1, 1) := by decide +kernel
theorem lmd3_9 : decode lmB3 9 = .ok (.invokestatic 26, 3) := by decide +kernel
theorem lmd3_12 : decode lmB3 12 = .ok (.ireturn, 1) := by decide +kernel
def lmD3 : ClassFile := (lmS3.file "PromiseTries$Reader").getD { minorVersion := 0, majorVersion := 0, constantPool := #[], accessFlags := 0, thisClass := 0, superClass := 0, interfaces := #[], fields := #[], methods := #[], attributes := #[] }
def lmF3 : Method := ((layoutMethods lmD3).bind (·[1]?)).getD default
def lmL3 : Array Field × Array FieldType × Array FieldType := (layoutFields lmD3 0).getD (#[], #[], #[])
theorem lmfile3 : lmS3.file "PromiseTries$Reader" = some lmD3 := by
  have h : (lmS3.file "PromiseTries$Reader").isSome = true := by decide +kernel
  obtain ⟨x, hx⟩ := Option.isSome_iff_exists.mp h
  simp [lmD3, hx]
theorem lmsec3 (ms : Array Method) (hms : layoutMethods lmD3 = some ms) : ms[1]? = some lmF3 := by
  have h : ((layoutMethods lmD3).bind (·[1]?)).isSome = true := by decide +kernel
  obtain ⟨x, hx⟩ := Option.isSome_iff_exists.mp h
  rw [show lmF3 = x from by simp [lmF3, hx]]
  rw [hms] at hx
  exact hx
theorem lmlaid3 : layoutFields lmD3 0 = some lmL3 := by
  have h : (layoutFields lmD3 0).isSome = true := by decide +kernel
  obtain ⟨x, hx⟩ := Option.isSome_iff_exists.mp h
  simp [lmL3, hx]
theorem lmcode3 : (lmF3.code.map fun c => (c.code.data, c.maxLocals)) = some (lmB3.data, 2) := by decide +kernel
theorem lmflag3 : (lmF3.accessFlags, lmF3.sig.returnType) = (0x0001, some FieldType.boolean) := by decide +kernel
theorem lmeM3 : lmD3.constantPool[26]? = some (.methodref 22 25) ∧ lmD3.constantPool.className? 22 = some "PromiseTries$Reader" ∧ lmD3.constantPool.nameAndType? 25 = some ("lambda$ands$3", "(LPromiseTries$Holds;LPromiseTries$Holds;I)Z") := by decide +kernel
theorem lmeC3 : lmD3.constantPool[22]? = some (.class_ 21) ∧ lmD3.constantPool.string? 21 = some "PromiseTries$Reader" ∧ 22 ≠ lmD3.thisClass := by decide +kernel
theorem lmeF3_0 : lmD3.constantPool[16]? = some (.fieldref 2 15) ∧ lmD3.constantPool.nameAndType? 15 = some ("arg$1", "LPromiseTries$Holds;") ∧ lmL3.1.findIdx? (·.name == "arg$1") = some 0 ∧ (lmL3.1[0]?).map (fun f => (f.isStatic, f.slot)) = some (false, 0) := by decide +kernel
theorem lmeF3_1 : lmD3.constantPool[18]? = some (.fieldref 2 17) ∧ lmD3.constantPool.nameAndType? 17 = some ("arg$2", "LPromiseTries$Holds;") ∧ lmL3.1.findIdx? (·.name == "arg$2") = some 1 ∧ (lmL3.1[1]?).map (fun f => (f.isStatic, f.slot)) = some (false, 1) := by decide +kernel
theorem lmfacts3 {s : State} {args : Array Value} {e : Setting} {d c : ClassId} {dk : Class} (hd : s.vm.classes[d]? = some dk) (hname : dk.name = "PromiseTries$Reader") (h : Lambda.isMade e s.vm d lmS3 c = true) (hO : (Cond.instantiable "java/lang/Object" 0).before args s = true) :
    ∃ (k tk : Class) (file : ClassFile) (b : Method) (y : Code) (toy : ClassId) (t : MethodId) (g0 g1 : Field), s.vm.classes[c]? = some k ∧ k.name = "PromiseTries$Reader$$Lambda" ∧ k.cf = some file ∧ file.constantPool = lmD3.constantPool ∧ s.vm.method? ⟨c, 1⟩ = some b ∧ b.code = some y ∧ y.code = lmB3 ∧ y.maxLocals = 2 ∧ b.locks = false ∧ b.accessFlags = 0x0001 ∧ b.sig.returnType = some .boolean ∧
      s.vm.findClass "PromiseTries$Reader" = some toy ∧ s.vm.classes[toy]? = some tk ∧ ((methodIn toy "lambda$ands$3" "(LPromiseTries$Holds;LPromiseTries$Holds;I)Z" tk.isInterface none).ask e s.vm).1 = .ok t ∧ s.vm.methodReady c 26 t ∧ s.vm.classReady c 22 toy ∧ s.vm.fieldReady c 16 c g0 ∧ g0.isStatic = false ∧ g0.slot = 0 ∧ s.vm.fieldReady c 18 c g1 ∧ g1.isStatic = false ∧ g1.slot = 1 := by
  obtain ⟨dk', k, ok, tk, file, cf, object, iface, toy, lay, methods, target, found, hd', hk, hfile, hcf, hobj, -, hok, hlay, hms, ht, htk, hg, -, hrec, -, -, -, hitf, hpool, hmeth, hfields, hty, hres, -⟩ := Lambda.isMade_spec h
  cases hd.symm.trans hd'
  rw [hname, lmfile3] at hcf
  cases hcf
  obtain ⟨cO, kO, hfO, hkO, -, -, -, hsz⟩ := Cond.instantiable_spec hO
  cases hfO.symm.trans hobj
  cases hkO.symm.trans hok
  rw [hsz, lmlaid3] at hlay
  cases hlay
  obtain ⟨b, hb, hsame⟩ := hmeth 1 lmF3 (lmsec3 methods hms)
  simp only [Lambda.sameMethod, Bool.and_eq_true, decide_eq_true_eq] at hsame
  obtain ⟨⟨hn, -, hsig, hfl⟩, hcode⟩ := hsame
  have fc := lmcode3
  have ff := lmflag3
  simp only [Prod.mk.injEq] at ff
  obtain ⟨g0, hg0, hp0⟩ := Option.map_eq_some_iff.mp lmeF3_0.2.2.2
  simp only [Prod.mk.injEq] at hp0
  obtain ⟨g1, hg1, hp1⟩ := Option.map_eq_some_iff.mp lmeF3_1.2.2.2
  simp only [Prod.mk.injEq] at hp1
  cases hfc : lmF3.code with
  | none => rw [hfc] at fc; cases fc
  | some x =>
    cases hbc : b.code with
    | none => simp [hfc, hbc] at hcode
    | some y =>
      simp only [hfc, hbc, Bool.and_eq_true, decide_eq_true_eq] at hcode
      simp only [hfc, Option.map_some, Option.some.injEq, Prod.mk.injEq] at fc
      refine ⟨k, tk, file, b, y, toy, target, g0, g1, hk, by rw [hrec.1, hname]; rfl, hfile, hpool.2.1, by simp [Vm.method?, hk, hb], hbc, ?_, by rw [← hcode.1.1.1.1.2.1]; exact fc.2, ?_, by rw [← hfl]; exact ff.1, by rw [← hsig]; exact ff.2, ht, htk, hg,
        ⟨k, hk, hres 26 _ (Lambda.resolvedOf_method lmeM3.1 lmeM3.2.1 ht htk lmeM3.2.2 hg)⟩, ⟨k, hk, hres 22 _ (Lambda.resolvedOf_class lmeC3.1 lmeC3.2.2 lmeC3.2.1 ht)⟩, ⟨k, 0, k, hk, hres 16 _ (Lambda.resolvedOf_field lmeF3_0.1 lmeF3_0.2.1 lmeF3_0.2.2.1), hk, hfields 0 _ hg0⟩, hp0.1, hp0.2, ⟨k, 1, k, hk, hres 18 _ (Lambda.resolvedOf_field lmeF3_1.1 lmeF3_1.2.1 lmeF3_1.2.2.1), hk, hfields 1 _ hg1⟩, hp1.1, hp1.2⟩
      · rw [← hcode.1.1.1.1.2.2]
        exact ByteArray.ext fc.1
      · simp [Method.locks, Method.isSynchronized, ← hfl, ff.1, hasFlag, Acc.synchronized]
