/-! the classes made for the Cells lambdas; the interface call on them (by program) -/
def lmB4 : ByteArray := ⟨#[0x2b, 0x1c, 0xb8, 0x00, 0x11, 0xac]⟩
theorem lmd4_0 : decode lmB4 0 = .ok (.aload_n 1, 1) := by decide +kernel
theorem lmd4_1 : decode lmB4 1 = .ok (.iload_n 2, 1) := by decide +kernel
theorem lmd4_2 : decode lmB4 2 = .ok (.invokestatic 17, 3) := by decide +kernel
theorem lmd4_5 : decode lmB4 5 = .ok (.ireturn, 1) := by decide +kernel
def lmD4 : ClassFile := (lmS4.file "PromiseTries").getD { minorVersion := 0, majorVersion := 0, constantPool := #[], accessFlags := 0, thisClass := 0, superClass := 0, interfaces := #[], fields := #[], methods := #[], attributes := #[] }
def lmF4 : Method := ((layoutMethods lmD4).bind (·[1]?)).getD default
theorem lmfile4 : lmS4.file "PromiseTries" = some lmD4 := by
  have h : (lmS4.file "PromiseTries").isSome = true := by decide +kernel
  obtain ⟨x, hx⟩ := Option.isSome_iff_exists.mp h
  simp [lmD4, hx]
theorem lmsec4 (ms : Array Method) (hms : layoutMethods lmD4 = some ms) : ms[1]? = some lmF4 := by
  have h : ((layoutMethods lmD4).bind (·[1]?)).isSome = true := by decide +kernel
  obtain ⟨x, hx⟩ := Option.isSome_iff_exists.mp h
  rw [show lmF4 = x from by simp [lmF4, hx]]
  rw [hms] at hx
  exact hx
theorem lmcode4 : (lmF4.code.map fun c => (c.code.data, c.maxLocals)) = some (lmB4.data, 3) := by decide +kernel
theorem lmflag4 : (lmF4.accessFlags, lmF4.sig.returnType) = (0x0001, some FieldType.int) := by decide +kernel
theorem lmeM4 : lmD4.constantPool[17]? = some (.methodref 14 16) ∧ lmD4.constantPool.className? 14 = some "PromiseTries" ∧ lmD4.constantPool.nameAndType? 16 = some ("lambda$new$0", "(Ljava/lang/Object;I)I") := by decide +kernel
theorem lmeC4 : lmD4.constantPool[14]? = some (.class_ 13) ∧ lmD4.constantPool.string? 13 = some "PromiseTries" ∧ 14 ≠ lmD4.thisClass := by decide +kernel
theorem lmfacts4 {s : State} {e : Setting} {d c : ClassId} {dk : Class} (hd : s.vm.classes[d]? = some dk) (hname : dk.name = "PromiseTries") (h : Lambda.isMade e s.vm d lmS4 c = true) :
    ∃ (k tk : Class) (file : ClassFile) (b : Method) (y : Code) (toy : ClassId) (t : MethodId), s.vm.classes[c]? = some k ∧ k.name = "PromiseTries$$Lambda" ∧ k.cf = some file ∧ file.constantPool = lmD4.constantPool ∧ s.vm.method? ⟨c, 1⟩ = some b ∧ b.code = some y ∧ y.code = lmB4 ∧ y.maxLocals = 3 ∧ b.locks = false ∧ b.accessFlags = 0x0001 ∧ b.sig.returnType = some .int ∧
      s.vm.findClass "PromiseTries" = some toy ∧ s.vm.classes[toy]? = some tk ∧ ((methodIn toy "lambda$new$0" "(Ljava/lang/Object;I)I" tk.isInterface none).ask e s.vm).1 = .ok t ∧ s.vm.methodReady c 17 t ∧ s.vm.classReady c 14 toy ∧ y.exceptionTable.isEmpty = true := by
  obtain ⟨dk', k, ok, tk, file, cf, object, iface, toy, lay, methods, target, found, hd', hk, hfile, hcf, hobj, -, hok, hlay, hms, ht, htk, hg, -, hrec, -, -, -, hitf, hpool, hmeth, hfields, hty, hres, -⟩ := Lambda.isMade_spec h
  cases hd.symm.trans hd'
  rw [hname, lmfile4] at hcf
  cases hcf
  obtain ⟨b, hb, hsame⟩ := hmeth 1 lmF4 (lmsec4 methods hms)
  simp only [Lambda.sameMethod, Bool.and_eq_true, decide_eq_true_eq] at hsame
  obtain ⟨⟨hn, -, hsig, hfl⟩, hcode⟩ := hsame
  have fc := lmcode4
  have ff := lmflag4
  simp only [Prod.mk.injEq] at ff
  cases hfc : lmF4.code with
  | none => rw [hfc] at fc; cases fc
  | some x =>
    cases hbc : b.code with
    | none => simp [hfc, hbc] at hcode
    | some y =>
      simp only [hfc, hbc, Bool.and_eq_true, decide_eq_true_eq] at hcode
      simp only [hfc, Option.map_some, Option.some.injEq, Prod.mk.injEq] at fc
      refine ⟨k, tk, file, b, y, toy, target, hk, by rw [hrec.1, hname]; rfl, hfile, hpool.2.1, by simp [Vm.method?, hk, hb], hbc, ?_, by rw [← hcode.1.1.1.1.2.1]; exact fc.2, ?_, by rw [← hfl]; exact ff.1, by rw [← hsig]; exact ff.2, ht, htk, hg,
        ⟨k, hk, hres 17 _ (Lambda.resolvedOf_method lmeM4.1 lmeM4.2.1 ht htk lmeM4.2.2 hg)⟩, ⟨k, hk, hres 14 _ (Lambda.resolvedOf_class lmeC4.1 lmeC4.2.2 lmeC4.2.1 ht)⟩, hcode.1.1.2⟩
      · rw [← hcode.1.1.1.1.2.2]
        exact ByteArray.ext fc.1
      · simp [Method.locks, Method.isSynchronized, ← hfl, ff.1, hasFlag, Acc.synchronized]
def lmB5 : ByteArray := ⟨#[0x2b, 0x1c, 0xb8, 0x00, 0x11, 0xac]⟩
theorem lmd5_0 : decode lmB5 0 = .ok (.aload_n 1, 1) := by decide +kernel
theorem lmd5_1 : decode lmB5 1 = .ok (.iload_n 2, 1) := by decide +kernel
theorem lmd5_2 : decode lmB5 2 = .ok (.invokestatic 17, 3) := by decide +kernel
theorem lmd5_5 : decode lmB5 5 = .ok (.ireturn, 1) := by decide +kernel
def lmD5 : ClassFile := (lmS5.file "PromiseTries").getD { minorVersion := 0, majorVersion := 0, constantPool := #[], accessFlags := 0, thisClass := 0, superClass := 0, interfaces := #[], fields := #[], methods := #[], attributes := #[] }
def lmF5 : Method := ((layoutMethods lmD5).bind (·[1]?)).getD default
theorem lmfile5 : lmS5.file "PromiseTries" = some lmD5 := by
  have h : (lmS5.file "PromiseTries").isSome = true := by decide +kernel
  obtain ⟨x, hx⟩ := Option.isSome_iff_exists.mp h
  simp [lmD5, hx]
theorem lmsec5 (ms : Array Method) (hms : layoutMethods lmD5 = some ms) : ms[1]? = some lmF5 := by
  have h : ((layoutMethods lmD5).bind (·[1]?)).isSome = true := by decide +kernel
  obtain ⟨x, hx⟩ := Option.isSome_iff_exists.mp h
  rw [show lmF5 = x from by simp [lmF5, hx]]
  rw [hms] at hx
  exact hx
theorem lmcode5 : (lmF5.code.map fun c => (c.code.data, c.maxLocals)) = some (lmB5.data, 3) := by decide +kernel
theorem lmflag5 : (lmF5.accessFlags, lmF5.sig.returnType) = (0x0001, some FieldType.int) := by decide +kernel
theorem lmeM5 : lmD5.constantPool[17]? = some (.methodref 14 16) ∧ lmD5.constantPool.className? 14 = some "PromiseTries" ∧ lmD5.constantPool.nameAndType? 16 = some ("lambda$new$1", "(Ljava/lang/Object;I)I") := by decide +kernel
theorem lmeC5 : lmD5.constantPool[14]? = some (.class_ 13) ∧ lmD5.constantPool.string? 13 = some "PromiseTries" ∧ 14 ≠ lmD5.thisClass := by decide +kernel
theorem lmfacts5 {s : State} {e : Setting} {d c : ClassId} {dk : Class} (hd : s.vm.classes[d]? = some dk) (hname : dk.name = "PromiseTries") (h : Lambda.isMade e s.vm d lmS5 c = true) :
    ∃ (k tk : Class) (file : ClassFile) (b : Method) (y : Code) (toy : ClassId) (t : MethodId), s.vm.classes[c]? = some k ∧ k.name = "PromiseTries$$Lambda" ∧ k.cf = some file ∧ file.constantPool = lmD5.constantPool ∧ s.vm.method? ⟨c, 1⟩ = some b ∧ b.code = some y ∧ y.code = lmB5 ∧ y.maxLocals = 3 ∧ b.locks = false ∧ b.accessFlags = 0x0001 ∧ b.sig.returnType = some .int ∧
      s.vm.findClass "PromiseTries" = some toy ∧ s.vm.classes[toy]? = some tk ∧ ((methodIn toy "lambda$new$1" "(Ljava/lang/Object;I)I" tk.isInterface none).ask e s.vm).1 = .ok t ∧ s.vm.methodReady c 17 t ∧ s.vm.classReady c 14 toy ∧ y.exceptionTable.isEmpty = true := by
  obtain ⟨dk', k, ok, tk, file, cf, object, iface, toy, lay, methods, target, found, hd', hk, hfile, hcf, hobj, -, hok, hlay, hms, ht, htk, hg, -, hrec, -, -, -, hitf, hpool, hmeth, hfields, hty, hres, -⟩ := Lambda.isMade_spec h
  cases hd.symm.trans hd'
  rw [hname, lmfile5] at hcf
  cases hcf
  obtain ⟨b, hb, hsame⟩ := hmeth 1 lmF5 (lmsec5 methods hms)
  simp only [Lambda.sameMethod, Bool.and_eq_true, decide_eq_true_eq] at hsame
  obtain ⟨⟨hn, -, hsig, hfl⟩, hcode⟩ := hsame
  have fc := lmcode5
  have ff := lmflag5
  simp only [Prod.mk.injEq] at ff
  cases hfc : lmF5.code with
  | none => rw [hfc] at fc; cases fc
  | some x =>
    cases hbc : b.code with
    | none => simp [hfc, hbc] at hcode
    | some y =>
      simp only [hfc, hbc, Bool.and_eq_true, decide_eq_true_eq] at hcode
      simp only [hfc, Option.map_some, Option.some.injEq, Prod.mk.injEq] at fc
      refine ⟨k, tk, file, b, y, toy, target, hk, by rw [hrec.1, hname]; rfl, hfile, hpool.2.1, by simp [Vm.method?, hk, hb], hbc, ?_, by rw [← hcode.1.1.1.1.2.1]; exact fc.2, ?_, by rw [← hfl]; exact ff.1, by rw [← hsig]; exact ff.2, ht, htk, hg,
        ⟨k, hk, hres 17 _ (Lambda.resolvedOf_method lmeM5.1 lmeM5.2.1 ht htk lmeM5.2.2 hg)⟩, ⟨k, hk, hres 14 _ (Lambda.resolvedOf_class lmeC5.1 lmeC5.2.2 lmeC5.2.1 ht)⟩, hcode.1.1.2⟩
      · rw [← hcode.1.1.1.1.2.2]
        exact ByteArray.ext fc.1
      · simp [Method.locks, Method.isSynchronized, ← hfl, ff.1, hasFlag, Acc.synchronized]
def lmB6 : ByteArray := ⟨#[0x2b, 0x1c, 0xb8, 0x00, 0x11, 0xac]⟩
theorem lmd6_0 : decode lmB6 0 = .ok (.aload_n 1, 1) := by decide +kernel
theorem lmd6_1 : decode lmB6 1 = .ok (.iload_n 2, 1) := by decide +kernel
theorem lmd6_2 : decode lmB6 2 = .ok (.invokestatic 17, 3) := by decide +kernel
theorem lmd6_5 : decode lmB6 5 = .ok (.ireturn, 1) := by decide +kernel
def lmD6 : ClassFile := (lmS6.file "PromiseTries").getD { minorVersion := 0, majorVersion := 0, constantPool := #[], accessFlags := 0, thisClass := 0, superClass := 0, interfaces := #[], fields := #[], methods := #[], attributes := #[] }
def lmF6 : Method := ((layoutMethods lmD6).bind (·[1]?)).getD default
theorem lmfile6 : lmS6.file "PromiseTries" = some lmD6 := by
  have h : (lmS6.file "PromiseTries").isSome = true := by decide +kernel
  obtain ⟨x, hx⟩ := Option.isSome_iff_exists.mp h
  simp [lmD6, hx]
theorem lmsec6 (ms : Array Method) (hms : layoutMethods lmD6 = some ms) : ms[1]? = some lmF6 := by
  have h : ((layoutMethods lmD6).bind (·[1]?)).isSome = true := by decide +kernel
  obtain ⟨x, hx⟩ := Option.isSome_iff_exists.mp h
  rw [show lmF6 = x from by simp [lmF6, hx]]
  rw [hms] at hx
  exact hx
theorem lmcode6 : (lmF6.code.map fun c => (c.code.data, c.maxLocals)) = some (lmB6.data, 3) := by decide +kernel
theorem lmflag6 : (lmF6.accessFlags, lmF6.sig.returnType) = (0x0001, some FieldType.int) := by decide +kernel
theorem lmeM6 : lmD6.constantPool[17]? = some (.methodref 14 16) ∧ lmD6.constantPool.className? 14 = some "PromiseTries" ∧ lmD6.constantPool.nameAndType? 16 = some ("lambda$new$2", "(Ljava/lang/Object;I)I") := by decide +kernel
theorem lmeC6 : lmD6.constantPool[14]? = some (.class_ 13) ∧ lmD6.constantPool.string? 13 = some "PromiseTries" ∧ 14 ≠ lmD6.thisClass := by decide +kernel
theorem lmfacts6 {s : State} {e : Setting} {d c : ClassId} {dk : Class} (hd : s.vm.classes[d]? = some dk) (hname : dk.name = "PromiseTries") (h : Lambda.isMade e s.vm d lmS6 c = true) :
    ∃ (k tk : Class) (file : ClassFile) (b : Method) (y : Code) (toy : ClassId) (t : MethodId), s.vm.classes[c]? = some k ∧ k.name = "PromiseTries$$Lambda" ∧ k.cf = some file ∧ file.constantPool = lmD6.constantPool ∧ s.vm.method? ⟨c, 1⟩ = some b ∧ b.code = some y ∧ y.code = lmB6 ∧ y.maxLocals = 3 ∧ b.locks = false ∧ b.accessFlags = 0x0001 ∧ b.sig.returnType = some .int ∧
      s.vm.findClass "PromiseTries" = some toy ∧ s.vm.classes[toy]? = some tk ∧ ((methodIn toy "lambda$new$2" "(Ljava/lang/Object;I)I" tk.isInterface none).ask e s.vm).1 = .ok t ∧ s.vm.methodReady c 17 t ∧ s.vm.classReady c 14 toy ∧ y.exceptionTable.isEmpty = true := by
  obtain ⟨dk', k, ok, tk, file, cf, object, iface, toy, lay, methods, target, found, hd', hk, hfile, hcf, hobj, -, hok, hlay, hms, ht, htk, hg, -, hrec, -, -, -, hitf, hpool, hmeth, hfields, hty, hres, -⟩ := Lambda.isMade_spec h
  cases hd.symm.trans hd'
  rw [hname, lmfile6] at hcf
  cases hcf
  obtain ⟨b, hb, hsame⟩ := hmeth 1 lmF6 (lmsec6 methods hms)
  simp only [Lambda.sameMethod, Bool.and_eq_true, decide_eq_true_eq] at hsame
  obtain ⟨⟨hn, -, hsig, hfl⟩, hcode⟩ := hsame
  have fc := lmcode6
  have ff := lmflag6
  simp only [Prod.mk.injEq] at ff
  cases hfc : lmF6.code with
  | none => rw [hfc] at fc; cases fc
  | some x =>
    cases hbc : b.code with
    | none => simp [hfc, hbc] at hcode
    | some y =>
      simp only [hfc, hbc, Bool.and_eq_true, decide_eq_true_eq] at hcode
      simp only [hfc, Option.map_some, Option.some.injEq, Prod.mk.injEq] at fc
      refine ⟨k, tk, file, b, y, toy, target, hk, by rw [hrec.1, hname]; rfl, hfile, hpool.2.1, by simp [Vm.method?, hk, hb], hbc, ?_, by rw [← hcode.1.1.1.1.2.1]; exact fc.2, ?_, by rw [← hfl]; exact ff.1, by rw [← hsig]; exact ff.2, ht, htk, hg,
        ⟨k, hk, hres 17 _ (Lambda.resolvedOf_method lmeM6.1 lmeM6.2.1 ht htk lmeM6.2.2 hg)⟩, ⟨k, hk, hres 14 _ (Lambda.resolvedOf_class lmeC6.1 lmeC6.2.2 lmeC6.2.1 ht)⟩, hcode.1.1.2⟩
      · rw [← hcode.1.1.1.1.2.2]
        exact ByteArray.ext fc.1
      · simp [Method.locks, Method.isSynchronized, ← hfl, ff.1, hasFlag, Acc.synchronized]
section XA3
variable {p : Program} {l : Launch} {e : Env} {R : Room} {s : State} {m : MethodId} {args : Array Value} {below : List Frame} {meth : Method} {c : Code} {H : Heap} {locs : List Loc} {cells slots : Nat} {Q : State → Prop}
variable {cc : ByteArray} {pc nL : Nat} {ls : Array Slot} {rest : List Value} {G : Gt} {h h0 : Hp} {H0 : Heap} {a : Nat} {v : Value}
/-- the call has returned r, or thrown q, of class E -/
def CellOut (p : Program) (l : Launch) (e : Env) (R : Room) (s : State) (m : MethodId) (args : Array Value) (below : List Frame) (meth : Method) (c : Code) (locs : List Loc) (cells slots : Nat) (G : Gt) (h : Hp) (H : Heap) (g : JFrame) (res : Sum Int32 String) (S0 : List Action → State) : Prop :=
  (∃ (r : Int32) (T' : State) (L : List Loc), res = .inl r ∧ Stand p l e R s m args below meth c T' (locs ++ L) (cells + 3) (slots + 1010) ∧ (∀ x ∈ L, fre h x.base) ∧ T'.heap = H ∧ ∀ acts, Steps p.tables e below (S0 acts) (T'.setTop { g with pc := g.pc + 5, stack := .int r :: g.stack })) ∨
  (∃ (E : String) (q : Addr) (T' : State) (ce : Cell) (L : List Loc) (z : Nat), res = .inr E ∧ Stand p l e R s m args below meth c T' (locs ++ L) (cells + 3) (slots + 1010) ∧ (∀ x ∈ L, fre h x.base) ∧ XW G (hzz h z) T'.heap ∧ Ext h (hzz h z) ∧ H.size ≤ T'.heap.size ∧ (∀ q : Nat, q < H.size → ¬ fre h q → T'.heap[q]? = H[q]?) ∧ T'.heap[q]? = some ce ∧ ce.vm = .none ∧ s.vm.findClass E = some ce.cls ∧ ∀ acts, Steps p.tables e below (S0 acts) ((T'.setTop g).pushFrame (.throwing q)))
theorem x_iretOutI {T : State} (X : Stand p l e R s m args below meth c T locs cells slots) (hexec : p.tables.exec = Jvm.exec) {r : Int32} (hret : meth.sig.returnType = some .int) {pc : Nat} {ls : Array Slot} (hdg : decode c.code pc = .ok (.ireturn, 1)) {fs : List Frame} (hl : ∀ (f : JFrame) (acts : List Action), f.method = m → f.locked = none → f.entered = [] → (doReturn e (T.setTop f) acts (some (.int r))).1 = T.setFrames fs) :
    Steps p.tables e below (T.setTop { method := m, pc := pc, locals := ls, stack := [.int r], locked := none }) (T.setFrames fs) := by
  have hmeth' : T.vm.method? m = some meth := X.method'
  jvm_step X.here [X.here.top, hexec, hdg, hmeth', hret, narrow]
  (try refine ⟨rfl, ?_⟩); (try refine ⟨rfl, ?_⟩)
  first | (intro acts; rw [hl _ acts rfl rfl rfl]) | rw [hl _ _ rfl rfl rfl]
  exact Steps.refl _
set_option maxHeartbeats 1000000 in
theorem x_cin4 (hG : XG G) (hexec : p.tables.exec = Jvm.exec) (hts : ∀ w ∈ lw_all, w.before args s = true) (hK : KK G s) (hX : XX G h0 H0 h H locs) {T : State} (hTH : T.heap = H) (X : Stand p l e R s m args below meth c T locs cells slots) {row : Option Nat} {b : Int32} {res : Sum Int32 String} (hM : vx_Met l yX0_lambda_new_0 (ws_ yX0_lambda_new_0 cX0_lambda_new_0 2 (some .int)) (rmm 8 3 1010 10300) (XP G [va_rf row, .int b] h) (XQy res) (XCy G res h) 3 1010 (fre h))
    {g : JFrame} (hg : g.method = m) (hsize : g.locals.size = c.maxLocals) (hW : 2 * g.monitorRoom + (g.stack.map fun v => v.category).sum ≤ 8) {index : Nat} (hdg : decode c.code g.pc = .ok (.invokeinterface index 3, 5)) (hF : 10 ≤ R.frames) (hLo : 10400 ≤ R.locals) (hcs : cells + 3 ≤ R.cells ∧ slots + 1010 ≤ R.slots) :
    CellOut p l e R s m args below meth c locs cells slots G h H g res (fun acts => (doInvoke e (T.setTop g) acts ⟨gL G 304, 1⟩ #[.ref a, va_rf row, .int b]).1) := by
  have hLam := (hG.k hK).2.2.2.2.2.2.2.1
  obtain ⟨m9, k9, cf9, i0, p0, hm9, hk9, hcf9, hn9, hsh9, hf9, hmade, hcall⟩ := hLam
  obtain ⟨k8, hk8, he8⟩ := X.warmed.alike.2.2 _ _ hk9
  obtain ⟨k, tk, file, bm, y, toy, t, f1, f2, f3, f4, f5, f6, f7, f8, f9, f10, f11, f12, f13, f14, f15, f16, f17⟩ := lmfacts4 (s := T) hk8 (by rw [he8]; exact hn9) (Lambda.isMade_warmer X.warmed hmade)
  have hcode : (Cond.code yX0_lambda_new_0 cX0_lambda_new_0 2 (some .int)).before args T = true := word_at X.warmed (Or.inl rfl) (hts _ q901)
  have hstw : (Cond.static yX0_lambda_new_0).before args T = true := word_at X.warmed (Or.inl rfl) (hts _ q900)
  have hiniw : (Cond.initialized yX0_lambda_new_0.cls).before args T = true := word_at X.warmed (Or.inl rfl) (hts _ q94)
  obtain ⟨kt, metht, s1, s2, s3, s4, s5, s6, s7, s8⟩ := lm_static (e := e) (y := yX0_lambda_new_0) f1 f3 (by rw [f4]; exact lmeM4.1) (by rw [f4]; exact lmeM4.2.2) f16 f12 f13 f14 (by decide) hcode hstw hiniw
  have hpar : metht.sig.parameters.length = 2 := by
    have h9 : (parseMethodDescriptor "(Ljava/lang/Object;I)I").map (fun d => d.parameters.length) = some 2 := by decide +kernel
    rw [show parseMethodDescriptor "(Ljava/lang/Object;I)I" = some metht.sig from s8] at h9
    exact Option.some.inj h9
  obtain ⟨Y₀, hin⟩ := X.into hg hsize hdg #[.ref a, va_rf row, .int b] (R' := rmm 9 3 1010 10330) f5 f6 f9 (State.plainMethod.of_name fun kq hkq => by
      cases f1.symm.trans hkq
      rw [f2]; decide +kernel) (by show 9 + 1 ≤ _; omega) (by rw [f8]; show _ + (3 + 11) + 10330 ≤ _; omega) (by show cells + 3 ≤ _; omega) (by show slots + 1010 ≤ _; omega)
  rw [f8] at Y₀ hin
  have hloc : entryFrame ⟨gL G 304, 1⟩ #[.ref a, va_rf row, .int b] 3 = { method := ⟨gL G 304, 1⟩, pc := 0, locals := #[.val (.ref a), .val (va_rf row), .val (.int b)], stack := [], locked := none } := by cases row <;> rfl
  rw [hloc] at Y₀ hin
  generalize hU : (T.setTop g).pushFrame (.java { method := ⟨gL G 304, 1⟩, pc := 0, locals := #[.val (.ref a), .val (va_rf row), .val (.int b)], stack := [], locked := none }) = U at Y₀ hin
  have hvm : U.vm = T.vm := by rw [← hU]; rfl
  have hheap : U.heap = H := by rw [← hU]; exact hTH
  have hWU : s.WarmedH U.vm := by rw [hvm]; exact X.warmed
  have w2 : Steps p.tables e (.java g :: below) (U.setTop { method := ⟨gL G 304, 1⟩, pc := 0, locals := #[.val (.ref a), .val (va_rf row), .val (.int b)], stack := [], locked := none }) (U.setTop { method := ⟨gL G 304, 1⟩, pc := 2, locals := #[.val (.ref a), .val (va_rf row), .val (.int b)], stack := [.int b, va_rf row], locked := none }) := by
    cases row with
    | none =>
      show Steps p.tables e (.java g :: below) (U.setTop { method := ⟨gL G 304, 1⟩, pc := 0, locals := #[.val (.ref a), .val .null, .val (.int b)], stack := [], locked := none }) (U.setTop { method := ⟨gL G 304, 1⟩, pc := 2, locals := #[.val (.ref a), .val .null, .val (.int b)], stack := [.int b, .null], locked := none })
      jvm_step Y₀.here [hexec, f7, lmd4_0, Value.isRef]
      jvm_step Y₀.here [hexec, f7, lmd4_1]
      exact Steps.refl _
    | some x =>
      show Steps p.tables e (.java g :: below) (U.setTop { method := ⟨gL G 304, 1⟩, pc := 0, locals := #[.val (.ref a), .val (.ref x), .val (.int b)], stack := [], locked := none }) (U.setTop { method := ⟨gL G 304, 1⟩, pc := 2, locals := #[.val (.ref a), .val (.ref x), .val (.int b)], stack := [.int b, .ref x], locked := none })
      jvm_step Y₀.here [hexec, f7, lmd4_0, Value.isRef]
      jvm_step Y₀.here [hexec, f7, lmd4_1]
      exact Steps.refl _
  have hGd : GoodIn lw_all (ws_ yX0_lambda_new_0 cX0_lambda_new_0 2 (some .int)) := lw_meth q901
  have hB : vx_Back l (rmm 9 3 1010 10330) p e (.java g :: below) (T.calling g ⟨gL G 304, 1⟩ #[.ref a, va_rf row, .int b]) #[.ref a, va_rf row, .int b] yX0_lambda_new_0 3 0 (PreOf (rmm 9 3 1010 10330) 3 1010 (XP G [va_rf row, .int b] h)) (PostOf (XQy res) 3 1010 (fre h)) (vx_Post (XCy G res h) 3 1010 (fre h)) :=
    vx_back (bytes := cX0_lambda_new_0) (maxL := 2) (ret := some .int) hM XP.blind rfl rfl (Nat.le_refl _) (by show 0 + (2 + 11) + 10300 ≤ 10330; decide) (fun w hw a' U' hW' => pay_in hts hGd w hw a' U' (State.WarmedH.trans X.warmed hW')) List.mem_cons_self (fun a' U' hW' => word_at (State.WarmedH.trans X.warmed hW') (Or.inl rfl) (hts _ q94))
  have hpre : PreOf (rmm 9 3 1010 10330) 3 1010 (XP G [va_rf row, .int b] h) ⟨U, [], 0, 0⟩ ([va_rf row, .int b] : List Value).toArray := ⟨Nat.le_refl _, Nat.le_refl _, rfl, hK.warm hWU, by show XW G h U.heap; rw [hheap]; exact hX.1⟩
  have r1 : plainRef U e (gL G 304) 17 := by
    unfold plainRef
    rw [hvm]
    exact s1
  have w3 : ∀ tgt, Steps p.tables e (.java g :: below) (doInvoke e (U.setTop { method := ⟨gL G 304, 1⟩, pc := 2, locals := #[.val (.ref a), .val (va_rf row), .val (.int b)], stack := [], locked := none }) [] t ([va_rf row, .int b] : List Value).toArray).1 tgt → Steps p.tables e (.java g :: below) (U.setTop { method := ⟨gL G 304, 1⟩, pc := 0, locals := #[.val (.ref a), .val (va_rf row), .val (.int b)], stack := [], locked := none }) tgt := by
    intro tgt hst
    refine w2.trans ?_
    refine Steps.trans ?_ hst
    jvm_step Y₀.here [hexec, f7, lmd4_2, invokestatic.wp_ready (e := e) (s := U) (m := t) (k := kt) (meth := metht) (args := [va_rf row, .int b]) (rest := []) (f := { method := ⟨gL G 304, 1⟩, pc := 2, locals := #[.val (.ref a), .val (va_rf row), .val (.int b)], stack := [.int b, va_rf row], locked := none }) Y₀.here.top r1 (by rw [hvm]; exact f15) (by rw [hvm]; exact s2) (by rw [hvm]; exact s3) s4 s5 s6 hpar.symm rfl]
    intro acts
    rw [doInvoke_state]
    exact Steps.refl _
  rcases hB ⟨gL G 304, 1⟩ bm y ⟨U, [], 0, 0⟩ { method := ⟨gL G 304, 1⟩, pc := 2, locals := #[.val (.ref a), .val (va_rf row), .val (.int b)], stack := [], locked := none } (.invokestatic 17) t ([va_rf row, .int b] : List Value).toArray Y₀ rfl (by rw [f8]; rfl) (by rw [f7]; exact lmd4_2) (by show 2 * 0 + 0 ≤ 0; decide) (by show (T.setVm U.vm).methodNamed? _ = _; rw [hvm]; exact s7) hpre with ⟨v, ⟨U₁, L₁, c₁, n₁⟩, Y₁, ⟨g', mk', t', L', e1, e2, hq, e3, e4, e5, e6⟩, w4⟩ | ⟨q, ⟨U₁, L₁, c₁, n₁⟩, Y₁, ⟨g', mk', t', L', E, ce, e1, e2, hq, hce, hcv, hcl, e3, e4, e5, e6⟩, w4⟩
  · dsimp only [Pt.U, Pt.locs, Pt.cells, Pt.slots] at Y₁ w4 e1 e2 e3 e5 e6
    obtain ⟨r, hr, hv, hh⟩ := hq
    cases hv
    obtain ⟨fs, hleave, -, hended, hWe, hsame⟩ := Y₁.leave (v := some (.int r)) (fun z => by rw [f11] at z; cases z) f9
    obtain ⟨T', X', hW', hsb, ht'⟩ := X.outOf hg hdg hended hWe hsame
    have w5 := x_iretOutI (ls := #[.val (.ref a), .val (va_rf row), .val (.int b)]) Y₁ hexec f11 (by rw [f7]; exact lmd4_5) hleave
    refine Or.inl ⟨r, T', L₁, hr, ?_, fun x hx => e4 x (by rw [e3] at hx; exact hx), ?_, fun acts => ?_⟩
    · rw [e5, e6] at X'
      simpa using X'
    · have z0 := congrArg State.heap ht'
      have z1 : U₁.heap = T'.heap := z0
      rw [← z1, e1, hh]
      exact hheap
    · show Steps p.tables e below (doInvoke e (T.setTop g) acts _ _).1 (T'.setTop { g with pc := g.pc + 5, stack := (some (Value.int r)).toList ++ g.stack })
      rw [hin acts, ← ht']
      exact Steps.weaken (mid := [.java g]) ((w3 _ w4).trans w5)
  · dsimp only [Pt.U, Pt.locs, Pt.cells, Pt.slots] at Y₁ w4 e1 e2 e3 e5 e6 hcl
    obtain ⟨hE, z, q1, q2, q3, q4⟩ := hq
    obtain ⟨st1, hrun, hend, hWe, hsame⟩ := Y₁.leaveThrown q (g := { method := ⟨gL G 304, 1⟩, pc := 2, locals := #[.val (.ref a), .val (va_rf row), .val (.int b)], stack := [], locked := none }) rfl rfl rfl (fun x hx => by rw [Array.isEmpty_iff.mp f17] at hx; cases hx) f9
    obtain ⟨T', X', hW', hsb, ht'⟩ := X.outOfThrown hg hend hWe hsame
    have z0 := congrArg State.heap ht'
    have z1 : U₁.heap = T'.heap := z0
    have z2 : T'.heap = t'.heap := z1.symm.trans e1
    have z3 : (U.calling g' mk' ([va_rf row, .int b] : List Value).toArray).heap = H := hheap
    rw [z3] at q3 q4
    refine Or.inr ⟨E, q, T', ce, L₁, z, hE, ?_, fun x hx => e4 x (by rw [e3] at hx; exact hx), by rw [z2]; exact q1, q2, by rw [z2]; exact q3, fun x x1 x2 => by rw [z2]; exact q4 x x1 x2, by rw [z2]; exact hce, hcv, vx_cls hWU hcl, fun acts => ?_⟩
    · rw [e5, e6] at X'
      simpa using X'
    · show Steps p.tables e below (doInvoke e (T.setTop g) acts _ _).1 _
      rw [hin acts, ← ht']
      exact Steps.weaken (mid := [.java g]) ((w3 _ w4).trans st1)
set_option maxHeartbeats 1000000 in
theorem x_cin5 (hG : XG G) (hexec : p.tables.exec = Jvm.exec) (hts : ∀ w ∈ lw_all, w.before args s = true) (hK : KK G s) (hX : XX G h0 H0 h H locs) {T : State} (hTH : T.heap = H) (X : Stand p l e R s m args below meth c T locs cells slots) {row : Option Nat} {b : Int32} {res : Sum Int32 String} (hM : vx_Met l yX0_lambda_new_1 (ws_ yX0_lambda_new_1 cX0_lambda_new_1 2 (some .int)) (rmm 8 3 1010 10300) (XP G [va_rf row, .int b] h) (XQy res) (XCy G res h) 3 1010 (fre h))
    {g : JFrame} (hg : g.method = m) (hsize : g.locals.size = c.maxLocals) (hW : 2 * g.monitorRoom + (g.stack.map fun v => v.category).sum ≤ 8) {index : Nat} (hdg : decode c.code g.pc = .ok (.invokeinterface index 3, 5)) (hF : 10 ≤ R.frames) (hLo : 10400 ≤ R.locals) (hcs : cells + 3 ≤ R.cells ∧ slots + 1010 ≤ R.slots) :
    CellOut p l e R s m args below meth c locs cells slots G h H g res (fun acts => (doInvoke e (T.setTop g) acts ⟨gL G 305, 1⟩ #[.ref a, va_rf row, .int b]).1) := by
  have hLam := (hG.k hK).2.2.2.2.2.2.2.2.1
  obtain ⟨m9, k9, cf9, i0, p0, hm9, hk9, hcf9, hn9, hsh9, hf9, hmade, hcall⟩ := hLam
  obtain ⟨k8, hk8, he8⟩ := X.warmed.alike.2.2 _ _ hk9
  obtain ⟨k, tk, file, bm, y, toy, t, f1, f2, f3, f4, f5, f6, f7, f8, f9, f10, f11, f12, f13, f14, f15, f16, f17⟩ := lmfacts5 (s := T) hk8 (by rw [he8]; exact hn9) (Lambda.isMade_warmer X.warmed hmade)
  have hcode : (Cond.code yX0_lambda_new_1 cX0_lambda_new_1 2 (some .int)).before args T = true := word_at X.warmed (Or.inl rfl) (hts _ q904)
  have hstw : (Cond.static yX0_lambda_new_1).before args T = true := word_at X.warmed (Or.inl rfl) (hts _ q903)
  have hiniw : (Cond.initialized yX0_lambda_new_1.cls).before args T = true := word_at X.warmed (Or.inl rfl) (hts _ q94)
  obtain ⟨kt, metht, s1, s2, s3, s4, s5, s6, s7, s8⟩ := lm_static (e := e) (y := yX0_lambda_new_1) f1 f3 (by rw [f4]; exact lmeM5.1) (by rw [f4]; exact lmeM5.2.2) f16 f12 f13 f14 (by decide) hcode hstw hiniw
  have hpar : metht.sig.parameters.length = 2 := by
    have h9 : (parseMethodDescriptor "(Ljava/lang/Object;I)I").map (fun d => d.parameters.length) = some 2 := by decide +kernel
    rw [show parseMethodDescriptor "(Ljava/lang/Object;I)I" = some metht.sig from s8] at h9
    exact Option.some.inj h9
  obtain ⟨Y₀, hin⟩ := X.into hg hsize hdg #[.ref a, va_rf row, .int b] (R' := rmm 9 3 1010 10330) f5 f6 f9 (State.plainMethod.of_name fun kq hkq => by
      cases f1.symm.trans hkq
      rw [f2]; decide +kernel) (by show 9 + 1 ≤ _; omega) (by rw [f8]; show _ + (3 + 11) + 10330 ≤ _; omega) (by show cells + 3 ≤ _; omega) (by show slots + 1010 ≤ _; omega)
  rw [f8] at Y₀ hin
  have hloc : entryFrame ⟨gL G 305, 1⟩ #[.ref a, va_rf row, .int b] 3 = { method := ⟨gL G 305, 1⟩, pc := 0, locals := #[.val (.ref a), .val (va_rf row), .val (.int b)], stack := [], locked := none } := by cases row <;> rfl
  rw [hloc] at Y₀ hin
  generalize hU : (T.setTop g).pushFrame (.java { method := ⟨gL G 305, 1⟩, pc := 0, locals := #[.val (.ref a), .val (va_rf row), .val (.int b)], stack := [], locked := none }) = U at Y₀ hin
  have hvm : U.vm = T.vm := by rw [← hU]; rfl
  have hheap : U.heap = H := by rw [← hU]; exact hTH
  have hWU : s.WarmedH U.vm := by rw [hvm]; exact X.warmed
  have w2 : Steps p.tables e (.java g :: below) (U.setTop { method := ⟨gL G 305, 1⟩, pc := 0, locals := #[.val (.ref a), .val (va_rf row), .val (.int b)], stack := [], locked := none }) (U.setTop { method := ⟨gL G 305, 1⟩, pc := 2, locals := #[.val (.ref a), .val (va_rf row), .val (.int b)], stack := [.int b, va_rf row], locked := none }) := by
    cases row with
    | none =>
      show Steps p.tables e (.java g :: below) (U.setTop { method := ⟨gL G 305, 1⟩, pc := 0, locals := #[.val (.ref a), .val .null, .val (.int b)], stack := [], locked := none }) (U.setTop { method := ⟨gL G 305, 1⟩, pc := 2, locals := #[.val (.ref a), .val .null, .val (.int b)], stack := [.int b, .null], locked := none })
      jvm_step Y₀.here [hexec, f7, lmd5_0, Value.isRef]
      jvm_step Y₀.here [hexec, f7, lmd5_1]
      exact Steps.refl _
    | some x =>
      show Steps p.tables e (.java g :: below) (U.setTop { method := ⟨gL G 305, 1⟩, pc := 0, locals := #[.val (.ref a), .val (.ref x), .val (.int b)], stack := [], locked := none }) (U.setTop { method := ⟨gL G 305, 1⟩, pc := 2, locals := #[.val (.ref a), .val (.ref x), .val (.int b)], stack := [.int b, .ref x], locked := none })
      jvm_step Y₀.here [hexec, f7, lmd5_0, Value.isRef]
      jvm_step Y₀.here [hexec, f7, lmd5_1]
      exact Steps.refl _
  have hGd : GoodIn lw_all (ws_ yX0_lambda_new_1 cX0_lambda_new_1 2 (some .int)) := lw_meth q904
  have hB : vx_Back l (rmm 9 3 1010 10330) p e (.java g :: below) (T.calling g ⟨gL G 305, 1⟩ #[.ref a, va_rf row, .int b]) #[.ref a, va_rf row, .int b] yX0_lambda_new_1 3 0 (PreOf (rmm 9 3 1010 10330) 3 1010 (XP G [va_rf row, .int b] h)) (PostOf (XQy res) 3 1010 (fre h)) (vx_Post (XCy G res h) 3 1010 (fre h)) :=
    vx_back (bytes := cX0_lambda_new_1) (maxL := 2) (ret := some .int) hM XP.blind rfl rfl (Nat.le_refl _) (by show 0 + (2 + 11) + 10300 ≤ 10330; decide) (fun w hw a' U' hW' => pay_in hts hGd w hw a' U' (State.WarmedH.trans X.warmed hW')) List.mem_cons_self (fun a' U' hW' => word_at (State.WarmedH.trans X.warmed hW') (Or.inl rfl) (hts _ q94))
  have hpre : PreOf (rmm 9 3 1010 10330) 3 1010 (XP G [va_rf row, .int b] h) ⟨U, [], 0, 0⟩ ([va_rf row, .int b] : List Value).toArray := ⟨Nat.le_refl _, Nat.le_refl _, rfl, hK.warm hWU, by show XW G h U.heap; rw [hheap]; exact hX.1⟩
  have r1 : plainRef U e (gL G 305) 17 := by
    unfold plainRef
    rw [hvm]
    exact s1
  have w3 : ∀ tgt, Steps p.tables e (.java g :: below) (doInvoke e (U.setTop { method := ⟨gL G 305, 1⟩, pc := 2, locals := #[.val (.ref a), .val (va_rf row), .val (.int b)], stack := [], locked := none }) [] t ([va_rf row, .int b] : List Value).toArray).1 tgt → Steps p.tables e (.java g :: below) (U.setTop { method := ⟨gL G 305, 1⟩, pc := 0, locals := #[.val (.ref a), .val (va_rf row), .val (.int b)], stack := [], locked := none }) tgt := by
    intro tgt hst
    refine w2.trans ?_
    refine Steps.trans ?_ hst
    jvm_step Y₀.here [hexec, f7, lmd5_2, invokestatic.wp_ready (e := e) (s := U) (m := t) (k := kt) (meth := metht) (args := [va_rf row, .int b]) (rest := []) (f := { method := ⟨gL G 305, 1⟩, pc := 2, locals := #[.val (.ref a), .val (va_rf row), .val (.int b)], stack := [.int b, va_rf row], locked := none }) Y₀.here.top r1 (by rw [hvm]; exact f15) (by rw [hvm]; exact s2) (by rw [hvm]; exact s3) s4 s5 s6 hpar.symm rfl]
    intro acts
    rw [doInvoke_state]
    exact Steps.refl _
  rcases hB ⟨gL G 305, 1⟩ bm y ⟨U, [], 0, 0⟩ { method := ⟨gL G 305, 1⟩, pc := 2, locals := #[.val (.ref a), .val (va_rf row), .val (.int b)], stack := [], locked := none } (.invokestatic 17) t ([va_rf row, .int b] : List Value).toArray Y₀ rfl (by rw [f8]; rfl) (by rw [f7]; exact lmd5_2) (by show 2 * 0 + 0 ≤ 0; decide) (by show (T.setVm U.vm).methodNamed? _ = _; rw [hvm]; exact s7) hpre with ⟨v, ⟨U₁, L₁, c₁, n₁⟩, Y₁, ⟨g', mk', t', L', e1, e2, hq, e3, e4, e5, e6⟩, w4⟩ | ⟨q, ⟨U₁, L₁, c₁, n₁⟩, Y₁, ⟨g', mk', t', L', E, ce, e1, e2, hq, hce, hcv, hcl, e3, e4, e5, e6⟩, w4⟩
  · dsimp only [Pt.U, Pt.locs, Pt.cells, Pt.slots] at Y₁ w4 e1 e2 e3 e5 e6
    obtain ⟨r, hr, hv, hh⟩ := hq
    cases hv
    obtain ⟨fs, hleave, -, hended, hWe, hsame⟩ := Y₁.leave (v := some (.int r)) (fun z => by rw [f11] at z; cases z) f9
    obtain ⟨T', X', hW', hsb, ht'⟩ := X.outOf hg hdg hended hWe hsame
    have w5 := x_iretOutI (ls := #[.val (.ref a), .val (va_rf row), .val (.int b)]) Y₁ hexec f11 (by rw [f7]; exact lmd5_5) hleave
    refine Or.inl ⟨r, T', L₁, hr, ?_, fun x hx => e4 x (by rw [e3] at hx; exact hx), ?_, fun acts => ?_⟩
    · rw [e5, e6] at X'
      simpa using X'
    · have z0 := congrArg State.heap ht'
      have z1 : U₁.heap = T'.heap := z0
      rw [← z1, e1, hh]
      exact hheap
    · show Steps p.tables e below (doInvoke e (T.setTop g) acts _ _).1 (T'.setTop { g with pc := g.pc + 5, stack := (some (Value.int r)).toList ++ g.stack })
      rw [hin acts, ← ht']
      exact Steps.weaken (mid := [.java g]) ((w3 _ w4).trans w5)
  · dsimp only [Pt.U, Pt.locs, Pt.cells, Pt.slots] at Y₁ w4 e1 e2 e3 e5 e6 hcl
    obtain ⟨hE, z, q1, q2, q3, q4⟩ := hq
    obtain ⟨st1, hrun, hend, hWe, hsame⟩ := Y₁.leaveThrown q (g := { method := ⟨gL G 305, 1⟩, pc := 2, locals := #[.val (.ref a), .val (va_rf row), .val (.int b)], stack := [], locked := none }) rfl rfl rfl (fun x hx => by rw [Array.isEmpty_iff.mp f17] at hx; cases hx) f9
    obtain ⟨T', X', hW', hsb, ht'⟩ := X.outOfThrown hg hend hWe hsame
    have z0 := congrArg State.heap ht'
    have z1 : U₁.heap = T'.heap := z0
    have z2 : T'.heap = t'.heap := z1.symm.trans e1
    have z3 : (U.calling g' mk' ([va_rf row, .int b] : List Value).toArray).heap = H := hheap
    rw [z3] at q3 q4
    refine Or.inr ⟨E, q, T', ce, L₁, z, hE, ?_, fun x hx => e4 x (by rw [e3] at hx; exact hx), by rw [z2]; exact q1, q2, by rw [z2]; exact q3, fun x x1 x2 => by rw [z2]; exact q4 x x1 x2, by rw [z2]; exact hce, hcv, vx_cls hWU hcl, fun acts => ?_⟩
    · rw [e5, e6] at X'
      simpa using X'
    · show Steps p.tables e below (doInvoke e (T.setTop g) acts _ _).1 _
      rw [hin acts, ← ht']
      exact Steps.weaken (mid := [.java g]) ((w3 _ w4).trans st1)
set_option maxHeartbeats 1000000 in
theorem x_cin6 (hG : XG G) (hexec : p.tables.exec = Jvm.exec) (hts : ∀ w ∈ lw_all, w.before args s = true) (hK : KK G s) (hX : XX G h0 H0 h H locs) {T : State} (hTH : T.heap = H) (X : Stand p l e R s m args below meth c T locs cells slots) {row : Option Nat} {b : Int32} {res : Sum Int32 String} (hM : vx_Met l yX0_lambda_new_2 (ws_ yX0_lambda_new_2 cX0_lambda_new_2 2 (some .int)) (rmm 8 3 1010 10300) (XP G [va_rf row, .int b] h) (XQy res) (XCy G res h) 3 1010 (fre h))
    {g : JFrame} (hg : g.method = m) (hsize : g.locals.size = c.maxLocals) (hW : 2 * g.monitorRoom + (g.stack.map fun v => v.category).sum ≤ 8) {index : Nat} (hdg : decode c.code g.pc = .ok (.invokeinterface index 3, 5)) (hF : 10 ≤ R.frames) (hLo : 10400 ≤ R.locals) (hcs : cells + 3 ≤ R.cells ∧ slots + 1010 ≤ R.slots) :
    CellOut p l e R s m args below meth c locs cells slots G h H g res (fun acts => (doInvoke e (T.setTop g) acts ⟨gL G 306, 1⟩ #[.ref a, va_rf row, .int b]).1) := by
  have hLam := (hG.k hK).2.2.2.2.2.2.2.2.2.1
  obtain ⟨m9, k9, cf9, i0, p0, hm9, hk9, hcf9, hn9, hsh9, hf9, hmade, hcall⟩ := hLam
  obtain ⟨k8, hk8, he8⟩ := X.warmed.alike.2.2 _ _ hk9
  obtain ⟨k, tk, file, bm, y, toy, t, f1, f2, f3, f4, f5, f6, f7, f8, f9, f10, f11, f12, f13, f14, f15, f16, f17⟩ := lmfacts6 (s := T) hk8 (by rw [he8]; exact hn9) (Lambda.isMade_warmer X.warmed hmade)
  have hcode : (Cond.code yX0_lambda_new_2 cX0_lambda_new_2 2 (some .int)).before args T = true := word_at X.warmed (Or.inl rfl) (hts _ q907)
  have hstw : (Cond.static yX0_lambda_new_2).before args T = true := word_at X.warmed (Or.inl rfl) (hts _ q906)
  have hiniw : (Cond.initialized yX0_lambda_new_2.cls).before args T = true := word_at X.warmed (Or.inl rfl) (hts _ q94)
  obtain ⟨kt, metht, s1, s2, s3, s4, s5, s6, s7, s8⟩ := lm_static (e := e) (y := yX0_lambda_new_2) f1 f3 (by rw [f4]; exact lmeM6.1) (by rw [f4]; exact lmeM6.2.2) f16 f12 f13 f14 (by decide) hcode hstw hiniw
  have hpar : metht.sig.parameters.length = 2 := by
    have h9 : (parseMethodDescriptor "(Ljava/lang/Object;I)I").map (fun d => d.parameters.length) = some 2 := by decide +kernel
    rw [show parseMethodDescriptor "(Ljava/lang/Object;I)I" = some metht.sig from s8] at h9
    exact Option.some.inj h9
  obtain ⟨Y₀, hin⟩ := X.into hg hsize hdg #[.ref a, va_rf row, .int b] (R' := rmm 9 3 1010 10330) f5 f6 f9 (State.plainMethod.of_name fun kq hkq => by
      cases f1.symm.trans hkq
      rw [f2]; decide +kernel) (by show 9 + 1 ≤ _; omega) (by rw [f8]; show _ + (3 + 11) + 10330 ≤ _; omega) (by show cells + 3 ≤ _; omega) (by show slots + 1010 ≤ _; omega)
  rw [f8] at Y₀ hin
  have hloc : entryFrame ⟨gL G 306, 1⟩ #[.ref a, va_rf row, .int b] 3 = { method := ⟨gL G 306, 1⟩, pc := 0, locals := #[.val (.ref a), .val (va_rf row), .val (.int b)], stack := [], locked := none } := by cases row <;> rfl
  rw [hloc] at Y₀ hin
  generalize hU : (T.setTop g).pushFrame (.java { method := ⟨gL G 306, 1⟩, pc := 0, locals := #[.val (.ref a), .val (va_rf row), .val (.int b)], stack := [], locked := none }) = U at Y₀ hin
  have hvm : U.vm = T.vm := by rw [← hU]; rfl
  have hheap : U.heap = H := by rw [← hU]; exact hTH
  have hWU : s.WarmedH U.vm := by rw [hvm]; exact X.warmed
  have w2 : Steps p.tables e (.java g :: below) (U.setTop { method := ⟨gL G 306, 1⟩, pc := 0, locals := #[.val (.ref a), .val (va_rf row), .val (.int b)], stack := [], locked := none }) (U.setTop { method := ⟨gL G 306, 1⟩, pc := 2, locals := #[.val (.ref a), .val (va_rf row), .val (.int b)], stack := [.int b, va_rf row], locked := none }) := by
    cases row with
    | none =>
      show Steps p.tables e (.java g :: below) (U.setTop { method := ⟨gL G 306, 1⟩, pc := 0, locals := #[.val (.ref a), .val .null, .val (.int b)], stack := [], locked := none }) (U.setTop { method := ⟨gL G 306, 1⟩, pc := 2, locals := #[.val (.ref a), .val .null, .val (.int b)], stack := [.int b, .null], locked := none })
      jvm_step Y₀.here [hexec, f7, lmd6_0, Value.isRef]
      jvm_step Y₀.here [hexec, f7, lmd6_1]
      exact Steps.refl _
    | some x =>
      show Steps p.tables e (.java g :: below) (U.setTop { method := ⟨gL G 306, 1⟩, pc := 0, locals := #[.val (.ref a), .val (.ref x), .val (.int b)], stack := [], locked := none }) (U.setTop { method := ⟨gL G 306, 1⟩, pc := 2, locals := #[.val (.ref a), .val (.ref x), .val (.int b)], stack := [.int b, .ref x], locked := none })
      jvm_step Y₀.here [hexec, f7, lmd6_0, Value.isRef]
      jvm_step Y₀.here [hexec, f7, lmd6_1]
      exact Steps.refl _
  have hGd : GoodIn lw_all (ws_ yX0_lambda_new_2 cX0_lambda_new_2 2 (some .int)) := lw_meth q907
  have hB : vx_Back l (rmm 9 3 1010 10330) p e (.java g :: below) (T.calling g ⟨gL G 306, 1⟩ #[.ref a, va_rf row, .int b]) #[.ref a, va_rf row, .int b] yX0_lambda_new_2 3 0 (PreOf (rmm 9 3 1010 10330) 3 1010 (XP G [va_rf row, .int b] h)) (PostOf (XQy res) 3 1010 (fre h)) (vx_Post (XCy G res h) 3 1010 (fre h)) :=
    vx_back (bytes := cX0_lambda_new_2) (maxL := 2) (ret := some .int) hM XP.blind rfl rfl (Nat.le_refl _) (by show 0 + (2 + 11) + 10300 ≤ 10330; decide) (fun w hw a' U' hW' => pay_in hts hGd w hw a' U' (State.WarmedH.trans X.warmed hW')) List.mem_cons_self (fun a' U' hW' => word_at (State.WarmedH.trans X.warmed hW') (Or.inl rfl) (hts _ q94))
  have hpre : PreOf (rmm 9 3 1010 10330) 3 1010 (XP G [va_rf row, .int b] h) ⟨U, [], 0, 0⟩ ([va_rf row, .int b] : List Value).toArray := ⟨Nat.le_refl _, Nat.le_refl _, rfl, hK.warm hWU, by show XW G h U.heap; rw [hheap]; exact hX.1⟩
  have r1 : plainRef U e (gL G 306) 17 := by
    unfold plainRef
    rw [hvm]
    exact s1
  have w3 : ∀ tgt, Steps p.tables e (.java g :: below) (doInvoke e (U.setTop { method := ⟨gL G 306, 1⟩, pc := 2, locals := #[.val (.ref a), .val (va_rf row), .val (.int b)], stack := [], locked := none }) [] t ([va_rf row, .int b] : List Value).toArray).1 tgt → Steps p.tables e (.java g :: below) (U.setTop { method := ⟨gL G 306, 1⟩, pc := 0, locals := #[.val (.ref a), .val (va_rf row), .val (.int b)], stack := [], locked := none }) tgt := by
    intro tgt hst
    refine w2.trans ?_
    refine Steps.trans ?_ hst
    jvm_step Y₀.here [hexec, f7, lmd6_2, invokestatic.wp_ready (e := e) (s := U) (m := t) (k := kt) (meth := metht) (args := [va_rf row, .int b]) (rest := []) (f := { method := ⟨gL G 306, 1⟩, pc := 2, locals := #[.val (.ref a), .val (va_rf row), .val (.int b)], stack := [.int b, va_rf row], locked := none }) Y₀.here.top r1 (by rw [hvm]; exact f15) (by rw [hvm]; exact s2) (by rw [hvm]; exact s3) s4 s5 s6 hpar.symm rfl]
    intro acts
    rw [doInvoke_state]
    exact Steps.refl _
  rcases hB ⟨gL G 306, 1⟩ bm y ⟨U, [], 0, 0⟩ { method := ⟨gL G 306, 1⟩, pc := 2, locals := #[.val (.ref a), .val (va_rf row), .val (.int b)], stack := [], locked := none } (.invokestatic 17) t ([va_rf row, .int b] : List Value).toArray Y₀ rfl (by rw [f8]; rfl) (by rw [f7]; exact lmd6_2) (by show 2 * 0 + 0 ≤ 0; decide) (by show (T.setVm U.vm).methodNamed? _ = _; rw [hvm]; exact s7) hpre with ⟨v, ⟨U₁, L₁, c₁, n₁⟩, Y₁, ⟨g', mk', t', L', e1, e2, hq, e3, e4, e5, e6⟩, w4⟩ | ⟨q, ⟨U₁, L₁, c₁, n₁⟩, Y₁, ⟨g', mk', t', L', E, ce, e1, e2, hq, hce, hcv, hcl, e3, e4, e5, e6⟩, w4⟩
  · dsimp only [Pt.U, Pt.locs, Pt.cells, Pt.slots] at Y₁ w4 e1 e2 e3 e5 e6
    obtain ⟨r, hr, hv, hh⟩ := hq
    cases hv
    obtain ⟨fs, hleave, -, hended, hWe, hsame⟩ := Y₁.leave (v := some (.int r)) (fun z => by rw [f11] at z; cases z) f9
    obtain ⟨T', X', hW', hsb, ht'⟩ := X.outOf hg hdg hended hWe hsame
    have w5 := x_iretOutI (ls := #[.val (.ref a), .val (va_rf row), .val (.int b)]) Y₁ hexec f11 (by rw [f7]; exact lmd6_5) hleave
    refine Or.inl ⟨r, T', L₁, hr, ?_, fun x hx => e4 x (by rw [e3] at hx; exact hx), ?_, fun acts => ?_⟩
    · rw [e5, e6] at X'
      simpa using X'
    · have z0 := congrArg State.heap ht'
      have z1 : U₁.heap = T'.heap := z0
      rw [← z1, e1, hh]
      exact hheap
    · show Steps p.tables e below (doInvoke e (T.setTop g) acts _ _).1 (T'.setTop { g with pc := g.pc + 5, stack := (some (Value.int r)).toList ++ g.stack })
      rw [hin acts, ← ht']
      exact Steps.weaken (mid := [.java g]) ((w3 _ w4).trans w5)
  · dsimp only [Pt.U, Pt.locs, Pt.cells, Pt.slots] at Y₁ w4 e1 e2 e3 e5 e6 hcl
    obtain ⟨hE, z, q1, q2, q3, q4⟩ := hq
    obtain ⟨st1, hrun, hend, hWe, hsame⟩ := Y₁.leaveThrown q (g := { method := ⟨gL G 306, 1⟩, pc := 2, locals := #[.val (.ref a), .val (va_rf row), .val (.int b)], stack := [], locked := none }) rfl rfl rfl (fun x hx => by rw [Array.isEmpty_iff.mp f17] at hx; cases hx) f9
    obtain ⟨T', X', hW', hsb, ht'⟩ := X.outOfThrown hg hend hWe hsame
    have z0 := congrArg State.heap ht'
    have z1 : U₁.heap = T'.heap := z0
    have z2 : T'.heap = t'.heap := z1.symm.trans e1
    have z3 : (U.calling g' mk' ([va_rf row, .int b] : List Value).toArray).heap = H := hheap
    rw [z3] at q3 q4
    refine Or.inr ⟨E, q, T', ce, L₁, z, hE, ?_, fun x hx => e4 x (by rw [e3] at hx; exact hx), by rw [z2]; exact q1, q2, by rw [z2]; exact q3, fun x x1 x2 => by rw [z2]; exact q4 x x1 x2, by rw [z2]; exact hce, hcv, vx_cls hWU hcl, fun acts => ?_⟩
    · rw [e5, e6] at X'
      simpa using X'
    · show Steps p.tables e below (doInvoke e (T.setTop g) acts _ _).1 _
      rw [hin acts, ← ht']
      exact Steps.weaken (mid := [.java g]) ((w3 _ w4).trans st1)
/-- which array a lane asks for -/
def laneT (k : Nat) : Nat := match k with
  | 0 => 2
  | 1 => 3
  | _ => 0
theorem x_cell (hG : XG G) (hl0 : l.stackTraces = false) (hexec : p.tables.exec = Jvm.exec) (hb : c.code = cc) (hml : c.maxLocals = nL) (hts : ∀ w ∈ lw_all, w.before args s = true) {own : String} {index : Nat} (hown : s.vm.findClass own = some m.cls) (hK : KK G s) (hX : XX G h0 H0 h H locs) (hva : v = .ref a) {k : Nat} (hk : k < 3) (ht : hT h a = 304 + k) {row : Option Nat} {b : Int32} (hrow : rowOk h row) {res : Sum Int32 String} (hres : rowAt h (laneT k) row b = res) (hlink : (Cond.methodLink own index ⟨"PromiseTries$Cells", "at", "(Ljava/lang/Object;I)I"⟩) ∈ lw_all) (hsize : ls.size = nL) (hW : (rest.map fun v => v.category).sum ≤ 8) (hfr : 10 ≤ R.frames) (hlo : 10400 ≤ R.locals) (hcs : cells + 3 ≤ R.cells ∧ slots + 1010 ≤ R.slots) (hdg : decode cc pc = .ok (.invokeinterface index 3, 5))
    (kr : ∀ r, res = .inl r → ∀ locs1 : List Loc, XX G h0 H0 h H locs1 → W p l e R s m args below meth c H locs1 (cells + 3) (slots + 1010) Q (F0 m (pc + 5) ls (.int r :: rest)))
    (kx : ∀ E, res = .inr E → ∀ (z : Nat) (H1 : Heap) (locs1 : List Loc) (q : Addr) (ce : Cell), XX G h0 H0 (hzz h z) H1 locs1 → H1[q]? = some ce → ce.vm = .none → s.vm.findClass E = some ce.cls → vx_W p l e R s m args below meth c H1 locs1 (cells + 3) (slots + 1010) Q (F0 m pc ls rest) q) :
    W p l e R s m args below meth c H locs cells slots Q (F0 m pc ls (.int b :: va_rf row :: v :: rest)) := by
  subst hva
  obtain ⟨r0, rm0, hn, hrm, hstR, hsigR⟩ : va_Decl s ⟨"PromiseTries$Cells", "at", "(Ljava/lang/Object;I)I"⟩ := va_Decl.nw (hG.nw hK nq1069)
  obtain ⟨cL, kL, r1, hcL, hkL, hiL, hfoundL, hn1⟩ := Cond.interfaceMethod_spec (hG.i hK).2.1
  cases hn.symm.trans hn1
  have hr0cls : r0.cls = cL := Option.some.inj ((findClass_of_methodNamed hn).symm.trans hcL)
  obtain ⟨hnameR, hdescR⟩ := name_of_methodNamed hn hrm
  have hlen : [va_rf row, Value.int b].length = rm0.sig.parameters.length := by
    have h9 : (parseMethodDescriptor "(Ljava/lang/Object;I)I").map (fun d => d.parameters.length) = some 2 := by decide +kernel
    rw [show parseMethodDescriptor "(Ljava/lang/Object;I)I" = some rm0.sig from hsigR] at h9
    exact (Option.some.inj h9).symm
  intro T hTt X
  have hcell : ∃ cell : Cell, H[a]? = some cell ∧ cell.vm = .none ∧ cell.cls = gL G (304 + k) := by
    obtain ⟨-, -, -, -, c4, -⟩ := hX.1.2.2.2 a (by omega)
    obtain ⟨cell, q1, q2, q3⟩ := c4 (by omega) (by omega)
    exact ⟨cell, q1, q2, by rw [q3, ht]⟩
  obtain ⟨cell, hcell, hcv, hcc⟩ := hcell
  have lam : ∃ (kB : Class) (mB : Method), s.vm.classes[gL G (304 + k)]? = some kB ∧ s.vm.method? ⟨gL G (304 + k), 1⟩ = some mB ∧ mB.accessFlags = 0x0001 ∧ s.vm.assignable (gL G (304 + k)) cL = true ∧ selectMethod {} s.vm (gL G (304 + k)) r0 = .method ⟨gL G (304 + k), 1⟩ ∧
      ((gL G (304 + k) :: s.vm.superclasses (gL G (304 + k))).any fun k => (declaredIn s.vm "at" "(Ljava/lang/Object;I)I" k).any fun (_, y) => y.isPrivate || y.isStatic) = false := by
    have go : ∀ {x : MethodName} {pc9 ix : Nat} {σ : Lambda.Shape} {t : Nat} {one : Option Nat}, LamAt G s x pc9 ix σ "PromiseTries" t one → σ.iface = "PromiseTries$Cells" → σ.name = "at" → σ.sam.toString = "(Ljava/lang/Object;I)I" → (∃ mB : Method, s.vm.method? ⟨gL G t, 1⟩ = some mB ∧ mB.accessFlags = 0x0001) →
        ∃ (kB : Class) (mB : Method), s.vm.classes[gL G t]? = some kB ∧ s.vm.method? ⟨gL G t, 1⟩ = some mB ∧ mB.accessFlags = 0x0001 ∧ s.vm.assignable (gL G t) cL = true ∧ selectMethod {} s.vm (gL G t) r0 = .method ⟨gL G t, 1⟩ ∧ ((gL G t :: s.vm.superclasses (gL G t)).any fun k => (declaredIn s.vm "at" "(Ljava/lang/Object;I)I" k).any fun (_, y) => y.isPrivate || y.isStatic) = false := by
      intro x pc9 ix σ t one hLam e1 e2 e3 ⟨mB, hmB, hfl⟩
      obtain ⟨m9, k9, cf9, i0, p0, -, -, -, -, -, -, hmade, hcall⟩ := hLam
      obtain ⟨dk', kk, ok, tk, file, cf, object, iface', toy, lay, methods, tgt, found, -, hk, -, -, -, hi', -, -, -, -, -, -, hfound', -, -, -, -, -, -, -, -, -, -, hsel⟩ := Lambda.isMade_spec hmade
      obtain ⟨i2, hi2, hasg, hway⟩ := State.lambdaCallable_spec hcall
      rw [e1] at hi' hi2
      cases hcL.symm.trans hi'
      cases hcL.symm.trans hi2
      have hfr : found = r0 := by
        have h1 := hfoundL
        simp only [State.methodFound?, hcL, hkL, hiL, Option.bind_eq_bind, Option.bind_some] at h1
        rw [e2, e3] at hfound'
        rw [hfound'] at h1
        exact Option.some.inj h1
      subst hfr
      exact ⟨kk, mB, hk, hmB, hfl, hasg, hsel, by rw [e2, e3] at hway; exact hway⟩
    have hl := (hG.k hK).2.2.2
    rcases (show k = 0 ∨ k = 1 ∨ k = 2 by omega) with z | z | z
    · subst z
      refine go hl.2.2.2.2.1 rfl rfl (by decide +kernel) ?_
      obtain ⟨m9, k9, cf9, i0, p0, hm9, hk9, hcf9, hn9, hsh9, hf9, hmade, hcall⟩ := hl.2.2.2.2.1
      obtain ⟨k, tk, file, bm, y, toy, t, f1, f2, f3, f4, f5, f6, f7, f8, f9, f10, -⟩ := lmfacts4 (s := s) hk9 hn9 hmade
      exact ⟨bm, f5, f10⟩
    · subst z
      refine go hl.2.2.2.2.2.1 rfl rfl (by decide +kernel) ?_
      obtain ⟨m9, k9, cf9, i0, p0, hm9, hk9, hcf9, hn9, hsh9, hf9, hmade, hcall⟩ := hl.2.2.2.2.2.1
      obtain ⟨k, tk, file, bm, y, toy, t, f1, f2, f3, f4, f5, f6, f7, f8, f9, f10, -⟩ := lmfacts5 (s := s) hk9 hn9 hmade
      exact ⟨bm, f5, f10⟩
    · subst z
      refine go hl.2.2.2.2.2.2.1 rfl rfl (by decide +kernel) ?_
      obtain ⟨m9, k9, cf9, i0, p0, hm9, hk9, hcf9, hn9, hsh9, hf9, hmade, hcall⟩ := hl.2.2.2.2.2.2.1
      obtain ⟨k, tk, file, bm, y, toy, t, f1, f2, f3, f4, f5, f6, f7, f8, f9, f10, -⟩ := lmfacts6 (s := s) hk9 hn9 hmade
      exact ⟨bm, f5, f10⟩
  obtain ⟨kB, mB, b1, b2, b3, b4, b5, b6⟩ := lam
  obtain ⟨vm₁, X₁, hstep₁⟩ := X.invokeinterface hexec hown (hts _ hlink) hn hrm hstR (by rw [hr0cls]; exact hkL) hiL (by decide) (a := a) (cell := cell) (kcell := kB) (by rw [hTt]; exact hcell) (fun z q => by rw [hcv] at q; cases q) (by rw [hcc]; exact b1) (by rw [hcc, hr0cls]; exact b4) (m' := ⟨gL G (304 + k), 1⟩) (meth' := mB) (by rw [Launch.admits_selectMethod X.admits, hcc]; exact b5) b2 (by rw [hnameR, hdescR, hcc]; exact b6) (by rw [b3]; decide) (by simp [Method.isAbstract, b3, hasFlag, Acc.abstract])
    (g := F0 m pc ls (.int b :: va_rf row :: .ref a :: rest)) rfl (argsL := [va_rf row, .int b]) (rest := rest) hlen rfl (by rw [hb]; exact hdg)
  have hs9 : ls.size = c.maxLocals := by rw [hml]; exact hsize
  have hw9 : 2 * (F0 m pc ls rest).monitorRoom + (rest.map fun v => v.category).sum ≤ 8 := lv_room hW
  have hd9 : decode c.code pc = .ok (.invokeinterface index 3, 5) := by rw [hb]; exact hdg
  have fin : CellOut p l e R s m args below meth c locs cells slots G h H (F0 m pc ls rest) res (fun acts => (doInvoke e ((T.setVm vm₁).setTop (F0 m pc ls rest)) acts ⟨gL G (304 + k), 1⟩ #[.ref a, va_rf row, .int b]).1) := by
    rcases (show k = 0 ∨ k = 1 ∨ k = 2 by omega) with z | z | z
    · subst z; exact x_cin4 hG hexec hts hK hX (T := T.setVm vm₁) hTt X₁ (wx_row0 l hl0 G hG h row b hrow res hres) (g := F0 m pc ls rest) rfl hs9 hw9 hd9 hfr hlo hcs
    · subst z; exact x_cin5 hG hexec hts hK hX (T := T.setVm vm₁) hTt X₁ (wx_row1 l hl0 G hG h row b hrow res hres) (g := F0 m pc ls rest) rfl hs9 hw9 hd9 hfr hlo hcs
    · subst z; exact x_cin6 hG hexec hts hK hX (T := T.setVm vm₁) hTt X₁ (wx_row2 l hl0 G hG h row b hrow res hres) (g := F0 m pc ls rest) rfl hs9 hw9 hd9 hfr hlo hcs
  have mk : ∀ (h9 : Hp) (L : List Loc) (H9 : Heap), (∀ x ∈ L, fre h x.base) → XW G h9 H9 → Ext h h9 → H.size ≤ H9.size → (∀ q : Nat, q < H.size → ¬ fre h q → H9[q]? = H[q]?) → XX G h0 H0 h9 H9 (locs ++ L) := fun h9 L H9 hL hw hex hz hkp =>
    ⟨hw, hX.2.1.tr hex, ⟨Nat.le_trans hX.2.2.1 hz, fun q q1 q2 => by rw [hkp q (Nat.lt_of_lt_of_le q1 hX.2.2.1) (fun z => q2 (hX.2.1.fre z))]; exact hX.2.2.2.1 q q1 q2, fun q hq => by
      rcases List.mem_append.mp hq with z | z
      · exact hX.2.2.2.2 q z
      · exact hX.2.1.fre (hL q z)⟩⟩
  rcases fin with ⟨r, T', L, f1, f2, f3, f4, f5⟩ | ⟨E, q, T', ce, L, z, f1, f2, f3, f4, f5, f6, f7, f8, f9, f10, f11⟩
  · obtain ⟨t, a1, c1⟩ := kr r f1 (locs ++ L) (mk h L H f3 hX.1 Ext.rf (Nat.le_refl _) (fun _ _ _ => rfl)) T' f4 f2
    exact ⟨t, hstep₁ t fun acts => (f5 acts).trans a1, c1⟩
  · obtain ⟨t, a1, c1⟩ := kx E f1 z T'.heap (locs ++ L) q ce (mk (hzz h z) L T'.heap f3 f4 f5 f6 f7) f8 f9 f10 T' rfl f2
    exact ⟨t, hstep₁ t fun acts => (f11 acts).trans a1, c1⟩
end XA3
