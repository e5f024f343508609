/-! the interface call on a lambda (by program) -/
theorem lm_static {s : State} {args : Array Value} {e : Env} {cK mi ci nt : Nat} {y : MethodName} {kK tk : Class} {file : ClassFile} {toy : ClassId} {t : MethodId} {bytes : ByteArray} {maxL : Nat} {ret : Option FieldType} (hkK : s.vm.classes[cK]? = some kK) (hfile : kK.cf = some file) (hM : file.constantPool[mi]? = some (.methodref ci nt)) (hnt : file.constantPool.nameAndType? nt = some (y.name, y.desc)) (hclsR : s.vm.classReady cK ci toy) (htoy : s.vm.findClass y.cls = some toy) (htk : s.vm.classes[toy]? = some tk)
    (hlook : ((methodIn toy y.name y.desc tk.isInterface none).ask { classPath := fun _ => none } s.vm).1 = .ok t) (hy : y.cls ≠ "java/lang/invoke/MethodHandle" ∧ y.cls ≠ "java/lang/invoke/VarHandle") (hcode : (Cond.code y bytes maxL ret).before args s = true) (hst : (Cond.static y).before args s = true) (hini : (Cond.initialized y.cls).before args s = true) :
    ∃ (kt : Class) (metht : Method), plainRef s e cK mi ∧ s.vm.classes[t.cls]? = some kt ∧ s.vm.method? t = some metht ∧ signaturePolymorphic kt metht = false ∧ metht.isStatic = true ∧ kt.init = .initialized ∧ s.methodNamed? y = some t ∧ parseMethodDescriptor y.desc = some metht.sig := by
  cases hn : s.methodNamed? y with
  | none => simp [Cond.before, Cond.holds, Cond.value, hn] at hcode
  | some mB =>
    obtain ⟨methB, cB, hmB, -, -, -, -, -, -, hsigB⟩ := Cond.code_spec hn hcode
    have hcl := findClass_of_methodNamed hn
    cases htoy.symm.trans hcl
    obtain ⟨k9, hk9, hn9⟩ := className_of_methodNamed hn
    cases htk.symm.trans hk9
    have hfd : s.methodFound? y.cls y.name y.desc = some mB := State.methodFound?_of_named hn hy
    have ht : t = mB := by
      simp only [State.methodFound?, hcl, htk, Option.bind_eq_bind, Option.bind_some] at hfd
      rw [hlook] at hfd
      exact Option.some.inj hfd
    subst ht
    have hsp : ∀ z : Method, signaturePolymorphic tk z = false := fun z => by simp [signaturePolymorphic, hn9, hy.1, hy.2]
    obtain ⟨b, hb⟩ := memberRef_ask' (e := e) (vm := s.vm) (d := cK) (index := mi) hkK hfile (Or.inl hM) hnt
    exact ⟨tk, methB, ⟨ci, _, _, b, t.cls, tk, hb, hclsR, htk, by simp [hsp]⟩, htk, hmB, hsp _, Cond.static_spec hn hmB hst, Cond.initialized_spec hcl htk hini, rfl, hsigB⟩
section XA
variable {p : Program} {l : Launch} {e : Env} {R : Room} {s : State} {m : MethodId} {args : Array Value} {below : List Frame} {meth : Method} {c : Code} {H : Heap} {locs : List Loc} {cells slots : Nat} {Q : State → Prop}
variable {cc : ByteArray} {pc nL : Nat} {ls : Array Slot} {rest : List Value} {G : Gt} {h h0 : Hp} {H0 : Heap} {a : Nat} {v : Value}
/-- a method of int's kinds has returned out of its frame -/
theorem x_iretOut {T : State} (X : Stand p l e R s m args below meth c T locs cells slots) (hexec : p.tables.exec = Jvm.exec) {r : Int32} (hr : r = 0 ∨ r = 1) (hret : meth.sig.returnType = some .boolean) {pc : Nat} {ls : Array Slot} (hdg : decode c.code pc = .ok (.ireturn, 1)) {fs : List Frame} (hl : ∀ (f : JFrame) (acts : List Action), f.method = m → f.locked = none → f.entered = [] → (doReturn e (T.setTop f) acts (some (.int r))).1 = T.setFrames fs) :
    Steps p.tables e below (T.setTop { method := m, pc := pc, locals := ls, stack := [.int r], locked := none }) (T.setFrames fs) := by
  have hmeth' : T.vm.method? m = some meth := X.method'
  have hn : narrow .boolean (.int r) = .int r := nb01 hr
  rcases hr with rfl | rfl
  · jvm_step X.here [X.here.top, hexec, hdg, hmeth', hret, narrow]
    (try refine ⟨rfl, ?_⟩); (try refine ⟨rfl, ?_⟩)
    first | (intro acts; rw [hl _ acts rfl rfl rfl]) | rw [hl _ _ rfl rfl rfl]
    exact Steps.refl _
  · jvm_step X.here [X.here.top, hexec, hdg, hmeth', hret, narrow]
    (try refine ⟨rfl, ?_⟩); (try refine ⟨rfl, ?_⟩)
    first | (intro acts; rw [hl _ acts rfl rfl rfl]) | rw [hl _ _ rfl rfl rfl]
    exact Steps.refl _
theorem x_in0 (hG : XG G) (hexec : p.tables.exec = Jvm.exec) (hts : ∀ w ∈ lw_all, w.before args s = true) (hK : KK G s) (hX : XX G h0 H0 h H locs) {T : State} (hTH : T.heap = H) (X : Stand p l e R s m args below meth c T locs cells slots) {b r : Int32} (ht : hT h a = 200) {F Lo : Nat} (hM : Met l yX3_lambda_wire_0 (ws_ yX3_lambda_wire_0 cX3_lambda_wire_0 2 (some .boolean)) (rmm F 0 0 Lo) (XP G [.int (hI h a 0), .int b] h) (XQp (some (.int r))) 0 0 (fun _ => False)) (hr : r = 0 ∨ r = 1)
    {g : JFrame} (hg : g.method = m) (hsize : g.locals.size = c.maxLocals) (hW : 2 * g.monitorRoom + (g.stack.map fun v => v.category).sum ≤ 8) {index : Nat} (hdg : decode c.code g.pc = .ok (.invokeinterface index 2, 5)) (hF : F + 2 ≤ R.frames) (hLo : Lo + 48 ≤ R.locals) (hcs : cells ≤ R.cells ∧ slots ≤ R.slots) :
    ∃ T' : State, Stand p l e R s m args below meth c T' locs cells slots ∧ T'.heap = H ∧ ∀ acts, Steps p.tables e below (doInvoke e (T.setTop g) acts ⟨gL G 200, 1⟩ #[.ref a, .int b]).1 (T'.setTop { g with pc := g.pc + 5, stack := .int r :: g.stack }) := by
  obtain ⟨m9, k9, cf9, i0, p0, hm9, hk9, hcf9, hn9, hsh9, hf9, hmade, hcall⟩ := (hG.k hK).2.2.2.1
  obtain ⟨k8, hk8, he8⟩ := X.warmed.alike.2.2 _ _ hk9
  have hO : (Cond.instantiable "java/lang/Object" 0).before args T = true := word_at X.warmed (Or.inl rfl) (hts _ q1609)
  obtain ⟨k, tk, file, bm, y, toy, t, g0, f1, f2, f3, f4, f5, f6, f7, f8, f9, f10, f11, f12, f13, f14, f15, f16, q0a, q0b, q0c⟩ := lmfacts0 (s := T) hk8 (by rw [he8]; exact hn9) (Lambda.isMade_warmer X.warmed hmade) hO
  have hcode : (Cond.code yX3_lambda_wire_0 cX3_lambda_wire_0 2 (some .boolean)).before args T = true := word_at X.warmed (Or.inl rfl) (hts _ q395)
  have hstw : (Cond.static yX3_lambda_wire_0).before args T = true := word_at X.warmed (Or.inl rfl) (hts _ q394)
  have hiniw : (Cond.initialized yX3_lambda_wire_0.cls).before args T = true := word_at X.warmed (Or.inl rfl) (hts _ q98)
  obtain ⟨kt, metht, s1, s2, s3, s4, s5, s6, s7, s8⟩ := lm_static (e := e) (y := yX3_lambda_wire_0) f1 f3 (by rw [f4]; exact lmeM0.1) (by rw [f4]; exact lmeM0.2.2) f16 f12 f13 f14 (by decide) hcode hstw hiniw
  have hpar : metht.sig.parameters.length = 2 := by
    have h9 : (parseMethodDescriptor "(II)Z").map (fun d => d.parameters.length) = some 2 := by decide +kernel
    rw [show parseMethodDescriptor "(II)Z" = some metht.sig from s8] at h9
    exact Option.some.inj h9
  obtain ⟨Y₀, hin⟩ := X.into hg hsize hdg #[.ref a, .int b] (R' := rmm (F + 1) 0 0 (Lo + 22)) f5 f6 f9 (State.plainMethod.of_name fun kq hkq => by
      cases f1.symm.trans hkq
      rw [f2]; decide +kernel) (by show F + 1 + 1 ≤ _; omega) (by rw [f8]; show _ + (2 + 11) + (Lo + 22) ≤ _; omega) (by show cells + 0 ≤ _; omega) (by show slots + 0 ≤ _; omega)
  rw [f8] at Y₀ hin
  have hloc : entryFrame ⟨gL G 200, 1⟩ #[.ref a, .int b] 2 = { method := ⟨gL G 200, 1⟩, pc := 0, locals := #[.val (.ref a), .val (.int b)], stack := [], locked := none } := rfl
  rw [hloc] at Y₀ hin
  generalize hU : (T.setTop g).pushFrame (.java { method := ⟨gL G 200, 1⟩, pc := 0, locals := #[.val (.ref a), .val (.int b)], stack := [], locked := none }) = U at Y₀ hin
  have hvm : U.vm = T.vm := by rw [← hU]; rfl
  have hheap : U.heap = H := by rw [← hU]; exact hTH
  have hcell : U.heap[a]? = some (lamCell G h a) := by
    obtain ⟨-, -, -, c3, -, -⟩ := hX.1.2.2.2 a (by omega)
    rw [hheap]
    exact c3 (by omega) (by omega)
  have hWU : s.WarmedH U.vm := by rw [hvm]; exact X.warmed
  have hs0 : (lamCell G h a).slots[g0.slot]? = some (.int (hI h a 0)) := by
    rw [q0c]
    unfold lamCell
    rw [ht]
    rfl
  have w1 : Steps p.tables e (.java g :: below) (U.setTop { method := ⟨gL G 200, 1⟩, pc := 0, locals := #[.val (.ref a), .val (.int b)], stack := [], locked := none }) (U.setTop { method := ⟨gL G 200, 1⟩, pc := 4, locals := #[.val (.ref a), .val (.int b)], stack := [.int (hI h a 0)], locked := none }) := by
    jvm_step Y₀.here [hexec, f7, lmd0_0, Value.isRef]
    jvm_step Y₀.here [hexec, f7, lmd0_1, getfield.wp_ready (e := e) (s := U) (c := gL G 200) (field := g0) (a := a) (rest := []) (cell := lamCell G h a) (v := .int (hI h a 0)) (f := { method := ⟨gL G 200, 1⟩, pc := 1, locals := #[.val (.ref a), .val (.int b)], stack := [.ref a], locked := none }) Y₀.here.top (by rw [hvm]; exact q0a) q0b rfl hcell (fun z => by cases z) hs0]
    exact Steps.refl _
  have w2 : Steps p.tables e (.java g :: below) (U.setTop { method := ⟨gL G 200, 1⟩, pc := 0, locals := #[.val (.ref a), .val (.int b)], stack := [], locked := none }) (U.setTop { method := ⟨gL G 200, 1⟩, pc := 5, locals := #[.val (.ref a), .val (.int b)], stack := [.int b, .int (hI h a 0)], locked := none }) := by
    refine w1.trans ?_
    jvm_step Y₀.here [hexec, f7, lmd0_4]
    exact Steps.refl _
  have hGd : GoodIn lw_all (ws_ yX3_lambda_wire_0 cX3_lambda_wire_0 2 (some .boolean)) := lw_meth q395
  have hB : Back l (rmm (F + 1) 0 0 (Lo + 22)) p e (.java g :: below) (T.calling g ⟨gL G 200, 1⟩ #[.ref a, .int b]) #[.ref a, .int b] yX3_lambda_wire_0 3 0 (PreOf (rmm (F + 1) 0 0 (Lo + 22)) 0 0 (XP G [.int (hI h a 0), .int b] h)) (PostOf (XQp (some (.int r))) 0 0 (fun _ => False)) :=
    back_of (bytes := cX3_lambda_wire_0) (maxL := 2) (ret := some .boolean) hM XP.blind rfl rfl (Nat.le_refl _) (by show 0 + (2 + 11) + Lo ≤ Lo + 22; omega) (fun w hw a' U' hW' => pay_in hts hGd w hw a' U' (State.WarmedH.trans X.warmed hW')) List.mem_cons_self (fun a' U' hW' => word_at (State.WarmedH.trans X.warmed hW') (Or.inl rfl) (hts _ q98))
  have hpre : PreOf (rmm (F + 1) 0 0 (Lo + 22)) 0 0 (XP G [.int (hI h a 0), .int b] h) ⟨U, [], 0, 0⟩ ([.int (hI h a 0), .int b] : List Value).toArray := ⟨Nat.le_refl _, Nat.le_refl _, rfl, hK.warm hWU, by show XW G h U.heap; rw [hheap]; exact hX.1⟩
  obtain ⟨v, ⟨U₁, L₁, c₁, n₁⟩, Y₁, ⟨g', mk', t', L', e1, e2, hq, e3, e4, e5, e6⟩, w3⟩ := hB ⟨gL G 200, 1⟩ bm y ⟨U, [], 0, 0⟩ { method := ⟨gL G 200, 1⟩, pc := 5, locals := #[.val (.ref a), .val (.int b)], stack := [], locked := none } (.invokestatic 23) t ([.int (hI h a 0), .int b] : List Value).toArray Y₀ rfl (by rw [f8]; rfl) (by rw [f7]; exact lmd0_5) (by show 2 * 0 + 0 ≤ 0; decide) (by show (T.setVm U.vm).methodNamed? _ = _; rw [hvm]; exact s7) hpre
  dsimp only [Pt.U, Pt.locs, Pt.cells, Pt.slots] at Y₁ w3 e1 e2 e3 e5 e6
  obtain ⟨hv, hhq⟩ := hq
  cases hv
  have e7 : L₁ = [] := by
    rw [e3]
    cases L' with
    | nil => rfl
    | cons z L' => exact (e4 z List.mem_cons_self).elim
  subst e7; subst e5; subst e6
  have r1 : plainRef U e (gL G 200) 23 := by
    unfold plainRef
    rw [hvm]
    exact s1
  have w4 : Steps p.tables e (.java g :: below) (U.setTop { method := ⟨gL G 200, 1⟩, pc := 0, locals := #[.val (.ref a), .val (.int b)], stack := [], locked := none }) (U₁.setTop { method := ⟨gL G 200, 1⟩, pc := 8, locals := #[.val (.ref a), .val (.int b)], stack := [.int r], locked := none }) := by
    refine w2.trans ?_
    refine Steps.trans ?_ w3
    jvm_step Y₀.here [hexec, f7, lmd0_5, invokestatic.wp_ready (e := e) (s := U) (m := t) (k := kt) (meth := metht) (args := [.int (hI h a 0), .int b]) (rest := []) (f := { method := ⟨gL G 200, 1⟩, pc := 5, locals := #[.val (.ref a), .val (.int b)], stack := [.int b, .int (hI h a 0)], locked := none }) Y₀.here.top r1 (by rw [hvm]; exact f15) (by rw [hvm]; exact s2) (by rw [hvm]; exact s3) s4 s5 s6 hpar.symm rfl]
    intro acts
    rw [doInvoke_state]
    exact Steps.refl _
  obtain ⟨fs, hleave, -, hended, hWe, hsame⟩ := Y₁.leave (v := some (.int r)) (fun z => by rw [f11] at z; cases z) f9
  obtain ⟨T', X', hW', hsb, ht'⟩ := X.outOf hg hdg hended hWe hsame
  have w5 := x_iretOut (ls := #[.val (.ref a), .val (.int b)]) Y₁ hexec hr f11 (by rw [f7]; exact lmd0_8) hleave
  refine ⟨T', by simpa using X', ?_, fun acts => ?_⟩
  · have z0 := congrArg State.heap ht'
    have z1 : U₁.heap = T'.heap := z0
    rw [← z1, e1, hhq]
    exact hheap
  · rw [hin acts]
    show Steps p.tables e below _ (T'.setTop { g with pc := g.pc + 5, stack := (some (Value.int r)).toList ++ g.stack })
    rw [← ht']
    exact Steps.weaken (mid := [.java g]) (w4.trans w5)
theorem x_in1 (hG : XG G) (hexec : p.tables.exec = Jvm.exec) (hts : ∀ w ∈ lw_all, w.before args s = true) (hK : KK G s) (hX : XX G h0 H0 h H locs) {T : State} (hTH : T.heap = H) (X : Stand p l e R s m args below meth c T locs cells slots) {b r : Int32} (ht : hT h a = 201) {F Lo : Nat} (hM : Met l yX3_lambda_condition_1 (ws_ yX3_lambda_condition_1 cX3_lambda_condition_1 2 (some .boolean)) (rmm F 0 0 Lo) (XP G [va_rf (hR h a 0), .int b] h) (XQp (some (.int r))) 0 0 (fun _ => False)) (hr : r = 0 ∨ r = 1)
    {g : JFrame} (hg : g.method = m) (hsize : g.locals.size = c.maxLocals) (hW : 2 * g.monitorRoom + (g.stack.map fun v => v.category).sum ≤ 8) {index : Nat} (hdg : decode c.code g.pc = .ok (.invokeinterface index 2, 5)) (hF : F + 2 ≤ R.frames) (hLo : Lo + 48 ≤ R.locals) (hcs : cells ≤ R.cells ∧ slots ≤ R.slots) :
    ∃ T' : State, Stand p l e R s m args below meth c T' locs cells slots ∧ T'.heap = H ∧ ∀ acts, Steps p.tables e below (doInvoke e (T.setTop g) acts ⟨gL G 201, 1⟩ #[.ref a, .int b]).1 (T'.setTop { g with pc := g.pc + 5, stack := .int r :: g.stack }) := by
  obtain ⟨m9, k9, cf9, i0, p0, hm9, hk9, hcf9, hn9, hsh9, hf9, hmade, hcall⟩ := (hG.k hK).2.2.2.2.1
  obtain ⟨k8, hk8, he8⟩ := X.warmed.alike.2.2 _ _ hk9
  have hO : (Cond.instantiable "java/lang/Object" 0).before args T = true := word_at X.warmed (Or.inl rfl) (hts _ q1609)
  obtain ⟨k, tk, file, bm, y, toy, t, g0, f1, f2, f3, f4, f5, f6, f7, f8, f9, f10, f11, f12, f13, f14, f15, f16, q0a, q0b, q0c⟩ := lmfacts1 (s := T) hk8 (by rw [he8]; exact hn9) (Lambda.isMade_warmer X.warmed hmade) hO
  have hcode : (Cond.code yX3_lambda_condition_1 cX3_lambda_condition_1 2 (some .boolean)).before args T = true := word_at X.warmed (Or.inl rfl) (hts _ q417)
  have hstw : (Cond.static yX3_lambda_condition_1).before args T = true := word_at X.warmed (Or.inl rfl) (hts _ q416)
  have hiniw : (Cond.initialized yX3_lambda_condition_1.cls).before args T = true := word_at X.warmed (Or.inl rfl) (hts _ q98)
  obtain ⟨kt, metht, s1, s2, s3, s4, s5, s6, s7, s8⟩ := lm_static (e := e) (y := yX3_lambda_condition_1) f1 f3 (by rw [f4]; exact lmeM1.1) (by rw [f4]; exact lmeM1.2.2) f16 f12 f13 f14 (by decide) hcode hstw hiniw
  have hpar : metht.sig.parameters.length = 2 := by
    have h9 : (parseMethodDescriptor "(LPromiseTries$Holds;I)Z").map (fun d => d.parameters.length) = some 2 := by decide +kernel
    rw [show parseMethodDescriptor "(LPromiseTries$Holds;I)Z" = some metht.sig from s8] at h9
    exact Option.some.inj h9
  obtain ⟨Y₀, hin⟩ := X.into hg hsize hdg #[.ref a, .int b] (R' := rmm (F + 1) 0 0 (Lo + 22)) f5 f6 f9 (State.plainMethod.of_name fun kq hkq => by
      cases f1.symm.trans hkq
      rw [f2]; decide +kernel) (by show F + 1 + 1 ≤ _; omega) (by rw [f8]; show _ + (2 + 11) + (Lo + 22) ≤ _; omega) (by show cells + 0 ≤ _; omega) (by show slots + 0 ≤ _; omega)
  rw [f8] at Y₀ hin
  have hloc : entryFrame ⟨gL G 201, 1⟩ #[.ref a, .int b] 2 = { method := ⟨gL G 201, 1⟩, pc := 0, locals := #[.val (.ref a), .val (.int b)], stack := [], locked := none } := rfl
  rw [hloc] at Y₀ hin
  generalize hU : (T.setTop g).pushFrame (.java { method := ⟨gL G 201, 1⟩, pc := 0, locals := #[.val (.ref a), .val (.int b)], stack := [], locked := none }) = U at Y₀ hin
  have hvm : U.vm = T.vm := by rw [← hU]; rfl
  have hheap : U.heap = H := by rw [← hU]; exact hTH
  have hcell : U.heap[a]? = some (lamCell G h a) := by
    obtain ⟨-, -, -, c3, -, -⟩ := hX.1.2.2.2 a (by omega)
    rw [hheap]
    exact c3 (by omega) (by omega)
  have hWU : s.WarmedH U.vm := by rw [hvm]; exact X.warmed
  have hs0 : (lamCell G h a).slots[g0.slot]? = some (va_rf (hR h a 0)) := by
    rw [q0c]
    unfold lamCell
    rw [ht]
    rfl
  have w1 : Steps p.tables e (.java g :: below) (U.setTop { method := ⟨gL G 201, 1⟩, pc := 0, locals := #[.val (.ref a), .val (.int b)], stack := [], locked := none }) (U.setTop { method := ⟨gL G 201, 1⟩, pc := 4, locals := #[.val (.ref a), .val (.int b)], stack := [va_rf (hR h a 0)], locked := none }) := by
    jvm_step Y₀.here [hexec, f7, lmd1_0, Value.isRef]
    jvm_step Y₀.here [hexec, f7, lmd1_1, getfield.wp_ready (e := e) (s := U) (c := gL G 201) (field := g0) (a := a) (rest := []) (cell := lamCell G h a) (v := va_rf (hR h a 0)) (f := { method := ⟨gL G 201, 1⟩, pc := 1, locals := #[.val (.ref a), .val (.int b)], stack := [.ref a], locked := none }) Y₀.here.top (by rw [hvm]; exact q0a) q0b rfl hcell (fun z => by cases z) hs0]
    exact Steps.refl _
  have w2 : Steps p.tables e (.java g :: below) (U.setTop { method := ⟨gL G 201, 1⟩, pc := 0, locals := #[.val (.ref a), .val (.int b)], stack := [], locked := none }) (U.setTop { method := ⟨gL G 201, 1⟩, pc := 5, locals := #[.val (.ref a), .val (.int b)], stack := [.int b, va_rf (hR h a 0)], locked := none }) := by
    refine w1.trans ?_
    jvm_step Y₀.here [hexec, f7, lmd1_4]
    exact Steps.refl _
  have hGd : GoodIn lw_all (ws_ yX3_lambda_condition_1 cX3_lambda_condition_1 2 (some .boolean)) := lw_meth q417
  have hB : Back l (rmm (F + 1) 0 0 (Lo + 22)) p e (.java g :: below) (T.calling g ⟨gL G 201, 1⟩ #[.ref a, .int b]) #[.ref a, .int b] yX3_lambda_condition_1 3 0 (PreOf (rmm (F + 1) 0 0 (Lo + 22)) 0 0 (XP G [va_rf (hR h a 0), .int b] h)) (PostOf (XQp (some (.int r))) 0 0 (fun _ => False)) :=
    back_of (bytes := cX3_lambda_condition_1) (maxL := 2) (ret := some .boolean) hM XP.blind rfl rfl (Nat.le_refl _) (by show 0 + (2 + 11) + Lo ≤ Lo + 22; omega) (fun w hw a' U' hW' => pay_in hts hGd w hw a' U' (State.WarmedH.trans X.warmed hW')) List.mem_cons_self (fun a' U' hW' => word_at (State.WarmedH.trans X.warmed hW') (Or.inl rfl) (hts _ q98))
  have hpre : PreOf (rmm (F + 1) 0 0 (Lo + 22)) 0 0 (XP G [va_rf (hR h a 0), .int b] h) ⟨U, [], 0, 0⟩ ([va_rf (hR h a 0), .int b] : List Value).toArray := ⟨Nat.le_refl _, Nat.le_refl _, rfl, hK.warm hWU, by show XW G h U.heap; rw [hheap]; exact hX.1⟩
  obtain ⟨v, ⟨U₁, L₁, c₁, n₁⟩, Y₁, ⟨g', mk', t', L', e1, e2, hq, e3, e4, e5, e6⟩, w3⟩ := hB ⟨gL G 201, 1⟩ bm y ⟨U, [], 0, 0⟩ { method := ⟨gL G 201, 1⟩, pc := 5, locals := #[.val (.ref a), .val (.int b)], stack := [], locked := none } (.invokestatic 23) t ([va_rf (hR h a 0), .int b] : List Value).toArray Y₀ rfl (by rw [f8]; rfl) (by rw [f7]; exact lmd1_5) (by show 2 * 0 + 0 ≤ 0; decide) (by show (T.setVm U.vm).methodNamed? _ = _; rw [hvm]; exact s7) hpre
  dsimp only [Pt.U, Pt.locs, Pt.cells, Pt.slots] at Y₁ w3 e1 e2 e3 e5 e6
  obtain ⟨hv, hhq⟩ := hq
  cases hv
  have e7 : L₁ = [] := by
    rw [e3]
    cases L' with
    | nil => rfl
    | cons z L' => exact (e4 z List.mem_cons_self).elim
  subst e7; subst e5; subst e6
  have r1 : plainRef U e (gL G 201) 23 := by
    unfold plainRef
    rw [hvm]
    exact s1
  have w4 : Steps p.tables e (.java g :: below) (U.setTop { method := ⟨gL G 201, 1⟩, pc := 0, locals := #[.val (.ref a), .val (.int b)], stack := [], locked := none }) (U₁.setTop { method := ⟨gL G 201, 1⟩, pc := 8, locals := #[.val (.ref a), .val (.int b)], stack := [.int r], locked := none }) := by
    refine w2.trans ?_
    refine Steps.trans ?_ w3
    jvm_step Y₀.here [hexec, f7, lmd1_5, invokestatic.wp_ready (e := e) (s := U) (m := t) (k := kt) (meth := metht) (args := [va_rf (hR h a 0), .int b]) (rest := []) (f := { method := ⟨gL G 201, 1⟩, pc := 5, locals := #[.val (.ref a), .val (.int b)], stack := [.int b, va_rf (hR h a 0)], locked := none }) Y₀.here.top r1 (by rw [hvm]; exact f15) (by rw [hvm]; exact s2) (by rw [hvm]; exact s3) s4 s5 s6 hpar.symm rfl]
    intro acts
    rw [doInvoke_state]
    exact Steps.refl _
  obtain ⟨fs, hleave, -, hended, hWe, hsame⟩ := Y₁.leave (v := some (.int r)) (fun z => by rw [f11] at z; cases z) f9
  obtain ⟨T', X', hW', hsb, ht'⟩ := X.outOf hg hdg hended hWe hsame
  have w5 := x_iretOut (ls := #[.val (.ref a), .val (.int b)]) Y₁ hexec hr f11 (by rw [f7]; exact lmd1_8) hleave
  refine ⟨T', by simpa using X', ?_, fun acts => ?_⟩
  · have z0 := congrArg State.heap ht'
    have z1 : U₁.heap = T'.heap := z0
    rw [← z1, e1, hhq]
    exact hheap
  · rw [hin acts]
    show Steps p.tables e below _ (T'.setTop { g with pc := g.pc + 5, stack := (some (Value.int r)).toList ++ g.stack })
    rw [← ht']
    exact Steps.weaken (mid := [.java g]) (w4.trans w5)
theorem x_in2 (hG : XG G) (hexec : p.tables.exec = Jvm.exec) (hts : ∀ w ∈ lw_all, w.before args s = true) (hK : KK G s) (hX : XX G h0 H0 h H locs) {T : State} (hTH : T.heap = H) (X : Stand p l e R s m args below meth c T locs cells slots) {b r : Int32} (ht : hT h a = 202) {F Lo : Nat} (hM : Met l yX3_lambda_ors_2 (ws_ yX3_lambda_ors_2 cX3_lambda_ors_2 3 (some .boolean)) (rmm F 0 0 Lo) (XP G [va_rf (hR h a 0), va_rf (hR h a 1), .int b] h) (XQp (some (.int r))) 0 0 (fun _ => False)) (hr : r = 0 ∨ r = 1)
    {g : JFrame} (hg : g.method = m) (hsize : g.locals.size = c.maxLocals) (hW : 2 * g.monitorRoom + (g.stack.map fun v => v.category).sum ≤ 8) {index : Nat} (hdg : decode c.code g.pc = .ok (.invokeinterface index 2, 5)) (hF : F + 2 ≤ R.frames) (hLo : Lo + 48 ≤ R.locals) (hcs : cells ≤ R.cells ∧ slots ≤ R.slots) :
    ∃ T' : State, Stand p l e R s m args below meth c T' locs cells slots ∧ T'.heap = H ∧ ∀ acts, Steps p.tables e below (doInvoke e (T.setTop g) acts ⟨gL G 202, 1⟩ #[.ref a, .int b]).1 (T'.setTop { g with pc := g.pc + 5, stack := .int r :: g.stack }) := by
  obtain ⟨m9, k9, cf9, i0, p0, hm9, hk9, hcf9, hn9, hsh9, hf9, hmade, hcall⟩ := (hG.k hK).2.2.2.2.2.1
  obtain ⟨k8, hk8, he8⟩ := X.warmed.alike.2.2 _ _ hk9
  have hO : (Cond.instantiable "java/lang/Object" 0).before args T = true := word_at X.warmed (Or.inl rfl) (hts _ q1609)
  obtain ⟨k, tk, file, bm, y, toy, t, g0, g1, f1, f2, f3, f4, f5, f6, f7, f8, f9, f10, f11, f12, f13, f14, f15, f16, q0a, q0b, q0c, q1a, q1b, q1c⟩ := lmfacts2 (s := T) hk8 (by rw [he8]; exact hn9) (Lambda.isMade_warmer X.warmed hmade) hO
  have hcode : (Cond.code yX3_lambda_ors_2 cX3_lambda_ors_2 3 (some .boolean)).before args T = true := word_at X.warmed (Or.inl rfl) (hts _ q415)
  have hstw : (Cond.static yX3_lambda_ors_2).before args T = true := word_at X.warmed (Or.inl rfl) (hts _ q414)
  have hiniw : (Cond.initialized yX3_lambda_ors_2.cls).before args T = true := word_at X.warmed (Or.inl rfl) (hts _ q98)
  obtain ⟨kt, metht, s1, s2, s3, s4, s5, s6, s7, s8⟩ := lm_static (e := e) (y := yX3_lambda_ors_2) f1 f3 (by rw [f4]; exact lmeM2.1) (by rw [f4]; exact lmeM2.2.2) f16 f12 f13 f14 (by decide) hcode hstw hiniw
  have hpar : metht.sig.parameters.length = 3 := by
    have h9 : (parseMethodDescriptor "(LPromiseTries$Holds;LPromiseTries$Holds;I)Z").map (fun d => d.parameters.length) = some 3 := by decide +kernel
    rw [show parseMethodDescriptor "(LPromiseTries$Holds;LPromiseTries$Holds;I)Z" = some metht.sig from s8] at h9
    exact Option.some.inj h9
  obtain ⟨Y₀, hin⟩ := X.into hg hsize hdg #[.ref a, .int b] (R' := rmm (F + 1) 0 0 (Lo + 22)) f5 f6 f9 (State.plainMethod.of_name fun kq hkq => by
      cases f1.symm.trans hkq
      rw [f2]; decide +kernel) (by show F + 1 + 1 ≤ _; omega) (by rw [f8]; show _ + (2 + 11) + (Lo + 22) ≤ _; omega) (by show cells + 0 ≤ _; omega) (by show slots + 0 ≤ _; omega)
  rw [f8] at Y₀ hin
  have hloc : entryFrame ⟨gL G 202, 1⟩ #[.ref a, .int b] 2 = { method := ⟨gL G 202, 1⟩, pc := 0, locals := #[.val (.ref a), .val (.int b)], stack := [], locked := none } := rfl
  rw [hloc] at Y₀ hin
  generalize hU : (T.setTop g).pushFrame (.java { method := ⟨gL G 202, 1⟩, pc := 0, locals := #[.val (.ref a), .val (.int b)], stack := [], locked := none }) = U at Y₀ hin
  have hvm : U.vm = T.vm := by rw [← hU]; rfl
  have hheap : U.heap = H := by rw [← hU]; exact hTH
  have hcell : U.heap[a]? = some (lamCell G h a) := by
    obtain ⟨-, -, -, c3, -, -⟩ := hX.1.2.2.2 a (by omega)
    rw [hheap]
    exact c3 (by omega) (by omega)
  have hWU : s.WarmedH U.vm := by rw [hvm]; exact X.warmed
  have hs0 : (lamCell G h a).slots[g0.slot]? = some (va_rf (hR h a 0)) := by
    rw [q0c]
    unfold lamCell
    rw [ht]
    rfl
  have hs1 : (lamCell G h a).slots[g1.slot]? = some (va_rf (hR h a 1)) := by
    rw [q1c]
    unfold lamCell
    rw [ht]
    rfl
  have w1 : Steps p.tables e (.java g :: below) (U.setTop { method := ⟨gL G 202, 1⟩, pc := 0, locals := #[.val (.ref a), .val (.int b)], stack := [], locked := none }) (U.setTop { method := ⟨gL G 202, 1⟩, pc := 8, locals := #[.val (.ref a), .val (.int b)], stack := [va_rf (hR h a 1), va_rf (hR h a 0)], locked := none }) := by
    jvm_step Y₀.here [hexec, f7, lmd2_0, Value.isRef]
    jvm_step Y₀.here [hexec, f7, lmd2_1, getfield.wp_ready (e := e) (s := U) (c := gL G 202) (field := g0) (a := a) (rest := []) (cell := lamCell G h a) (v := va_rf (hR h a 0)) (f := { method := ⟨gL G 202, 1⟩, pc := 1, locals := #[.val (.ref a), .val (.int b)], stack := [.ref a], locked := none }) Y₀.here.top (by rw [hvm]; exact q0a) q0b rfl hcell (fun z => by cases z) hs0]
    jvm_step Y₀.here [hexec, f7, lmd2_4, Value.isRef]
    jvm_step Y₀.here [hexec, f7, lmd2_5, getfield.wp_ready (e := e) (s := U) (c := gL G 202) (field := g1) (a := a) (rest := [va_rf (hR h a 0)]) (cell := lamCell G h a) (v := va_rf (hR h a 1)) (f := { method := ⟨gL G 202, 1⟩, pc := 5, locals := #[.val (.ref a), .val (.int b)], stack := [.ref a, va_rf (hR h a 0)], locked := none }) Y₀.here.top (by rw [hvm]; exact q1a) q1b rfl hcell (fun z => by cases z) hs1]
    exact Steps.refl _
  have w2 : Steps p.tables e (.java g :: below) (U.setTop { method := ⟨gL G 202, 1⟩, pc := 0, locals := #[.val (.ref a), .val (.int b)], stack := [], locked := none }) (U.setTop { method := ⟨gL G 202, 1⟩, pc := 9, locals := #[.val (.ref a), .val (.int b)], stack := [.int b, va_rf (hR h a 1), va_rf (hR h a 0)], locked := none }) := by
    refine w1.trans ?_
    jvm_step Y₀.here [hexec, f7, lmd2_8]
    exact Steps.refl _
  have hGd : GoodIn lw_all (ws_ yX3_lambda_ors_2 cX3_lambda_ors_2 3 (some .boolean)) := lw_meth q415
  have hB : Back l (rmm (F + 1) 0 0 (Lo + 22)) p e (.java g :: below) (T.calling g ⟨gL G 202, 1⟩ #[.ref a, .int b]) #[.ref a, .int b] yX3_lambda_ors_2 3 0 (PreOf (rmm (F + 1) 0 0 (Lo + 22)) 0 0 (XP G [va_rf (hR h a 0), va_rf (hR h a 1), .int b] h)) (PostOf (XQp (some (.int r))) 0 0 (fun _ => False)) :=
    back_of (bytes := cX3_lambda_ors_2) (maxL := 3) (ret := some .boolean) hM XP.blind rfl rfl (Nat.le_refl _) (by show 0 + (3 + 11) + Lo ≤ Lo + 22; omega) (fun w hw a' U' hW' => pay_in hts hGd w hw a' U' (State.WarmedH.trans X.warmed hW')) List.mem_cons_self (fun a' U' hW' => word_at (State.WarmedH.trans X.warmed hW') (Or.inl rfl) (hts _ q98))
  have hpre : PreOf (rmm (F + 1) 0 0 (Lo + 22)) 0 0 (XP G [va_rf (hR h a 0), va_rf (hR h a 1), .int b] h) ⟨U, [], 0, 0⟩ ([va_rf (hR h a 0), va_rf (hR h a 1), .int b] : List Value).toArray := ⟨Nat.le_refl _, Nat.le_refl _, rfl, hK.warm hWU, by show XW G h U.heap; rw [hheap]; exact hX.1⟩
  obtain ⟨v, ⟨U₁, L₁, c₁, n₁⟩, Y₁, ⟨g', mk', t', L', e1, e2, hq, e3, e4, e5, e6⟩, w3⟩ := hB ⟨gL G 202, 1⟩ bm y ⟨U, [], 0, 0⟩ { method := ⟨gL G 202, 1⟩, pc := 9, locals := #[.val (.ref a), .val (.int b)], stack := [], locked := none } (.invokestatic 26) t ([va_rf (hR h a 0), va_rf (hR h a 1), .int b] : List Value).toArray Y₀ rfl (by rw [f8]; rfl) (by rw [f7]; exact lmd2_9) (by show 2 * 0 + 0 ≤ 0; decide) (by show (T.setVm U.vm).methodNamed? _ = _; rw [hvm]; exact s7) hpre
  dsimp only [Pt.U, Pt.locs, Pt.cells, Pt.slots] at Y₁ w3 e1 e2 e3 e5 e6
  obtain ⟨hv, hhq⟩ := hq
  cases hv
  have e7 : L₁ = [] := by
    rw [e3]
    cases L' with
    | nil => rfl
    | cons z L' => exact (e4 z List.mem_cons_self).elim
  subst e7; subst e5; subst e6
  have r1 : plainRef U e (gL G 202) 26 := by
    unfold plainRef
    rw [hvm]
    exact s1
  have w4 : Steps p.tables e (.java g :: below) (U.setTop { method := ⟨gL G 202, 1⟩, pc := 0, locals := #[.val (.ref a), .val (.int b)], stack := [], locked := none }) (U₁.setTop { method := ⟨gL G 202, 1⟩, pc := 12, locals := #[.val (.ref a), .val (.int b)], stack := [.int r], locked := none }) := by
    refine w2.trans ?_
    refine Steps.trans ?_ w3
    jvm_step Y₀.here [hexec, f7, lmd2_9, invokestatic.wp_ready (e := e) (s := U) (m := t) (k := kt) (meth := metht) (args := [va_rf (hR h a 0), va_rf (hR h a 1), .int b]) (rest := []) (f := { method := ⟨gL G 202, 1⟩, pc := 9, locals := #[.val (.ref a), .val (.int b)], stack := [.int b, va_rf (hR h a 1), va_rf (hR h a 0)], locked := none }) Y₀.here.top r1 (by rw [hvm]; exact f15) (by rw [hvm]; exact s2) (by rw [hvm]; exact s3) s4 s5 s6 hpar.symm rfl]
    intro acts
    rw [doInvoke_state]
    exact Steps.refl _
  obtain ⟨fs, hleave, -, hended, hWe, hsame⟩ := Y₁.leave (v := some (.int r)) (fun z => by rw [f11] at z; cases z) f9
  obtain ⟨T', X', hW', hsb, ht'⟩ := X.outOf hg hdg hended hWe hsame
  have w5 := x_iretOut (ls := #[.val (.ref a), .val (.int b)]) Y₁ hexec hr f11 (by rw [f7]; exact lmd2_12) hleave
  refine ⟨T', by simpa using X', ?_, fun acts => ?_⟩
  · have z0 := congrArg State.heap ht'
    have z1 : U₁.heap = T'.heap := z0
    rw [← z1, e1, hhq]
    exact hheap
  · rw [hin acts]
    show Steps p.tables e below _ (T'.setTop { g with pc := g.pc + 5, stack := (some (Value.int r)).toList ++ g.stack })
    rw [← ht']
    exact Steps.weaken (mid := [.java g]) (w4.trans w5)
theorem x_in3 (hG : XG G) (hexec : p.tables.exec = Jvm.exec) (hts : ∀ w ∈ lw_all, w.before args s = true) (hK : KK G s) (hX : XX G h0 H0 h H locs) {T : State} (hTH : T.heap = H) (X : Stand p l e R s m args below meth c T locs cells slots) {b r : Int32} (ht : hT h a = 203) {F Lo : Nat} (hM : Met l yX3_lambda_ands_3 (ws_ yX3_lambda_ands_3 cX3_lambda_ands_3 3 (some .boolean)) (rmm F 0 0 Lo) (XP G [va_rf (hR h a 0), va_rf (hR h a 1), .int b] h) (XQp (some (.int r))) 0 0 (fun _ => False)) (hr : r = 0 ∨ r = 1)
    {g : JFrame} (hg : g.method = m) (hsize : g.locals.size = c.maxLocals) (hW : 2 * g.monitorRoom + (g.stack.map fun v => v.category).sum ≤ 8) {index : Nat} (hdg : decode c.code g.pc = .ok (.invokeinterface index 2, 5)) (hF : F + 2 ≤ R.frames) (hLo : Lo + 48 ≤ R.locals) (hcs : cells ≤ R.cells ∧ slots ≤ R.slots) :
    ∃ T' : State, Stand p l e R s m args below meth c T' locs cells slots ∧ T'.heap = H ∧ ∀ acts, Steps p.tables e below (doInvoke e (T.setTop g) acts ⟨gL G 203, 1⟩ #[.ref a, .int b]).1 (T'.setTop { g with pc := g.pc + 5, stack := .int r :: g.stack }) := by
  obtain ⟨m9, k9, cf9, i0, p0, hm9, hk9, hcf9, hn9, hsh9, hf9, hmade, hcall⟩ := (hG.k hK).2.2.2.2.2.2.1
  obtain ⟨k8, hk8, he8⟩ := X.warmed.alike.2.2 _ _ hk9
  have hO : (Cond.instantiable "java/lang/Object" 0).before args T = true := word_at X.warmed (Or.inl rfl) (hts _ q1609)
  obtain ⟨k, tk, file, bm, y, toy, t, g0, g1, f1, f2, f3, f4, f5, f6, f7, f8, f9, f10, f11, f12, f13, f14, f15, f16, q0a, q0b, q0c, q1a, q1b, q1c⟩ := lmfacts3 (s := T) hk8 (by rw [he8]; exact hn9) (Lambda.isMade_warmer X.warmed hmade) hO
  have hcode : (Cond.code yX3_lambda_ands_3 cX3_lambda_ands_3 3 (some .boolean)).before args T = true := word_at X.warmed (Or.inl rfl) (hts _ q409)
  have hstw : (Cond.static yX3_lambda_ands_3).before args T = true := word_at X.warmed (Or.inl rfl) (hts _ q408)
  have hiniw : (Cond.initialized yX3_lambda_ands_3.cls).before args T = true := word_at X.warmed (Or.inl rfl) (hts _ q98)
  obtain ⟨kt, metht, s1, s2, s3, s4, s5, s6, s7, s8⟩ := lm_static (e := e) (y := yX3_lambda_ands_3) f1 f3 (by rw [f4]; exact lmeM3.1) (by rw [f4]; exact lmeM3.2.2) f16 f12 f13 f14 (by decide) hcode hstw hiniw
  have hpar : metht.sig.parameters.length = 3 := by
    have h9 : (parseMethodDescriptor "(LPromiseTries$Holds;LPromiseTries$Holds;I)Z").map (fun d => d.parameters.length) = some 3 := by decide +kernel
    rw [show parseMethodDescriptor "(LPromiseTries$Holds;LPromiseTries$Holds;I)Z" = some metht.sig from s8] at h9
    exact Option.some.inj h9
  obtain ⟨Y₀, hin⟩ := X.into hg hsize hdg #[.ref a, .int b] (R' := rmm (F + 1) 0 0 (Lo + 22)) f5 f6 f9 (State.plainMethod.of_name fun kq hkq => by
      cases f1.symm.trans hkq
      rw [f2]; decide +kernel) (by show F + 1 + 1 ≤ _; omega) (by rw [f8]; show _ + (2 + 11) + (Lo + 22) ≤ _; omega) (by show cells + 0 ≤ _; omega) (by show slots + 0 ≤ _; omega)
  rw [f8] at Y₀ hin
  have hloc : entryFrame ⟨gL G 203, 1⟩ #[.ref a, .int b] 2 = { method := ⟨gL G 203, 1⟩, pc := 0, locals := #[.val (.ref a), .val (.int b)], stack := [], locked := none } := rfl
  rw [hloc] at Y₀ hin
  generalize hU : (T.setTop g).pushFrame (.java { method := ⟨gL G 203, 1⟩, pc := 0, locals := #[.val (.ref a), .val (.int b)], stack := [], locked := none }) = U at Y₀ hin
  have hvm : U.vm = T.vm := by rw [← hU]; rfl
  have hheap : U.heap = H := by rw [← hU]; exact hTH
  have hcell : U.heap[a]? = some (lamCell G h a) := by
    obtain ⟨-, -, -, c3, -, -⟩ := hX.1.2.2.2 a (by omega)
    rw [hheap]
    exact c3 (by omega) (by omega)
  have hWU : s.WarmedH U.vm := by rw [hvm]; exact X.warmed
  have hs0 : (lamCell G h a).slots[g0.slot]? = some (va_rf (hR h a 0)) := by
    rw [q0c]
    unfold lamCell
    rw [ht]
    rfl
  have hs1 : (lamCell G h a).slots[g1.slot]? = some (va_rf (hR h a 1)) := by
    rw [q1c]
    unfold lamCell
    rw [ht]
    rfl
  have w1 : Steps p.tables e (.java g :: below) (U.setTop { method := ⟨gL G 203, 1⟩, pc := 0, locals := #[.val (.ref a), .val (.int b)], stack := [], locked := none }) (U.setTop { method := ⟨gL G 203, 1⟩, pc := 8, locals := #[.val (.ref a), .val (.int b)], stack := [va_rf (hR h a 1), va_rf (hR h a 0)], locked := none }) := by
    jvm_step Y₀.here [hexec, f7, lmd3_0, Value.isRef]
    jvm_step Y₀.here [hexec, f7, lmd3_1, getfield.wp_ready (e := e) (s := U) (c := gL G 203) (field := g0) (a := a) (rest := []) (cell := lamCell G h a) (v := va_rf (hR h a 0)) (f := { method := ⟨gL G 203, 1⟩, pc := 1, locals := #[.val (.ref a), .val (.int b)], stack := [.ref a], locked := none }) Y₀.here.top (by rw [hvm]; exact q0a) q0b rfl hcell (fun z => by cases z) hs0]
    jvm_step Y₀.here [hexec, f7, lmd3_4, Value.isRef]
    jvm_step Y₀.here [hexec, f7, lmd3_5, getfield.wp_ready (e := e) (s := U) (c := gL G 203) (field := g1) (a := a) (rest := [va_rf (hR h a 0)]) (cell := lamCell G h a) (v := va_rf (hR h a 1)) (f := { method := ⟨gL G 203, 1⟩, pc := 5, locals := #[.val (.ref a), .val (.int b)], stack := [.ref a, va_rf (hR h a 0)], locked := none }) Y₀.here.top (by rw [hvm]; exact q1a) q1b rfl hcell (fun z => by cases z) hs1]
    exact Steps.refl _
  have w2 : Steps p.tables e (.java g :: below) (U.setTop { method := ⟨gL G 203, 1⟩, pc := 0, locals := #[.val (.ref a), .val (.int b)], stack := [], locked := none }) (U.setTop { method := ⟨gL G 203, 1⟩, pc := 9, locals := #[.val (.ref a), .val (.int b)], stack := [.int b, va_rf (hR h a 1), va_rf (hR h a 0)], locked := none }) := by
    refine w1.trans ?_
    jvm_step Y₀.here [hexec, f7, lmd3_8]
    exact Steps.refl _
  have hGd : GoodIn lw_all (ws_ yX3_lambda_ands_3 cX3_lambda_ands_3 3 (some .boolean)) := lw_meth q409
  have hB : Back l (rmm (F + 1) 0 0 (Lo + 22)) p e (.java g :: below) (T.calling g ⟨gL G 203, 1⟩ #[.ref a, .int b]) #[.ref a, .int b] yX3_lambda_ands_3 3 0 (PreOf (rmm (F + 1) 0 0 (Lo + 22)) 0 0 (XP G [va_rf (hR h a 0), va_rf (hR h a 1), .int b] h)) (PostOf (XQp (some (.int r))) 0 0 (fun _ => False)) :=
    back_of (bytes := cX3_lambda_ands_3) (maxL := 3) (ret := some .boolean) hM XP.blind rfl rfl (Nat.le_refl _) (by show 0 + (3 + 11) + Lo ≤ Lo + 22; omega) (fun w hw a' U' hW' => pay_in hts hGd w hw a' U' (State.WarmedH.trans X.warmed hW')) List.mem_cons_self (fun a' U' hW' => word_at (State.WarmedH.trans X.warmed hW') (Or.inl rfl) (hts _ q98))
  have hpre : PreOf (rmm (F + 1) 0 0 (Lo + 22)) 0 0 (XP G [va_rf (hR h a 0), va_rf (hR h a 1), .int b] h) ⟨U, [], 0, 0⟩ ([va_rf (hR h a 0), va_rf (hR h a 1), .int b] : List Value).toArray := ⟨Nat.le_refl _, Nat.le_refl _, rfl, hK.warm hWU, by show XW G h U.heap; rw [hheap]; exact hX.1⟩
  obtain ⟨v, ⟨U₁, L₁, c₁, n₁⟩, Y₁, ⟨g', mk', t', L', e1, e2, hq, e3, e4, e5, e6⟩, w3⟩ := hB ⟨gL G 203, 1⟩ bm y ⟨U, [], 0, 0⟩ { method := ⟨gL G 203, 1⟩, pc := 9, locals := #[.val (.ref a), .val (.int b)], stack := [], locked := none } (.invokestatic 26) t ([va_rf (hR h a 0), va_rf (hR h a 1), .int b] : List Value).toArray Y₀ rfl (by rw [f8]; rfl) (by rw [f7]; exact lmd3_9) (by show 2 * 0 + 0 ≤ 0; decide) (by show (T.setVm U.vm).methodNamed? _ = _; rw [hvm]; exact s7) hpre
  dsimp only [Pt.U, Pt.locs, Pt.cells, Pt.slots] at Y₁ w3 e1 e2 e3 e5 e6
  obtain ⟨hv, hhq⟩ := hq
  cases hv
  have e7 : L₁ = [] := by
    rw [e3]
    cases L' with
    | nil => rfl
    | cons z L' => exact (e4 z List.mem_cons_self).elim
  subst e7; subst e5; subst e6
  have r1 : plainRef U e (gL G 203) 26 := by
    unfold plainRef
    rw [hvm]
    exact s1
  have w4 : Steps p.tables e (.java g :: below) (U.setTop { method := ⟨gL G 203, 1⟩, pc := 0, locals := #[.val (.ref a), .val (.int b)], stack := [], locked := none }) (U₁.setTop { method := ⟨gL G 203, 1⟩, pc := 12, locals := #[.val (.ref a), .val (.int b)], stack := [.int r], locked := none }) := by
    refine w2.trans ?_
    refine Steps.trans ?_ w3
    jvm_step Y₀.here [hexec, f7, lmd3_9, invokestatic.wp_ready (e := e) (s := U) (m := t) (k := kt) (meth := metht) (args := [va_rf (hR h a 0), va_rf (hR h a 1), .int b]) (rest := []) (f := { method := ⟨gL G 203, 1⟩, pc := 9, locals := #[.val (.ref a), .val (.int b)], stack := [.int b, va_rf (hR h a 1), va_rf (hR h a 0)], locked := none }) Y₀.here.top r1 (by rw [hvm]; exact f15) (by rw [hvm]; exact s2) (by rw [hvm]; exact s3) s4 s5 s6 hpar.symm rfl]
    intro acts
    rw [doInvoke_state]
    exact Steps.refl _
  obtain ⟨fs, hleave, -, hended, hWe, hsame⟩ := Y₁.leave (v := some (.int r)) (fun z => by rw [f11] at z; cases z) f9
  obtain ⟨T', X', hW', hsb, ht'⟩ := X.outOf hg hdg hended hWe hsame
  have w5 := x_iretOut (ls := #[.val (.ref a), .val (.int b)]) Y₁ hexec hr f11 (by rw [f7]; exact lmd3_12) hleave
  refine ⟨T', by simpa using X', ?_, fun acts => ?_⟩
  · have z0 := congrArg State.heap ht'
    have z1 : U₁.heap = T'.heap := z0
    rw [← z1, e1, hhq]
    exact hheap
  · rw [hin acts]
    show Steps p.tables e below _ (T'.setTop { g with pc := g.pc + 5, stack := (some (Value.int r)).toList ++ g.stack })
    rw [← ht']
    exact Steps.weaken (mid := [.java g]) (w4.trans w5)
theorem x_at (hG : XG G) (hexec : p.tables.exec = Jvm.exec) (hb : c.code = cc) (hml : c.maxLocals = nL) (hts : ∀ w ∈ lw_all, w.before args s = true) {own : String} {index : Nat} (hown : s.vm.findClass own = some m.cls) (hK : KK G s) (hX : XX G h0 H0 h H locs) (hva : v = .ref a) {b r : Int32} {D : Nat} (hA : AtOK l G h a b r D) (hlink : (Cond.methodLink own index ⟨"PromiseTries$Holds", "at", "(I)Z"⟩) ∈ lw_all) (hsize : ls.size = nL) (hW : (rest.map fun v => v.category).sum ≤ 8) (hfr : 2 * D ≤ R.frames) (hlo : 64 * D ≤ R.locals) (hcs : cells ≤ R.cells ∧ slots ≤ R.slots) (hdg : decode cc pc = .ok (.invokeinterface index 2, 5))
    (kk : W p l e R s m args below meth c H locs cells slots Q (F0 m (pc + 5) ls (.int r :: rest))) : W p l e R s m args below meth c H locs cells slots Q (F0 m pc ls (.int b :: v :: rest)) := by
  subst hva
  obtain ⟨hr, F, Lo, hF, hL, hh⟩ := hA
  obtain ⟨r0, rm0, hn, hrm, hstR, hsigR⟩ : va_Decl s ⟨"PromiseTries$Holds", "at", "(I)Z"⟩ := va_Decl.nw (hG.nw hK nq413)
  obtain ⟨cL, kL, r1, hcL, hkL, hiL, hfoundL, hn1⟩ := Cond.interfaceMethod_spec (hG.i hK).1
  cases hn.symm.trans hn1
  have hr0cls : r0.cls = cL := Option.some.inj ((findClass_of_methodNamed hn).symm.trans hcL)
  obtain ⟨hnameR, hdescR⟩ := name_of_methodNamed hn hrm
  have hlen : [Value.int b].length = rm0.sig.parameters.length := by
    have h9 : (parseMethodDescriptor "(I)Z").map (fun d => d.parameters.length) = some 1 := by decide +kernel
    rw [show parseMethodDescriptor "(I)Z" = some rm0.sig from hsigR] at h9
    exact (Option.some.inj h9).symm
  intro T hTt X
  have hTH : hT h a = 200 ∨ hT h a = 201 ∨ hT h a = 202 ∨ hT h a = 203 := by
    rcases hh with ⟨z, -⟩ | ⟨z, -⟩ | ⟨z, -⟩ | ⟨z, -⟩
    · exact Or.inl z
    · exact Or.inr (Or.inl z)
    · exact Or.inr (Or.inr (Or.inl z))
    · exact Or.inr (Or.inr (Or.inr z))
  have hcell : H[a]? = some (lamCell G h a) := by
    obtain ⟨-, -, -, c3, -, -⟩ := hX.1.2.2.2 a (by omega)
    exact c3 (by omega) (by omega)
  have lam : ∃ (kB : Class) (mB : Method), s.vm.classes[gL G (hT h a)]? = some kB ∧ s.vm.method? ⟨gL G (hT h a), 1⟩ = some mB ∧ mB.accessFlags = 0x0001 ∧ s.vm.assignable (gL G (hT h a)) cL = true ∧ selectMethod {} s.vm (gL G (hT h a)) r0 = .method ⟨gL G (hT h a), 1⟩ ∧
      ((gL G (hT h a) :: s.vm.superclasses (gL G (hT h a))).any fun k => (declaredIn s.vm "at" "(I)Z" k).any fun (_, y) => y.isPrivate || y.isStatic) = false := by
    have go : ∀ {x : MethodName} {pc9 ix : Nat} {σ : Lambda.Shape} {t : Nat}, LamAt G s x pc9 ix σ "PromiseTries$Reader" t none → σ.iface = "PromiseTries$Holds" → σ.name = "at" → σ.sam.toString = "(I)Z" → (∃ mB : Method, s.vm.method? ⟨gL G t, 1⟩ = some mB ∧ mB.accessFlags = 0x0001) →
        ∃ (kB : Class) (mB : Method), s.vm.classes[gL G t]? = some kB ∧ s.vm.method? ⟨gL G t, 1⟩ = some mB ∧ mB.accessFlags = 0x0001 ∧ s.vm.assignable (gL G t) cL = true ∧ selectMethod {} s.vm (gL G t) r0 = .method ⟨gL G t, 1⟩ ∧ ((gL G t :: s.vm.superclasses (gL G t)).any fun k => (declaredIn s.vm "at" "(I)Z" k).any fun (_, y) => y.isPrivate || y.isStatic) = false := by
      intro x pc9 ix σ t hLam e1 e2 e3 ⟨mB, hmB, hfl⟩
      obtain ⟨m9, k9, cf9, i0, p0, -, -, -, -, -, -, hmade, hcall⟩ := hLam
      obtain ⟨dk', kk, ok, tk, file, cf, object, iface', toy, lay, methods, tgt, found, -, hk, -, -, -, hi', -, -, -, -, -, -, hfound', -, -, -, -, -, -, -, -, -, -, hsel⟩ := Lambda.isMade_spec hmade
      obtain ⟨i2, hi2, hasg, hway⟩ := State.lambdaCallable_spec hcall
      rw [e1] at hi' hi2
      cases hcL.symm.trans hi'
      cases hcL.symm.trans hi2
      have hfr : found = r0 := by
        have h1 := hfoundL
        simp only [State.methodFound?, hcL, hkL, hiL, Option.bind_eq_bind, Option.bind_some] at h1
        rw [e2, e3] at hfound'
        rw [hfound'] at h1
        exact Option.some.inj h1
      subst hfr
      exact ⟨kk, mB, hk, hmB, hfl, hasg, hsel, by rw [e2, e3] at hway; exact hway⟩
    have hl := (hG.k hK).2.2.2
    have hO : (Cond.instantiable "java/lang/Object" 0).before args s = true := hts _ q1609
    rcases hTH with z | z | z | z
    · rw [z]
      refine go hl.1 rfl rfl (by decide +kernel) ?_
      obtain ⟨m9, k9, cf9, i0, p0, hm9, hk9, hcf9, hn9, hsh9, hf9, hmade, hcall⟩ := hl.1
      obtain ⟨k, tk, file, bm, y, toy, t, g0, f1, f2, f3, f4, f5, f6, f7, f8, f9, f10, -⟩ := lmfacts0 (s := s) hk9 hn9 hmade hO
      exact ⟨bm, f5, f10⟩
    · rw [z]
      refine go hl.2.1 rfl rfl (by decide +kernel) ?_
      obtain ⟨m9, k9, cf9, i0, p0, hm9, hk9, hcf9, hn9, hsh9, hf9, hmade, hcall⟩ := hl.2.1
      obtain ⟨k, tk, file, bm, y, toy, t, g0, f1, f2, f3, f4, f5, f6, f7, f8, f9, f10, -⟩ := lmfacts1 (s := s) hk9 hn9 hmade hO
      exact ⟨bm, f5, f10⟩
    · rw [z]
      refine go hl.2.2.1 rfl rfl (by decide +kernel) ?_
      obtain ⟨m9, k9, cf9, i0, p0, hm9, hk9, hcf9, hn9, hsh9, hf9, hmade, hcall⟩ := hl.2.2.1
      obtain ⟨k, tk, file, bm, y, toy, t, g0, g1, f1, f2, f3, f4, f5, f6, f7, f8, f9, f10, -⟩ := lmfacts2 (s := s) hk9 hn9 hmade hO
      exact ⟨bm, f5, f10⟩
    · rw [z]
      refine go hl.2.2.2.1 rfl rfl (by decide +kernel) ?_
      obtain ⟨m9, k9, cf9, i0, p0, hm9, hk9, hcf9, hn9, hsh9, hf9, hmade, hcall⟩ := hl.2.2.2.1
      obtain ⟨k, tk, file, bm, y, toy, t, g0, g1, f1, f2, f3, f4, f5, f6, f7, f8, f9, f10, -⟩ := lmfacts3 (s := s) hk9 hn9 hmade hO
      exact ⟨bm, f5, f10⟩
  obtain ⟨kB, mB, b1, b2, b3, b4, b5, b6⟩ := lam
  obtain ⟨vm₁, X₁, hstep₁⟩ := X.invokeinterface hexec hown (hts _ hlink) hn hrm hstR (by rw [hr0cls]; exact hkL) hiL (by decide) (a := a) (cell := lamCell G h a) (kcell := kB) (by rw [hTt]; exact hcell) (fun z q => by cases q) b1 (by rw [hr0cls]; exact b4) (m' := ⟨gL G (hT h a), 1⟩) (meth' := mB) (by rw [Launch.admits_selectMethod X.admits]; exact b5) b2 (by rw [hnameR, hdescR]; exact b6) (by rw [b3]; decide) (by simp [Method.isAbstract, b3, hasFlag, Acc.abstract])
    (g := F0 m pc ls (.int b :: .ref a :: rest)) rfl (argsL := [.int b]) (rest := rest) hlen rfl (by rw [hb]; exact hdg)
  have fin : ∃ T' : State, Stand p l e R s m args below meth c T' locs cells slots ∧ T'.heap = H ∧ ∀ acts, Steps p.tables e below (doInvoke e ((T.setVm vm₁).setTop (F0 m pc ls rest)) acts ⟨gL G (hT h a), 1⟩ #[.ref a, .int b]).1 (T'.setTop { F0 m pc ls rest with pc := pc + 5, stack := .int r :: rest }) := by
    have hs9 : ls.size = c.maxLocals := by rw [hml]; exact hsize
    have hw9 : 2 * (F0 m pc ls rest).monitorRoom + (rest.map fun v => v.category).sum ≤ 8 := lv_room hW
    have hd9 : decode c.code pc = .ok (.invokeinterface index 2, 5) := by rw [hb]; exact hdg
    rcases hh with ⟨z, hM⟩ | ⟨z, hM⟩ | ⟨z, hM⟩ | ⟨z, hM⟩
    · rw [z]; exact x_in0 hG hexec hts hK hX (T := T.setVm vm₁) hTt X₁ z hM hr (g := F0 m pc ls rest) rfl hs9 hw9 hd9 (by omega) (by omega) hcs
    · rw [z]; exact x_in1 hG hexec hts hK hX (T := T.setVm vm₁) hTt X₁ z hM hr (g := F0 m pc ls rest) rfl hs9 hw9 hd9 (by omega) (by omega) hcs
    · rw [z]; exact x_in2 hG hexec hts hK hX (T := T.setVm vm₁) hTt X₁ z hM hr (g := F0 m pc ls rest) rfl hs9 hw9 hd9 (by omega) (by omega) hcs
    · rw [z]; exact x_in3 hG hexec hts hK hX (T := T.setVm vm₁) hTt X₁ z hM hr (g := F0 m pc ls rest) rfl hs9 hw9 hd9 (by omega) (by omega) hcs
  obtain ⟨T', X', hT', st⟩ := fin
  obtain ⟨t, a1, c1⟩ := kk T' hT' X'
  exact ⟨t, hstep₁ t fun acts => (st acts).trans a1, c1⟩
end XA
