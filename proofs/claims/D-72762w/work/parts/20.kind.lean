/-! calls walked in the callee's frame (by program) -/
section XI
variable {e : Env} {s : State} {g : JFrame} {c : Code} {below : List Frame}
theorem Steps.inA {tb : Tables} [Ours tb] {target : State} (h : At s g.method c below) (hexec : tb.exec = Jvm.exec) {m : MethodId} {meth : Method} {code : Code} {a : Addr} {u : Int32} {ig : Instr} {len : Nat} (acts : List Action)
    (hm : s.vm.method? m = some meth) (hc : meth.code = some code) (hl : meth.locks = false) (hp : s.plainMethod m) (hret : meth.sig.returnType = some .int) (hlocals : code.maxLocals = 2) (h0 : decode code.code 0 = .ok (.iload_n 1, 1)) (h1 : decode code.code 1 = .ok (.ireturn, 1))
    (hroom : e.platform.stackFull (((s.setTop g).threads[(s.setTop g).cur]?).getD { frames := [] }) (s.setTop g).frames code.maxLocals = false)
    (hdg : decode c.code g.pc = .ok (ig, len)) (hrest : Steps tb e below (s.setTop { g with pc := g.pc + len, stack := .int u :: g.stack }) target) :
    Steps tb e below (doInvoke e (s.setTop g) acts m #[.ref a, .int u]).1 target := by
  rw [doInvoke_enter h.top acts hm hc hl hroom]
  have hT := At.enter (g := g) h #[.ref a, .int u] hm hc hp
  have hf := frames_entered (g := g) h.top (.java (entryFrame m #[.ref a, .int u] code.maxLocals))
  rw [hlocals] at hT hf ⊢
  show Steps tb e below (((s.setTop g).pushFrame (.java (entryFrame m #[.ref a, .int u] 2))).setTop { method := m, pc := 0, locals := #[.val (.ref a), .val (.int u)], stack := [], locked := none }) target
  jvm_step hT [hexec, h0]
  jvm_step hT [hexec, h1, (show ((s.setTop g).pushFrame (.java (entryFrame m #[.ref a, .int u] 2))).vm.method? m = some meth from hm), hret, narrow]
  intro acts'
  rw [doReturn_leave (u := (s.setTop g).pushFrame (.java (entryFrame m #[.ref a, .int u] 2))) (g := g) (meth := meth) (cg := c) (ig := ig) (len := len)
      (f := { method := m, pc := 1, locals := #[.val (.ref a), .val (.int u)], stack := [], locked := none }) acts' hf hm hl rfl rfl
      (by have := h.code; rw [State.code?_eq] at this ⊢; simpa [State.pushFrame, State.setFrames] using this) hdg,
    setFrames_entered h.top, State.setTop_setTop]
  simpa using hrest
theorem Steps.inB {tb : Tables} [Ours tb] {target : State} (h : At s g.method c below) (hexec : tb.exec = Jvm.exec) {m : MethodId} {meth : Method} {code : Code} {a : Addr} {u : Int32} {ig : Instr} {len : Nat} (acts : List Action)
    (hm : s.vm.method? m = some meth) (hc : meth.code = some code) (hl : meth.locks = false) (hp : s.plainMethod m) (hret : meth.sig.returnType = some .int) (hlocals : code.maxLocals = 2) (h0 : decode code.code 0 = .ok (.iload_n 1, 1)) (h1 : decode code.code 1 = .ok (.iconst 1, 1)) (h2 : decode code.code 2 = .ok (.iadd, 1)) (h3 : decode code.code 3 = .ok (.ireturn, 1))
    (hroom : e.platform.stackFull (((s.setTop g).threads[(s.setTop g).cur]?).getD { frames := [] }) (s.setTop g).frames code.maxLocals = false)
    (hdg : decode c.code g.pc = .ok (ig, len)) (hrest : Steps tb e below (s.setTop { g with pc := g.pc + len, stack := .int (u + 1) :: g.stack }) target) :
    Steps tb e below (doInvoke e (s.setTop g) acts m #[.ref a, .int u]).1 target := by
  rw [doInvoke_enter h.top acts hm hc hl hroom]
  have hT := At.enter (g := g) h #[.ref a, .int u] hm hc hp
  have hf := frames_entered (g := g) h.top (.java (entryFrame m #[.ref a, .int u] code.maxLocals))
  rw [hlocals] at hT hf ⊢
  show Steps tb e below (((s.setTop g).pushFrame (.java (entryFrame m #[.ref a, .int u] 2))).setTop { method := m, pc := 0, locals := #[.val (.ref a), .val (.int u)], stack := [], locked := none }) target
  jvm_step hT [hexec, h0]
  jvm_step hT [hexec, h1]
  jvm_step hT [hexec, h2]
  jvm_step hT [hexec, h3, (show ((s.setTop g).pushFrame (.java (entryFrame m #[.ref a, .int u] 2))).vm.method? m = some meth from hm), hret, narrow]
  intro acts'
  rw [doReturn_leave (u := (s.setTop g).pushFrame (.java (entryFrame m #[.ref a, .int u] 2))) (g := g) (meth := meth) (cg := c) (ig := ig) (len := len)
      (f := { method := m, pc := 3, locals := #[.val (.ref a), .val (.int u)], stack := [], locked := none }) acts' hf hm hl rfl rfl
      (by have := h.code; rw [State.code?_eq] at this ⊢; simpa [State.pushFrame, State.setFrames] using this) hdg,
    setFrames_entered h.top, State.setTop_setTop]
  simpa using hrest
theorem Steps.inC {tb : Tables} [Ours tb] {target : State} (h : At s g.method c below) (hexec : tb.exec = Jvm.exec) {m : MethodId} {meth : Method} {code : Code} {a : Addr} {ig : Instr} {len : Nat} (acts : List Action)
    (hm : s.vm.method? m = some meth) (hc : meth.code = some code) (hl : meth.locks = false) (hp : s.plainMethod m) (hret : meth.sig.returnType = some .int) (hlocals : code.maxLocals = 1) (h0 : decode code.code 0 = .ok (.iconst 0, 1)) (h1 : decode code.code 1 = .ok (.ireturn, 1))
    (hroom : e.platform.stackFull (((s.setTop g).threads[(s.setTop g).cur]?).getD { frames := [] }) (s.setTop g).frames code.maxLocals = false)
    (hdg : decode c.code g.pc = .ok (ig, len)) (hrest : Steps tb e below (s.setTop { g with pc := g.pc + len, stack := .int 0 :: g.stack }) target) :
    Steps tb e below (doInvoke e (s.setTop g) acts m #[.ref a]).1 target := by
  rw [doInvoke_enter h.top acts hm hc hl hroom]
  have hT := At.enter (g := g) h #[.ref a] hm hc hp
  have hf := frames_entered (g := g) h.top (.java (entryFrame m #[.ref a] code.maxLocals))
  rw [hlocals] at hT hf ⊢
  show Steps tb e below (((s.setTop g).pushFrame (.java (entryFrame m #[.ref a] 1))).setTop { method := m, pc := 0, locals := #[.val (.ref a)], stack := [], locked := none }) target
  jvm_step hT [hexec, h0]
  jvm_step hT [hexec, h1, (show ((s.setTop g).pushFrame (.java (entryFrame m #[.ref a] 1))).vm.method? m = some meth from hm), hret, narrow]
  intro acts'
  rw [doReturn_leave (u := (s.setTop g).pushFrame (.java (entryFrame m #[.ref a] 1))) (g := g) (meth := meth) (cg := c) (ig := ig) (len := len)
      (f := { method := m, pc := 1, locals := #[.val (.ref a)], stack := [], locked := none }) acts' hf hm hl rfl rfl
      (by have := h.code; rw [State.code?_eq] at this ⊢; simpa [State.pushFrame, State.setFrames] using this) hdg,
    setFrames_entered h.top, State.setTop_setTop]
  simpa using hrest
end XI
section XN
variable {p : Program} {l : Launch} {e : Env} {R : Room} {s : State} {m : MethodId} {args : Array Value} {below : List Frame} {meth : Method} {c : Code} {H : Heap} {locs : List Loc} {cells slots : Nat} {Q : State → Prop}
variable {cc : ByteArray} {pc nL : Nat} {ls : Array Slot} {rest st0 : List Value} {G : Gt} {h h0 : Hp} {H0 : Heap} {a : Nat} {v : Value}
theorem x_begin (hG : XG G) (hexec : p.tables.exec = Jvm.exec) (hb : c.code = cc) (hml : c.maxLocals = nL) (hts : ∀ w ∈ lw_all, w.before args s = true) {own : String} {index : Nat} (hown : s.vm.findClass own = some m.cls) (hK : KK G s) (hX : XX G h0 H0 h H locs) (hva : v = .ref a) {u r : Int32} (hA : hT h a = 300 ∧ r = u ∨ hT h a = 301 ∧ r = u + 1) (hlink : (Cond.methodLink own index ⟨"PromiseTries$Kind", "begin", "(I)I"⟩) ∈ lw_all) (hsize : ls.size = nL) (hW : (rest.map fun v => v.category).sum ≤ 8) (hfr : 1 ≤ R.frames) (hlo : 64 ≤ R.locals) (hcs : cells ≤ R.cells ∧ slots ≤ R.slots) (hdg : decode cc pc = .ok (.invokevirtual index, 3))
    (kk : W p l e R s m args below meth c H locs cells slots Q (F0 m (pc + 3) ls (.int r :: rest))) : W p l e R s m args below meth c H locs cells slots Q (F0 m pc ls (.int u :: v :: rest)) := by
  subst hva
  subst hml
  obtain ⟨r0, r, hn, hrm, hstR, hsigR⟩ : va_Decl s ⟨"PromiseTries$Kind", "begin", "(I)I"⟩ := va_Decl.nw (hG.nw hK nq691)
  have hlen : [Value.int u].length = r.sig.parameters.length := by
    have h9 : (parseMethodDescriptor "(I)I").map (fun d => d.parameters.length) = some 1 := by decide +kernel
    rw [show parseMethodDescriptor "(I)I" = some r.sig from hsigR] at h9
    exact (Option.some.inj h9).symm
  intro T hT X
  rcases hA with ⟨ht, hr9⟩ | ⟨ht, hr9⟩
  · rw [hr9] at kk
    have hcell : ∃ cell : Cell, T.heap[a]? = some cell ∧ cell.vm = .none ∧ s.vm.findClass "PromiseTries$Kind$1" = some cell.cls := by
      obtain ⟨-, -, -, -, c4, -⟩ := hX.1.2.2.2 a (by omega)
      obtain ⟨cell, q1, q2, q3⟩ := c4 (by omega) (by omega)
      exact ⟨cell, by rw [hT]; exact q1, q2, by rw [q3, ht]; exact (hG.k hK).2.2.1.2.2.2.2.1⟩
    obtain ⟨cell, hcell, hcv, hcls⟩ := hcell
    obtain ⟨mk, methM, hnamed, hmethM, -, habM⟩ := Cond.instanceMethod_spec (hts _ q694)
    obtain ⟨methM', cM, hmethM', hcM, hbM, hlM, hrM, hkM, -, hsigM⟩ := Cond.code_spec hnamed (hts _ q695)
    cases hmethM.symm.trans hmethM'
    obtain ⟨c2, r2, m2, q1, q2, q3, q4, kP, hkP, hkPi⟩ := Cond.selects_spec (hts _ q693)
    cases hcls.symm.trans q1
    cases hnamed.symm.trans q3
    obtain ⟨cn, ck, r1, hcn, hck, hni, hf9, hn1⟩ := Cond.sameMethod_found (hts _ q692)
    cases hn.symm.trans hn1
    cases hf9.symm.trans q2
    have hselP : selectMethod e.platform s.vm cell.cls r0 = .method mk := by rw [Launch.admits_selectMethod X.admits]; exact q4
    obtain ⟨vm₁, X₁, hstep₁⟩ := X.invokevirtualUp hexec hown (hts _ hlink) (hts _ q692) (owner := "PromiseTries$Kind") (by decide) hn hrm hstR (a := a) (cell := cell) hcell
      (fun z h => by rw [hcv] at h; cases h) hselP hmethM habM hkP hkPi (g := F0 m pc ls (.int u :: .ref a :: rest)) rfl (argsL := [.int u]) (rest := rest) hlen rfl (by rw [hb]; exact hdg)
    obtain ⟨t, a1, b1⟩ := kk (T.setVm vm₁) hT X₁
    refine ⟨t, hstep₁ t fun acts => ?_, b1⟩
    have hal : s.vm.Alike vm₁ := X₁.warmed.alike
    refine Steps.inA (g := F0 m pc ls rest) (meth := methM) (code := cM) X₁.here hexec acts (by show vm₁.method? mk = _; rw [hal.method?]; exact hmethM) hcM ?_ ?_ ?_ hlM (by rw [hbM]; exact dX15_begin_0) (by rw [hbM]; exact dX15_begin_1) ?_ (by rw [hb]; exact hdg) a1
    · exact hkM
    · exact State.plainMethod.of_name fun k hk => by
        have hmn : (T.setVm vm₁).methodNamed? (⟨"PromiseTries$Kind$1", "begin", "(I)I"⟩ : MethodName) = some mk := X₁.named hnamed
        obtain ⟨k9, hk9, hn9⟩ := className_of_methodNamed hmn
        cases hk.symm.trans hk9
        rw [hn9]; decide +kernel
    · exact hrM
    · exact X₁.notFull (g := F0 m pc ls rest) hsize (by omega) (by rw [hlM]; show 2 * 0 + (rest.map fun v => v.category).sum + 13 ≤ _; omega)
  · rw [hr9] at kk
    have hcell : ∃ cell : Cell, T.heap[a]? = some cell ∧ cell.vm = .none ∧ s.vm.findClass "PromiseTries$Kind$2" = some cell.cls := by
      obtain ⟨-, -, -, -, c4, -⟩ := hX.1.2.2.2 a (by omega)
      obtain ⟨cell, q1, q2, q3⟩ := c4 (by omega) (by omega)
      exact ⟨cell, by rw [hT]; exact q1, q2, by rw [q3, ht]; exact (hG.k hK).2.2.1.2.2.2.2.2⟩
    obtain ⟨cell, hcell, hcv, hcls⟩ := hcell
    obtain ⟨mk, methM, hnamed, hmethM, -, habM⟩ := Cond.instanceMethod_spec (hts _ q697)
    obtain ⟨methM', cM, hmethM', hcM, hbM, hlM, hrM, hkM, -, hsigM⟩ := Cond.code_spec hnamed (hts _ q698)
    cases hmethM.symm.trans hmethM'
    obtain ⟨c2, r2, m2, q1, q2, q3, q4, kP, hkP, hkPi⟩ := Cond.selects_spec (hts _ q696)
    cases hcls.symm.trans q1
    cases hnamed.symm.trans q3
    obtain ⟨cn, ck, r1, hcn, hck, hni, hf9, hn1⟩ := Cond.sameMethod_found (hts _ q692)
    cases hn.symm.trans hn1
    cases hf9.symm.trans q2
    have hselP : selectMethod e.platform s.vm cell.cls r0 = .method mk := by rw [Launch.admits_selectMethod X.admits]; exact q4
    obtain ⟨vm₁, X₁, hstep₁⟩ := X.invokevirtualUp hexec hown (hts _ hlink) (hts _ q692) (owner := "PromiseTries$Kind") (by decide) hn hrm hstR (a := a) (cell := cell) hcell
      (fun z h => by rw [hcv] at h; cases h) hselP hmethM habM hkP hkPi (g := F0 m pc ls (.int u :: .ref a :: rest)) rfl (argsL := [.int u]) (rest := rest) hlen rfl (by rw [hb]; exact hdg)
    obtain ⟨t, a1, b1⟩ := kk (T.setVm vm₁) hT X₁
    refine ⟨t, hstep₁ t fun acts => ?_, b1⟩
    have hal : s.vm.Alike vm₁ := X₁.warmed.alike
    refine Steps.inB (g := F0 m pc ls rest) (meth := methM) (code := cM) X₁.here hexec acts (by show vm₁.method? mk = _; rw [hal.method?]; exact hmethM) hcM ?_ ?_ ?_ hlM (by rw [hbM]; exact dX16_begin_0) (by rw [hbM]; exact dX16_begin_1) (by rw [hbM]; exact dX16_begin_2) (by rw [hbM]; exact dX16_begin_3) ?_ (by rw [hb]; exact hdg) a1
    · exact hkM
    · exact State.plainMethod.of_name fun k hk => by
        have hmn : (T.setVm vm₁).methodNamed? (⟨"PromiseTries$Kind$2", "begin", "(I)I"⟩ : MethodName) = some mk := X₁.named hnamed
        obtain ⟨k9, hk9, hn9⟩ := className_of_methodNamed hmn
        cases hk.symm.trans hk9
        rw [hn9]; decide +kernel
    · exact hrM
    · exact X₁.notFull (g := F0 m pc ls rest) hsize (by omega) (by rw [hlM]; show 2 * 0 + (rest.map fun v => v.category).sum + 13 ≤ _; omega)
theorem x_superW (hG : XG G) (hexec : p.tables.exec = Jvm.exec) (hb : c.code = cc) (hml : c.maxLocals = nL) (hts : ∀ w ∈ lw_all, w.before args s = true) {own : String} {index : Nat} (hown : s.vm.findClass own = some m.cls) (hK : KK G s) (hX : XX G h0 H0 h H locs) (hva : v = .ref a) (hA : own = "PromiseTries$Then" ∧ hT h a = 10 ∨ own = "PromiseTries$Either" ∧ hT h a = 11) (hlink : (Cond.methodLink own index ⟨"PromiseTries$Two", "weight", "()I"⟩) ∈ lw_all) (hsup : (Cond.superclass own "PromiseTries$Two") ∈ lw_all) (hsize : ls.size = nL) (hW : (rest.map fun v => v.category).sum ≤ 8) (hfr : 1 ≤ R.frames) (hlo : 64 ≤ R.locals) (hcs : cells ≤ R.cells ∧ slots ≤ R.slots) (hdg : decode cc pc = .ok (.invokespecial index, 3))
    (kk : W p l e R s m args below meth c H locs cells slots Q (F0 m (pc + 3) ls (.int 0 :: rest))) : W p l e R s m args below meth c H locs cells slots Q (F0 m pc ls (v :: rest)) := by
  subst hva
  subst hml
  intro T hT X
  have hcell : ∃ (cell : Cell) (k : Class), T.heap[a]? = some cell ∧ cell.vm = .none ∧ s.vm.classes[cell.cls]? = some k := by
    rcases hA with ⟨-, ht⟩ | ⟨-, ht⟩
    · obtain ⟨cell, q1, q2, q3, -⟩ := hX.1.obj (ci := 9) ht (by decide) rfl
      obtain ⟨kC, hkC, -⟩ := (hK.1.1 9 _ rfl).2.2
      exact ⟨cell, kC, by rw [hT]; exact q1, q3, by rw [q2]; exact hkC⟩
    · obtain ⟨cell, q1, q2, q3, -⟩ := hX.1.obj (ci := 10) ht (by decide) rfl
      obtain ⟨kC, hkC, -⟩ := (hK.1.1 10 _ rfl).2.2
      exact ⟨cell, kC, by rw [hT]; exact q1, q3, by rw [q2]; exact hkC⟩
  obtain ⟨cell, kcell, hcell, hcv, hkcell⟩ := hcell
  obtain ⟨mk, methM, hnamed, hmethM, hstM, habM⟩ := Cond.instanceMethod_spec (hts _ q517)
  obtain ⟨methM', cM, hmethM', hcM, hbM, hlM, hrM, hkM, -, hsigM⟩ := Cond.code_spec hnamed (hts _ q529)
  cases hmethM.symm.trans hmethM'
  obtain ⟨ps, dk, kp, hps, hdk, hkp, hsuper, -, -, hnid⟩ := Cond.superclass_spec hown (hts _ hsup)
  obtain ⟨ps2, dk2, kp2, hps2, hdk2, hkp2, hsuper2, -, -, hnid2⟩ := Cond.superclass_spec hps (hts _ q528)
  have hpm : ps2 = mk.cls := Option.some.inj (hps2.symm.trans (findClass_of_methodNamed hnamed))
  have hsz : 0 < s.vm.classes.size := Nat.lt_of_le_of_lt (Nat.zero_le _) (Array.getElem?_eq_some_iff.mp hdk2).1
  have hsub : s.vm.isSubclass ps mk.cls = true := by
    unfold Vm.isSubclass
    obtain ⟨n, hn⟩ : ∃ n, s.vm.classes.size + 1 = n + 2 := ⟨s.vm.classes.size - 1, by omega⟩
    rw [hn, Vm.isSubclassAux, hdk2]
    simp only [hsuper2, Vm.isSubclassAux]
    simp [hpm]
  have hlen : ([] : List Value).length = methM.sig.parameters.length := by
    have h9 : (parseMethodDescriptor "()I").map (fun d => d.parameters.length) = some 0 := by decide +kernel
    rw [show parseMethodDescriptor "()I" = some methM.sig from hsigM] at h9
    exact (Option.some.inj h9).symm
  obtain ⟨vm₁, X₁, hstep₁⟩ := X.invokespecialUp hexec hown (hts _ hlink) (hts _ q526) (x := ⟨"PromiseTries$Two", "weight", "()I"⟩) (owner := "PromiseTries$Node") hnamed hmethM hstM habM (by decide) hdk hnid hps hsuper hsub (a := a) (cell := cell) hcell
    (fun z h => by rw [hcv] at h; cases h) hkcell (g := F0 m pc ls (.ref a :: rest)) rfl (argsL := []) (rest := rest) hlen rfl (by rw [hb]; exact hdg)
  obtain ⟨t, a1, b1⟩ := kk (T.setVm vm₁) hT X₁
  refine ⟨t, hstep₁ t ?_, b1⟩
  have hal : s.vm.Alike vm₁ := X₁.warmed.alike
  refine Steps.inC (g := F0 m pc ls rest) (meth := methM) (code := cM) X₁.here hexec [] (by show vm₁.method? mk = _; rw [hal.method?]; exact hmethM) hcM ?_ ?_ ?_ hlM (by rw [hbM]; exact dX7_weight_0) (by rw [hbM]; exact dX7_weight_1) ?_ (by rw [hb]; exact hdg) a1
  · exact hkM
  · exact State.plainMethod.of_name fun k hk => by
      have hmn : (T.setVm vm₁).methodNamed? (⟨"PromiseTries$Node", "weight", "()I"⟩ : MethodName) = some mk := X₁.named hnamed
      obtain ⟨k9, hk9, hn9⟩ := className_of_methodNamed hmn
      cases hk.symm.trans hk9
      rw [hn9]; decide +kernel
  · exact hrM
  · exact X₁.notFull (g := F0 m pc ls rest) hsize (by omega) (by rw [hlM]; show 2 * 0 + (rest.map fun v => v.category).sum + 12 ≤ _; omega)
end XN
