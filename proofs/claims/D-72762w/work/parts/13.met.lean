/-! COMBINATORS of the functions that mirror the bytecode: a guard, a call, a change of the world -/
def gd {α : Type} (c : Prop) [Decidable c] (k : Option α) : Option α := if c then k else none
theorem gd_e {α : Type} {c : Prop} [Decidable c] {k : Option α} {r : α} (h : gd c k = some r) : c ∧ k = some r := by
  unfold gd at h
  by_cases hc : c
  · rw [if_pos hc] at h; exact ⟨hc, h⟩
  · rw [if_neg hc] at h; cases h
theorem gd_t {α : Type} {c : Prop} [Decidable c] {k : Option α} (h : c) : gd c k = k := if_pos h
def bd {α β : Type} (x : Option α) (k : α → Option β) : Option β := x.bind k
theorem bd_e {α β : Type} {x : Option α} {k : α → Option β} {r : β} (h : bd x k = some r) : ∃ a, x = some a ∧ k a = some r := Option.bind_eq_some_iff.mp h
theorem bd_s {α β : Type} {x : Option α} {k : α → Option β} {a : α} (h : x = some a) : bd x k = k a := by rw [h]; rfl
def bd2 {α β γ : Type} (x : Option (α × β)) (k : α → β → Option γ) : Option γ := x.bind fun q => k q.1 q.2
theorem bd2_e {α β γ : Type} {x : Option (α × β)} {k : α → β → Option γ} {r : γ} (h : bd2 x k = some r) : ∃ a b, x = some (a, b) ∧ k a b = some r := by
  obtain ⟨⟨a, b⟩, h1, h2⟩ := Option.bind_eq_some_iff.mp h
  exact ⟨a, b, h1, h2⟩
theorem bd2_s {α β γ : Type} {x : Option (α × β)} {k : α → β → Option γ} {a : α} {b : β} (h : x = some (a, b)) : bd2 x k = k a b := by rw [h]; rfl
def st {α β : Type} (a : α) (k : α → Option β) : Option β := k a
theorem st_e {α β : Type} {a : α} {k : α → Option β} {r : β} (h : st a k = some r) : ∃ b, b = a ∧ k b = some r := ⟨a, rfl, h⟩
theorem st_s {α β : Type} (a : α) (k : α → Option β) : st a k = k a := rfl
theorem nb01 {v : Int32} (h : v = 0 ∨ v = 1) : narrow .boolean (.int v) = .int v := by rcases h with h | h <;> subst h <;> rfl
theorem fb01 {v : Int32} (h : v = 0 ∨ v = 1) : fits .boolean (.int v) = true := by rcases h with h | h <;> subst h <;> rfl
theorem metSi (l : Launch) {y : MethodName} {cc : ByteArray} {maxL : Nat} {rm : Room} {G : Gt} {h h1 : Hp} {vs : List Value} {r : Int32} {mc ms : Nat} (hy : plainName y.cls = true) (hn : (lg_sl vs).length ≤ maxL) {ty : FieldType}
    (body : ∀ (p : Program) (e : Env) (s : State) (m : MethodId) (args : Array Value) (below : List Frame) (meth : Method) (c : Code) (Q : State → Prop), p.tables.exec = Jvm.exec → c.code = cc → (∀ w ∈ lw_all, w.before args s = true) → s.vm.findClass y.cls = some m.cls → s.methodNamed? y = some m → c.maxLocals = maxL → (y.name = "<init>" → meth.name = "<init>") → KK G s → XW G h s.heap →
      (∀ (H : Heap) (locs : List Loc) (pc : Nat) (ls : Array Slot), XX G h s.heap h1 H locs → narrow ty (.int r) = .int r → decode cc pc = .ok (.ireturn, 1) → W p l e rm s m args below meth c H locs mc ms Q (F0 m pc ls [.int r])) →
      ∀ ls : Array Slot, lv_has ls maxL (lv_args 0 vs) → W p l e rm s m args below meth c s.heap [] 0 0 Q (F0 m 0 ls [])) : Met l y (ws_ y cc maxL (some ty)) rm (XP G vs h) (XQ G (some (.int r)) h h1) mc ms (fre h) := by
  refine Met.ofW (cc := cc) (maxL := maxL) (ret := (some ty)) hy rfl ?_
  intro p e s m args below meth c s₁ B hml hv
  obtain ⟨rfl, hK, hW⟩ := hv
  have hx := B.exec
  have hb := B.bytes
  have hr := B.returns
  have hlocks := B.notSynchronized
  have hts := atoms_spec (ws := ws_ y cc maxL (some ty)) B.pre
  have hl := lv_entry vs hn
  rw [lg_entry_eq]
  refine body p e s m _ below meth c _ hx hb (fun w h => hts w (List.mem_cons_of_mem _ h)) (findClass_of_methodNamed B.named) B.named hml (fun q => by rw [← q]; exact (name_of_methodNamed B.named B.method).1) hK hW ?_ _ hl
  intro H locs pc ls hX hn9 hdg
  exact W.zret (v := r) (ty := ty) hx hb hr hn9 (fun t ht hW9 => ⟨rfl, by rw [ht]; exact hX.1, hX.2.1, hX.2.2.F ht⟩) hX.2.2.2.2 hdg hlocks
theorem metSl (l : Launch) {y : MethodName} {cc : ByteArray} {maxL : Nat} {rm : Room} {G : Gt} {h h1 : Hp} {vs : List Value} {r : Int64} {mc ms : Nat} (hy : plainName y.cls = true) (hn : (lg_sl vs).length ≤ maxL)
    (body : ∀ (p : Program) (e : Env) (s : State) (m : MethodId) (args : Array Value) (below : List Frame) (meth : Method) (c : Code) (Q : State → Prop), p.tables.exec = Jvm.exec → c.code = cc → (∀ w ∈ lw_all, w.before args s = true) → s.vm.findClass y.cls = some m.cls → s.methodNamed? y = some m → c.maxLocals = maxL → (y.name = "<init>" → meth.name = "<init>") → KK G s → XW G h s.heap →
      (∀ (H : Heap) (locs : List Loc) (pc : Nat) (ls : Array Slot), XX G h s.heap h1 H locs → decode cc pc = .ok (.lreturn, 1) → W p l e rm s m args below meth c H locs mc ms Q (F0 m pc ls [.long r])) →
      ∀ ls : Array Slot, lv_has ls maxL (lv_args 0 vs) → W p l e rm s m args below meth c s.heap [] 0 0 Q (F0 m 0 ls [])) : Met l y (ws_ y cc maxL (some .long)) rm (XP G vs h) (XQ G (some (.long r)) h h1) mc ms (fre h) := by
  refine Met.ofW (cc := cc) (maxL := maxL) (ret := (some .long)) hy rfl ?_
  intro p e s m args below meth c s₁ B hml hv
  obtain ⟨rfl, hK, hW⟩ := hv
  have hx := B.exec
  have hb := B.bytes
  have hr := B.returns
  have hlocks := B.notSynchronized
  have hts := atoms_spec (ws := ws_ y cc maxL (some .long)) B.pre
  have hl := lv_entry vs hn
  rw [lg_entry_eq]
  refine body p e s m _ below meth c _ hx hb (fun w h => hts w (List.mem_cons_of_mem _ h)) (findClass_of_methodNamed B.named) B.named hml (fun q => by rw [← q]; exact (name_of_methodNamed B.named B.method).1) hK hW ?_ _ hl
  intro H locs pc ls hX hdg
  exact W.lret (v := r) hx hb hr (fun t ht hW9 => ⟨rfl, by rw [ht]; exact hX.1, hX.2.1, hX.2.2.F ht⟩) hX.2.2.2.2 hdg hlocks
theorem metSv (l : Launch) {y : MethodName} {cc : ByteArray} {maxL : Nat} {rm : Room} {G : Gt} {h h1 : Hp} {vs : List Value} {mc ms : Nat} (hy : plainName y.cls = true) (hn : (lg_sl vs).length ≤ maxL)
    (body : ∀ (p : Program) (e : Env) (s : State) (m : MethodId) (args : Array Value) (below : List Frame) (meth : Method) (c : Code) (Q : State → Prop), p.tables.exec = Jvm.exec → c.code = cc → (∀ w ∈ lw_all, w.before args s = true) → s.vm.findClass y.cls = some m.cls → s.methodNamed? y = some m → c.maxLocals = maxL → (y.name = "<init>" → meth.name = "<init>") → KK G s → XW G h s.heap →
      (∀ (H : Heap) (locs : List Loc) (pc : Nat) (ls : Array Slot), XX G h s.heap h1 H locs → decode cc pc = .ok (.return_, 1) → W p l e rm s m args below meth c H locs mc ms Q (F0 m pc ls [])) →
      ∀ ls : Array Slot, lv_has ls maxL (lv_args 0 vs) → W p l e rm s m args below meth c s.heap [] 0 0 Q (F0 m 0 ls [])) : Met l y (ws_ y cc maxL none) rm (XP G vs h) (XQ G none h h1) mc ms (fre h) := by
  refine Met.ofW (cc := cc) (maxL := maxL) (ret := none) hy rfl ?_
  intro p e s m args below meth c s₁ B hml hv
  obtain ⟨rfl, hK, hW⟩ := hv
  have hx := B.exec
  have hb := B.bytes
  have hr := B.returns
  have hlocks := B.notSynchronized
  have hts := atoms_spec (ws := ws_ y cc maxL none) B.pre
  have hl := lv_entry vs hn
  rw [lg_entry_eq]
  refine body p e s m _ below meth c _ hx hb (fun w h => hts w (List.mem_cons_of_mem _ h)) (findClass_of_methodNamed B.named) B.named hml (fun q => by rw [← q]; exact (name_of_methodNamed B.named B.method).1) hK hW ?_ _ hl
  intro H locs pc ls hX hdg
  exact W.vret hx hb hr (fun t ht hW9 => ⟨rfl, by rw [ht]; exact hX.1, hX.2.1, hX.2.2.F ht⟩) hX.2.2.2.2 hdg hlocks
theorem metPi (l : Launch) {y : MethodName} {cc : ByteArray} {maxL : Nat} {rm : Room} {G : Gt} {h : Hp} {vs : List Value} {r : Int32} (hy : plainName y.cls = true) (hn : (lg_sl vs).length ≤ maxL) {ty : FieldType}
    (body : ∀ (p : Program) (e : Env) (s : State) (m : MethodId) (args : Array Value) (below : List Frame) (meth : Method) (c : Code) (Q : State → Prop), p.tables.exec = Jvm.exec → c.code = cc → (∀ w ∈ lw_all, w.before args s = true) → s.vm.findClass y.cls = some m.cls → s.methodNamed? y = some m → c.maxLocals = maxL → (y.name = "<init>" → meth.name = "<init>") → KK G s → XW G h s.heap →
      (∀ (pc : Nat) (ls : Array Slot), narrow ty (.int r) = .int r → decode cc pc = .ok (.ireturn, 1) → W p l e rm s m args below meth c s.heap [] 0 0 Q (F0 m pc ls [.int r])) →
      ∀ ls : Array Slot, lv_has ls maxL (lv_args 0 vs) → W p l e rm s m args below meth c s.heap [] 0 0 Q (F0 m 0 ls [])) : Met l y (ws_ y cc maxL (some ty)) rm (XP G vs h) (XQp (some (.int r))) 0 0 (fun _ => False) := by
  refine Met.ofW (cc := cc) (maxL := maxL) (ret := (some ty)) hy rfl ?_
  intro p e s m args below meth c s₁ B hml hv
  obtain ⟨rfl, hK, hW⟩ := hv
  have hx := B.exec
  have hb := B.bytes
  have hr := B.returns
  have hlocks := B.notSynchronized
  have hts := atoms_spec (ws := ws_ y cc maxL (some ty)) B.pre
  have hl := lv_entry vs hn
  rw [lg_entry_eq]
  refine body p e s m _ below meth c _ hx hb (fun w h => hts w (List.mem_cons_of_mem _ h)) (findClass_of_methodNamed B.named) B.named hml (fun q => by rw [← q]; exact (name_of_methodNamed B.named B.method).1) hK hW ?_ _ hl
  intro pc ls hn9 hdg
  exact W.zret (v := r) (ty := ty) hx hb hr hn9 (fun t ht hW9 => ⟨rfl, ht⟩) (fun _ h9 => by cases h9) hdg hlocks
theorem metPl (l : Launch) {y : MethodName} {cc : ByteArray} {maxL : Nat} {rm : Room} {G : Gt} {h : Hp} {vs : List Value} {r : Int64} (hy : plainName y.cls = true) (hn : (lg_sl vs).length ≤ maxL)
    (body : ∀ (p : Program) (e : Env) (s : State) (m : MethodId) (args : Array Value) (below : List Frame) (meth : Method) (c : Code) (Q : State → Prop), p.tables.exec = Jvm.exec → c.code = cc → (∀ w ∈ lw_all, w.before args s = true) → s.vm.findClass y.cls = some m.cls → s.methodNamed? y = some m → c.maxLocals = maxL → (y.name = "<init>" → meth.name = "<init>") → KK G s → XW G h s.heap →
      (∀ (pc : Nat) (ls : Array Slot), decode cc pc = .ok (.lreturn, 1) → W p l e rm s m args below meth c s.heap [] 0 0 Q (F0 m pc ls [.long r])) →
      ∀ ls : Array Slot, lv_has ls maxL (lv_args 0 vs) → W p l e rm s m args below meth c s.heap [] 0 0 Q (F0 m 0 ls [])) : Met l y (ws_ y cc maxL (some .long)) rm (XP G vs h) (XQp (some (.long r))) 0 0 (fun _ => False) := by
  refine Met.ofW (cc := cc) (maxL := maxL) (ret := (some .long)) hy rfl ?_
  intro p e s m args below meth c s₁ B hml hv
  obtain ⟨rfl, hK, hW⟩ := hv
  have hx := B.exec
  have hb := B.bytes
  have hr := B.returns
  have hlocks := B.notSynchronized
  have hts := atoms_spec (ws := ws_ y cc maxL (some .long)) B.pre
  have hl := lv_entry vs hn
  rw [lg_entry_eq]
  refine body p e s m _ below meth c _ hx hb (fun w h => hts w (List.mem_cons_of_mem _ h)) (findClass_of_methodNamed B.named) B.named hml (fun q => by rw [← q]; exact (name_of_methodNamed B.named B.method).1) hK hW ?_ _ hl
  intro pc ls hdg
  exact W.lret (v := r) hx hb hr (fun t ht hW9 => ⟨rfl, ht⟩) (fun _ h9 => by cases h9) hdg hlocks
theorem metPv (l : Launch) {y : MethodName} {cc : ByteArray} {maxL : Nat} {rm : Room} {G : Gt} {h : Hp} {vs : List Value} (hy : plainName y.cls = true) (hn : (lg_sl vs).length ≤ maxL)
    (body : ∀ (p : Program) (e : Env) (s : State) (m : MethodId) (args : Array Value) (below : List Frame) (meth : Method) (c : Code) (Q : State → Prop), p.tables.exec = Jvm.exec → c.code = cc → (∀ w ∈ lw_all, w.before args s = true) → s.vm.findClass y.cls = some m.cls → s.methodNamed? y = some m → c.maxLocals = maxL → (y.name = "<init>" → meth.name = "<init>") → KK G s → XW G h s.heap →
      (∀ (pc : Nat) (ls : Array Slot), decode cc pc = .ok (.return_, 1) → W p l e rm s m args below meth c s.heap [] 0 0 Q (F0 m pc ls [])) →
      ∀ ls : Array Slot, lv_has ls maxL (lv_args 0 vs) → W p l e rm s m args below meth c s.heap [] 0 0 Q (F0 m 0 ls [])) : Met l y (ws_ y cc maxL none) rm (XP G vs h) (XQp none) 0 0 (fun _ => False) := by
  refine Met.ofW (cc := cc) (maxL := maxL) (ret := none) hy rfl ?_
  intro p e s m args below meth c s₁ B hml hv
  obtain ⟨rfl, hK, hW⟩ := hv
  have hx := B.exec
  have hb := B.bytes
  have hr := B.returns
  have hlocks := B.notSynchronized
  have hts := atoms_spec (ws := ws_ y cc maxL none) B.pre
  have hl := lv_entry vs hn
  rw [lg_entry_eq]
  refine body p e s m _ below meth c _ hx hb (fun w h => hts w (List.mem_cons_of_mem _ h)) (findClass_of_methodNamed B.named) B.named hml (fun q => by rw [← q]; exact (name_of_methodNamed B.named B.method).1) hK hW ?_ _ hl
  intro pc ls hdg
  exact W.vret hx hb hr (fun t ht hW9 => ⟨rfl, ht⟩) (fun _ h9 => by cases h9) hdg hlocks
theorem metSr (l : Launch) {y : MethodName} {cc : ByteArray} {maxL : Nat} {rm : Room} {G : Gt} {h h1 : Hp} {vs : List Value} {r : Option Nat} {mc ms : Nat} (hy : plainName y.cls = true) (hn : (lg_sl vs).length ≤ maxL) {rt : FieldType} (hrt : (∃ n, rt = .object n) ∨ ∃ t, rt = .array t)
    (body : ∀ (p : Program) (e : Env) (s : State) (m : MethodId) (args : Array Value) (below : List Frame) (meth : Method) (c : Code) (Q : State → Prop), p.tables.exec = Jvm.exec → c.code = cc → (∀ w ∈ lw_all, w.before args s = true) → s.vm.findClass y.cls = some m.cls → s.methodNamed? y = some m → c.maxLocals = maxL → (y.name = "<init>" → meth.name = "<init>") → KK G s → XW G h s.heap →
      (∀ (H : Heap) (locs : List Loc) (pc : Nat) (ls : Array Slot), XX G h s.heap h1 H locs → decode cc pc = .ok (.areturn, 1) → W p l e rm s m args below meth c H locs mc ms Q (F0 m pc ls [va_rf r])) →
      ∀ ls : Array Slot, lv_has ls maxL (lv_args 0 vs) → W p l e rm s m args below meth c s.heap [] 0 0 Q (F0 m 0 ls [])) : Met l y (ws_ y cc maxL (some rt)) rm (XP G vs h) (XQ G (some (va_rf r)) h h1) mc ms (fre h) := by
  refine Met.ofW (cc := cc) (maxL := maxL) (ret := (some rt)) hy rfl ?_
  intro p e s m args below meth c s₁ B hml hv
  obtain ⟨rfl, hK, hW⟩ := hv
  have hx := B.exec
  have hb := B.bytes
  have hr := B.returns
  have hlocks := B.notSynchronized
  have hts := atoms_spec (ws := ws_ y cc maxL (some rt)) B.pre
  have hl := lv_entry vs hn
  rw [lg_entry_eq]
  refine body p e s m _ below meth c _ hx hb (fun w h => hts w (List.mem_cons_of_mem _ h)) (findClass_of_methodNamed B.named) B.named hml (fun q => by rw [← q]; exact (name_of_methodNamed B.named B.method).1) hK hW ?_ _ hl
  intro H locs pc ls hX hdg
  exact W.aret (v := va_rf r) hx hb hr hrt (va_rf_or r) (fun t ht hW9 => ⟨rfl, by rw [ht]; exact hX.1, hX.2.1, hX.2.2.F ht⟩) hX.2.2.2.2 hdg hlocks
theorem metPr (l : Launch) {y : MethodName} {cc : ByteArray} {maxL : Nat} {rm : Room} {G : Gt} {h : Hp} {vs : List Value} {r : Option Nat} (hy : plainName y.cls = true) (hn : (lg_sl vs).length ≤ maxL) {rt : FieldType} (hrt : (∃ n, rt = .object n) ∨ ∃ t, rt = .array t)
    (body : ∀ (p : Program) (e : Env) (s : State) (m : MethodId) (args : Array Value) (below : List Frame) (meth : Method) (c : Code) (Q : State → Prop), p.tables.exec = Jvm.exec → c.code = cc → (∀ w ∈ lw_all, w.before args s = true) → s.vm.findClass y.cls = some m.cls → s.methodNamed? y = some m → c.maxLocals = maxL → (y.name = "<init>" → meth.name = "<init>") → KK G s → XW G h s.heap →
      (∀ (pc : Nat) (ls : Array Slot), decode cc pc = .ok (.areturn, 1) → W p l e rm s m args below meth c s.heap [] 0 0 Q (F0 m pc ls [va_rf r])) →
      ∀ ls : Array Slot, lv_has ls maxL (lv_args 0 vs) → W p l e rm s m args below meth c s.heap [] 0 0 Q (F0 m 0 ls [])) : Met l y (ws_ y cc maxL (some rt)) rm (XP G vs h) (XQp (some (va_rf r))) 0 0 (fun _ => False) := by
  refine Met.ofW (cc := cc) (maxL := maxL) (ret := (some rt)) hy rfl ?_
  intro p e s m args below meth c s₁ B hml hv
  obtain ⟨rfl, hK, hW⟩ := hv
  have hx := B.exec
  have hb := B.bytes
  have hr := B.returns
  have hlocks := B.notSynchronized
  have hts := atoms_spec (ws := ws_ y cc maxL (some rt)) B.pre
  have hl := lv_entry vs hn
  rw [lg_entry_eq]
  refine body p e s m _ below meth c _ hx hb (fun w h => hts w (List.mem_cons_of_mem _ h)) (findClass_of_methodNamed B.named) B.named hml (fun q => by rw [← q]; exact (name_of_methodNamed B.named B.method).1) hK hW ?_ _ hl
  intro pc ls hdg
  exact W.aret (v := va_rf r) hx hb hr hrt (va_rf_or r) (fun t ht hW9 => ⟨rfl, ht⟩) (fun _ h9 => by cases h9) hdg hlocks
/-! costs: cells and slots made -/
def ad {ρ : Type} (k n : Nat) (x : Option (ρ × Nat × Nat)) : Option (ρ × Nat × Nat) := x.map fun w => (w.1, k + w.2.1, n + w.2.2)
theorem ad_e {ρ : Type} {k n : Nat} {x : Option (ρ × Nat × Nat)} {r : ρ} {c s : Nat} (h : ad k n x = some (r, c, s)) : ∃ c1 s1, x = some (r, c1, s1) ∧ c = k + c1 ∧ s = n + s1 := by
  obtain ⟨⟨r1, c1, s1⟩, h1, h2⟩ := Option.map_eq_some_iff.mp h
  cases h2
  exact ⟨c1, s1, h1, rfl, rfl⟩
theorem ad_s {ρ : Type} (k n : Nat) {x : Option (ρ × Nat × Nat)} {r : ρ} {c s : Nat} (h : x = some (r, c, s)) : ad k n x = some (r, k + c, n + s) := by rw [h]; rfl
def bdA {α ρ : Type} (x : Option ((α × Hp) × Nat × Nat)) (k : α → Hp → Option (ρ × Nat × Nat)) : Option (ρ × Nat × Nat) := x.bind fun w => ad w.2.1 w.2.2 (k w.1.1 w.1.2)
theorem bdA_e {α ρ : Type} {x : Option ((α × Hp) × Nat × Nat)} {k : α → Hp → Option (ρ × Nat × Nat)} {r : ρ} {c s : Nat} (h : bdA x k = some (r, c, s)) : ∃ v h1 c1 s1 c2 s2, x = some ((v, h1), c1, s1) ∧ k v h1 = some (r, c2, s2) ∧ c = c1 + c2 ∧ s = s1 + s2 := by
  obtain ⟨⟨⟨v, h1⟩, c1, s1⟩, e1, e2⟩ := Option.bind_eq_some_iff.mp h
  obtain ⟨c2, s2, e3, e4, e5⟩ := ad_e e2
  exact ⟨v, h1, c1, s1, c2, s2, e1, e3, e4, e5⟩
theorem bdA_s {α ρ : Type} {x : Option ((α × Hp) × Nat × Nat)} {k : α → Hp → Option (ρ × Nat × Nat)} {v : α} {h1 : Hp} {c1 s1 : Nat} (h : x = some ((v, h1), c1, s1)) : bdA x k = ad c1 s1 (k v h1) := by rw [h]; rfl
def bdAv {ρ : Type} (x : Option (Hp × Nat × Nat)) (k : Hp → Option (ρ × Nat × Nat)) : Option (ρ × Nat × Nat) := x.bind fun w => ad w.2.1 w.2.2 (k w.1)
theorem bdAv_e {ρ : Type} {x : Option (Hp × Nat × Nat)} {k : Hp → Option (ρ × Nat × Nat)} {r : ρ} {c s : Nat} (h : bdAv x k = some (r, c, s)) : ∃ h1 c1 s1 c2 s2, x = some (h1, c1, s1) ∧ k h1 = some (r, c2, s2) ∧ c = c1 + c2 ∧ s = s1 + s2 := by
  obtain ⟨⟨h1, c1, s1⟩, e1, e2⟩ := Option.bind_eq_some_iff.mp h
  obtain ⟨c2, s2, e3, e4, e5⟩ := ad_e e2
  exact ⟨h1, c1, s1, c2, s2, e1, e3, e4, e5⟩
theorem bdAv_s {ρ : Type} {x : Option (Hp × Nat × Nat)} {k : Hp → Option (ρ × Nat × Nat)} {h1 : Hp} {c1 s1 : Nat} (h : x = some (h1, c1, s1)) : bdAv x k = ad c1 s1 (k h1) := by rw [h]; rfl
theorem XX.tg {G : Gt} {h0 h : Hp} {H0 H : Heap} {locs : List Loc} (hX : XX G h0 H0 h H locs) {a t : Nat} (g : hT h0 a = t) (ht : t ≠ 0) : hT h a = t := (hX.2.1.1 a (by rw [g]; exact ht)).trans g
theorem dfl (t : FieldType) (h : t ≠ .float ∧ t ≠ .double) : kd t = 0 ∧ defaultValue t = .int 0 ∨ kd t = 1 ∧ defaultValue t = .long 0 ∨ kd t = 2 ∧ defaultValue t = .null := by
  cases t <;> first | exact absurd rfl h.1 | exact absurd rfl h.2 | exact Or.inl ⟨rfl, rfl⟩ | exact Or.inr (Or.inl ⟨rfl, rfl⟩) | exact Or.inr (Or.inr ⟨rfl, rfl⟩)
theorem dfC0 : ∀ k, k < 16 → fTy 0 k ≠ .float ∧ fTy 0 k ≠ .double := by decide +kernel
theorem dfC1 : ∀ k, k < 2 → fTy 1 k ≠ .float ∧ fTy 1 k ≠ .double := by decide +kernel
theorem dfC2 : ∀ k, k < 52 → fTy 2 k ≠ .float ∧ fTy 2 k ≠ .double := by decide +kernel
theorem dfC3 : ∀ k, k < 9 → fTy 3 k ≠ .float ∧ fTy 3 k ≠ .double := by decide +kernel
theorem dfC4 : ∀ k, k < 8 → fTy 4 k ≠ .float ∧ fTy 4 k ≠ .double := by decide +kernel
theorem dfC5 : ∀ k, k < 3 → fTy 5 k ≠ .float ∧ fTy 5 k ≠ .double := by decide +kernel
theorem dfC6 : ∀ k, k < 5 → fTy 6 k ≠ .float ∧ fTy 6 k ≠ .double := by decide +kernel
theorem dfC7 : ∀ k, k < 2 → fTy 7 k ≠ .float ∧ fTy 7 k ≠ .double := by decide +kernel
theorem dfC8 : ∀ k, k < 3 → fTy 8 k ≠ .float ∧ fTy 8 k ≠ .double := by decide +kernel
theorem dfC9 : ∀ k, k < 2 → fTy 9 k ≠ .float ∧ fTy 9 k ≠ .double := by decide +kernel
theorem dfC10 : ∀ k, k < 2 → fTy 10 k ≠ .float ∧ fTy 10 k ≠ .double := by decide +kernel
theorem dfC11 : ∀ k, k < 6 → fTy 11 k ≠ .float ∧ fTy 11 k ≠ .double := by decide +kernel
theorem dfC12 : ∀ k, k < 3 → fTy 12 k ≠ .float ∧ fTy 12 k ≠ .double := by decide +kernel
