/-! METHODS THAT MAY THROW the system's Fault: what they answer is a value (inl) or the thrown object's address (inr) -/
def XQn {ρ : Type} (G : Gt) (val : ρ → Option Value) (res : Sum ρ Nat) (h h1 : Hp) : Array Value → State → Outcome → State → Prop := fun a st o t => ∃ r, res = .inl r ∧ XQ G (val r) h h1 a st o t
def XCn {ρ : Type} (G : Gt) (res : Sum ρ Nat) (h h1 : Hp) : String → Addr → State → State → Prop := fun E q st t => res = .inr q ∧ E = RX4 ∧ hT h1 q = 5 ∧ XW G h1 t.heap ∧ Ext h h1 ∧ va_F (fre h) st t
def bdX {α β : Type} (x : Option ((Sum α Nat × Hp) × Nat × Nat)) (k : α → Hp → Option ((Sum β Nat × Hp) × Nat × Nat)) : Option ((Sum β Nat × Hp) × Nat × Nat) := x.bind fun w => match w.1.1 with
  | .inl r => ad w.2.1 w.2.2 (k r w.1.2)
  | .inr q => some ((.inr q, w.1.2), w.2.1, w.2.2)
def bdXr {α β : Type} (r2 : Sum α Nat) (h2 : Hp) (mc ms : Nat) (k : α → Hp → Option ((Sum β Nat × Hp) × Nat × Nat)) (res : Sum β Nat) (hE : Hp) (qc qs : Nat) : Prop :=
  (∃ q, r2 = .inr q ∧ res = .inr q ∧ hE = h2 ∧ qc = mc ∧ qs = ms) ∨ ∃ r c2 s2, r2 = .inl r ∧ k r h2 = some ((res, hE), c2, s2) ∧ qc = mc + c2 ∧ qs = ms + s2
theorem bdX_e {α β : Type} {x : Option ((Sum α Nat × Hp) × Nat × Nat)} {k : α → Hp → Option ((Sum β Nat × Hp) × Nat × Nat)} {res : Sum β Nat} {hE : Hp} {qc qs : Nat} (h : bdX x k = some ((res, hE), qc, qs)) : ∃ r2 h2 c1 s1, x = some ((r2, h2), c1, s1) ∧ c1 ≤ qc ∧ s1 ≤ qs ∧ bdXr r2 h2 c1 s1 k res hE qc qs := by
  obtain ⟨⟨⟨r2, h2⟩, c1, s1⟩, e1, e2⟩ := Option.bind_eq_some_iff.mp h
  cases r2 with
  | inl r =>
    obtain ⟨c2, s2, e3, e4, e5⟩ := ad_e e2
    have e4 : qc = c1 + c2 := e4
    have e5 : qs = s1 + s2 := e5
    exact ⟨_, _, _, _, e1, by omega, by omega, Or.inr ⟨r, c2, s2, rfl, e3, e4, e5⟩⟩
  | inr q =>
    obtain ⟨q1, q2⟩ := Prod.mk.inj (Option.some.inj e2)
    obtain ⟨q2, q3⟩ := Prod.mk.inj q2
    obtain ⟨q4, q5⟩ := Prod.mk.inj q1
    exact ⟨_, _, _, _, e1, Nat.le_of_eq q2, Nat.le_of_eq q3, Or.inl ⟨q, rfl, q4.symm, q5.symm, q2.symm, q3.symm⟩⟩
theorem bdX_s {α β : Type} {x : Option ((Sum α Nat × Hp) × Nat × Nat)} {k : α → Hp → Option ((Sum β Nat × Hp) × Nat × Nat)} {r : α} {h2 : Hp} {c s : Nat} (h : x = some ((.inl r, h2), c, s)) : bdX x k = ad c s (k r h2) := by rw [h]; rfl
theorem bdX_t {α β : Type} {x : Option ((Sum α Nat × Hp) × Nat × Nat)} {k : α → Hp → Option ((Sum β Nat × Hp) × Nat × Nat)} {q : Nat} {h2 : Hp} {c s : Nat} (h : x = some ((.inr q, h2), c, s)) : bdX x k = some ((.inr q, h2), c, s) := by rw [h]; rfl
section XT
variable {p : Program} {l : Launch} {e : Env} {R : Room} {s : State} {m : MethodId} {args : Array Value} {below : List Frame} {meth : Method} {c : Code} {H : Heap} {locs : List Loc} {cells slots : Nat} {Q : State → Prop}
variable {pc : Nat} {ls : Array Slot} {rest st0 : List Value} {G : Gt} {h h0 : Hp} {H0 : Heap}
theorem vx_cs {g : JFrame} {q : Addr} {cells' slots' : Nat} (h1 : cells = cells') (h2 : slots = slots') (k : vx_W p l e R s m args below meth c H locs cells' slots' Q g q) : vx_W p l e R s m args below meth c H locs cells slots Q g q := by subst h1; subst h2; exact k
theorem x_doneX {α β : Type} {val : α → Option Value} {A : Array Value} {r2 : Sum α Nat} {h2 : Hp} {k : α → Hp → Option ((Sum β Nat × Hp) × Nat × Nat)} {res : Sum β Nat} {hE : Hp} {mc ms qc qs MC MS : Nat} (hr : vx_Run p l e R s m args below meth c H locs cells slots mc ms (F0 m pc ls st0) rest (XQn G val r2 h h2 A) (XCn G r2 h h2) (fre h)) (hX : XX G h0 H0 h H locs) (he : bdXr r2 h2 mc ms k res hE qc qs)
    (hth : ∀ (q : Nat) (H : Heap) (locs : List Loc) (pc : Nat) (ls : Array Slot) (rest : List Value), res = .inr q → hT hE q = 5 → XX G h0 H0 hE H locs → vx_W p l e R s m args below meth c H locs MC MS Q (F0 m pc ls rest) q) (kc : cells + qc = MC) (ks : slots + qs = MS)
    (kk : ∀ r c2 s2, k r h2 = some ((res, hE), c2, s2) → qc = mc + c2 → qs = ms + s2 → ∀ (H1 : Heap) (locs1 : List Loc), XX G h0 H0 h2 H1 locs1 → W p l e R s m args below meth c H1 locs1 (cells + mc) (slots + ms) Q (F0 m (pc + 3) ls ((val r).toList ++ rest))) : W p l e R s m args below meth c H locs cells slots Q (F0 m pc ls st0) := by
  intro T hT X
  have mk : ∀ (st₀ t T' : State) (L : List Loc), st₀.heap = H → T'.heap = t.heap → (∀ q ∈ L, fre h q.base) → XW G h2 t.heap → Ext h h2 → va_F (fre h) st₀ t → XX G h0 H0 h2 T'.heap (locs ++ L) := by
    intro st₀ t T' L h0' e1 hL hw he hF
    obtain ⟨hz, hk⟩ := hF
    rw [h0'] at hz hk
    exact ⟨by rw [e1]; exact hw, hX.2.1.tr he, ⟨Nat.le_trans hX.2.2.1 (by rw [e1]; exact hz), fun q q1 q2 => by rw [e1, hk q (Nat.lt_of_lt_of_le q1 hX.2.2.1) (fun z => q2 (hX.2.1.fre z))]; exact hX.2.2.2.1 q q1 q2, fun q hq => by
      rcases List.mem_append.mp hq with z | z
      · exact hX.2.2.2.2 q z
      · exact hX.2.1.fre (hL q z)⟩⟩
  rcases hr T hT X with ⟨v, st₀, t, T', L, h0', X', hL, e1, e2, ⟨r, hr2, hv, hw, hex, hF⟩, st⟩ | ⟨q, st₀, t, T', L, E, ce, h0', X', hL, e1, e2, ⟨hr2, hE9, h59, hw, hex, hF⟩, hce, hcv, hcl, st⟩
  · cases hv
    rcases he with ⟨q, z1, -⟩ | ⟨r', c2, s2, z1, z2, z3, z4⟩
    · rw [hr2] at z1; cases z1
    · rw [hr2] at z1; cases z1
      obtain ⟨t2, a1, b1⟩ := kk r c2 s2 z2 z3 z4 T'.heap (locs ++ L) (mk st₀ t T' L h0' e1 hL hw hex hF) T' rfl X'
      exact ⟨t2, st t2 a1, b1⟩
  · rcases he with ⟨q', z1, z2, z3, z4, z5⟩ | ⟨r', c2, s2, z1, z2, z3, z4⟩
    · rw [hr2] at z1; cases z1
      subst z3; subst z4; subst z5; subst kc; subst ks
      obtain ⟨t2, a1, b1⟩ := hth q T'.heap (locs ++ L) pc ls rest z2 h59 (mk st₀ t T' L h0' e1 hL hw hex hF) T' rfl X'
      exact ⟨t2, st.trans a1, b1⟩
    · rw [hr2] at z1; cases z1
end XT
theorem metXi (l : Launch) {y : MethodName} {cc : ByteArray} {maxL : Nat} {rm : Room} {G : Gt} {h h1 : Hp} {vs : List Value} {res : Sum (Int32) Nat} {mc ms : Nat} (hy : plainName y.cls = true) (hn : (lg_sl vs).length ≤ maxL) {ty : FieldType}
    (body : ∀ (p : Program) (e : Env) (s : State) (m : MethodId) (args : Array Value) (below : List Frame) (meth : Method) (c : Code) (Q : State → Prop), p.tables.exec = Jvm.exec → c.code = cc → (∀ w ∈ lw_all, w.before args s = true) → s.vm.findClass y.cls = some m.cls → s.methodNamed? y = some m → c.maxLocals = maxL → (y.name = "<init>" → meth.name = "<init>") → KK G s → XW G h s.heap →
      (∀ (r : Int32) (H : Heap) (locs : List Loc) (pc : Nat) (ls : Array Slot), res = .inl r → XX G h s.heap h1 H locs → narrow ty (.int r) = .int r → decode cc pc = .ok (.ireturn, 1) → W p l e rm s m args below meth c H locs mc ms Q (F0 m pc ls [.int r])) →
      (∀ (q : Nat) (H : Heap) (locs : List Loc) (pc : Nat) (ls : Array Slot) (rest : List Value), res = .inr q → hT h1 q = 5 → XX G h s.heap h1 H locs → vx_W p l e rm s m args below meth c H locs mc ms Q (F0 m pc ls rest) q) →
      ∀ ls : Array Slot, lv_has ls maxL (lv_args 0 vs) → W p l e rm s m args below meth c s.heap [] 0 0 Q (F0 m 0 ls [])) : vx_Met l y (ws_ y cc maxL (some ty)) rm (XP G vs h) (XQn G (fun r9 : Int32 => some (Value.int r9)) res h h1) (XCn G res h h1) mc ms (fre h) := by
  refine vx_ofW (cc := cc) (maxL := maxL) (ret := (some ty)) hy rfl ?_
  intro p e s m args below meth c s₁ B hml hT0 hv
  obtain ⟨rfl, hK, hW⟩ := hv
  have hx := B.exec
  have hb := B.bytes
  have hr := B.returns
  have hlocks := B.notSynchronized
  have hts := atoms_spec (ws := ws_ y cc maxL (some ty)) B.pre
  have hl := lv_entry vs hn
  rw [lg_entry_eq]
  refine body p e s m _ below meth c _ hx hb (fun w h => hts w (List.mem_cons_of_mem _ h)) (findClass_of_methodNamed B.named) B.named hml (fun q => by rw [← q]; exact (name_of_methodNamed B.named B.method).1) hK hW ?_ ?_ _ hl
  · intro r H locs pc ls hres hX hn9 hdg
    exact vx_ret (W.zret (v := r) (ty := ty) hx hb hr hn9 (fun t ht hW9 => ⟨r, hres, rfl, by rw [ht]; exact hX.1, hX.2.1, hX.2.2.F ht⟩) hX.2.2.2.2 hdg hlocks)
  · intro q H locs pc ls rest hres h5 hX
    obtain ⟨ce, g1, g2, g3, -⟩ := hX.1.obj (ci := 4) h5 (by decide) rfl
    exact vx_out (fun x hx => (hT0 x hx).elim) hlocks g1 g3 (by rw [g2]; exact (hK.1.1 4 _ rfl).2.1) (fun t ht hA => ⟨hres, rfl, h5, by rw [ht]; exact hX.1, hX.2.1, hX.2.2.F ht⟩) hX.2.2.2.2 (Nat.le_refl _) (Nat.le_refl _)
theorem metXr (l : Launch) {y : MethodName} {cc : ByteArray} {maxL : Nat} {rm : Room} {G : Gt} {h h1 : Hp} {vs : List Value} {res : Sum (Option Nat) Nat} {mc ms : Nat} (hy : plainName y.cls = true) (hn : (lg_sl vs).length ≤ maxL) {rt : FieldType} (hrt : (∃ n, rt = .object n) ∨ ∃ t, rt = .array t)
    (body : ∀ (p : Program) (e : Env) (s : State) (m : MethodId) (args : Array Value) (below : List Frame) (meth : Method) (c : Code) (Q : State → Prop), p.tables.exec = Jvm.exec → c.code = cc → (∀ w ∈ lw_all, w.before args s = true) → s.vm.findClass y.cls = some m.cls → s.methodNamed? y = some m → c.maxLocals = maxL → (y.name = "<init>" → meth.name = "<init>") → KK G s → XW G h s.heap →
      (∀ (r : Option Nat) (H : Heap) (locs : List Loc) (pc : Nat) (ls : Array Slot), res = .inl r → XX G h s.heap h1 H locs → decode cc pc = .ok (.areturn, 1) → W p l e rm s m args below meth c H locs mc ms Q (F0 m pc ls [va_rf r])) →
      (∀ (q : Nat) (H : Heap) (locs : List Loc) (pc : Nat) (ls : Array Slot) (rest : List Value), res = .inr q → hT h1 q = 5 → XX G h s.heap h1 H locs → vx_W p l e rm s m args below meth c H locs mc ms Q (F0 m pc ls rest) q) →
      ∀ ls : Array Slot, lv_has ls maxL (lv_args 0 vs) → W p l e rm s m args below meth c s.heap [] 0 0 Q (F0 m 0 ls [])) : vx_Met l y (ws_ y cc maxL (some rt)) rm (XP G vs h) (XQn G (fun r9 : Option Nat => some (va_rf r9)) res h h1) (XCn G res h h1) mc ms (fre h) := by
  refine vx_ofW (cc := cc) (maxL := maxL) (ret := (some rt)) hy rfl ?_
  intro p e s m args below meth c s₁ B hml hT0 hv
  obtain ⟨rfl, hK, hW⟩ := hv
  have hx := B.exec
  have hb := B.bytes
  have hr := B.returns
  have hlocks := B.notSynchronized
  have hts := atoms_spec (ws := ws_ y cc maxL (some rt)) B.pre
  have hl := lv_entry vs hn
  rw [lg_entry_eq]
  refine body p e s m _ below meth c _ hx hb (fun w h => hts w (List.mem_cons_of_mem _ h)) (findClass_of_methodNamed B.named) B.named hml (fun q => by rw [← q]; exact (name_of_methodNamed B.named B.method).1) hK hW ?_ ?_ _ hl
  · intro r H locs pc ls hres hX hdg
    exact vx_ret (W.aret (v := va_rf r) hx hb hr hrt (va_rf_or r) (fun t ht hW9 => ⟨r, hres, rfl, by rw [ht]; exact hX.1, hX.2.1, hX.2.2.F ht⟩) hX.2.2.2.2 hdg hlocks)
  · intro q H locs pc ls rest hres h5 hX
    obtain ⟨ce, g1, g2, g3, -⟩ := hX.1.obj (ci := 4) h5 (by decide) rfl
    exact vx_out (fun x hx => (hT0 x hx).elim) hlocks g1 g3 (by rw [g2]; exact (hK.1.1 4 _ rfl).2.1) (fun t ht hA => ⟨hres, rfl, h5, by rw [ht]; exact hX.1, hX.2.1, hX.2.2.F ht⟩) hX.2.2.2.2 (Nat.le_refl _) (Nat.le_refl _)
theorem metXv (l : Launch) {y : MethodName} {cc : ByteArray} {maxL : Nat} {rm : Room} {G : Gt} {h h1 : Hp} {vs : List Value} {res : Sum (Unit) Nat} {mc ms : Nat} (hy : plainName y.cls = true) (hn : (lg_sl vs).length ≤ maxL)
    (body : ∀ (p : Program) (e : Env) (s : State) (m : MethodId) (args : Array Value) (below : List Frame) (meth : Method) (c : Code) (Q : State → Prop), p.tables.exec = Jvm.exec → c.code = cc → (∀ w ∈ lw_all, w.before args s = true) → s.vm.findClass y.cls = some m.cls → s.methodNamed? y = some m → c.maxLocals = maxL → (y.name = "<init>" → meth.name = "<init>") → KK G s → XW G h s.heap →
      (∀ (r : Unit) (H : Heap) (locs : List Loc) (pc : Nat) (ls : Array Slot), res = .inl r → XX G h s.heap h1 H locs → decode cc pc = .ok (.return_, 1) → W p l e rm s m args below meth c H locs mc ms Q (F0 m pc ls [])) →
      (∀ (q : Nat) (H : Heap) (locs : List Loc) (pc : Nat) (ls : Array Slot) (rest : List Value), res = .inr q → hT h1 q = 5 → XX G h s.heap h1 H locs → vx_W p l e rm s m args below meth c H locs mc ms Q (F0 m pc ls rest) q) →
      ∀ ls : Array Slot, lv_has ls maxL (lv_args 0 vs) → W p l e rm s m args below meth c s.heap [] 0 0 Q (F0 m 0 ls [])) : vx_Met l y (ws_ y cc maxL none) rm (XP G vs h) (XQn G (fun _ : Unit => none) res h h1) (XCn G res h h1) mc ms (fre h) := by
  refine vx_ofW (cc := cc) (maxL := maxL) (ret := none) hy rfl ?_
  intro p e s m args below meth c s₁ B hml hT0 hv
  obtain ⟨rfl, hK, hW⟩ := hv
  have hx := B.exec
  have hb := B.bytes
  have hr := B.returns
  have hlocks := B.notSynchronized
  have hts := atoms_spec (ws := ws_ y cc maxL none) B.pre
  have hl := lv_entry vs hn
  rw [lg_entry_eq]
  refine body p e s m _ below meth c _ hx hb (fun w h => hts w (List.mem_cons_of_mem _ h)) (findClass_of_methodNamed B.named) B.named hml (fun q => by rw [← q]; exact (name_of_methodNamed B.named B.method).1) hK hW ?_ ?_ _ hl
  · intro r H locs pc ls hres hX hdg
    exact vx_ret (W.vret hx hb hr (fun t ht hW9 => ⟨r, hres, rfl, by rw [ht]; exact hX.1, hX.2.1, hX.2.2.F ht⟩) hX.2.2.2.2 hdg hlocks)
  · intro q H locs pc ls rest hres h5 hX
    obtain ⟨ce, g1, g2, g3, -⟩ := hX.1.obj (ci := 4) h5 (by decide) rfl
    exact vx_out (fun x hx => (hT0 x hx).elim) hlocks g1 g3 (by rw [g2]; exact (hK.1.1 4 _ rfl).2.1) (fun t ht hA => ⟨hres, rfl, h5, by rw [ht]; exact hX.1, hX.2.1, hX.2.2.F ht⟩) hX.2.2.2.2 (Nat.le_refl _) (Nat.le_refl _)
/-! methods with a handler for Fault -/
def bdH {α ρ : Type} (x : Option ((Sum α Nat × Hp) × Nat × Nat)) (k : α → Hp → Option (ρ × Nat × Nat)) (kh : Nat → Hp → Option (ρ × Nat × Nat)) : Option (ρ × Nat × Nat) := x.bind fun w => match w.1.1 with
  | .inl r => ad w.2.1 w.2.2 (k r w.1.2)
  | .inr q => ad w.2.1 w.2.2 (kh q w.1.2)
def bdHr {α ρ : Type} (r2 : Sum α Nat) (h2 : Hp) (mc ms : Nat) (k : α → Hp → Option (ρ × Nat × Nat)) (kh : Nat → Hp → Option (ρ × Nat × Nat)) (res : ρ) (qc qs : Nat) : Prop :=
  (∃ q c2 s2, r2 = .inr q ∧ kh q h2 = some (res, c2, s2) ∧ qc = mc + c2 ∧ qs = ms + s2) ∨ ∃ r c2 s2, r2 = .inl r ∧ k r h2 = some (res, c2, s2) ∧ qc = mc + c2 ∧ qs = ms + s2
theorem bdH_e {α ρ : Type} {x : Option ((Sum α Nat × Hp) × Nat × Nat)} {k : α → Hp → Option (ρ × Nat × Nat)} {kh : Nat → Hp → Option (ρ × Nat × Nat)} {res : ρ} {qc qs : Nat} (h : bdH x k kh = some (res, qc, qs)) : ∃ r2 h2 c1 s1, x = some ((r2, h2), c1, s1) ∧ c1 ≤ qc ∧ s1 ≤ qs ∧ bdHr r2 h2 c1 s1 k kh res qc qs := by
  obtain ⟨⟨⟨r2, h2⟩, c1, s1⟩, e1, e2⟩ := Option.bind_eq_some_iff.mp h
  cases r2 with
  | inl r =>
    obtain ⟨c2, s2, e3, e4, e5⟩ := ad_e e2
    have e4 : qc = c1 + c2 := e4
    have e5 : qs = s1 + s2 := e5
    exact ⟨_, _, _, _, e1, by omega, by omega, Or.inr ⟨r, c2, s2, rfl, e3, e4, e5⟩⟩
  | inr q =>
    obtain ⟨c2, s2, e3, e4, e5⟩ := ad_e e2
    have e4 : qc = c1 + c2 := e4
    have e5 : qs = s1 + s2 := e5
    exact ⟨_, _, _, _, e1, by omega, by omega, Or.inl ⟨q, c2, s2, rfl, e3, e4, e5⟩⟩
theorem bdH_s {α ρ : Type} {x : Option ((Sum α Nat × Hp) × Nat × Nat)} {k : α → Hp → Option (ρ × Nat × Nat)} {kh : Nat → Hp → Option (ρ × Nat × Nat)} {r : α} {h2 : Hp} {c s : Nat} (h : x = some ((.inl r, h2), c, s)) : bdH x k kh = ad c s (k r h2) := by rw [h]; rfl
theorem bdH_t {α ρ : Type} {x : Option ((Sum α Nat × Hp) × Nat × Nat)} {k : α → Hp → Option (ρ × Nat × Nat)} {kh : Nat → Hp → Option (ρ × Nat × Nat)} {q : Nat} {h2 : Hp} {c s : Nat} (h : x = some ((.inr q, h2), c, s)) : bdH x k kh = ad c s (kh q h2) := by rw [h]; rfl
section XTH
variable {p : Program} {l : Launch} {e : Env} {R : Room} {s : State} {m : MethodId} {args : Array Value} {below : List Frame} {meth : Method} {c : Code} {H : Heap} {locs : List Loc} {cells slots : Nat} {Q : State → Prop}
variable {pc : Nat} {ls : Array Slot} {rest st0 : List Value} {G : Gt} {h h0 : Hp} {H0 : Heap}
theorem x_doneH {α ρ : Type} {val : α → Option Value} {A : Array Value} {r2 : Sum α Nat} {h2 : Hp} {k : α → Hp → Option (ρ × Nat × Nat)} {kh : Nat → Hp → Option (ρ × Nat × Nat)} {res : ρ} {mc ms qc qs : Nat} (hr : vx_Run p l e R s m args below meth c H locs cells slots mc ms (F0 m pc ls st0) rest (XQn G val r2 h h2 A) (XCn G r2 h h2) (fre h)) (hX : XX G h0 H0 h H locs) (he : bdHr r2 h2 mc ms k kh res qc qs)
    (kx : ∀ q c2 s2, hT h2 q = 5 → (kh q h2 = some (res, c2, s2) ∧ qc = mc + c2 ∧ qs = ms + s2) → ∀ (H1 : Heap) (locs1 : List Loc), XX G h0 H0 h2 H1 locs1 → vx_W p l e R s m args below meth c H1 locs1 (cells + mc) (slots + ms) Q (F0 m pc ls rest) q)
    (kk : ∀ r c2 s2, (k r h2 = some (res, c2, s2) ∧ qc = mc + c2 ∧ qs = ms + s2) → ∀ (H1 : Heap) (locs1 : List Loc), XX G h0 H0 h2 H1 locs1 → W p l e R s m args below meth c H1 locs1 (cells + mc) (slots + ms) Q (F0 m (pc + 3) ls ((val r).toList ++ rest))) : W p l e R s m args below meth c H locs cells slots Q (F0 m pc ls st0) := by
  intro T hT X
  have mk : ∀ (st₀ t T' : State) (L : List Loc), st₀.heap = H → T'.heap = t.heap → (∀ q ∈ L, fre h q.base) → XW G h2 t.heap → Ext h h2 → va_F (fre h) st₀ t → XX G h0 H0 h2 T'.heap (locs ++ L) := by
    intro st₀ t T' L h0' e1 hL hw he hF
    obtain ⟨hz, hk⟩ := hF
    rw [h0'] at hz hk
    exact ⟨by rw [e1]; exact hw, hX.2.1.tr he, ⟨Nat.le_trans hX.2.2.1 (by rw [e1]; exact hz), fun q q1 q2 => by rw [e1, hk q (Nat.lt_of_lt_of_le q1 hX.2.2.1) (fun z => q2 (hX.2.1.fre z))]; exact hX.2.2.2.1 q q1 q2, fun q hq => by
      rcases List.mem_append.mp hq with z | z
      · exact hX.2.2.2.2 q z
      · exact hX.2.1.fre (hL q z)⟩⟩
  rcases hr T hT X with ⟨v, st₀, t, T', L, h0', X', hL, e1, e2, ⟨r, hr2, hv, hw, hex, hF⟩, st⟩ | ⟨q, st₀, t, T', L, E, ce, h0', X', hL, e1, e2, ⟨hr2, hE9, h59, hw, hex, hF⟩, hce, hcv, hcl, st⟩
  · cases hv
    rcases he with ⟨q, c2, s2, z1, -⟩ | ⟨r', c2, s2, z1, z2⟩
    · rw [hr2] at z1; cases z1
    · rw [hr2] at z1; cases z1
      obtain ⟨t2, a1, b1⟩ := kk r c2 s2 z2 T'.heap (locs ++ L) (mk st₀ t T' L h0' e1 hL hw hex hF) T' rfl X'
      exact ⟨t2, st t2 a1, b1⟩
  · rcases he with ⟨q', c2, s2, z1, z2⟩ | ⟨r', c2, s2, z1, -⟩
    · rw [hr2] at z1; cases z1
      obtain ⟨t2, a1, b1⟩ := kx q c2 s2 h59 z2 T'.heap (locs ++ L) (mk st₀ t T' L h0' e1 hL hw hex hF) T' rfl X'
      exact ⟨t2, st.trans a1, b1⟩
    · rw [hr2] at z1; cases z1
theorem x_catchF {own name : String} {q : Nat} {x : ExceptionTableEntry} (hown : s.vm.findClass own = some m.cls) (htab : c.exceptionTable.toList = [x]) (hx : covers x pc = true) (h9 : x.catchType ≠ 0) (hlink : (Cond.classLink own x.catchType name).before args s = true) (hcast : (Cond.castable RX4 name).before args s = true) (hK : KK G s) (hX : XX G h0 H0 h H locs) (ht : hT h q = 5)
    (kk : W p l e R s m args below meth c H locs cells slots Q (F0 m x.handlerPc ls [.ref q])) : vx_W p l e R s m args below meth c H locs cells slots Q (F0 m pc ls rest) q := by
  obtain ⟨ce, g1, g2, g3, -⟩ := hX.1.obj (ci := 4) ht (by decide) rfl
  exact vx_catch hown [] x [] htab (fun _ z => by cases z) hx h9 hlink hcast g1 g3 (by rw [g2]; exact (hK.1.1 4 _ rfl).2.1) kk
end XTH
theorem metHi (l : Launch) {y : MethodName} {cc : ByteArray} {maxL : Nat} {rm : Room} {G : Gt} {h h1 : Hp} {vs : List Value} {r : Int32} {mc ms : Nat} {hh : List (Nat × Nat × Nat × Nat)} (hy : plainName y.cls = true) (hn : (lg_sl vs).length ≤ maxL) {ty : FieldType}
    (body : ∀ (p : Program) (e : Env) (s : State) (m : MethodId) (args : Array Value) (below : List Frame) (meth : Method) (c : Code) (Q : State → Prop), p.tables.exec = Jvm.exec → c.code = cc → (∀ w ∈ lw_all, w.before args s = true) → s.vm.findClass y.cls = some m.cls → s.methodNamed? y = some m → c.maxLocals = maxL → (y.name = "<init>" → meth.name = "<init>") → KK G s → XW G h s.heap →
      (∀ (H : Heap) (locs : List Loc) (pc : Nat) (ls : Array Slot), XX G h s.heap h1 H locs → narrow ty (.int r) = .int r → decode cc pc = .ok (.ireturn, 1) → W p l e rm s m args below meth c H locs mc ms Q (F0 m pc ls [.int r])) → c.exceptionTable.toList = tableOf hh →
      ∀ ls : Array Slot, lv_has ls maxL (lv_args 0 vs) → W p l e rm s m args below meth c s.heap [] 0 0 Q (F0 m 0 ls [])) : vx_Met l y (wsW_ y cc maxL (some ty) hh) rm (XP G vs h) (XQ G (some (.int r)) h h1) (fun _ _ _ _ => False) mc ms (fre h) := by
  refine vx_ofWH (cc := cc) (maxL := maxL) (ret := (some ty)) (hh := hh) hy rfl ?_
  intro p e s m args below meth c s₁ B hml hv
  obtain ⟨rfl, hK, hW⟩ := hv
  have hx := B.exec
  have hb := B.bytes
  have hr := B.returns
  have hlocks := B.notSynchronized
  have hts := atoms_spec (ws := wsW_ y cc maxL (some ty) hh) B.pre
  have htab := vx_table (x := y) B (hts _ List.mem_cons_self)
  have hl := lv_entry vs hn
  rw [lg_entry_eq]
  refine body p e s m _ below meth c _ hx hb (fun w h => hts w (List.mem_cons_of_mem _ h)) (findClass_of_methodNamed B.named) B.named hml (fun q => by rw [← q]; exact (name_of_methodNamed B.named B.method).1) hK hW ?_ htab _ hl
  intro H locs pc ls hX hn9 hdg
  exact vx_ret (W.zret (v := r) (ty := ty) hx hb hr hn9 (fun t ht hW9 => ⟨rfl, by rw [ht]; exact hX.1, hX.2.1, hX.2.2.F ht⟩) hX.2.2.2.2 hdg hlocks)
