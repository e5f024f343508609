/-! further rows -/
theorem stk_eq {A rest X : List Value} {v : Value} {b : Nat} (hva : v = .ref b) (h : X = A ++ v :: rest) : X = A ++ .ref b :: rest := by rw [h, hva]
theorem cat_i (x : Int32) : (Value.int x).category = 1 := rfl
theorem cat_l (x : Int64) : (Value.long x).category = 2 := rfl
theorem cat_r (x : Nat) : (Value.ref x).category = 1 := rfl
theorem XX.re {G : Gt} {h0 h h1 : Hp} {H0 H : Heap} {locs : List Loc} (hX : XX G h0 H0 h H locs) (e : h1 = h) : XX G h0 H0 h1 H locs := by rw [e]; exact hX
theorem assg_self (vm : Vm) (c : ClassId) : vm.assignable c c = true := by unfold Vm.assignable; rw [Vm.assignableAux]; simp
theorem LamAt.cl {G : Gt} {s : State} {x : MethodName} {pc index : Nat} {σ : Lambda.Shape} {nm : String} {t : Nat} {one : Option Nat} (h : LamAt G s x pc index σ nm t one) : ∃ (i : ClassId) (k : Class), s.vm.findClass σ.iface = some i ∧ s.vm.assignable (gL G t) i = true ∧ s.vm.classes[gL G t]? = some k := by
  obtain ⟨m, k, cf, i0, p0, -, -, -, -, -, -, hmade, hcall⟩ := h
  obtain ⟨i, h1, h2, -⟩ := State.lambdaCallable_spec hcall
  obtain ⟨dk', kk, ok, tk, file, cf, object, iface, toy, lay, methods, target, found, hd', hk, -⟩ := Lambda.isMade_spec hmade
  exact ⟨i, kk, h1, h2, hk⟩
section XZ2
variable {p : Program} {l : Launch} {e : Env} {R : Room} {s : State} {m : MethodId} {args : Array Value} {below : List Frame} {meth : Method} {c : Code} {H : Heap} {locs : List Loc} {cells slots : Nat} {Q : State → Prop}
variable {cc : ByteArray} {pc nL : Nat} {ls : Array Slot} {rest : List Value} {G : Gt} {h h0 : Hp} {H0 : Heap} {a : Nat} {v : Value}
theorem x_aastN (hexec : p.tables.exec = Jvm.exec) (hb : c.code = cc) (hK : KK G s) (hX : XX G h0 H0 h H locs) (hva : v = .ref a) (t : Nat) (ht : hT h a = 100 + t) (ht9 : t < 100) (hk : kd (aTy t) = 2) (hr : (aTy t).isReference = true) (htt : (tysG G)[t]? = some (gL G (100 + t), aTy t)) {i : Int32} (hin : ¬ (i < 0 ∨ hN h a ≤ i.toNatClampNeg)) (hdg : decode cc pc = .ok (.aastore, 1))
    (kk : ∀ (H1 : Heap) (locs1 : List Loc), XX G h0 H0 (sR h a i.toNatClampNeg none) H1 locs1 → W p l e R s m args below meth c H1 locs1 cells slots Q (F0 m (pc + 1) ls rest)) : W p l e R s m args below meth c H locs cells slots Q (F0 m pc ls (va_rf none :: .int i :: v :: rest)) := by
  subst hva
  have hlt : i.toNatClampNeg < hN h a := Nat.not_le.mp fun q => hin (Or.inr q)
  have h0' : ¬ i < 0 := fun q => hin (Or.inl q)
  have hA := hX.1.arr ht ht9
  have htt : (tysG G)[t]? = some (gL G (100 + t), aTy t) := htt
  have h9 := (hK.1.2 t _ htt).2
  have hkd9 : ∃ (k : Class) (comp : ClassId), s.vm.classes[gL G (100 + t)]? = some k ∧ k.kind = .array comp (aTy t) := by
    have h8 := (hK.1.2 t _ htt).1 (hN h a) (fun j => hv (aTy t) h a j)
    obtain ⟨-, k, hk, comp, hkind⟩ := h8
    exact ⟨k, comp, hk, hkind⟩
  obtain ⟨k, comp, k1, k2⟩ := hkd9
  intro T hT X
  have hT' := hA
  rw [← hT] at hT'
  obtain ⟨X', st⟩ := X.aastoreNullIn hexec hT' (fun q h => by cases h) (fun h => by cases h) k1 k2 hr ⟨h0', by show _ < (arrV _ _ _).slots.size; rw [arrV_size]; exact hlt⟩ (g := F0 m pc ls (.null :: .int i :: .ref a :: rest)) rfl (rest := rest) rfl (by rw [hb]; exact hdg)
  have hl9 : a < T.heap.size := (Array.getElem?_eq_some_iff.mp hT').1
  obtain ⟨t', a1, b1⟩ := kk _ _ (hX.put (h1 := sR h a i.toNatClampNeg none) (k := i.toNatClampNeg) (by omega) rfl rfl rfl (fun _ _ q => rfl) (fun _ _ q => rfl) (fun _ _ q => hR_sR_ne q) (by rw [size_setCell, hT]) (fun q hq => by rw [heapAt_setCell_ne _ (Ne.symm hq), hT]) (by omega) (cOk.arr (t := t) ht ht9 (by
      rw [heapAt_setCell_self _ hl9, arrV_store]
      congr 2
      funext j
      rw [hv_sR (fun _ => hk)]
      by_cases hj : j = i.toNatClampNeg
      · subst hj
        simp [updV]
        rfl
      · simp [updV, hj]))) _ rfl X'
  exact ⟨t', st t' a1, b1⟩
theorem x_aastL (hG : XG G) (hexec : p.tables.exec = Jvm.exec) (hb : c.code = cc) (hK : KK G s) (hX : XX G h0 H0 h H locs) (hva : v = .ref a) (ht : hT h a = 105) {w : Value} {q i : Nat} (hwq : w = .ref q) (hi : i < 4) (hq : hT h q = 200 + i) {j : Int32} (hin : ¬ (j < 0 ∨ hN h a ≤ j.toNatClampNeg)) (hdg : decode cc pc = .ok (.aastore, 1))
    (kk : ∀ (H1 : Heap) (locs1 : List Loc), XX G h0 H0 (sR h a j.toNatClampNeg (some q)) H1 locs1 → W p l e R s m args below meth c H1 locs1 cells slots Q (F0 m (pc + 1) ls rest)) : W p l e R s m args below meth c H locs cells slots Q (F0 m pc ls (w :: .int j :: v :: rest)) := by
  subst hwq
  have hl : ∃ (i : ClassId) (k : Class), s.vm.findClass "PromiseTries$Holds" = some i ∧ s.vm.assignable (gL G (hT h q)) i = true ∧ s.vm.classes[gL G (hT h q)]? = some k := by
    have hk := (hG.k hK).2.2.2
    rcases (show hT h q = 200 ∨ hT h q = 201 ∨ hT h q = 202 ∨ hT h q = 203 by omega) with e | e | e | e
    · rw [e]; exact hk.1.cl
    · rw [e]; exact hk.2.1.cl
    · rw [e]; exact hk.2.2.1.cl
    · rw [e]; exact hk.2.2.2.1.cl
  obtain ⟨ci, kv, f1, f2, f3⟩ := hl
  obtain ⟨-, -, -, c3, -, -⟩ := hX.1.2.2.2 q (by omega)
  have g1 := c3 (by omega) (by omega)
  obtain ⟨kA, comp, k1, k2, k3, -⟩ := (hK.1.2 5 _ rfl).2
  have e9 : comp = ci := Option.some.inj (k3.symm.trans f1)
  subst e9
  obtain ⟨kc, hkc, -⟩ := Vm.findClass_spec k3
  exact x_aast hexec hb hK hX hva 5 ht (by decide) rfl rfl k1 k2 hkc g1 rfl f3 f2 hin hdg kk
theorem x_aastL' (hG : XG G) (hexec : p.tables.exec = Jvm.exec) (hb : c.code = cc) (hK : KK G s) (hX : XX G h0 H0 h H locs) (hva : v = .ref a) (ht : hT h a = 105) {w : Value} {q : Nat} (hwq : w = .ref q) (hq : 200 ≤ hT h q ∧ hT h q < 204) {j : Int32} (hin : ¬ (j < 0 ∨ hN h a ≤ j.toNatClampNeg)) (hdg : decode cc pc = .ok (.aastore, 1))
    (kk : ∀ (H1 : Heap) (locs1 : List Loc), XX G h0 H0 (sR h a j.toNatClampNeg (some q)) H1 locs1 → W p l e R s m args below meth c H1 locs1 cells slots Q (F0 m (pc + 1) ls rest)) : W p l e R s m args below meth c H locs cells slots Q (F0 m pc ls (w :: .int j :: v :: rest)) :=
  x_aastL hG hexec hb hK hX hva ht hwq (i := hT h q - 200) (by omega) (by omega) hin hdg kk
theorem x_aastC (hG : XG G) (hexec : p.tables.exec = Jvm.exec) (hb : c.code = cc) (hK : KK G s) (hX : XX G h0 H0 h H locs) (hva : v = .ref a) (ht : hT h a = 109) {w : Value} {q : Nat} (hwq : w = .ref q) (hq : 304 ≤ hT h q ∧ hT h q < 307) {j : Int32} (hin : ¬ (j < 0 ∨ hN h a ≤ j.toNatClampNeg)) (hdg : decode cc pc = .ok (.aastore, 1))
    (kk : ∀ (H1 : Heap) (locs1 : List Loc), XX G h0 H0 (sR h a j.toNatClampNeg (some q)) H1 locs1 → W p l e R s m args below meth c H1 locs1 cells slots Q (F0 m (pc + 1) ls rest)) : W p l e R s m args below meth c H locs cells slots Q (F0 m pc ls (w :: .int j :: v :: rest)) := by
  subst hwq
  have hl : ∃ (i : ClassId) (k : Class), s.vm.findClass "PromiseTries$Cells" = some i ∧ s.vm.assignable (gL G (hT h q)) i = true ∧ s.vm.classes[gL G (hT h q)]? = some k := by
    have hk := (hG.k hK).2.2.2
    rcases (show hT h q = 304 ∨ hT h q = 305 ∨ hT h q = 306 by omega) with e | e | e
    · rw [e]; exact hk.2.2.2.2.1.cl
    · rw [e]; exact hk.2.2.2.2.2.1.cl
    · rw [e]; exact hk.2.2.2.2.2.2.1.cl
  obtain ⟨ci, kv, f1, f2, f3⟩ := hl
  obtain ⟨-, -, -, -, c4, -⟩ := hX.1.2.2.2 q (by omega)
  obtain ⟨cell, g1, g2, g3⟩ := c4 (by omega) (by omega)
  obtain ⟨kA, comp, k1, k2, k3, -⟩ := (hK.1.2 9 _ rfl).2
  have e9 : comp = ci := Option.some.inj (k3.symm.trans f1)
  subst e9
  obtain ⟨kc, hkc, -⟩ := Vm.findClass_spec k3
  exact x_aast hexec hb hK hX hva 9 ht (by decide) rfl rfl k1 k2 hkc g1 (by rw [g2]; rfl) (by rw [g3]; exact f3) (by rw [g3]; exact f2) hin hdg kk
theorem x_aastI (hG : XG G) (hexec : p.tables.exec = Jvm.exec) (hb : c.code = cc) (hK : KK G s) (hX : XX G h0 H0 h H locs) (hva : v = .ref a) (ht : hT h a = 110) {w : Value} {q : Nat} (hwq : w = .ref q) (hq : hT h q = 100) {j : Int32} (hin : ¬ (j < 0 ∨ hN h a ≤ j.toNatClampNeg)) (hdg : decode cc pc = .ok (.aastore, 1))
    (kk : ∀ (H1 : Heap) (locs1 : List Loc), XX G h0 H0 (sR h a j.toNatClampNeg (some q)) H1 locs1 → W p l e R s m args below meth c H1 locs1 cells slots Q (F0 m (pc + 1) ls rest)) : W p l e R s m args below meth c H locs cells slots Q (F0 m pc ls (w :: .int j :: v :: rest)) := by
  subst hwq
  have h9 := (hK.1.2 10 _ rfl).2
  obtain ⟨comp, c9, kA, h1, h2, h3, h4, h5⟩ := arrayOverA_spec (hG.k hK).2.1.2.1
  have e1 : c9 = gL G 110 := Option.some.inj (h5.symm.trans (show s.vm.findClass ("[" ++ (FieldType.array .int).toString) = some (gL G 110) from h9))
  have e2 : comp = gL G 100 := Option.some.inj (h1.symm.trans (show s.vm.findClass ("[" ++ FieldType.int.toString) = some (gL G 100) from (hK.1.2 0 _ rfl).2))
  subst e1; subst e2
  have h8 := (hK.1.2 0 _ rfl).1 0 (fun _ => .null)
  obtain ⟨-, k0, hk0, comp0, hkind0⟩ := h8
  have hA0 := hX.1.arr (t := 0) hq (by decide)
  exact x_aast hexec hb hK hX hva 10 ht (by decide) rfl rfl h3 h4 hk0 hA0 rfl hk0 (assg_self _ _) hin hdg kk
end XZ2
