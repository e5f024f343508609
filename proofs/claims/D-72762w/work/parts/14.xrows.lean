/-! more rows over the plain heap: references, new cells, copies -/
section XS
variable {p : Program} {l : Launch} {e : Env} {R : Room} {s : State} {m : MethodId} {args : Array Value} {below : List Frame} {meth : Method} {c : Code} {H : Heap} {locs : List Loc} {cells slots : Nat} {Q : State → Prop}
variable {cc : ByteArray} {pc : Nat} {ls : Array Slot} {rest : List Value} {G : Gt} {h h0 : Hp} {H0 : Heap} {a : Nat} {v : Value}
theorem lx_aload_n (hexec : p.tables.exec = Jvm.exec) (hb : c.code = cc) {k : Fin 4} {i : Nat} {r : Option Nat} (hdg : decode cc pc = .ok (.aload_n k, 1)) (hi : (k : Nat) = i) (hl : ls[i]? = some (.val (va_rf r)))
    (kk : W p l e R s m args below meth c H locs cells slots Q (F0 m (pc + 1) ls (va_rf r :: rest))) : W p l e R s m args below meth c H locs cells slots Q (F0 m pc ls rest) := by
  cases r with
  | none => exact lv_aload_nN hexec hb hdg hi hl kk
  | some x => exact lv_aload_n hexec hb hdg hi hl kk
theorem lx_aload (hexec : p.tables.exec = Jvm.exec) (hb : c.code = cc) {i : Nat} {r : Option Nat} (hdg : decode cc pc = .ok (.aload i, 2)) (hl : ls[i]? = some (.val (va_rf r)))
    (kk : W p l e R s m args below meth c H locs cells slots Q (F0 m (pc + 2) ls (va_rf r :: rest))) : W p l e R s m args below meth c H locs cells slots Q (F0 m pc ls rest) := by
  cases r with
  | none => exact lv_aloadN hexec hb hdg hl kk
  | some x => exact lv_aload hexec hb hdg hl kk
theorem lx_astore_n (hexec : p.tables.exec = Jvm.exec) (hb : c.code = cc) {k : Fin 4} {i nL : Nat} {r : Option Nat} {lv lv' : List (Nat × Value)} (hdg : decode cc pc = .ok (.astore_n k, 1)) (hi : (k : Nat) = i) (h : lv_has ls nL lv) (hn : i < nL) (hl : (i, va_rf r) :: lv.filter (fun q => !(q.1 == i) && !(q.1 + 1 == i && q.2.category == 2)) = lv')
    (kk : ∀ ls : Array Slot, lv_has ls nL lv' → W p l e R s m args below meth c H locs cells slots Q (F0 m (pc + 1) ls rest)) : W p l e R s m args below meth c H locs cells slots Q (F0 m pc ls (va_rf r :: rest)) := by
  cases r with
  | none => exact lv_astore_nN hexec hb hdg hi h hn hl kk
  | some x => exact lv_astore_n hexec hb hdg hi h hn hl kk
theorem lx_astore (hexec : p.tables.exec = Jvm.exec) (hb : c.code = cc) {i nL : Nat} {r : Option Nat} {lv lv' : List (Nat × Value)} (hdg : decode cc pc = .ok (.astore i, 2)) (h : lv_has ls nL lv) (hn : i < nL) (hl : (i, va_rf r) :: lv.filter (fun q => !(q.1 == i) && !(q.1 + 1 == i && q.2.category == 2)) = lv')
    (kk : ∀ ls : Array Slot, lv_has ls nL lv' → W p l e R s m args below meth c H locs cells slots Q (F0 m (pc + 2) ls rest)) : W p l e R s m args below meth c H locs cells slots Q (F0 m pc ls (va_rf r :: rest)) := by
  cases r with
  | none => exact lv_astoreN hexec hb hdg h hn hl kk
  | some x => exact lv_astore hexec hb hdg h hn hl kk
theorem lx_null (hexec : p.tables.exec = Jvm.exec) (hb : c.code = cc) (hdg : decode cc pc = .ok (.aconst_null, 1)) (k : W p l e R s m args below meth c H locs cells slots Q (F0 m (pc + 1) ls (va_rf none :: rest))) : W p l e R s m args below meth c H locs cells slots Q (F0 m pc ls rest) := lv_null hexec hb hdg k
theorem lx_ifnull (hexec : p.tables.exec = Jvm.exec) (hb : c.code = cc) {r : Option Nat} {off : Int} {tgt : Nat} (hdg : decode cc pc = .ok (.ifnull off, 3)) (ht : (pc : Int) + off = (tgt : Int)) (kt : r = none → W p l e R s m args below meth c H locs cells slots Q (F0 m tgt ls rest)) (kf : ¬ r = none → W p l e R s m args below meth c H locs cells slots Q (F0 m (pc + 3) ls rest)) : W p l e R s m args below meth c H locs cells slots Q (F0 m pc ls (va_rf r :: rest)) := by
  cases r with
  | none => exact lv_ifnullN hexec hb hdg ht (kt rfl)
  | some x => exact lv_ifnull hexec hb hdg (kf (fun q => by cases q))
theorem lx_ifnonnull (hexec : p.tables.exec = Jvm.exec) (hb : c.code = cc) {r : Option Nat} {off : Int} {tgt : Nat} (hdg : decode cc pc = .ok (.ifnonnull off, 3)) (ht : (pc : Int) + off = (tgt : Int)) (kt : ¬ r = none → W p l e R s m args below meth c H locs cells slots Q (F0 m tgt ls rest)) (kf : r = none → W p l e R s m args below meth c H locs cells slots Q (F0 m (pc + 3) ls rest)) : W p l e R s m args below meth c H locs cells slots Q (F0 m pc ls (va_rf r :: rest)) := by
  cases r with
  | none => exact lv_ifnonnullN hexec hb hdg (kf rfl)
  | some x => exact lv_ifnonnull hexec hb hdg ht (kt (fun q => by cases q))
theorem rf_cat (r : Option Nat) : (va_rf r).category = 1 := by cases r <;> rfl
theorem fits_rfO (C : String) (r : Option Nat) : fits (.object C) (va_rf r) = true := by cases r <;> rfl
theorem fits_rfA (t : FieldType) (r : Option Nat) : fits (.array t) (va_rf r) = true := by cases r <;> rfl
theorem narrow_rfO (C : String) (r : Option Nat) : narrow (.object C) (va_rf r) = va_rf r := by cases r <;> rfl
theorem narrow_rfA (t : FieldType) (r : Option Nat) : narrow (.array t) (va_rf r) = va_rf r := by cases r <;> rfl
/-- a new cell's contents -/
theorem hv_nw (t : FieldType) (h : Hp) (tg n k : Nat) (ht : kd t = 0 ∧ defaultValue t = .int 0 ∨ kd t = 1 ∧ defaultValue t = .long 0 ∨ kd t = 2 ∧ defaultValue t = .null) : hv t (nw h tg n) (hZ h) k = defaultValue t := by
  rcases ht with ⟨e, d⟩ | ⟨e, d⟩ | ⟨e, d⟩
  · rw [hv_int e, d]; show Value.int (if hZ h = hZ h then 0 else _) = _; rw [if_pos rfl]
  · rw [hv_long e, d]; show Value.long (if hZ h = hZ h then 0 else _) = _; rw [if_pos rfl]
  · rw [hv_ref e, d]; show va_rf (if hZ h = hZ h then none else _) = _; rw [if_pos rfl]; rfl
theorem nw_T (h : Hp) (tg n : Nat) : hT (nw h tg n) (hZ h) = tg := by show (if hZ h = hZ h then tg else _) = _; rw [if_pos rfl]
theorem nw_N (h : Hp) (tg n : Nat) : hN (nw h tg n) (hZ h) = n := by show (if hZ h = hZ h then n else _) = _; rw [if_pos rfl]
theorem x_new (hexec : p.tables.exec = Jvm.exec) (hb : c.code = cc) {own C : String} {T : u_T} {N ci index : Nat} (hts : ∀ w ∈ lw_all, w.before args s = true) (hin : ∀ w ∈ u_ws C T N, w ∈ lw_all) (hown : s.vm.findClass own = some m.cls) (hcl : (Cond.classLink own index C) ∈ lw_all) (hinst : (Cond.instantiable C N) ∈ lw_all) (hini : (Cond.initialized C) ∈ lw_all)
    (hK : KK G s) (hX : XX G h0 H0 h H locs) (hci : ci < 99) (hc : vwCl[ci]? = some (C, T, N)) (hty : ∀ k, k < N → parseFieldDescriptor (T k).2.2.1 = some (fTy ci k)) (hd : ∀ k, k < N → (kd (fTy ci k) = 0 ∧ defaultValue (fTy ci k) = .int 0 ∨ kd (fTy ci k) = 1 ∧ defaultValue (fTy ci k) = .long 0 ∨ kd (fTy ci k) = 2 ∧ defaultValue (fTy ci k) = .null)) (hcells : cells + 1 ≤ R.cells) (hslots : slots + N ≤ R.slots) (hdg : decode cc pc = .ok (.new index, 3))
    (kk : ∀ (H1 : Heap), XX G h0 H0 (nw h (ci + 1) 0) H1 locs → W p l e R s m args below meth c H1 locs (cells + 1) (slots + N) Q (F0 m (pc + 3) ls (.ref (hZ h) :: rest))) : W p l e R s m args below meth c H locs cells slots Q (F0 m pc ls rest) := by
  have hKn := hK.1.1 ci _ hc
  have eZ := hX.1.1
  refine W.newcK hexec hb hown (hts _ hcl) (hts _ hinst) (hts _ hini) rfl hdg hcells hslots hKn.2.1 eZ.symm fun H1 kC hkC e1 z1 o1 => ?_
  refine kk H1 (hX.new (Nat.succ_ne_zero _) (by rw [z1, eZ]) (fun q hq => o1 q (by rw [eZ]; exact hq)) ?_)
  rw [← eZ]
  refine cOk.obj (nw_T h _ _) hci hc ?_
  refine t_OB.to (V := fun k => defaultValue (fTy ci k)) ?_ (fun k hk => (hv_nw _ h _ _ k (hd k hk)).symm)
  exact u_born (fun k => fTy ci k) hts hin hKn hkC e1 hty
theorem x_newa (hexec : p.tables.exec = Jvm.exec) (hb : c.code = cc) {atype : ArrayType} {t : Nat} (harr : (Cond.arrayClass (newarray.typeOf atype)).before args s = true) (hty : newarray.typeOf atype = aTy t) (ht9 : t < 100) (hK : KK G s) (hX : XX G h0 H0 h H locs) (htt : (tysG G)[t]? = some (gL G (100 + t), aTy t)) (hra : va_RA s (gL G (100 + t)) (aTy t) → s.vm.findClass ("[" ++ (aTy t).toString) = some (gL G (100 + t))) (hd : kd (aTy t) = 0 ∧ defaultValue (aTy t) = .int 0 ∨ kd (aTy t) = 1 ∧ defaultValue (aTy t) = .long 0 ∨ kd (aTy t) = 2 ∧ defaultValue (aTy t) = .null)
    {n : Int32} (hn : ¬ n < 0) (hbytes : n.toNatClampNeg * componentBytes (aTy t) ≤ 536870912) (hcells : cells + 1 ≤ R.cells) (hslots : slots + n.toNatClampNeg ≤ R.slots) (hdg : decode cc pc = .ok (.newarray atype, 2))
    (kk : ∀ (H1 : Heap), XX G h0 H0 (nw h (100 + t) n.toNatClampNeg) H1 locs → W p l e R s m args below meth c H1 locs (cells + 1) (slots + n.toNatClampNeg) Q (F0 m (pc + 2) ls (.ref (hZ h) :: rest))) : W p l e R s m args below meth c H locs cells slots Q (F0 m pc ls (.int n :: rest)) := by
  have eZ := hX.1.1
  refine va_newaK hexec hb harr rfl hdg rfl hn rfl (by rw [hty]; exact hbytes) hcells hslots eZ.symm fun H1 cA e1 z1 o1 hAr hNm => ?_
  have hcA : cA = gL G (100 + t) := by
    have := hra (hK.1.2 t _ htt).2
    rw [hty] at hNm
    exact Option.some.inj (hNm.symm.trans this)
  refine kk H1 (hX.new (by omega) (by rw [z1, eZ]) (fun q hq => o1 q (by rw [eZ]; exact hq)) ?_)
  rw [← eZ]
  refine cOk.arr (nw_T h _ _) ht9 ?_
  rw [e1, hcA, nw_N]
  congr 2
  funext j
  rw [hv_nw _ h _ _ j hd, hty]
theorem x_newq (hexec : p.tables.exec = Jvm.exec) (hb : c.code = cc) {own C : String} {index t : Nat} (hown : s.vm.findClass own = some m.cls) (hclink : (Cond.classLink own index C).before args s = true) (hover : va_AO C s) (hty : aTy t = .object C) (ht9 : t < 100) (hK : KK G s) (hX : XX G h0 H0 h H locs) (htt : (tysG G)[t]? = some (gL G (100 + t), aTy t))
    {n : Int32} (hn : ¬ n < 0) (hbytes : n.toNatClampNeg * 4 ≤ 536870912) (hcells : cells + 1 ≤ R.cells) (hslots : slots + n.toNatClampNeg ≤ R.slots) (hdg : decode cc pc = .ok (.anewarray index, 3))
    (kk : ∀ (H1 : Heap), XX G h0 H0 (nw h (100 + t) n.toNatClampNeg) H1 locs → W p l e R s m args below meth c H1 locs (cells + 1) (slots + n.toNatClampNeg) Q (F0 m (pc + 3) ls (.ref (hZ h) :: rest))) : W p l e R s m args below meth c H locs cells slots Q (F0 m pc ls (.int n :: rest)) := by
  have eZ := hX.1.1
  refine W.anew hexec hb hown hclink (va_AO.use hover) rfl hdg rfl hn hbytes hcells hslots fun cA kA comp f1 f2 f3 f4 => ?_
  have hcA : cA = gL G (100 + t) := by
    have := (hK.1.2 t _ htt).2
    rw [hty] at this
    obtain ⟨_, _, -, -, -, q⟩ := this
    exact Option.some.inj (f1.symm.trans q)
  generalize hH1 : H.push ({ cls := cA, slots := Array.replicate n.toNatClampNeg .null, vm := .none } : Cell) = H1
  have z1 : H1.size = H.size + 1 := by rw [← hH1, Array.size_push]
  have e1 : H1[H.size]? = some (arrV cA n.toNatClampNeg (fun _ => .null)) := by rw [← hH1, Array.getElem?_push_size, ← arrV_new]
  rw [← eZ]
  refine kk H1 (hX.new (by omega) z1 (fun q hq => by rw [← hH1, Array.getElem?_push, if_neg (Nat.ne_of_lt hq)]) ?_)
  rw [← eZ] at e1 ⊢
  refine cOk.arr (nw_T h _ _) ht9 ?_
  rw [e1, hcA, nw_N]
  congr 2
  funext j
  rw [hv_nw _ h _ _ j (by rw [hty]; exact Or.inr (Or.inr ⟨rfl, rfl⟩)), hty]
  rfl
theorem x_newqA (hexec : p.tables.exec = Jvm.exec) (hb : c.code = cc) {own : String} {ty : FieldType} {index t : Nat} (hown : s.vm.findClass own = some m.cls) (hclink : (Cond.classLink own index (FieldType.array ty).toString).before args s = true) (hover : (Cond.arrayOver (.array ty)).before args s = true) (hty : aTy t = .array ty) (ht9 : t < 100) (hK : KK G s) (hX : XX G h0 H0 h H locs) (htt : (tysG G)[t]? = some (gL G (100 + t), aTy t))
    {n : Int32} (hn : ¬ n < 0) (hbytes : n.toNatClampNeg * 4 ≤ 536870912) (hcells : cells + 1 ≤ R.cells) (hslots : slots + n.toNatClampNeg ≤ R.slots) (hdg : decode cc pc = .ok (.anewarray index, 3))
    (kk : ∀ (H1 : Heap), XX G h0 H0 (nw h (100 + t) n.toNatClampNeg) H1 locs → W p l e R s m args below meth c H1 locs (cells + 1) (slots + n.toNatClampNeg) Q (F0 m (pc + 3) ls (.ref (hZ h) :: rest))) : W p l e R s m args below meth c H locs cells slots Q (F0 m pc ls (.int n :: rest)) := by
  have eZ := hX.1.1
  refine W.anewA hexec hb hown hclink hover rfl hdg rfl hn hbytes hcells hslots fun cA kA comp f1 f2 f3 f4 => ?_
  have hcA : cA = gL G (100 + t) := by
    have := (hK.1.2 t _ htt).2
    rw [hty] at this
    exact Option.some.inj (f1.symm.trans this)
  generalize hH1 : H.push ({ cls := cA, slots := Array.replicate n.toNatClampNeg .null, vm := .none } : Cell) = H1
  have z1 : H1.size = H.size + 1 := by rw [← hH1, Array.size_push]
  have e1 : H1[H.size]? = some (arrV cA n.toNatClampNeg (fun _ => .null)) := by rw [← hH1, Array.getElem?_push_size, ← arrV_new]
  rw [← eZ]
  refine kk H1 (hX.new (by omega) z1 (fun q hq => by rw [← hH1, Array.getElem?_push, if_neg (Nat.ne_of_lt hq)]) ?_)
  rw [← eZ] at e1 ⊢
  refine cOk.arr (nw_T h _ _) ht9 ?_
  rw [e1, hcA, nw_N]
  congr 2
  funext j
  rw [hv_nw _ h _ _ j (by rw [hty]; exact Or.inr (Or.inr ⟨rfl, rfl⟩)), hty]
  rfl
/-- a reference into an array of references -/
theorem x_aast (hexec : p.tables.exec = Jvm.exec) (hb : c.code = cc) (hK : KK G s) (hX : XX G h0 H0 h H locs) (hva : v = .ref a) (t : Nat) (ht : hT h a = 100 + t) (ht9 : t < 100) (hk : kd (aTy t) = 2) (hr : (aTy t).isReference = true) {q : Nat} {kA kcomp kv : Class} {comp : ClassId} {cv : Cell} (k1 : s.vm.classes[gL G (100 + t)]? = some kA) (k2 : kA.kind = .array comp (aTy t)) (k3 : s.vm.classes[comp]? = some kcomp) (g1 : H[q]? = some cv) (g2 : cv.vm.isStatics = false) (g3 : s.vm.classes[cv.cls]? = some kv) (g4 : s.vm.assignable cv.cls comp = true) {i : Int32} (hin : ¬ (i < 0 ∨ hN h a ≤ i.toNatClampNeg)) (hdg : decode cc pc = .ok (.aastore, 1))
    (kk : ∀ (H1 : Heap) (locs1 : List Loc), XX G h0 H0 (sR h a i.toNatClampNeg (some q)) H1 locs1 → W p l e R s m args below meth c H1 locs1 cells slots Q (F0 m (pc + 1) ls rest)) : W p l e R s m args below meth c H locs cells slots Q (F0 m pc ls (.ref q :: .int i :: v :: rest)) := by
  subst hva
  have hlt : i.toNatClampNeg < hN h a := Nat.not_le.mp fun q => hin (Or.inr q)
  have h0' : ¬ i < 0 := fun q => hin (Or.inl q)
  have hA := hX.1.arr ht ht9
  refine W.aast hexec hb hA (fun q h => by cases h) (fun h => by cases h) k1 k2 hr k3 ⟨h0', by show _ < (arrV _ _ _).slots.size; rw [arrV_size]; exact hlt⟩ g1 (fun q h => by rw [h] at g2; cases g2) g3 g4 rfl rfl hdg fun H1 e z oq => ?_
  refine kk H1 _ (hX.put (by omega) rfl rfl rfl (fun _ _ q => rfl) (fun _ _ q => rfl) (fun _ _ q => hR_sR_ne q) z oq (by omega) (cOk.arr (t := t) ht ht9 ?_))
  rw [e, arrV_store]
  congr 2
  funext j
  rw [hv_sR (fun _ => hk)]
  by_cases hj : j = i.toNatClampNeg
  · subst hj
    simp [updV]
    rfl
  · simp [updV, hj]
/-- System.arraycopy between arrays of ints (or of bytes) -/
def cpI (h : Hp) (a0 sp a dp n : Nat) : Hp := (hT h, hN h, fun b k => if b = a ∧ dp ≤ k ∧ k < dp + n then hI h a0 (sp + (k - dp)) else hI h b k, hL h, hR h, hZ h)
theorem x_copy (hexec : p.tables.exec = Jvm.exec) (hb : c.code = cc) (hml : c.maxLocals = ls.size) {own : String} {index : Nat} (hown : s.vm.findClass own = some m.cls) (hlink : (Cond.methodLink own index arraycopyName).before args s = true) (hnat : (Cond.native arraycopyName).before args s = true) (hstat : (Cond.static arraycopyName).before args s = true) (hini : (Cond.initialized "java/lang/System").before args s = true)
    (hK : KK G s) (hX : XX G h0 H0 h H locs) {a0 : Nat} {v0 : Value} (hva : v = .ref a) (hv0 : v0 = .ref a0) (t : Nat) (ht0 : hT h a0 = 100 + t) (ht : hT h a = 100 + t) (ht9 : t < 100) (hkd : kd (aTy t) = 0) (hprim : refKind (aTy t) = false) (htt : (tysG G)[t]? = some (gL G (100 + t), aTy t))
    {sp dp n : Int32} (h1 : ¬ sp < 0) (h2 : ¬ dp < 0) (h3 : ¬ n < 0) (h4 : sp.toNatClampNeg + n.toNatClampNeg ≤ hN h a0) (h5 : dp.toNatClampNeg + n.toNatClampNeg ≤ hN h a) (hfit : ∀ i, i < n.toNatClampNeg → fits (aTy t) (.int (hI h a0 (sp.toNatClampNeg + i))) = true)
    (hframes : 1 ≤ R.frames) (hlocals : (rest.map fun v => v.category).sum + (nativeFrameWords "java/lang/System" "arraycopy" 5 + 11) ≤ R.locals) (hdg : decode cc pc = .ok (.invokestatic index, 3))
    (kk : ∀ (H1 : Heap) (locs1 : List Loc), XX G h0 H0 (cpI h a0 sp.toNatClampNeg a dp.toNatClampNeg n.toNatClampNeg) H1 locs1 → W p l e R s m args below meth c H1 locs1 cells slots Q (F0 m (pc + 3) ls rest)) : W p l e R s m args below meth c H locs cells slots Q (F0 m pc ls (.int n :: .int dp :: v :: .int sp :: v0 :: rest)) := by
  subst hva; subst hv0
  have nn : ∀ z : Int32, ¬ z < 0 → z.toInt = (z.toNatClampNeg : Int) := by
    intro z hz
    have hz0 : (0 : Int) ≤ z.toInt := by
      have := Int32.not_lt.mp hz
      simpa using Int32.le_iff_toInt_le.mp this
    show z.toInt = ((z.toInt.toNat : Nat) : Int)
    omega
  intro T hT X
  have hvi : ∀ b, (fun j => hv (aTy t) h b j) = (fun j => Value.int (hI h b j)) := fun b => by funext j; exact hv_int hkd
  have hc0 : H[a0]? = some (vp_cell (gL G (100 + t)) (hN h a0, .inl (hI h a0))) := by rw [hX.1.arr ht0 ht9, hvi, vp_cell_i]
  have hc1 : H[a]? = some (vp_cell (gL G (100 + t)) (hN h a, .inl (hI h a))) := by rw [hX.1.arr ht ht9, hvi, vp_cell_i]
  obtain ⟨-, k0, hk0, cm0, hkk0⟩ := (hK.1.2 t _ htt).1 (hN h a0) (fun j => .int (hI h a0 j))
  obtain ⟨vm', X', step⟩ := X.arraycopy hexec hown hlink hnat hstat hini (src := a0) (dst := a) (cs := vp_cell (gL G (100 + t)) (hN h a0, .inl (hI h a0))) (cd := vp_cell (gL G (100 + t)) (hN h a, .inl (hI h a))) (srcPos := sp) (destPos := dp) (n := n) (by rw [hT]; exact hc0) (by rw [hT]; exact hc1)
    (fun _ h => by cases h) (fun _ h => by cases h) (fun h => by cases h) (fun h => by cases h) hk0 hk0 hkk0 hkk0 (by simp [hprim]) h1 h2 h3
    (by rw [nn sp h1, nn n h3]; show ¬ _ > ((arrV (gL G (100 + t)) (hN h a0) (fun j => .int (hI h a0 j))).slots.size : Int); rw [arrV_size]; omega)
    (by rw [nn dp h2, nn n h3]; show ¬ _ > ((arrV (gL G (100 + t)) (hN h a) (fun j => .int (hI h a j))).slots.size : Int); rw [arrV_size]; omega)
    (fun vm₁ _ i hi => by
      have e : (vp_cell (gL G (100 + t)) (hN h a0, .inl (hI h a0))).slots.getD (sp.toNatClampNeg + i) .null = .int (hI h a0 (sp.toNatClampNeg + i)) := by
        show (arrV (gL G (100 + t)) (hN h a0) (fun j => .int (hI h a0 j))).slots.getD _ _ = _
        rw [Array.getD_eq_getD_getElem?, arrV_read _ _ (by omega)]
        rfl
      refine ⟨?_, ?_⟩
      · rw [e]
        exact hfit i hi
      · rw [e]
        exact trivial)
    (g := F0 m pc ls (.int n :: .int dp :: .ref a :: .int sp :: .ref a0 :: rest)) rfl (by rw [hml]) (rest := rest) rfl (by rw [hb]; exact hdg) hframes (by show 2 * 0 + _ + _ ≤ _; omega)
  have e1 : copied (vp_cell (gL G (100 + t)) (hN h a0, .inl (hI h a0))) (vp_cell (gL G (100 + t)) (hN h a, .inl (hI h a))) sp dp n = vp_cell (gL G (100 + t)) (hN h a, .inl (va_cpy (hI h a0) (hI h a) sp.toNatClampNeg dp.toNatClampNeg n.toNatClampNeg)) := va_copied (fun z => .int z) (gL G (100 + t)) (gL G (100 + t)) (hI h a0) (hI h a) h4
  rw [e1] at X' step
  have hl : a < H.size := (Array.getElem?_eq_some_iff.mp hc1).1
  generalize hce : vp_cell (gL G (100 + t)) (hN h a, .inl (va_cpy (hI h a0) (hI h a) sp.toNatClampNeg dp.toNatClampNeg n.toNatClampNeg)) = ce at X' step
  have hheap : ((T.setVm vm').setCell a ce).heap = H.setIfInBounds a ce := by rw [← hT]; rfl
  have oq : ∀ q : Nat, q ≠ a → (H.setIfInBounds a ce)[q]? = H[q]? := fun q hq => by simp [Array.getElem?_setIfInBounds, Ne.symm hq]
  have haf : fre h a := Or.inl ⟨by omega, by omega⟩
  have hX1 : XX G h0 H0 (cpI h a0 sp.toNatClampNeg a dp.toNatClampNeg n.toNatClampNeg) (H.setIfInBounds a ce) (locs ++ [⟨a, 0⟩]) := by
    refine hX.put (by omega) rfl rfl rfl (fun b k q => if_neg fun z => q z.1) (fun _ _ q => rfl) (fun _ _ q => rfl) (by simp) oq (by omega) (cOk.arr (t := t) ht ht9 ?_)
    rw [show (H.setIfInBounds a ce)[a]? = some ce by simp [Array.getElem?_setIfInBounds, hl], ← hce, vp_cell_i]
    congr 2
    funext j
    rw [hv_int hkd]
    show Value.int (va_cpy _ _ _ _ _ j) = Value.int (if _ then _ else _)
    unfold va_cpy
    by_cases hj : dp.toNatClampNeg ≤ j ∧ j < dp.toNatClampNeg + n.toNatClampNeg
    · rw [if_pos hj, if_pos ⟨rfl, hj⟩]
    · rw [if_neg hj, if_neg (fun q => hj q.2)]
  obtain ⟨t, a1, b1⟩ := kk _ _ ⟨hX1.1, hX1.2.1, hX1.2.2.1, hX1.2.2.2.1, fun q hq => by
      rcases List.mem_append.mp hq with z | z
      · exact hX.2.2.2.2 q z
      · obtain ⟨y, -, hy⟩ := List.mem_map.mp z
        rw [← hy]
        exact hX.2.1.fre haf⟩ _ hheap X'
  exact ⟨t, step t a1, b1⟩
/-- several new cells at once -/
theorem XX.grow {h1 : Hp} {H1 : Heap} (hX : XX G h0 H0 h H locs) (n : Nat) (eZ : hZ h1 = hZ h + n) (eT : ∀ b, b < hZ h → hT h1 b = hT h b) (eN : ∀ b, b < hZ h → hN h1 b = hN h b) (eI : ∀ b k, b < hZ h → hI h1 b k = hI h b k) (eL : ∀ b k, b < hZ h → hL h1 b k = hL h b k) (eR : ∀ b k, b < hZ h → hR h1 b k = hR h b k) (z : H1.size = H.size + n) (oq : ∀ q : Nat, q < H.size → H1[q]? = H[q]?) (hc : ∀ b, hZ h ≤ b → hT h1 b ≠ 0 → cOk G h1 b H1) : XX G h0 H0 h1 H1 locs := by
  have e0 := hX.1.1
  have hd : ∀ b, hT h b ≠ 0 → b < hZ h := fun b hb => hX.1.lt hb
  refine ⟨⟨by rw [eZ, z, e0], by rw [z]; have := hX.1.2.1; omega, fun q hq => ?_, fun b hb => ?_⟩, ⟨fun x hx => ?_, fun x hx => ?_, by rw [eZ]; have := hX.2.1.2.2; omega⟩, ?_⟩
  · rw [oq q (by have := hX.1.2.1; omega)]
    exact hX.1.2.2.1 q hq
  · rcases Nat.lt_or_ge b (hZ h) with q | q
    · rw [eT b q] at hb ⊢
      exact ⟨(hX.1.2.2.2 b hb).1, (hX.1.2.2.2 b hb).2.moved (eT b q) (eN b q) (fun k => eI b k q) (fun k => eL b k q) (fun k => eR b k q) (oq b (by rw [← e0]; exact q)) (by rw [z]; exact Nat.le_add_right _ _)⟩
    · exact ⟨fun _ => by have := hX.1.2.1; omega, hc b q hb⟩
  · have h1 := hX.2.1.1 x hx
    rw [eT x (hd x (by rw [h1]; exact hx)), h1]
  · rcases Nat.lt_or_ge x (hZ h) with q | q
    · rw [eT x q] at hx
      exact hX.2.1.2.1 x hx
    · exact Or.inr (Nat.le_trans hX.2.1.2.2 q)
  · exact ⟨by rw [z]; have := hX.2.2.1; omega, fun x h1 h2 => (oq x (Nat.lt_of_lt_of_le h1 hX.2.2.1)).trans (hX.2.2.2.1 x h1 h2), hX.2.2.2.2⟩
theorem outerC_mk (c : ClassId) (N h0 : Nat) : ∀ i, ∃ sl : Array Value, Jvm.Free.Multi.outerC c N h0 i = { cls := c, slots := sl, vm := .none }
  | 0 => ⟨_, rfl⟩
  | i + 1 => by
    obtain ⟨sl, h⟩ := outerC_mk c N h0 i
    refine ⟨sl.setIfInBounds i (.ref (h0 + 1 + i)), ?_⟩
    show (Jvm.Free.Multi.outerC c N h0 i).setSlot _ _ = _
    rw [h]
    rfl
/-- multianewarray: N rows of K places -/
def nwM (h : Hp) (to ti N K : Nat) : Hp := (fun a => if a < hZ h then hT h a else if a = hZ h then to else if a ≤ hZ h + N then ti else 0, fun a => if a < hZ h then hN h a else if a = hZ h then N else K, fun a k => if a < hZ h then hI h a k else 0, fun a k => if a < hZ h then hL h a k else 0, fun a k => if a < hZ h then hR h a k else if a = hZ h ∧ k < N then some (hZ h + 1 + k) else none, hZ h + (1 + N))
theorem x_multi (hexec : p.tables.exec = Jvm.exec) (hb : c.code = cc) {own : String} {index : Nat} {ty : FieldType} {to ti : Nat}
    (hown : s.vm.findClass own = some m.cls) (hclink : (Cond.classLink own index ("[" ++ (FieldType.array ty).toString)).before args s = true)
    (hover : (Cond.arrayOver (.array ty)).before args s = true) (harr : (Cond.arrayClass ty).before args s = true) (hK : KK G s) (hX : XX G h0 H0 h H locs) (hto : aTy to = .array ty) (hti : aTy ti = ty) (ht9 : to < 100) (hi9 : ti < 100) (hkt : (tysG G)[to]? = some (gL G (100 + to), aTy to)) (hki : (tysG G)[ti]? = some (gL G (100 + ti), aTy ti)) (hdi : kd ty = 0 ∧ defaultValue ty = .int 0 ∨ kd ty = 1 ∧ defaultValue ty = .long 0) (hra : va_RA s (gL G (100 + ti)) ty → s.vm.findClass ("[" ++ ty.toString) = some (gL G (100 + ti))) (hsn : "[" ++ ty.toString = (FieldType.array ty).toString)
    (hdg : decode cc pc = .ok (.multianewarray index 2, 4)) {n k : Int32}
    (hn : ¬ n < 0) (hk : ¬ k < 0) (hb1 : n.toNatClampNeg * 4 ≤ 536870912) (hb2 : k.toNatClampNeg * componentBytes ty ≤ 536870912) (hb3 : k.toNatClampNeg ≤ 536870912)
    (hdf : fits ty (defaultValue ty) = true) (hdd : (defaultValue ty).isDefault = true)
    (hcells : cells + (1 + n.toNatClampNeg) ≤ R.cells) (hslots : slots + (n.toNatClampNeg + n.toNatClampNeg * k.toNatClampNeg) ≤ R.slots)
    (kk : ∀ (H1 : Heap), XX G h0 H0 (nwM h (100 + to) (100 + ti) n.toNatClampNeg k.toNatClampNeg) H1 locs → W p l e R s m args below meth c H1 locs (cells + 1 + n.toNatClampNeg) (slots + n.toNatClampNeg + n.toNatClampNeg * k.toNatClampNeg) Q (F0 m (pc + 4) ls (.ref (hZ h) :: rest))) : W p l e R s m args below meth c H locs cells slots Q (F0 m pc ls (.int k :: .int n :: rest)) := by
  intro T hTe X
  have e0 := hX.1.1
  obtain ⟨vm₁, cA, comp, hW, hfA, hfC, hO, hI, X1, step⟩ := X.multianewarray2F hexec hown hclink hover harr (g := F0 m pc ls (.int k :: .int n :: rest)) rfl (by rw [hb]; exact hdg) rfl hn hk hb1 hb2 hb3 hdf hdd hcells hslots
  have hcA : cA = gL G (100 + to) := by
    have := (hK.1.2 to _ hkt).2
    rw [hto] at this
    exact Option.some.inj (hfA.symm.trans this)
  have hcC : comp = gL G (100 + ti) := by
    have := (hK.1.2 ti _ hki).2
    rw [hti] at this
    have := hra this
    rw [hsn] at this
    exact Option.some.inj (hfC.symm.trans this)
  subst hcA; subst hcC
  obtain ⟨f1, f2, -⟩ := Jvm.Free.Multi.fill_facts (T.setVm vm₁) (gL G (100 + to)) (gL G (100 + ti)) n.toNatClampNeg k.toNatClampNeg (defaultValue ty) n.toNatClampNeg
  have f3 := fun a (ha : a < (T.setVm vm₁).heap.size) => Jvm.Free.Multi.fill_old (T.setVm vm₁) (gL G (100 + to)) (gL G (100 + ti)) n.toNatClampNeg k.toNatClampNeg (defaultValue ty) ha n.toNatClampNeg
  have f4 := Jvm.Free.Multi.fill_inner (T.setVm vm₁) (gL G (100 + to)) (gL G (100 + ti)) n.toNatClampNeg k.toNatClampNeg (defaultValue ty) n.toNatClampNeg
  generalize hT1 : Jvm.Free.Multi.fill (T.setVm vm₁) (gL G (100 + to)) (gL G (100 + ti)) n.toNatClampNeg k.toNatClampNeg (defaultValue ty) n.toNatClampNeg = T1 at X1 step f1 f2 f3 f4
  have hTs : (T.setVm vm₁).heap = H := hTe
  rw [hTs] at f1 f2 f3 f4
  have hZT : T.heap.size = hZ h := by rw [hTe, e0]
  rw [hZT] at step
  have hX1 : XX G h0 H0 (nwM h (100 + to) (100 + ti) n.toNatClampNeg k.toNatClampNeg) T1.heap locs := by
    refine hX.grow (1 + n.toNatClampNeg) rfl (fun b hb => if_pos hb) (fun b hb => if_pos hb) (fun b k hb => if_pos hb) (fun b k hb => if_pos hb) (fun b k hb => if_pos hb) (by rw [f1]; omega) (fun q hq => f3 q hq) (fun b hb hb0 => ?_)
    by_cases hbz : b = hZ h
    · subst hbz
      have t1 : hT (nwM h (100 + to) (100 + ti) n.toNatClampNeg k.toNatClampNeg) (hZ h) = 100 + to := by
        show (if hZ h < hZ h then _ else if hZ h = hZ h then _ else _) = _
        rw [if_neg (Nat.lt_irrefl _), if_pos rfl]
      refine cOk.arr t1 ht9 ?_
      rw [e0, f2]
      obtain ⟨o1, o2, o3⟩ := Jvm.Free.Multi.outerC_facts (gL G (100 + to)) n.toNatClampNeg H.size n.toNatClampNeg
      have o4 := Jvm.Free.Multi.outerC_slot (gL G (100 + to)) n.toNatClampNeg H.size n.toNatClampNeg
      obtain ⟨sl, hsl⟩ := outerC_mk (gL G (100 + to)) n.toNatClampNeg H.size n.toNatClampNeg
      rw [hsl] at o3 o4 ⊢
      have n1 : hN (nwM h (100 + to) (100 + ti) n.toNatClampNeg k.toNatClampNeg) H.size = n.toNatClampNeg := by
        show (if H.size < hZ h then _ else if H.size = hZ h then _ else _) = _
        rw [if_neg (by omega), if_pos e0.symm]
      rw [n1]
      simp only at o3 o4
      congr 1
      unfold arrV
      congr 1
      apply Array.ext
      · rw [o3]; simp
      · intro j g1 g2
        have := o4 j (by rw [← o3]; exact g1)
        rw [Array.getElem?_eq_getElem g1] at this
        have hj : j < n.toNatClampNeg := by rw [← o3]; exact g1
        rw [Option.some.inj this, if_pos hj]
        simp only [Array.getElem_ofFn]
        rw [hv_ref (by rw [hto]; rfl)]
        show _ = va_rf (if H.size < hZ h then _ else if H.size = hZ h ∧ j < n.toNatClampNeg then some (hZ h + 1 + j) else none)
        rw [if_neg (by omega), if_pos ⟨e0.symm, hj⟩, e0]
        rfl
    · have hT0 : hT (nwM h (100 + to) (100 + ti) n.toNatClampNeg k.toNatClampNeg) b = if b ≤ hZ h + n.toNatClampNeg then 100 + ti else 0 := by
        show (if b < hZ h then _ else if b = hZ h then _ else _) = _
        rw [if_neg (by omega), if_neg hbz]
      have hle : b ≤ hZ h + n.toNatClampNeg := by
        rcases Nat.lt_or_ge (hZ h + n.toNatClampNeg) b with q | q
        · rw [hT0, if_neg (by omega)] at hb0
          exact absurd rfl hb0
        · exact q
      rw [if_pos hle] at hT0
      refine cOk.arr hT0 hi9 ?_
      have := f4 (b - (H.size + 1)) (by omega)
      rw [show H.size + 1 + (b - (H.size + 1)) = b by omega] at this
      rw [this]
      have n1 : hN (nwM h (100 + to) (100 + ti) n.toNatClampNeg k.toNatClampNeg) b = k.toNatClampNeg := by
        show (if b < hZ h then _ else if b = hZ h then _ else _) = _
        rw [if_neg (by omega), if_neg hbz]
      rw [n1]
      congr 1
      show ({ cls := _, slots := Array.replicate k.toNatClampNeg (defaultValue ty), vm := .none } : Cell) = _
      rw [arrV_new]
      congr 1
      funext j
      rw [hti]
      rcases hdi with ⟨d1, d2⟩ | ⟨d1, d2⟩
      · rw [hv_int d1, d2]
        show _ = Value.int (if b < hZ h then _ else 0)
        rw [if_neg (by omega)]
      · rw [hv_long d1, d2]
        show _ = Value.long (if b < hZ h then _ else 0)
        rw [if_neg (by omega)]
  obtain ⟨t, a1, b1⟩ := kk T1.heap hX1 T1 rfl X1
  exact ⟨t, step t a1, b1⟩
end XS
