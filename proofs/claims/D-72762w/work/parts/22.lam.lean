/-! LAMBDAS: what their sites' words give -/
theorem lm_arr {α : Type} {x : Array Nat} {f : Nat → Nat → Nat → Option α} {r : α} (h : Lambda.shapeOf?.match_15 (fun _ => Option α) x f (fun _ => none) = some r) : ∃ a b c, f a b c = some r := by
  obtain ⟨_ | ⟨a, _ | ⟨b, _ | ⟨c, _ | ⟨d, L⟩⟩⟩⟩⟩ := x
  · cases h
  · cases h
  · cases h
  · exact ⟨a, b, c, h⟩
  · cases h
theorem lm_pool {cf : ClassFile} {index : Nat} {σ : Lambda.Shape} (h : Lambda.shapeOf? cf index = some σ) : ∃ (b nt : Nat) (nm desc : String) (site : MethodDescriptor), cf.constantPool[index]? = some (.invokeDynamic b nt) ∧ cf.constantPool.nameAndType? nt = some (nm, desc) ∧ parseMethodDescriptor desc = some site ∧ site.parameters = σ.captured := by
  unfold Lambda.shapeOf? at h
  split at h
  next b nt hc =>
    obtain ⟨entries, -, h⟩ := Option.bind_eq_some_iff.mp h
    obtain ⟨bm, -, h⟩ := Option.bind_eq_some_iff.mp h
    split at h
    · obtain ⟨_, -, h⟩ := Option.bind_eq_some_iff.mp h
      obtain ⟨a0, a1, a2, h⟩ := lm_arr h
      · split at h
        · split at h
          · split at h
            · obtain ⟨⟨nm, desc⟩, hnt, h⟩ := Option.bind_eq_some_iff.mp h
              obtain ⟨site, hsite, h⟩ := Option.bind_eq_some_iff.mp h
              dsimp only at h
              split at h
              · obtain ⟨q1, -, h⟩ := Option.bind_eq_some_iff.mp h
                obtain ⟨q2, -, h⟩ := Option.bind_eq_some_iff.mp h
                obtain ⟨q3, -, h⟩ := Option.bind_eq_some_iff.mp h
                obtain ⟨q4, -, h⟩ := Option.bind_eq_some_iff.mp h
                obtain ⟨q5, -, h⟩ := Option.bind_eq_some_iff.mp h
                obtain ⟨q6, -, h⟩ := Option.bind_eq_some_iff.mp h
                cases h
                exact ⟨b, nt, nm, desc, site, hc, hnt, hsite, rfl⟩
              · cases h
            · cases h
          · cases h
        · cases h
    · cases h
  next => cases h
theorem lm_types {s : State} {args : Array Value} {e : Setting} {d c : ClassId} {σ : Lambda.Shape} {dk : Class} {T : Array FieldType} (h : Lambda.isMade e s.vm d σ c = true) (hd : s.vm.classes[d]? = some dk) (hO : (Cond.instantiable "java/lang/Object" 0).before args s = true) (hlay : ((σ.file dk.name).bind (layoutFields · 0)).map (·.2.1) = some T) :
    ∃ k, s.vm.classes[c]? = some k ∧ k.instanceTypes = T ∧ k.kind = .ordinary := by
  obtain ⟨dk', k, ok, tk, file, cf, object, iface, t, lay, methods, target, found, h1, h2, h3, h4, h5, h6, h7, h8, h9, h10, h11, h12, h13, ⟨-, hkind, -⟩, -, hhid, -, -, -, -, -, ⟨hty, -⟩, -⟩ := Lambda.isMade_spec h
  cases hd.symm.trans h1
  obtain ⟨cO, kO, hfO, hkO, -, -, -, hsz⟩ := Cond.instantiable_spec hO
  cases hfO.symm.trans h5
  cases hkO.symm.trans h7
  rw [hsz] at h8
  rw [h4, Option.bind_some, h8, Option.map_some, Option.some.injEq] at hlay
  refine ⟨k, h2, ?_, hkind⟩
  rw [hty, Array.eq_empty_of_size_eq_zero hsz, hlay]
  simp
section XL
variable {p : Program} {l : Launch} {e : Env} {R : Room} {s : State} {m : MethodId} {args : Array Value} {below : List Frame} {meth : Method} {c : Code} {H : Heap} {locs : List Loc} {cells slots : Nat} {Q : State → Prop}
variable {cc : ByteArray} {pc nL : Nat} {ls : Array Slot} {rest : List Value} {G : Gt} {h h0 h1 : Hp} {H0 : Heap}
theorem x_lamMk (hexec : p.tables.exec = Jvm.exec) (hb : c.code = cc) (hml : c.maxLocals = nL) (hts : ∀ w ∈ lw_all, w.before args s = true) {x : MethodName} {index t : Nat} {σ : Lambda.Shape} {nm : String} (hLam : LamAt G s x pc index σ nm t none) (hnm : s.methodNamed? x = some m) (hX : XX G h0 H0 h H locs) {vals : List Value} {T : Array FieldType} (hlay : ((σ.file nm).bind (layoutFields · 0)).map (·.2.1) = some T) (hcap : vals.length = σ.captured.length)
    (hnar : ((T.toList.zip vals).map fun (t, v) => narrow t v) = vals) (hfit : ∀ (i : Nat) (v : Value), vals[i]? = some v → ∃ ty, T[i]? = some ty ∧ fits ty v = true) (hcat : (vals.map fun v => v.category).sum ≤ 2)
    (eZ : hZ h1 = hZ h + 1) (eT : ∀ b, b < hZ h → hT h1 b = hT h b) (eN : ∀ b, b < hZ h → hN h1 b = hN h b) (eI : ∀ b k, b < hZ h → hI h1 b k = hI h b k) (eL : ∀ b k, b < hZ h → hL h1 b k = hL h b k) (eR : ∀ b k, b < hZ h → hR h1 b k = hR h b k) (e0 : ∀ b, hZ h < b → hT h1 b = hT h b) (et : hT h1 (hZ h) = t) (ht : 200 ≤ t ∧ t < 300)
    (hcell : lamCell G h1 (hZ h) = { cls := gL G t, slots := vals.toArray, vm := .none }) (hsize : ls.size = nL) (hW : (rest.map fun v => v.category).sum ≤ 8) (hlo : 3100 ≤ R.locals) (hcells : cells + 1 ≤ R.cells) (hslots : slots + vals.length ≤ R.slots) (hdg : decode cc pc = .ok (.invokedynamic index, 5))
    (kk : ∀ H1 : Heap, XX G h0 H0 h1 H1 locs → W p l e R s m args below meth c H1 locs (cells + 1) (slots + vals.length) Q (F0 m (pc + 5) ls (.ref (hZ h) :: rest))) : W p l e R s m args below meth c H locs cells slots Q (F0 m pc ls (vals.reverse ++ rest)) := by
  obtain ⟨m9, k, cf, i0, p0, hm, hk, hcf, hn, hsh, hf, hmade, hcall⟩ := hLam
  cases hm.symm.trans hnm
  obtain ⟨b, nt, nm9, desc, site, hc, hnt, hsite, hpar⟩ := lm_pool hsh
  obtain ⟨kc, hkc, hty, hkind⟩ := lm_types hmade hk (hts _ q1609) (by rw [hn]; exact hlay)
  intro T9 hT X
  have hz : ((kc.instanceTypes.toList.zip vals).map fun (t, v) => narrow t v) = vals := by rw [hty]; exact hnar
  obtain ⟨X₁, st⟩ := X.lambdaMakes hexec (g := F0 m pc ls (vals.reverse ++ rest)) rfl (by rw [hml]; exact hsize) (by rw [hb]; exact hdg) (vals := vals) (rest := rest) hk hf hcf hc hnt (parseLong_of_parse hsite) (by rw [hpar]; exact hcap) rfl hkc
    (by
      rw [X.admits.platform]
      show 2 * 0 + ((vals.reverse ++ rest).map fun v => v.category).sum + 3072 ≤ R.locals
      rw [List.map_append, List.sum_append, List.map_reverse, List.sum_reverse]
      omega) hcells (by rw [hz]; exact hslots)
    (fun i v hv => by
      rw [hz] at hv
      obtain ⟨ty, h8, h9⟩ := hfit i v (by simpa using hv)
      simp [State.fitsSlot, State.slotType?, hkc, hkind, hty, h8, h9])
  rw [hz] at X₁ st
  have hZT : T9.heap.size = hZ h := by rw [hT]; exact hX.1.1.symm
  rw [hZT] at st
  have hX1 : XX G h0 H0 h1 (T9.pushCell { cls := gL G t, slots := vals.toArray, vm := .none }).heap locs := by
    refine hX.grow 1 eZ eT eN eI eL eR (by rw [← hT]; exact Array.size_push _) (fun q hq => by
        rw [← hT] at hq ⊢
        exact Array.getElem?_push_lt hq |>.trans (Array.getElem?_eq_getElem hq).symm) (fun b9 hb9 hne => ?_)
    rcases Nat.eq_or_lt_of_le hb9 with q | q
    · subst q
      refine ⟨fun q => absurd q (by rw [et]; omega), fun _ q => absurd q (by rw [et]; omega), fun _ _ => ?_, fun q => absurd q (by rw [et]; omega), fun q => absurd q (by rw [et]; omega)⟩
      rw [hcell, ← hZT]
      exact Array.getElem?_push_size
    · rw [e0 b9 q] at hne
      exact absurd (hX.1.lt hne) (by omega)
  obtain ⟨t', a1, b1⟩ := kk _ hX1 _ rfl X₁
  exact ⟨t', st t' a1, b1⟩
theorem x_lam0 (hG : XG G) (hexec : p.tables.exec = Jvm.exec) (hb : c.code = cc) (hml : c.maxLocals = nL) (hts : ∀ w ∈ lw_all, w.before args s = true) (hnm : s.methodNamed? lmX0 = some m) (hK : KK G s) (hX : XX G h0 H0 h H locs) {b : Int32} (hsize : ls.size = nL) (hW : (rest.map fun v => v.category).sum ≤ 8) (hlo : 3100 ≤ R.locals) (hcells : cells + 1 ≤ R.cells) (hslots : slots + 1 ≤ R.slots) (hdg : decode cc pc = .ok (.invokedynamic 66, 5)) (hpc : pc = 13)
    (kk : ∀ H1 : Heap, XX G h0 H0 (sI (nw h 200 0) (hZ h) 0 b) H1 locs → W p l e R s m args below meth c H1 locs (cells + 1) (slots + 1) Q (F0 m (pc + 5) ls (.ref (hZ h) :: rest))) : W p l e R s m args below meth c H locs cells slots Q (F0 m pc ls (.int b :: rest)) := by
  subst hpc
  have ne : ∀ b9, b9 < hZ h → ¬ b9 = hZ h := fun b9 q => Nat.ne_of_lt q
  refine x_lamMk (h1 := sI (nw h 200 0) (hZ h) 0 b) (vals := [.int b]) (T := #[.int]) hexec hb hml hts (hG.k hK).2.2.2.1 hnm hX (by decide +kernel) rfl rfl (fun i v hv => by
      rcases i with _ | i
      · cases hv; exact ⟨.int, rfl, rfl⟩
      · cases hv) (Nat.le_of_ble_eq_true rfl) rfl (fun b9 q => if_neg (ne b9 q)) (fun b9 q => if_neg (ne b9 q)) (fun b9 k q => ?_) (fun b9 k q => ?_) (fun b9 k q => ?_) (fun b9 q => if_neg (by omega)) (if_pos rfl) (by decide) ?_ hsize hW hlo hcells hslots hdg kk
  · show up2 (hI (nw h 200 0)) _ _ _ b9 k = _; unfold up2; rw [if_neg (fun z => ne b9 q z.1)]; exact if_neg (ne b9 q)
  · exact if_neg (ne b9 q)
  · exact if_neg (ne b9 q)
  · have e1 : hT (sI (nw h 200 0) (hZ h) 0 b) (hZ h) = 200 := if_pos rfl
    have e2 : hI (sI (nw h 200 0) (hZ h) 0 b) (hZ h) 0 = b := if_pos ⟨rfl, rfl⟩
    unfold lamCell
    rw [e1, e2]
    rfl
theorem x_lam1 (hG : XG G) (hexec : p.tables.exec = Jvm.exec) (hb : c.code = cc) (hml : c.maxLocals = nL) (hts : ∀ w ∈ lw_all, w.before args s = true) (hnm : s.methodNamed? lmX1 = some m) (hK : KK G s) (hX : XX G h0 H0 h H locs) {r0 : Option Nat} (hsize : ls.size = nL) (hW : (rest.map fun v => v.category).sum ≤ 8) (hlo : 3100 ≤ R.locals) (hcells : cells + 1 ≤ R.cells) (hslots : slots + 1 ≤ R.slots) (hdg : decode cc pc = .ok (.invokedynamic 79, 5)) (hpc : pc = 80)
    (kk : ∀ H1 : Heap, XX G h0 H0 (sR (nw h 201 0) (hZ h) 0 r0) H1 locs → W p l e R s m args below meth c H1 locs (cells + 1) (slots + 1) Q (F0 m (pc + 5) ls (.ref (hZ h) :: rest))) : W p l e R s m args below meth c H locs cells slots Q (F0 m pc ls (va_rf r0 :: rest)) := by
  subst hpc
  have ne : ∀ b9, b9 < hZ h → ¬ b9 = hZ h := fun b9 q => Nat.ne_of_lt q
  refine x_lamMk (h1 := sR (nw h 201 0) (hZ h) 0 r0) (vals := [va_rf r0]) (T := #[.object "PromiseTries$Holds"]) hexec hb hml hts (hG.k hK).2.2.2.2.1 hnm hX (by decide +kernel) rfl (by simp [narrow_rfO]) (fun i v hv => by
      rcases i with _ | i
      · cases hv; exact ⟨_, rfl, fits_rfO _ _⟩
      · cases hv) (by simp [rf_cat]) rfl (fun b9 q => if_neg (ne b9 q)) (fun b9 q => if_neg (ne b9 q)) (fun b9 k q => ?_) (fun b9 k q => ?_) (fun b9 k q => ?_) (fun b9 q => if_neg (by omega)) (if_pos rfl) (by decide) ?_ hsize hW hlo hcells hslots hdg kk
  · exact if_neg (ne b9 q)
  · exact if_neg (ne b9 q)
  · show up2 (hR (nw h 201 0)) _ _ _ b9 k = _; unfold up2; rw [if_neg (fun z => ne b9 q z.1)]; exact if_neg (ne b9 q)
  · have e1 : hT (sR (nw h 201 0) (hZ h) 0 r0) (hZ h) = 201 := if_pos rfl
    have e2 : hR (sR (nw h 201 0) (hZ h) 0 r0) (hZ h) 0 = r0 := if_pos ⟨rfl, rfl⟩
    unfold lamCell
    rw [e1, e2]
    rfl
theorem x_lam2 (hG : XG G) (hexec : p.tables.exec = Jvm.exec) (hb : c.code = cc) (hml : c.maxLocals = nL) (hts : ∀ w ∈ lw_all, w.before args s = true) (hnm : s.methodNamed? lmX2 = some m) (hK : KK G s) (hX : XX G h0 H0 h H locs) {r0 r1 : Option Nat} (hsize : ls.size = nL) (hW : (rest.map fun v => v.category).sum ≤ 8) (hlo : 3100 ≤ R.locals) (hcells : cells + 1 ≤ R.cells) (hslots : slots + 2 ≤ R.slots) (hdg : decode cc pc = .ok (.invokedynamic 98, 5)) (hpc : pc = 27)
    (kk : ∀ H1 : Heap, XX G h0 H0 (sR (sR (nw h 202 0) (hZ h) 0 r0) (hZ h) 1 r1) H1 locs → W p l e R s m args below meth c H1 locs (cells + 1) (slots + 2) Q (F0 m (pc + 5) ls (.ref (hZ h) :: rest))) : W p l e R s m args below meth c H locs cells slots Q (F0 m pc ls (va_rf r1 :: va_rf r0 :: rest)) := by
  subst hpc
  have ne : ∀ b9, b9 < hZ h → ¬ b9 = hZ h := fun b9 q => Nat.ne_of_lt q
  refine x_lamMk (h1 := sR (sR (nw h 202 0) (hZ h) 0 r0) (hZ h) 1 r1) (vals := [va_rf r0, va_rf r1]) (T := #[.object "PromiseTries$Holds", .object "PromiseTries$Holds"]) hexec hb hml hts (hG.k hK).2.2.2.2.2.1 hnm hX (by decide +kernel) rfl (by simp [narrow_rfO]) (fun i v hv => by
      rcases i with _ | _ | i
      · cases hv; exact ⟨_, rfl, fits_rfO _ _⟩
      · cases hv; exact ⟨_, rfl, fits_rfO _ _⟩
      · cases hv) (by simp [rf_cat]) rfl (fun b9 q => if_neg (ne b9 q)) (fun b9 q => if_neg (ne b9 q)) (fun b9 k q => ?_) (fun b9 k q => ?_) (fun b9 k q => ?_) (fun b9 q => if_neg (by omega)) (if_pos rfl) (by decide) ?_ hsize hW hlo hcells hslots hdg kk
  · exact if_neg (ne b9 q)
  · exact if_neg (ne b9 q)
  · show up2 (up2 (hR (nw h 202 0)) _ _ _) _ _ _ b9 k = _; unfold up2; rw [if_neg (fun z => ne b9 q z.1), if_neg (fun z => ne b9 q z.1)]; exact if_neg (ne b9 q)
  · have e1 : hT (sR (sR (nw h 202 0) (hZ h) 0 r0) (hZ h) 1 r1) (hZ h) = 202 := if_pos rfl
    have e2 : hR (sR (sR (nw h 202 0) (hZ h) 0 r0) (hZ h) 1 r1) (hZ h) 0 = r0 := by
      show up2 (up2 _ _ _ _) _ _ _ _ _ = _
      unfold up2
      rw [if_neg (by intro z; exact absurd z.2 (by decide)), if_pos ⟨rfl, rfl⟩]
    have e3 : hR (sR (sR (nw h 202 0) (hZ h) 0 r0) (hZ h) 1 r1) (hZ h) 1 = r1 := if_pos ⟨rfl, rfl⟩
    unfold lamCell
    rw [e1, e2, e3]
    rfl
theorem x_lam3 (hG : XG G) (hexec : p.tables.exec = Jvm.exec) (hb : c.code = cc) (hml : c.maxLocals = nL) (hts : ∀ w ∈ lw_all, w.before args s = true) (hnm : s.methodNamed? lmX3 = some m) (hK : KK G s) (hX : XX G h0 H0 h H locs) {r0 r1 : Option Nat} (hsize : ls.size = nL) (hW : (rest.map fun v => v.category).sum ≤ 8) (hlo : 3100 ≤ R.locals) (hcells : cells + 1 ≤ R.cells) (hslots : slots + 2 ≤ R.slots) (hdg : decode cc pc = .ok (.invokedynamic 104, 5)) (hpc : pc = 27)
    (kk : ∀ H1 : Heap, XX G h0 H0 (sR (sR (nw h 203 0) (hZ h) 0 r0) (hZ h) 1 r1) H1 locs → W p l e R s m args below meth c H1 locs (cells + 1) (slots + 2) Q (F0 m (pc + 5) ls (.ref (hZ h) :: rest))) : W p l e R s m args below meth c H locs cells slots Q (F0 m pc ls (va_rf r1 :: va_rf r0 :: rest)) := by
  subst hpc
  have ne : ∀ b9, b9 < hZ h → ¬ b9 = hZ h := fun b9 q => Nat.ne_of_lt q
  refine x_lamMk (h1 := sR (sR (nw h 203 0) (hZ h) 0 r0) (hZ h) 1 r1) (vals := [va_rf r0, va_rf r1]) (T := #[.object "PromiseTries$Holds", .object "PromiseTries$Holds"]) hexec hb hml hts (hG.k hK).2.2.2.2.2.2.1 hnm hX (by decide +kernel) rfl (by simp [narrow_rfO]) (fun i v hv => by
      rcases i with _ | _ | i
      · cases hv; exact ⟨_, rfl, fits_rfO _ _⟩
      · cases hv; exact ⟨_, rfl, fits_rfO _ _⟩
      · cases hv) (by simp [rf_cat]) rfl (fun b9 q => if_neg (ne b9 q)) (fun b9 q => if_neg (ne b9 q)) (fun b9 k q => ?_) (fun b9 k q => ?_) (fun b9 k q => ?_) (fun b9 q => if_neg (by omega)) (if_pos rfl) (by decide) ?_ hsize hW hlo hcells hslots hdg kk
  · exact if_neg (ne b9 q)
  · exact if_neg (ne b9 q)
  · show up2 (up2 (hR (nw h 203 0)) _ _ _) _ _ _ b9 k = _; unfold up2; rw [if_neg (fun z => ne b9 q z.1), if_neg (fun z => ne b9 q z.1)]; exact if_neg (ne b9 q)
  · have e1 : hT (sR (sR (nw h 203 0) (hZ h) 0 r0) (hZ h) 1 r1) (hZ h) = 203 := if_pos rfl
    have e2 : hR (sR (sR (nw h 203 0) (hZ h) 0 r0) (hZ h) 1 r1) (hZ h) 0 = r0 := by
      show up2 (up2 _ _ _ _) _ _ _ _ _ = _
      unfold up2
      rw [if_neg (by intro z; exact absurd z.2 (by decide)), if_pos ⟨rfl, rfl⟩]
    have e3 : hR (sR (sR (nw h 203 0) (hZ h) 0 r0) (hZ h) 1 r1) (hZ h) 1 = r1 := if_pos ⟨rfl, rfl⟩
    unfold lamCell
    rw [e1, e2, e3]
    rfl
theorem x_lamC4 (hG : XG G) (hexec : p.tables.exec = Jvm.exec) (hb : c.code = cc) (hml : c.maxLocals = nL) (hnm : s.methodNamed? lmX4 = some m) (hK : KK G s) (hX : XX G h0 H0 h H locs) (h40 : hT h 0 = 400) (hsize : ls.size = nL) (hW : (rest.map fun v => v.category).sum ≤ 8) (hlo : 3100 ≤ R.locals) (hdg : decode cc pc = .ok (.invokedynamic 276, 5)) (hpc : pc = 122)
    (kk : W p l e R s m args below meth c H locs cells slots Q (F0 m (pc + 5) ls (va_rf (hR h 0 2) :: rest))) : W p l e R s m args below meth c H locs cells slots Q (F0 m pc ls rest) := by
  subst hpc
  have hLam := (hG.k hK).2.2.2.2.2.2.2.1
  have hne := (hG.k hK).2.2.2.2.2.2.2.2.2.2.1
  obtain ⟨-, -, -, -, -, c5⟩ := hX.1.2.2.2 0 (by omega)
  have e5 := (c5 (by omega)).2 2 (by decide)
  rw [e5] at kk
  cases hg : gK G 2 with
  | none => exact absurd hg hne
  | some q =>
    rw [hg] at kk
    rw [hg] at hLam
    obtain ⟨m9, k, cf, i0, p0, hm, hk, hcf, hn, hsh, hf, hmade, hcall⟩ := hLam
    cases hm.symm.trans hnm
    intro T9 hT X
    obtain ⟨t, a1, b1⟩ := kk T9 hT X
    exact ⟨t, X.lambdaConstant hexec (g := F0 m _ ls rest) rfl (by rw [hml]; exact hsize) (by rw [hb]; exact hdg) hk hf (by
      rw [X.admits.platform]
      show 2 * 0 + (rest.map fun v => v.category).sum + 3072 ≤ R.locals
      omega) a1, b1⟩
theorem x_lamC5 (hG : XG G) (hexec : p.tables.exec = Jvm.exec) (hb : c.code = cc) (hml : c.maxLocals = nL) (hnm : s.methodNamed? lmX5 = some m) (hK : KK G s) (hX : XX G h0 H0 h H locs) (h40 : hT h 0 = 400) (hsize : ls.size = nL) (hW : (rest.map fun v => v.category).sum ≤ 8) (hlo : 3100 ≤ R.locals) (hdg : decode cc pc = .ok (.invokedynamic 279, 5)) (hpc : pc = 130)
    (kk : W p l e R s m args below meth c H locs cells slots Q (F0 m (pc + 5) ls (va_rf (hR h 0 3) :: rest))) : W p l e R s m args below meth c H locs cells slots Q (F0 m pc ls rest) := by
  subst hpc
  have hLam := (hG.k hK).2.2.2.2.2.2.2.2.1
  have hne := (hG.k hK).2.2.2.2.2.2.2.2.2.2.2.1
  obtain ⟨-, -, -, -, -, c5⟩ := hX.1.2.2.2 0 (by omega)
  have e5 := (c5 (by omega)).2 3 (by decide)
  rw [e5] at kk
  cases hg : gK G 3 with
  | none => exact absurd hg hne
  | some q =>
    rw [hg] at kk
    rw [hg] at hLam
    obtain ⟨m9, k, cf, i0, p0, hm, hk, hcf, hn, hsh, hf, hmade, hcall⟩ := hLam
    cases hm.symm.trans hnm
    intro T9 hT X
    obtain ⟨t, a1, b1⟩ := kk T9 hT X
    exact ⟨t, X.lambdaConstant hexec (g := F0 m _ ls rest) rfl (by rw [hml]; exact hsize) (by rw [hb]; exact hdg) hk hf (by
      rw [X.admits.platform]
      show 2 * 0 + (rest.map fun v => v.category).sum + 3072 ≤ R.locals
      omega) a1, b1⟩
theorem x_lamC6 (hG : XG G) (hexec : p.tables.exec = Jvm.exec) (hb : c.code = cc) (hml : c.maxLocals = nL) (hnm : s.methodNamed? lmX6 = some m) (hK : KK G s) (hX : XX G h0 H0 h H locs) (h40 : hT h 0 = 400) (hsize : ls.size = nL) (hW : (rest.map fun v => v.category).sum ≤ 8) (hlo : 3100 ≤ R.locals) (hdg : decode cc pc = .ok (.invokedynamic 280, 5)) (hpc : pc = 138)
    (kk : W p l e R s m args below meth c H locs cells slots Q (F0 m (pc + 5) ls (va_rf (hR h 0 4) :: rest))) : W p l e R s m args below meth c H locs cells slots Q (F0 m pc ls rest) := by
  subst hpc
  have hLam := (hG.k hK).2.2.2.2.2.2.2.2.2.1
  have hne := (hG.k hK).2.2.2.2.2.2.2.2.2.2.2.2
  obtain ⟨-, -, -, -, -, c5⟩ := hX.1.2.2.2 0 (by omega)
  have e5 := (c5 (by omega)).2 4 (by decide)
  rw [e5] at kk
  cases hg : gK G 4 with
  | none => exact absurd hg hne
  | some q =>
    rw [hg] at kk
    rw [hg] at hLam
    obtain ⟨m9, k, cf, i0, p0, hm, hk, hcf, hn, hsh, hf, hmade, hcall⟩ := hLam
    cases hm.symm.trans hnm
    intro T9 hT X
    obtain ⟨t, a1, b1⟩ := kk T9 hT X
    exact ⟨t, X.lambdaConstant hexec (g := F0 m _ ls rest) rfl (by rw [hml]; exact hsize) (by rw [hb]; exact hdg) hk hf (by
      rw [X.admits.platform]
      show 2 * 0 + (rest.map fun v => v.category).sum + 3072 ≤ R.locals
      omega) a1, b1⟩
end XL
