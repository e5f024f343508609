/-! ROWS over the plain heap -/
theorem hv_int {t : FieldType} {h : Hp} {a k : Nat} (e : kd t = 0) : hv t h a k = .int (hI h a k) := by unfold hv; rw [e]; rfl
theorem hv_long {t : FieldType} {h : Hp} {a k : Nat} (e : kd t = 1) : hv t h a k = .long (hL h a k) := by unfold hv; rw [e]; rfl
theorem hv_ref {t : FieldType} {h : Hp} {a k : Nat} (e : kd t = 2) : hv t h a k = va_rf (hR h a k) := by unfold hv; rw [e]; rfl
theorem rf_some {r : Option Nat} {a : Nat} (e : r = some a) : va_rf r = .ref a := by rw [e]; rfl
theorem hv_sI {t : FieldType} {h : Hp} {a k j : Nat} {x : Int32} (e : j = k → kd t = 0) : hv t (sI h a k x) a j = if j = k then .int x else hv t h a j := by
  by_cases hj : j = k
  · rw [if_pos hj, hv_int (e hj)]
    show Value.int (up2 (hI h) a k x a j) = _
    unfold up2
    rw [if_pos ⟨rfl, hj⟩]
  · rw [if_neg hj]
    have e1 : hI (sI h a k x) a j = hI h a j := by show up2 (hI h) a k x a j = _; unfold up2; rw [if_neg fun q => hj q.2]
    unfold hv
    rw [e1]
    rfl
theorem hv_sL {t : FieldType} {h : Hp} {a k j : Nat} {x : Int64} (e : j = k → kd t = 1) : hv t (sL h a k x) a j = if j = k then .long x else hv t h a j := by
  by_cases hj : j = k
  · rw [if_pos hj, hv_long (e hj)]
    show Value.long (up2 (hL h) a k x a j) = _
    unfold up2
    rw [if_pos ⟨rfl, hj⟩]
  · rw [if_neg hj]
    have e1 : hL (sL h a k x) a j = hL h a j := by show up2 (hL h) a k x a j = _; unfold up2; rw [if_neg fun q => hj q.2]
    unfold hv
    rw [e1]
    rfl
theorem hv_sR {t : FieldType} {h : Hp} {a k j : Nat} {x : Option Nat} (e : j = k → kd t = 2) : hv t (sR h a k x) a j = if j = k then va_rf x else hv t h a j := by
  by_cases hj : j = k
  · rw [if_pos hj, hv_ref (e hj)]
    show va_rf (up2 (hR h) a k x a j) = _
    unfold up2
    rw [if_pos ⟨rfl, hj⟩]
  · rw [if_neg hj]
    have e1 : hR (sR h a k x) a j = hR h a j := by show up2 (hR h) a k x a j = _; unfold up2; rw [if_neg fun q => hj q.2]
    unfold hv
    rw [e1]
    rfl
theorem hI_sI_ne {h : Hp} {a b k j : Nat} {x : Int32} (hb : b ≠ a) : hI (sI h a k x) b j = hI h b j := by show up2 (hI h) a k x b j = _; unfold up2; rw [if_neg fun q => hb q.1]
theorem hL_sL_ne {h : Hp} {a b k j : Nat} {x : Int64} (hb : b ≠ a) : hL (sL h a k x) b j = hL h b j := by show up2 (hL h) a k x b j = _; unfold up2; rw [if_neg fun q => hb q.1]
theorem hR_sR_ne {h : Hp} {a b k j : Nat} {x : Option Nat} (hb : b ≠ a) : hR (sR h a k x) b j = hR h b j := by show up2 (hR h) a k x b j = _; unfold up2; rw [if_neg fun q => hb q.1]
/-- an object's cell with one field written -/
theorem cOk.obj {G : Gt} {h1 : Hp} {H1 : Heap} {a ci : Nat} (ht : hT h1 a = ci + 1) (hc : ci < 99) {C : String} {T : u_T} {N : Nat} (hcl : vwCl[ci]? = some (C, T, N)) (hO : t_OB a (G.1.1 ci) N (G.1.2 ci) H1 (fun k => hv (fTy ci k) h1 a k)) : cOk G h1 a H1 := by
  have e : hT h1 a - 1 = ci := by omega
  refine ⟨fun _ => ?_, fun q => by omega, fun q => by omega, fun q => by omega, fun q => by omega⟩
  rw [e]
  exact ⟨_, hcl, hO⟩
theorem cOk.arr {G : Gt} {h1 : Hp} {H1 : Heap} {a t : Nat} (ht : hT h1 a = 100 + t) (hc : t < 100) (hO : H1[a]? = some (arrV (gL G (100 + t)) (hN h1 a) (fun j => hv (aTy t) h1 a j))) : cOk G h1 a H1 := by
  have e : hT h1 a - 100 = t := by omega
  refine ⟨fun q => by omega, fun _ _ => ?_, fun q => by omega, fun q => by omega, fun q => by omega⟩
  rw [e, ht]
  exact hO
def tysG (G : Gt) : List (ClassId × FieldType) := [(gL G 100, .int), (gL G 101, .long), (gL G 102, .byte), (gL G 103, .char), (gL G 104, .boolean), (gL G 105, .object "PromiseTries$Holds"), (gL G 106, .object "PromiseTries$Side"), (gL G 107, .object "PromiseTries$Promise"), (gL G 108, .object "PromiseTries$Sheet"), (gL G 109, .object "PromiseTries$Cells"), (gL G 110, .array .int), (gL G 111, .array .long)]
section XR
variable {p : Program} {l : Launch} {e : Env} {R : Room} {s : State} {m : MethodId} {args : Array Value} {below : List Frame} {meth : Method} {c : Code} {H : Heap} {locs : List Loc} {cells slots : Nat} {Q : State → Prop}
variable {cc : ByteArray} {pc : Nat} {ls : Array Slot} {rest : List Value} {G : Gt} {h h0 : Hp} {H0 : Heap} {a : Nat} {v : Value}
theorem x_get (hexec : p.tables.exec = Jvm.exec) (hb : c.code = cc) {own ref C : String} {T : u_T} {N ci index : Nat} {Ts : List Cond} (hts : ∀ w ∈ Ts, w.before args s = true) (hin : ∀ w ∈ u_ws C T N, w ∈ Ts) (hown : s.vm.findClass own = some m.cls) (hK : va_K G.1 vwCl (tysG G) s) (hX : XX G h0 H0 h H locs) (hva : v = .ref a) (ht : hT h a = ci + 1) (hci : ci < 99) (hc : vwCl[ci]? = some (C, T, N)) (k : Nat) (hk : k < N) (hlink : (Cond.fieldLink own index ref (T k).2.1 (T k).2.2.1).before args s = true) (hsame : ∀ x, s.fieldFound? (T k).1 (T k).2.1 (T k).2.2.1 = some x → s.fieldFound? ref (T k).2.1 (T k).2.2.1 = some x) {w : Value} (hw : hv (fTy ci k) h a k = w) (hdg : decode cc pc = .ok (.getfield index, 3))
    (kk : W p l e R s m args below meth c H locs cells slots Q (F0 m (pc + 3) ls (w :: rest))) : W p l e R s m args below meth c H locs cells slots Q (F0 m pc ls (v :: rest)) := by
  subst hva
  obtain ⟨cell, q1, q2, q3, q4⟩ := hX.1.obj ht hci hc
  obtain ⟨hS, hfc, kC, hkC, hkind⟩ := hK.1 ci _ hc
  obtain ⟨cf, kf, fi, f, hi, hsl⟩ := hS k hk
  refine W.getf hexec hb hown hlink (hsame _ hi) (u_facts hfc hkC (u_lays hts hin hk) hi).1 q1 (by rw [q3]; exact fun h => by cases h) (v := w) ?_ rfl rfl hdg kk
  rw [hsl, q4 k hk]; exact congrArg some hw
theorem x_getN (hexec : p.tables.exec = Jvm.exec) (hb : c.code = cc) {own ref C host : String} {T : u_T} {N ci index : Nat} {Ts : List Cond} (hts : ∀ w ∈ Ts, w.before args s = true) (hin : ∀ w ∈ u_ws C T N, w ∈ Ts) (hown : s.vm.findClass own = some m.cls) (hK : va_K G.1 vwCl (tysG G) s) (hX : XX G h0 H0 h H locs) (hva : v = .ref a) (ht : hT h a = ci + 1) (hci : ci < 99) (hc : vwCl[ci]? = some (C, T, N)) (k : Nat) (hk : k < N) (hlink : va_Nw (.fieldLinkNest own index ref (T k).2.1 (T k).2.2.1 host) s) (hsame : ∀ x, s.fieldFound? (T k).1 (T k).2.1 (T k).2.2.1 = some x → s.fieldFound? ref (T k).2.1 (T k).2.2.1 = some x) {w : Value} (hw : hv (fTy ci k) h a k = w) (hdg : decode cc pc = .ok (.getfield index, 3))
    (kk : W p l e R s m args below meth c H locs cells slots Q (F0 m (pc + 3) ls (w :: rest))) : W p l e R s m args below meth c H locs cells slots Q (F0 m pc ls (v :: rest)) := by
  subst hva
  obtain ⟨cell, q1, q2, q3, q4⟩ := hX.1.obj ht hci hc
  obtain ⟨hS, hfc, kC, hkC, hkind⟩ := hK.1 ci _ hc
  obtain ⟨cf, kf, fi, f, hi, hsl⟩ := hS k hk
  refine va_Wgetf hexec hb hown (va_Nw.use rfl hlink) (hsame _ hi) (u_facts hfc hkC (u_lays hts hin hk) hi).1 q1 (by rw [q3]; exact fun h => by cases h) (v := w) ?_ rfl rfl hdg kk
  rw [hsl, q4 k hk]; exact congrArg some hw
/-- the field k of a gets w: the heap becomes h1 -/
def Put1 (h h1 : Hp) (ci a k : Nat) (w : Value) : Prop := hT h1 = hT h ∧ hN h1 = hN h ∧ hZ h1 = hZ h ∧ (∀ b k, b ≠ a → hI h1 b k = hI h b k) ∧ (∀ b k, b ≠ a → hL h1 b k = hL h b k) ∧ (∀ b k, b ≠ a → hR h1 b k = hR h b k) ∧ ∀ j, hv (fTy ci j) h1 a j = if j = k then w else hv (fTy ci j) h a j
theorem Put1.fI {h : Hp} {ci a k : Nat} {x : Int32} (e : kd (fTy ci k) = 0) : Put1 h (sI h a k x) ci a k (.int x) := ⟨rfl, rfl, rfl, fun _ _ q => hI_sI_ne q, fun _ _ _ => rfl, fun _ _ _ => rfl, fun j => hv_sI fun q => by rw [q]; exact e⟩
theorem Put1.fL {h : Hp} {ci a k : Nat} {x : Int64} (e : kd (fTy ci k) = 1) : Put1 h (sL h a k x) ci a k (.long x) := ⟨rfl, rfl, rfl, fun _ _ _ => rfl, fun _ _ q => hL_sL_ne q, fun _ _ _ => rfl, fun j => hv_sL fun q => by rw [q]; exact e⟩
theorem Put1.fR {h : Hp} {ci a k : Nat} {x : Option Nat} (e : kd (fTy ci k) = 2) : Put1 h (sR h a k x) ci a k (va_rf x) := ⟨rfl, rfl, rfl, fun _ _ _ => rfl, fun _ _ _ => rfl, fun _ _ q => hR_sR_ne q, fun j => hv_sR fun q => by rw [q]; exact e⟩
theorem Put1.cell {G : Gt} {h h1 : Hp} {ci a k N : Nat} {w : Value} (P : Put1 h h1 ci a k w) {cell : Cell} {H1 : Heap} (hap : ∀ x y, x < N → y < N → x ≠ y → (G.1.2 ci) x ≠ (G.1.2 ci) y) (hk : k < N) (q2 : cell.cls = G.1.1 ci) (q3 : cell.vm = .none) (q4 : ∀ j, j < N → cell.slots[G.1.2 ci j]? = some (hv (fTy ci j) h a j)) (e1 : H1[a]? = some (cell.setSlot (G.1.2 ci k) w)) : t_OB a (G.1.1 ci) N (G.1.2 ci) H1 (fun j => hv (fTy ci j) h1 a j) := by
  refine ⟨_, e1, q2, q3, fun j hj => ?_⟩
  have := t_set (V := fun j => hv (fTy ci j) h a j) q4 hap hk w j hj
  show _ = some (hv (fTy ci j) h1 a j)
  rw [this, P.2.2.2.2.2.2 j]
  by_cases hjk : j = k
  · rw [if_pos hjk]; simp [updV, hjk]
  · rw [if_neg hjk]; simp [updV, hjk]
theorem x_put (hexec : p.tables.exec = Jvm.exec) (hb : c.code = cc) {own ref C : String} {T : u_T} {N ci index : Nat} {Ts : List Cond} (hts : ∀ w ∈ Ts, w.before args s = true) (hin : ∀ w ∈ u_ws C T N, w ∈ Ts) (ty0 : Nat → FieldType) (hty : ∀ k, k < N → parseFieldDescriptor (T k).2.2.1 = some (ty0 k)) (hnm : ∀ a, a < N → ∀ b, b < N → a ≠ b → (T a).2.1 ≠ (T b).2.1) (hown : s.vm.findClass own = some m.cls) (hK : va_K G.1 vwCl (tysG G) s) (hX : XX G h0 H0 h H locs) (hva : v = .ref a) (ht : hT h a = ci + 1) (hci : ci < 99) (hc : vwCl[ci]? = some (C, T, N)) (k : Nat) (hk : k < N) (hlink : (Cond.fieldLink own index ref (T k).2.1 (T k).2.2.1).before args s = true) (hsame : ∀ x, s.fieldFound? (T k).1 (T k).2.1 (T k).2.2.1 = some x → s.fieldFound? ref (T k).2.1 (T k).2.2.1 = some x) (hfin : (T k).2.2.2 = false) {w : Value} (hn : narrow (ty0 k) w = w) (hfit : fits (ty0 k) w = true) {h1 : Hp} (P : Put1 h h1 ci a k w)
    (hdg : decode cc pc = .ok (.putfield index, 3)) (kk : ∀ (H1 : Heap) (locs1 : List Loc), XX G h0 H0 h1 H1 locs1 → W p l e R s m args below meth c H1 locs1 cells slots Q (F0 m (pc + 3) ls rest)) : W p l e R s m args below meth c H locs cells slots Q (F0 m pc ls (w :: v :: rest)) := by
  subst hva
  have hap := va_apart (own := own) hts hin ty0 hty hnm hK hc
  obtain ⟨cell, q1, q2, q3, q4⟩ := hX.1.obj ht hci hc
  obtain ⟨hS, hfc, kC, hkC, hkind⟩ := hK.1 ci _ hc
  obtain ⟨cf, kf, fi, f, hi, hsl⟩ := hS k hk
  have hlay := hts _ (hin _ (u_in_lay hk))
  unfold u_lay at hlay
  rw [if_neg (by rw [hfin]; decide)] at hlay
  have hst := (u_facts hfc hkC (u_lays hts hin hk) hi).1
  have h6 := u_store hfc hkC hkind hlay hi (hty k hk) hn hfit
  refine W.putK hexec hb (f := f) ⟨hown, hlink, ⟨_, _, _, hsame _ hi⟩, hst⟩ (by rw [q2]; exact h6) q1 q3 (by rw [hsl]; exact k2_hasslot (q4 k hk)) rfl rfl hdg fun H' e1 e2 e3 => ?_
  rw [hsl] at e1
  exact kk H' _ (hX.put (by omega) P.1 P.2.1 P.2.2.1 P.2.2.2.1 P.2.2.2.2.1 P.2.2.2.2.2.1 e2 e3 (by omega) (cOk.obj (by rw [P.1]; exact ht) hci hc (P.cell hap hk q2 q3 q4 e1)))
theorem x_putN (hexec : p.tables.exec = Jvm.exec) (hb : c.code = cc) {own ref C host : String} {T : u_T} {N ci index : Nat} {Ts : List Cond} (hts : ∀ w ∈ Ts, w.before args s = true) (hin : ∀ w ∈ u_ws C T N, w ∈ Ts) (ty0 : Nat → FieldType) (hty : ∀ k, k < N → parseFieldDescriptor (T k).2.2.1 = some (ty0 k)) (hnm : ∀ a, a < N → ∀ b, b < N → a ≠ b → (T a).2.1 ≠ (T b).2.1) (hown : s.vm.findClass own = some m.cls) (hK : va_K G.1 vwCl (tysG G) s) (hX : XX G h0 H0 h H locs) (hva : v = .ref a) (ht : hT h a = ci + 1) (hci : ci < 99) (hc : vwCl[ci]? = some (C, T, N)) (k : Nat) (hk : k < N) (hlink : va_Nw (.fieldLinkNest own index ref (T k).2.1 (T k).2.2.1 host) s) (hsame : ∀ x, s.fieldFound? (T k).1 (T k).2.1 (T k).2.2.1 = some x → s.fieldFound? ref (T k).2.1 (T k).2.2.1 = some x) (hfin : (T k).2.2.2 = false) {w : Value} (hn : narrow (ty0 k) w = w) (hfit : fits (ty0 k) w = true) {h1 : Hp} (P : Put1 h h1 ci a k w)
    (hdg : decode cc pc = .ok (.putfield index, 3)) (kk : ∀ (H1 : Heap) (locs1 : List Loc), XX G h0 H0 h1 H1 locs1 → W p l e R s m args below meth c H1 locs1 cells slots Q (F0 m (pc + 3) ls rest)) : W p l e R s m args below meth c H locs cells slots Q (F0 m pc ls (w :: v :: rest)) := by
  subst hva
  have hap := va_apart (own := own) hts hin ty0 hty hnm hK hc
  obtain ⟨cell, q1, q2, q3, q4⟩ := hX.1.obj ht hci hc
  obtain ⟨hS, hfc, kC, hkC, hkind⟩ := hK.1 ci _ hc
  obtain ⟨cf, kf, fi, f, hi, hsl⟩ := hS k hk
  have hlay := hts _ (hin _ (u_in_lay hk))
  unfold u_lay at hlay
  rw [if_neg (by rw [hfin]; decide)] at hlay
  have hst := (u_facts hfc hkC (u_lays hts hin hk) hi).1
  have h6 := u_store hfc hkC hkind hlay hi (hty k hk) hn hfit
  refine va_WputK hexec hb (f := f) hown (va_Nw.use rfl hlink) (hsame _ hi) hst (by rw [q2]; exact h6) q1 q3 (by rw [hsl]; exact k2_hasslot (q4 k hk)) rfl rfl hdg fun H' e1 e2 e3 => ?_
  rw [hsl] at e1
  exact kk H' _ (hX.put (by omega) P.1 P.2.1 P.2.2.1 P.2.2.2.1 P.2.2.2.2.1 P.2.2.2.2.2.1 e2 e3 (by omega) (cOk.obj (by rw [P.1]; exact ht) hci hc (P.cell hap hk q2 q3 q4 e1)))
theorem x_putF (hexec : p.tables.exec = Jvm.exec) (hb : c.code = cc) {own ref C : String} {T : u_T} {N ci index : Nat} {Ts : List Cond} (hts : ∀ w ∈ Ts, w.before args s = true) (hin : ∀ w ∈ u_ws C T N, w ∈ Ts) (ty0 : Nat → FieldType) (hty : ∀ k, k < N → parseFieldDescriptor (T k).2.2.1 = some (ty0 k)) (hnm : ∀ a, a < N → ∀ b, b < N → a ≠ b → (T a).2.1 ≠ (T b).2.1) (hown : s.vm.findClass own = some m.cls) (hK : va_K G.1 vwCl (tysG G) s) (hX : XX G h0 H0 h H locs) (hva : v = .ref a) (ht : hT h a = ci + 1) (hci : ci < 99) (hc : vwCl[ci]? = some (C, T, N)) (k : Nat) (hk : k < N) (hlink : (Cond.fieldLink own index ref (T k).2.1 (T k).2.2.1).before args s = true) (hsame : ∀ x, s.fieldFound? (T k).1 (T k).2.1 (T k).2.2.1 = some x → s.fieldFound? ref (T k).2.1 (T k).2.2.1 = some x) (hfin : (T k).2.2.2 = true) (hin2 : meth.name = "<init>") (hdecl : (T k).1 = own) {w : Value} (hn : narrow (ty0 k) w = w) (hfit : fits (ty0 k) w = true) {h1 : Hp} (P : Put1 h h1 ci a k w)
    (hdg : decode cc pc = .ok (.putfield index, 3)) (kk : ∀ (H1 : Heap) (locs1 : List Loc), XX G h0 H0 h1 H1 locs1 → W p l e R s m args below meth c H1 locs1 cells slots Q (F0 m (pc + 3) ls rest)) : W p l e R s m args below meth c H locs cells slots Q (F0 m pc ls (w :: v :: rest)) := by
  subst hva
  have hap := va_apart (own := own) hts hin ty0 hty hnm hK hc
  obtain ⟨cell, q1, q2, q3, q4⟩ := hX.1.obj ht hci hc
  obtain ⟨hS, hfc, kC, hkC, hkind⟩ := hK.1 ci _ hc
  obtain ⟨cf, kf, fi, f, hi, hsl⟩ := hS k hk
  have hlay := hts _ (hin _ (u_in_lay hk))
  unfold u_lay at hlay
  rw [if_pos hfin] at hlay
  have hst := (u_facts hfc hkC (u_lays hts hin hk) hi).1
  have hcf : m.cls = cf := by
    obtain ⟨_, _, c', _, _, _, -, -, hf', -, -, -, hown2, -⟩ := Cond.laysFinal_spec hlay
    have e1 : c' = cf := by have := hi.symm.trans hf'; simp at this; exact this.1.symm
    rw [hdecl] at hown2
    rw [← e1]; exact Option.some.inj (hown.symm.trans hown2)
  have h6 := u_fits hfc hkC hkind (Or.inr hlay) hi (hty k hk) hn hfit
  refine W.putFinK hexec hb hown hlink (hsame _ hi) hst hcf hin2 (by rw [q2]; exact h6) q1 q3 (by rw [hsl]; exact k2_hasslot (q4 k hk)) rfl rfl hdg fun H' e1 e2 e3 => ?_
  rw [hsl] at e1
  exact kk H' _ (hX.put (by omega) P.1 P.2.1 P.2.2.1 P.2.2.2.1 P.2.2.2.2.1 P.2.2.2.2.2.1 e2 e3 (by omega) (cOk.obj (by rw [P.1]; exact ht) hci hc (P.cell hap hk q2 q3 q4 e1)))
theorem x_iald (hexec : p.tables.exec = Jvm.exec) (hb : c.code = cc) (hK : va_K G.1 vwCl (tysG G) s) (hX : XX G h0 H0 h H locs) (hva : v = .ref a) (ht : hT h a = 100) {i : Int32} (hin : ¬ (i < 0 ∨ hN h a ≤ i.toNatClampNeg)) (hdg : decode cc pc = .ok (.iaload, 1))
    (kk : W p l e R s m args below meth c H locs cells slots Q (F0 m (pc + 1) ls (.int (hI h a i.toNatClampNeg) :: rest))) : W p l e R s m args below meth c H locs cells slots Q (F0 m pc ls (.int i :: v :: rest)) := by
  subst hva
  have hlt : i.toNatClampNeg < hN h a := Nat.not_le.mp fun q => hin (Or.inr q)
  have hA := hX.1.arr (t := 0) ht (by decide)
  exact W.iald (v := .int (hI h a i.toNatClampNeg)) hexec hb hA ((hK.2 0 _ rfl).1 _ _) (fun q => by cases q) (by show ¬ (i < 0 ∨ (arrV _ _ _).slots.size ≤ _); rw [arrV_size]; exact hin) (by show (arrV _ _ _).slots[_]? = _; rw [arrV_read _ _ hlt]; exact congrArg some (hv_int rfl)) rfl rfl hdg kk
theorem x_lald (hexec : p.tables.exec = Jvm.exec) (hb : c.code = cc) (hK : va_K G.1 vwCl (tysG G) s) (hX : XX G h0 H0 h H locs) (hva : v = .ref a) (ht : hT h a = 101) {i : Int32} (hin : ¬ (i < 0 ∨ hN h a ≤ i.toNatClampNeg)) (hdg : decode cc pc = .ok (.laload, 1))
    (kk : W p l e R s m args below meth c H locs cells slots Q (F0 m (pc + 1) ls (.long (hL h a i.toNatClampNeg) :: rest))) : W p l e R s m args below meth c H locs cells slots Q (F0 m pc ls (.int i :: v :: rest)) := by
  subst hva
  have hlt : i.toNatClampNeg < hN h a := Nat.not_le.mp fun q => hin (Or.inr q)
  have hA := hX.1.arr (t := 1) ht (by decide)
  exact W.lald (v := .long (hL h a i.toNatClampNeg)) hexec hb hA ((hK.2 1 _ rfl).1 _ _) (fun q => by cases q) (by show ¬ (i < 0 ∨ (arrV _ _ _).slots.size ≤ _); rw [arrV_size]; exact hin) (by show (arrV _ _ _).slots[_]? = _; rw [arrV_read _ _ hlt]; exact congrArg some (hv_long rfl)) rfl rfl hdg kk
theorem x_bald (hexec : p.tables.exec = Jvm.exec) (hb : c.code = cc) (hK : va_K G.1 vwCl (tysG G) s) (hX : XX G h0 H0 h H locs) (hva : v = .ref a) (ht : hT h a = 102) {i : Int32} (hin : ¬ (i < 0 ∨ hN h a ≤ i.toNatClampNeg)) (hdg : decode cc pc = .ok (.baload, 1))
    (kk : W p l e R s m args below meth c H locs cells slots Q (F0 m (pc + 1) ls (.int (hI h a i.toNatClampNeg) :: rest))) : W p l e R s m args below meth c H locs cells slots Q (F0 m pc ls (.int i :: v :: rest)) := by
  subst hva
  have hlt : i.toNatClampNeg < hN h a := Nat.not_le.mp fun q => hin (Or.inr q)
  have hA := hX.1.arr (t := 2) ht (by decide)
  exact W.bald (v := .int (hI h a i.toNatClampNeg)) hexec hb hA ((hK.2 2 _ rfl).1 _ _) (fun q => by cases q) (by show ¬ (i < 0 ∨ (arrV _ _ _).slots.size ≤ _); rw [arrV_size]; exact hin) (by show (arrV _ _ _).slots[_]? = _; rw [arrV_read _ _ hlt]; exact congrArg some (hv_int rfl)) rfl rfl hdg kk
theorem x_cald (hexec : p.tables.exec = Jvm.exec) (hb : c.code = cc) (hK : va_K G.1 vwCl (tysG G) s) (hX : XX G h0 H0 h H locs) (hva : v = .ref a) (ht : hT h a = 103) {i : Int32} (hin : ¬ (i < 0 ∨ hN h a ≤ i.toNatClampNeg)) (hdg : decode cc pc = .ok (.caload, 1))
    (kk : W p l e R s m args below meth c H locs cells slots Q (F0 m (pc + 1) ls (.int (hI h a i.toNatClampNeg) :: rest))) : W p l e R s m args below meth c H locs cells slots Q (F0 m pc ls (.int i :: v :: rest)) := by
  subst hva
  have hlt : i.toNatClampNeg < hN h a := Nat.not_le.mp fun q => hin (Or.inr q)
  have hA := hX.1.arr (t := 3) ht (by decide)
  exact W.cald (v := .int (hI h a i.toNatClampNeg)) hexec hb hA ((hK.2 3 _ rfl).1 _ _) (fun q => by cases q) (by show ¬ (i < 0 ∨ (arrV _ _ _).slots.size ≤ _); rw [arrV_size]; exact hin) (by show (arrV _ _ _).slots[_]? = _; rw [arrV_read _ _ hlt]; exact congrArg some (hv_int rfl)) rfl rfl hdg kk
theorem x_zald (hexec : p.tables.exec = Jvm.exec) (hb : c.code = cc) (hK : va_K G.1 vwCl (tysG G) s) (hX : XX G h0 H0 h H locs) (hva : v = .ref a) (ht : hT h a = 104) {i : Int32} (hin : ¬ (i < 0 ∨ hN h a ≤ i.toNatClampNeg)) (hdg : decode cc pc = .ok (.baload, 1))
    (kk : W p l e R s m args below meth c H locs cells slots Q (F0 m (pc + 1) ls (.int (hI h a i.toNatClampNeg) :: rest))) : W p l e R s m args below meth c H locs cells slots Q (F0 m pc ls (.int i :: v :: rest)) := by
  subst hva
  have hlt : i.toNatClampNeg < hN h a := Nat.not_le.mp fun q => hin (Or.inr q)
  have hA := hX.1.arr (t := 4) ht (by decide)
  exact W.zald (v := .int (hI h a i.toNatClampNeg)) hexec hb hA ((hK.2 4 _ rfl).1 _ _) (fun q => by cases q) (by show ¬ (i < 0 ∨ (arrV _ _ _).slots.size ≤ _); rw [arrV_size]; exact hin) (by show (arrV _ _ _).slots[_]? = _; rw [arrV_read _ _ hlt]; exact congrArg some (hv_int rfl)) rfl rfl hdg kk
theorem x_iast (hexec : p.tables.exec = Jvm.exec) (hb : c.code = cc) (hK : va_K G.1 vwCl (tysG G) s) (hX : XX G h0 H0 h H locs) (hva : v = .ref a) (ht : hT h a = 100) {i : Int32} {x : Int32} (hin : ¬ (i < 0 ∨ hN h a ≤ i.toNatClampNeg)) (hdg : decode cc pc = .ok (.iastore, 1))
    (kk : ∀ (H1 : Heap) (locs1 : List Loc), XX G h0 H0 (sI h a i.toNatClampNeg x) H1 locs1 → W p l e R s m args below meth c H1 locs1 cells slots Q (F0 m (pc + 1) ls rest)) : W p l e R s m args below meth c H locs cells slots Q (F0 m pc ls (.int x :: .int i :: v :: rest)) := by
  subst hva
  have hA := hX.1.arr (t := 0) ht (by decide)
  refine W.iast hexec hb hA ((hK.2 0 _ rfl).1 _ _) (fun q => by cases q) (by show ¬ (i < 0 ∨ (arrV _ _ _).slots.size ≤ _); rw [arrV_size]; exact hin) rfl rfl hdg fun H1 e z oq => ?_
  refine kk H1 _ (hX.put (by omega) rfl rfl rfl (fun _ _ q => by first | rfl | exact hI_sI_ne q) (fun _ _ q => by first | rfl | exact hL_sL_ne q) (fun _ _ q => by first | rfl | exact hR_sR_ne q) z oq (by omega) (cOk.arr (t := 0) ht (by decide) ?_))
  rw [e, arrV_store]
  congr 2
  funext j
  rw [hv_sI (fun _ => rfl)]
  by_cases hj : j = i.toNatClampNeg
  · subst hj
    simp [updV]
    try rfl
  · simp [updV, hj]
theorem x_last (hexec : p.tables.exec = Jvm.exec) (hb : c.code = cc) (hK : va_K G.1 vwCl (tysG G) s) (hX : XX G h0 H0 h H locs) (hva : v = .ref a) (ht : hT h a = 101) {i : Int32} {x : Int64} (hin : ¬ (i < 0 ∨ hN h a ≤ i.toNatClampNeg)) (hdg : decode cc pc = .ok (.lastore, 1))
    (kk : ∀ (H1 : Heap) (locs1 : List Loc), XX G h0 H0 (sL h a i.toNatClampNeg x) H1 locs1 → W p l e R s m args below meth c H1 locs1 cells slots Q (F0 m (pc + 1) ls rest)) : W p l e R s m args below meth c H locs cells slots Q (F0 m pc ls (.long x :: .int i :: v :: rest)) := by
  subst hva
  have hA := hX.1.arr (t := 1) ht (by decide)
  refine W.last hexec hb hA ((hK.2 1 _ rfl).1 _ _) (fun q => by cases q) (by show ¬ (i < 0 ∨ (arrV _ _ _).slots.size ≤ _); rw [arrV_size]; exact hin) rfl rfl hdg fun H1 e z oq => ?_
  refine kk H1 _ (hX.put (by omega) rfl rfl rfl (fun _ _ q => by first | rfl | exact hI_sI_ne q) (fun _ _ q => by first | rfl | exact hL_sL_ne q) (fun _ _ q => by first | rfl | exact hR_sR_ne q) z oq (by omega) (cOk.arr (t := 1) ht (by decide) ?_))
  rw [e, arrV_store]
  congr 2
  funext j
  rw [hv_sL (fun _ => rfl)]
  by_cases hj : j = i.toNatClampNeg
  · subst hj
    simp [updV]
    try rfl
  · simp [updV, hj]
theorem x_bast (hexec : p.tables.exec = Jvm.exec) (hb : c.code = cc) (hK : va_K G.1 vwCl (tysG G) s) (hX : XX G h0 H0 h H locs) (hva : v = .ref a) (ht : hT h a = 102) {i : Int32} {x : Int32} (hin : ¬ (i < 0 ∨ hN h a ≤ i.toNatClampNeg)) (hdg : decode cc pc = .ok (.bastore, 1))
    (kk : ∀ (H1 : Heap) (locs1 : List Loc), XX G h0 H0 (sI h a i.toNatClampNeg (vp_nar .byte x)) H1 locs1 → W p l e R s m args below meth c H1 locs1 cells slots Q (F0 m (pc + 1) ls rest)) : W p l e R s m args below meth c H locs cells slots Q (F0 m pc ls (.int x :: .int i :: v :: rest)) := by
  subst hva
  have hA := hX.1.arr (t := 2) ht (by decide)
  refine W.bast hexec hb hA ((hK.2 2 _ rfl).1 _ _) (fun q => by cases q) (by show ¬ (i < 0 ∨ (arrV _ _ _).slots.size ≤ _); rw [arrV_size]; exact hin) rfl rfl hdg fun H1 e z oq => ?_
  refine kk H1 _ (hX.put (by omega) rfl rfl rfl (fun _ _ q => by first | rfl | exact hI_sI_ne q) (fun _ _ q => by first | rfl | exact hL_sL_ne q) (fun _ _ q => by first | rfl | exact hR_sR_ne q) z oq (by omega) (cOk.arr (t := 2) ht (by decide) ?_))
  rw [e, arrV_store]
  congr 2
  funext j
  rw [hv_sI (fun _ => rfl)]
  by_cases hj : j = i.toNatClampNeg
  · subst hj
    simp [updV, vp_nar]
    try rfl
  · simp [updV, hj]
theorem x_cast (hexec : p.tables.exec = Jvm.exec) (hb : c.code = cc) (hK : va_K G.1 vwCl (tysG G) s) (hX : XX G h0 H0 h H locs) (hva : v = .ref a) (ht : hT h a = 103) {i : Int32} {x : Int32} (hin : ¬ (i < 0 ∨ hN h a ≤ i.toNatClampNeg)) (hdg : decode cc pc = .ok (.castore, 1))
    (kk : ∀ (H1 : Heap) (locs1 : List Loc), XX G h0 H0 (sI h a i.toNatClampNeg (vp_nar .char x)) H1 locs1 → W p l e R s m args below meth c H1 locs1 cells slots Q (F0 m (pc + 1) ls rest)) : W p l e R s m args below meth c H locs cells slots Q (F0 m pc ls (.int x :: .int i :: v :: rest)) := by
  subst hva
  have hA := hX.1.arr (t := 3) ht (by decide)
  refine W.cast hexec hb hA ((hK.2 3 _ rfl).1 _ _) (fun q => by cases q) (by show ¬ (i < 0 ∨ (arrV _ _ _).slots.size ≤ _); rw [arrV_size]; exact hin) rfl rfl hdg fun H1 e z oq => ?_
  refine kk H1 _ (hX.put (by omega) rfl rfl rfl (fun _ _ q => by first | rfl | exact hI_sI_ne q) (fun _ _ q => by first | rfl | exact hL_sL_ne q) (fun _ _ q => by first | rfl | exact hR_sR_ne q) z oq (by omega) (cOk.arr (t := 3) ht (by decide) ?_))
  rw [e, arrV_store]
  congr 2
  funext j
  rw [hv_sI (fun _ => rfl)]
  by_cases hj : j = i.toNatClampNeg
  · subst hj
    simp [updV, vp_nar]
    try rfl
  · simp [updV, hj]
theorem x_zast (hexec : p.tables.exec = Jvm.exec) (hb : c.code = cc) (hK : va_K G.1 vwCl (tysG G) s) (hX : XX G h0 H0 h H locs) (hva : v = .ref a) (ht : hT h a = 104) {i : Int32} {x : Int32} (hin : ¬ (i < 0 ∨ hN h a ≤ i.toNatClampNeg)) (hdg : decode cc pc = .ok (.bastore, 1))
    (kk : ∀ (H1 : Heap) (locs1 : List Loc), XX G h0 H0 (sI h a i.toNatClampNeg (vp_nar .boolean x)) H1 locs1 → W p l e R s m args below meth c H1 locs1 cells slots Q (F0 m (pc + 1) ls rest)) : W p l e R s m args below meth c H locs cells slots Q (F0 m pc ls (.int x :: .int i :: v :: rest)) := by
  subst hva
  have hA := hX.1.arr (t := 4) ht (by decide)
  refine W.zast hexec hb hA ((hK.2 4 _ rfl).1 _ _) (fun q => by cases q) (by show ¬ (i < 0 ∨ (arrV _ _ _).slots.size ≤ _); rw [arrV_size]; exact hin) rfl rfl hdg fun H1 e z oq => ?_
  refine kk H1 _ (hX.put (by omega) rfl rfl rfl (fun _ _ q => by first | rfl | exact hI_sI_ne q) (fun _ _ q => by first | rfl | exact hL_sL_ne q) (fun _ _ q => by first | rfl | exact hR_sR_ne q) z oq (by omega) (cOk.arr (t := 4) ht (by decide) ?_))
  rw [e, arrV_store]
  congr 2
  funext j
  rw [hv_sI (fun _ => rfl)]
  by_cases hj : j = i.toNatClampNeg
  · subst hj
    simp [updV, vp_nar]
    try rfl
  · simp [updV, hj]
theorem x_aald (hexec : p.tables.exec = Jvm.exec) (hb : c.code = cc) (hK : va_K G.1 vwCl (tysG G) s) (hX : XX G h0 H0 h H locs) (hva : v = .ref a) (t : Nat) (ht : hT h a = 100 + t) (ht9 : t < 100) (hk : kd (aTy t) = 2) (hr : (aTy t).isReference = true) (hty : (tysG G)[t]? = some (gL G (100 + t), aTy t)) {i : Int32} (hin : ¬ (i < 0 ∨ hN h a ≤ i.toNatClampNeg)) (hdg : decode cc pc = .ok (.aaload, 1))
    (kk : W p l e R s m args below meth c H locs cells slots Q (F0 m (pc + 1) ls (va_rf (hR h a i.toNatClampNeg) :: rest))) : W p l e R s m args below meth c H locs cells slots Q (F0 m pc ls (.int i :: v :: rest)) := by
  subst hva
  have hlt : i.toNatClampNeg < hN h a := Nat.not_le.mp fun q => hin (Or.inr q)
  have hA := hX.1.arr ht ht9
  exact W.aald (v := va_rf (hR h a i.toNatClampNeg)) (ty := aTy t) hexec hb hA ((hK.2 t _ hty).1 _ _) hr (fun q => by cases q) (by show ¬ (i < 0 ∨ (arrV _ _ _).slots.size ≤ _); rw [arrV_size]; exact hin) (by show (arrV _ _ _).slots[_]? = _; rw [arrV_read _ _ hlt]; exact congrArg some (hv_ref hk)) rfl rfl hdg kk
theorem x_alen (hexec : p.tables.exec = Jvm.exec) (hb : c.code = cc) (hK : va_K G.1 vwCl (tysG G) s) (hX : XX G h0 H0 h H locs) (hva : v = .ref a) (t : Nat) (ht : hT h a = 100 + t) (ht9 : t < 100) (hty : (tysG G)[t]? = some (gL G (100 + t), aTy t)) (hdg : decode cc pc = .ok (.arraylength, 1))
    (kk : W p l e R s m args below meth c H locs cells slots Q (F0 m (pc + 1) ls (.int (nI (hN h a)) :: rest))) : W p l e R s m args below meth c H locs cells slots Q (F0 m pc ls (v :: rest)) := by
  subst hva
  have hA := hX.1.arr ht ht9
  exact W.alen (n := nI (hN h a)) (ty := aTy t) hexec hb hA ((hK.2 t _ hty).1 _ _) (by show (arrV _ _ _).slots.size.toInt32 = _; rw [arrV_size]; rfl) rfl rfl hdg kk
end XR
