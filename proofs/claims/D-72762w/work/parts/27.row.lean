/-! lambda$new$0..2: a cell of a row, or the exception (by program) -/
def eNPE : String := "java/lang/NullPointerException"
def eCCE : String := "java/lang/ClassCastException"
def eOOB : String := "java/lang/ArrayIndexOutOfBoundsException"
/-- what row[i] is, the row taken as an array of type t -/
def rowAt (h : Hp) (t : Nat) (row : Option Nat) (i : Int32) : Sum Int32 String := match row with
  | none => .inr eNPE
  | some a => if hT h a = 100 + t then (if i < 0 ∨ hN h a ≤ i.toNatClampNeg then .inr eOOB else .inl (hI h a i.toNatClampNeg)) else .inr eCCE
/-- a row is null or an array of bytes, chars, ints -/
def rowOk (h : Hp) (row : Option Nat) : Prop := ∀ a, row = some a → (hT h a = 100 ∨ hT h a = 102 ∨ hT h a = 103) ∧ hN h a < 2 ^ 31
/-- returned r, the heap as it was -/
def XQy (res : Sum Int32 String) : Array Value → State → Outcome → State → Prop := fun _ st o t => ∃ r, res = .inl r ∧ o = .returned (some (.int r)) ∧ t.heap = st.heap
/-- threw E, the heap has grown -/
def XCy (G : Gt) (res : Sum Int32 String) (h : Hp) : String → Addr → State → State → Prop := fun E q st t => res = .inr E ∧ ∃ z, XW G (hzz h z) t.heap ∧ Ext h (hzz h z) ∧ va_F (fre h) st t
section XR
variable {p : Program} {l : Launch} {e : Env} {R : Room} {s : State} {m : MethodId} {args : Array Value} {below : List Frame} {meth : Method} {c : Code} {H : Heap} {locs : List Loc} {cells slots : Nat} {Q : State → Prop}
variable {cc : ByteArray} {pc : Nat} {ls : Array Slot} {rest : List Value} {G : Gt} {h h0 : Hp} {H0 : Heap} {a : Nat} {v : Value}
theorem x_baloadZ (hexec : p.tables.exec = Jvm.exec) (hb : c.code = cc) (hK : KK G s) (hX : XX G h0 H0 h H locs) (hva : v = .ref a) (ht : hT h a = 102) {i : Int32} (hout : i < 0 ∨ hN h a ≤ i.toNatClampNeg) (hdg : decode cc pc = .ok (.baload, 1))
    (k : vx_Note p l e R s m args below meth c H locs cells slots Q (F0 m pc ls rest) "java/lang/ArrayIndexOutOfBoundsException" (toString "Index " ++ toString i ++ toString " out of bounds for length " ++ toString (hN h a) : String)) : W p l e R s m args below meth c H locs cells slots Q (F0 m pc ls (.int i :: v :: rest)) := by
  subst hva
  have hA := hX.1.arr (t := 2) ht (by decide)
  intro T hTt X
  obtain ⟨t, st, q⟩ := k T hTt X
  refine ⟨t, ?_, q⟩
  have h1 := X.baloadOut hexec (by rw [hTt]; exact hA) ((hK.1.2 2 _ rfl).1 (hN h a) (fun j => hv (aTy 2) h a j)) (j := i) (by show (i < 0 ∨ (arrV _ _ _).slots.size ≤ _); rw [arrV_size]; exact hout) (g := F0 m pc ls (.int i :: .ref a :: rest)) rfl (rest := rest) rfl (by rw [hb]; exact hdg) t
  simp only [arrV_size] at h1
  exact h1 st
theorem x_caloadZ (hexec : p.tables.exec = Jvm.exec) (hb : c.code = cc) (hK : KK G s) (hX : XX G h0 H0 h H locs) (hva : v = .ref a) (ht : hT h a = 103) {i : Int32} (hout : i < 0 ∨ hN h a ≤ i.toNatClampNeg) (hdg : decode cc pc = .ok (.caload, 1))
    (k : vx_Note p l e R s m args below meth c H locs cells slots Q (F0 m pc ls rest) "java/lang/ArrayIndexOutOfBoundsException" (toString "Index " ++ toString i ++ toString " out of bounds for length " ++ toString (hN h a) : String)) : W p l e R s m args below meth c H locs cells slots Q (F0 m pc ls (.int i :: v :: rest)) := by
  subst hva
  have hA := hX.1.arr (t := 3) ht (by decide)
  intro T hTt X
  obtain ⟨t, st, q⟩ := k T hTt X
  refine ⟨t, ?_, q⟩
  have h1 := X.caloadOut hexec (by rw [hTt]; exact hA) ((hK.1.2 3 _ rfl).1 (hN h a) (fun j => hv (aTy 3) h a j)) (j := i) (by show (i < 0 ∨ (arrV _ _ _).slots.size ≤ _); rw [arrV_size]; exact hout) (g := F0 m pc ls (.int i :: .ref a :: rest)) rfl (rest := rest) rfl (by rw [hb]; exact hdg) t
  simp only [arrV_size] at h1
  exact h1 st
theorem x_ialoadZ (hexec : p.tables.exec = Jvm.exec) (hb : c.code = cc) (hK : KK G s) (hX : XX G h0 H0 h H locs) (hva : v = .ref a) (ht : hT h a = 100) {i : Int32} (hout : i < 0 ∨ hN h a ≤ i.toNatClampNeg) (hdg : decode cc pc = .ok (.iaload, 1))
    (k : vx_Note p l e R s m args below meth c H locs cells slots Q (F0 m pc ls rest) "java/lang/ArrayIndexOutOfBoundsException" (toString "Index " ++ toString i ++ toString " out of bounds for length " ++ toString (hN h a) : String)) : W p l e R s m args below meth c H locs cells slots Q (F0 m pc ls (.int i :: v :: rest)) := by
  subst hva
  have hA := hX.1.arr (t := 0) ht (by decide)
  intro T hTt X
  obtain ⟨t, st, q⟩ := k T hTt X
  refine ⟨t, ?_, q⟩
  have h1 := X.ialoadOut hexec (by rw [hTt]; exact hA) ((hK.1.2 0 _ rfl).1 (hN h a) (fun j => hv (aTy 0) h a j)) (j := i) (by show (i < 0 ∨ (arrV _ _ _).slots.size ≤ _); rw [arrV_size]; exact hout) (g := F0 m pc ls (.int i :: .ref a :: rest)) rfl (rest := rest) rfl (by rw [hb]; exact hdg) t
  simp only [arrV_size] at h1
  exact h1 st
theorem x_bastoreZ (hexec : p.tables.exec = Jvm.exec) (hb : c.code = cc) (hK : KK G s) (hX : XX G h0 H0 h H locs) (hva : v = .ref a) (ht : hT h a = 102) {i : Int32} {x : Int32} (hout : i < 0 ∨ hN h a ≤ i.toNatClampNeg) (hdg : decode cc pc = .ok (.bastore, 1))
    (k : vx_Note p l e R s m args below meth c H locs cells slots Q (F0 m pc ls rest) "java/lang/ArrayIndexOutOfBoundsException" (toString "Index " ++ toString i ++ toString " out of bounds for length " ++ toString (hN h a) : String)) : W p l e R s m args below meth c H locs cells slots Q (F0 m pc ls (.int x :: .int i :: v :: rest)) := by
  subst hva
  have hA := hX.1.arr (t := 2) ht (by decide)
  intro T hTt X
  obtain ⟨t, st, q⟩ := k T hTt X
  refine ⟨t, ?_, q⟩
  have h1 := X.bastoreOut hexec (by rw [hTt]; exact hA) ((hK.1.2 2 _ rfl).1 (hN h a) (fun j => hv (aTy 2) h a j)) (j := i) (by show (i < 0 ∨ (arrV _ _ _).slots.size ≤ _); rw [arrV_size]; exact hout) (g := F0 m pc ls (.int x :: .int i :: .ref a :: rest)) rfl (rest := rest) rfl (by rw [hb]; exact hdg) t
  simp only [arrV_size] at h1
  exact h1 st
theorem x_castoreZ (hexec : p.tables.exec = Jvm.exec) (hb : c.code = cc) (hK : KK G s) (hX : XX G h0 H0 h H locs) (hva : v = .ref a) (ht : hT h a = 103) {i : Int32} {x : Int32} (hout : i < 0 ∨ hN h a ≤ i.toNatClampNeg) (hdg : decode cc pc = .ok (.castore, 1))
    (k : vx_Note p l e R s m args below meth c H locs cells slots Q (F0 m pc ls rest) "java/lang/ArrayIndexOutOfBoundsException" (toString "Index " ++ toString i ++ toString " out of bounds for length " ++ toString (hN h a) : String)) : W p l e R s m args below meth c H locs cells slots Q (F0 m pc ls (.int x :: .int i :: v :: rest)) := by
  subst hva
  have hA := hX.1.arr (t := 3) ht (by decide)
  intro T hTt X
  obtain ⟨t, st, q⟩ := k T hTt X
  refine ⟨t, ?_, q⟩
  have h1 := X.castoreOut hexec (by rw [hTt]; exact hA) ((hK.1.2 3 _ rfl).1 (hN h a) (fun j => hv (aTy 3) h a j)) (j := i) (by show (i < 0 ∨ (arrV _ _ _).slots.size ≤ _); rw [arrV_size]; exact hout) (g := F0 m pc ls (.int x :: .int i :: .ref a :: rest)) rfl (rest := rest) rfl (by rw [hb]; exact hdg) t
  simp only [arrV_size] at h1
  exact h1 st
theorem x_iastoreZ (hexec : p.tables.exec = Jvm.exec) (hb : c.code = cc) (hK : KK G s) (hX : XX G h0 H0 h H locs) (hva : v = .ref a) (ht : hT h a = 100) {i : Int32} {x : Int32} (hout : i < 0 ∨ hN h a ≤ i.toNatClampNeg) (hdg : decode cc pc = .ok (.iastore, 1))
    (k : vx_Note p l e R s m args below meth c H locs cells slots Q (F0 m pc ls rest) "java/lang/ArrayIndexOutOfBoundsException" (toString "Index " ++ toString i ++ toString " out of bounds for length " ++ toString (hN h a) : String)) : W p l e R s m args below meth c H locs cells slots Q (F0 m pc ls (.int x :: .int i :: v :: rest)) := by
  subst hva
  have hA := hX.1.arr (t := 0) ht (by decide)
  intro T hTt X
  obtain ⟨t, st, q⟩ := k T hTt X
  refine ⟨t, ?_, q⟩
  have h1 := X.iastoreOut hexec (by rw [hTt]; exact hA) ((hK.1.2 0 _ rfl).1 (hN h a) (fun j => hv (aTy 0) h a j)) (j := i) (by show (i < 0 ∨ (arrV _ _ _).slots.size ≤ _); rw [arrV_size]; exact hout) (g := F0 m pc ls (.int x :: .int i :: .ref a :: rest)) rfl (rest := rest) rfl (by rw [hb]; exact hdg) t
  simp only [arrV_size] at h1
  exact h1 st
end XR
set_option maxHeartbeats 1000000 in
theorem wx_row0 (l : Launch) (hl0 : l.stackTraces = false) (G : Gt) (hG : XG G) (h : Hp) (row : Option Nat) (i : Int32) (hrow : rowOk h row) (res : Sum Int32 String) (hres : rowAt h 2 row i = res) : vx_Met l yX0_lambda_new_0 (ws_ yX0_lambda_new_0 cX0_lambda_new_0 2 (some .int)) (rmm 8 3 1010 10300) (XP G [va_rf row, .int i] h) (XQy res) (XCy G res h) 3 1010 (fre h) := by
  refine vx_ofW (cc := cX0_lambda_new_0) (maxL := 2) (ret := some .int) (by decide) rfl ?_
  intro p e s m args below meth c s₁ B hml hT0 hv
  obtain ⟨rfl, hK, hW⟩ := hv
  have hx := B.exec
  have hb := B.bytes
  have hr := B.returns
  have hlocks := B.notSynchronized
  have hts0 := atoms_spec (ws := ws_ yX0_lambda_new_0 cX0_lambda_new_0 2 (some .int)) B.pre
  have hts : ∀ w ∈ lw_all, w.before [va_rf row, .int i].toArray s = true := fun w h => hts0 w (List.mem_cons_of_mem _ h)
  have hown : s.vm.findClass RX0 = some m.cls := findClass_of_methodNamed B.named
  have hl := lv_entry (n := 2) [va_rf row, .int i] (by cases row <;> exact Nat.le_of_ble_eq_true rfl)
  rw [lg_entry_eq]
  have hl : lv_has _ 2 [(0, va_rf row), (1, .int i)] := Eq.mp (congrArg (lv_has _ 2) (show lv_args 0 [va_rf row, .int i] = [(0, va_rf row), (1, .int i)] from by cases row <;> rfl)) hl
  generalize ((lg_sl [va_rf row, .int i]) ++ List.replicate (2 - (lg_sl [va_rf row, .int i]).length) Slot.unset).toArray = ls at hl ⊢
  have hX := XX.start hW
  have hs9 : ls.size = c.maxLocals := by rw [hml]; exact hl.1
  have leave : ∀ (E : String) (H1 : Heap) (q9 : Addr) (ce : Cell) (pc : Nat) (rest : List Value), res = .inr E → XX G h s.heap (hzz h H1.size) H1 [] → H1[q9]? = some ce → ce.vm = .none → s.vm.findClass E = some ce.cls → vx_W p l e (rmm 8 3 1010 10300) s m [va_rf row, .int i].toArray below meth c H1 [] (0 + 3) (0 + 1010) (vx_MQ below (XQy res) (XCy G res h) [va_rf row, .int i].toArray s 3 1010 (fre h)) (F0 m pc ls rest) q9 :=
    fun E H1 q9 ce pc rest hE hX1 h1 h2 h3 => vx_out (fun x hx => (hT0 x hx).elim) hlocks h1 h2 h3 (fun t ht hA => ⟨hE, H1.size, by rw [ht]; exact hX1.1, hX1.2.1, hX1.2.2.F ht⟩) (fun _ h9 => by cases h9) (by decide) (by decide)
  refine lx_aload_n hx hb dX0_lambda_new_0_0 rfl (lv_at hl 0 rfl) ?_
  cases row with
  | none =>
    refine lv_castN hx hb dX0_lambda_new_0_1 ?_
    refine lv_iload_n hx hb dX0_lambda_new_0_4 rfl (lv_at hl 1 rfl) ?_
    refine vx_baloadN hx hb dX0_lambda_new_0_5 ?_
    exact x_npe hG hx hl0 hts hK hW hX hlocks hs9 (by decide) (by decide) (by decide) (by decide) (fun H1 q9 ce hX1 h1 h2 h3 => leave _ H1 q9 ce _ _ hres.symm hX1 h1 h2 h3)
  | some a =>
    obtain ⟨ht3, hn⟩ := hrow a rfl
    by_cases ht : hT h a = 102
    · refine x_castY hx hb hown (t := 2) (by decide) (hts _ q902) hK hX rfl ht dX0_lambda_new_0_1 ?_
      refine lv_iload_n hx hb dX0_lambda_new_0_4 rfl (lv_at hl 1 rfl) ?_
      by_cases hin : i < 0 ∨ hN h a ≤ i.toNatClampNeg
      · refine x_baloadZ hx hb hK hX rfl ht hin dX0_lambda_new_0_5 ?_
        exact x_oob hG hx hl0 hts hK hW hX hlocks hs9 i (hN h a) hn (by decide) (by decide) (by decide) (by decide) (fun H1 q9 ce hX1 h1 h2 h3 => leave _ H1 q9 ce _ _ (by rw [← hres]; show (if hT h a = 100 + 2 then _ else _) = _; rw [if_pos ht, if_pos hin]; rfl) hX1 h1 h2 h3)
      · refine x_bald hx hb hK.1 hX rfl ht hin dX0_lambda_new_0_5 ?_
        refine W.widen (k := 3) (n := 1010) (by decide) (by decide) ?_
        exact vx_ret (W.zret (v := hI h a i.toNatClampNeg) (ty := .int) hx hb hr rfl (fun t ht9 hW9 => ⟨_, by rw [← hres]; show (if hT h a = 100 + 2 then _ else _) = _; rw [if_pos ht, if_neg hin], rfl, ht9⟩) (fun _ h9 => by cases h9) dX0_lambda_new_0_6 hlocks)
    · have ht2 : ∃ t2, (t2 = 0 ∨ t2 = 2 ∨ t2 = 3) ∧ hT h a = 100 + t2 ∧ t2 ≠ 2 := by
        rcases ht3 with z | z | z
        · exact ⟨0, by decide, z, fun q => ht (by omega)⟩
        · exact ⟨2, by decide, z, fun q => ht (by omega)⟩
        · exact ⟨3, by decide, z, fun q => ht (by omega)⟩
      obtain ⟨t2, z1, z2, z3⟩ := ht2
      refine x_castNo hG hx hb hown (t := t2) (t2 := 2) z1 (by decide) z3 (hts _ q902) hK hX rfl z2 dX0_lambda_new_0_1 (fun text x1 x2 => ?_)
      exact x_vm hG hx hl0 hts hK hW hX hlocks (names := nmN) (by decide +kernel) (by decide +kernel) (by decide) (by decide) exnC exnC' exnOC x1 x2 hs9 (by decide) (by decide) (by show (1 + 0) + 10240 ≤ 10300; decide) (by decide) (by decide) (fun H1 q9 ce hX1 h1 h2 h3 => leave _ H1 q9 ce _ _ (by rw [← hres]; show (if hT h a = 100 + 2 then _ else _) = _; rw [if_neg ht]; rfl) hX1 h1 h2 h3)
set_option maxHeartbeats 1000000 in
theorem wx_row1 (l : Launch) (hl0 : l.stackTraces = false) (G : Gt) (hG : XG G) (h : Hp) (row : Option Nat) (i : Int32) (hrow : rowOk h row) (res : Sum Int32 String) (hres : rowAt h 3 row i = res) : vx_Met l yX0_lambda_new_1 (ws_ yX0_lambda_new_1 cX0_lambda_new_1 2 (some .int)) (rmm 8 3 1010 10300) (XP G [va_rf row, .int i] h) (XQy res) (XCy G res h) 3 1010 (fre h) := by
  refine vx_ofW (cc := cX0_lambda_new_1) (maxL := 2) (ret := some .int) (by decide) rfl ?_
  intro p e s m args below meth c s₁ B hml hT0 hv
  obtain ⟨rfl, hK, hW⟩ := hv
  have hx := B.exec
  have hb := B.bytes
  have hr := B.returns
  have hlocks := B.notSynchronized
  have hts0 := atoms_spec (ws := ws_ yX0_lambda_new_1 cX0_lambda_new_1 2 (some .int)) B.pre
  have hts : ∀ w ∈ lw_all, w.before [va_rf row, .int i].toArray s = true := fun w h => hts0 w (List.mem_cons_of_mem _ h)
  have hown : s.vm.findClass RX0 = some m.cls := findClass_of_methodNamed B.named
  have hl := lv_entry (n := 2) [va_rf row, .int i] (by cases row <;> exact Nat.le_of_ble_eq_true rfl)
  rw [lg_entry_eq]
  have hl : lv_has _ 2 [(0, va_rf row), (1, .int i)] := Eq.mp (congrArg (lv_has _ 2) (show lv_args 0 [va_rf row, .int i] = [(0, va_rf row), (1, .int i)] from by cases row <;> rfl)) hl
  generalize ((lg_sl [va_rf row, .int i]) ++ List.replicate (2 - (lg_sl [va_rf row, .int i]).length) Slot.unset).toArray = ls at hl ⊢
  have hX := XX.start hW
  have hs9 : ls.size = c.maxLocals := by rw [hml]; exact hl.1
  have leave : ∀ (E : String) (H1 : Heap) (q9 : Addr) (ce : Cell) (pc : Nat) (rest : List Value), res = .inr E → XX G h s.heap (hzz h H1.size) H1 [] → H1[q9]? = some ce → ce.vm = .none → s.vm.findClass E = some ce.cls → vx_W p l e (rmm 8 3 1010 10300) s m [va_rf row, .int i].toArray below meth c H1 [] (0 + 3) (0 + 1010) (vx_MQ below (XQy res) (XCy G res h) [va_rf row, .int i].toArray s 3 1010 (fre h)) (F0 m pc ls rest) q9 :=
    fun E H1 q9 ce pc rest hE hX1 h1 h2 h3 => vx_out (fun x hx => (hT0 x hx).elim) hlocks h1 h2 h3 (fun t ht hA => ⟨hE, H1.size, by rw [ht]; exact hX1.1, hX1.2.1, hX1.2.2.F ht⟩) (fun _ h9 => by cases h9) (by decide) (by decide)
  refine lx_aload_n hx hb dX0_lambda_new_1_0 rfl (lv_at hl 0 rfl) ?_
  cases row with
  | none =>
    refine lv_castN hx hb dX0_lambda_new_1_1 ?_
    refine lv_iload_n hx hb dX0_lambda_new_1_4 rfl (lv_at hl 1 rfl) ?_
    refine vx_caloadN hx hb dX0_lambda_new_1_5 ?_
    exact x_npe hG hx hl0 hts hK hW hX hlocks hs9 (by decide) (by decide) (by decide) (by decide) (fun H1 q9 ce hX1 h1 h2 h3 => leave _ H1 q9 ce _ _ hres.symm hX1 h1 h2 h3)
  | some a =>
    obtain ⟨ht3, hn⟩ := hrow a rfl
    by_cases ht : hT h a = 103
    · refine x_castY hx hb hown (t := 3) (by decide) (hts _ q905) hK hX rfl ht dX0_lambda_new_1_1 ?_
      refine lv_iload_n hx hb dX0_lambda_new_1_4 rfl (lv_at hl 1 rfl) ?_
      by_cases hin : i < 0 ∨ hN h a ≤ i.toNatClampNeg
      · refine x_caloadZ hx hb hK hX rfl ht hin dX0_lambda_new_1_5 ?_
        exact x_oob hG hx hl0 hts hK hW hX hlocks hs9 i (hN h a) hn (by decide) (by decide) (by decide) (by decide) (fun H1 q9 ce hX1 h1 h2 h3 => leave _ H1 q9 ce _ _ (by rw [← hres]; show (if hT h a = 100 + 3 then _ else _) = _; rw [if_pos ht, if_pos hin]; rfl) hX1 h1 h2 h3)
      · refine x_cald hx hb hK.1 hX rfl ht hin dX0_lambda_new_1_5 ?_
        refine W.widen (k := 3) (n := 1010) (by decide) (by decide) ?_
        exact vx_ret (W.zret (v := hI h a i.toNatClampNeg) (ty := .int) hx hb hr rfl (fun t ht9 hW9 => ⟨_, by rw [← hres]; show (if hT h a = 100 + 3 then _ else _) = _; rw [if_pos ht, if_neg hin], rfl, ht9⟩) (fun _ h9 => by cases h9) dX0_lambda_new_1_6 hlocks)
    · have ht2 : ∃ t2, (t2 = 0 ∨ t2 = 2 ∨ t2 = 3) ∧ hT h a = 100 + t2 ∧ t2 ≠ 3 := by
        rcases ht3 with z | z | z
        · exact ⟨0, by decide, z, fun q => ht (by omega)⟩
        · exact ⟨2, by decide, z, fun q => ht (by omega)⟩
        · exact ⟨3, by decide, z, fun q => ht (by omega)⟩
      obtain ⟨t2, z1, z2, z3⟩ := ht2
      refine x_castNo hG hx hb hown (t := t2) (t2 := 3) z1 (by decide) z3 (hts _ q905) hK hX rfl z2 dX0_lambda_new_1_1 (fun text x1 x2 => ?_)
      exact x_vm hG hx hl0 hts hK hW hX hlocks (names := nmN) (by decide +kernel) (by decide +kernel) (by decide) (by decide) exnC exnC' exnOC x1 x2 hs9 (by decide) (by decide) (by show (1 + 0) + 10240 ≤ 10300; decide) (by decide) (by decide) (fun H1 q9 ce hX1 h1 h2 h3 => leave _ H1 q9 ce _ _ (by rw [← hres]; show (if hT h a = 100 + 3 then _ else _) = _; rw [if_neg ht]; rfl) hX1 h1 h2 h3)
set_option maxHeartbeats 1000000 in
theorem wx_row2 (l : Launch) (hl0 : l.stackTraces = false) (G : Gt) (hG : XG G) (h : Hp) (row : Option Nat) (i : Int32) (hrow : rowOk h row) (res : Sum Int32 String) (hres : rowAt h 0 row i = res) : vx_Met l yX0_lambda_new_2 (ws_ yX0_lambda_new_2 cX0_lambda_new_2 2 (some .int)) (rmm 8 3 1010 10300) (XP G [va_rf row, .int i] h) (XQy res) (XCy G res h) 3 1010 (fre h) := by
  refine vx_ofW (cc := cX0_lambda_new_2) (maxL := 2) (ret := some .int) (by decide) rfl ?_
  intro p e s m args below meth c s₁ B hml hT0 hv
  obtain ⟨rfl, hK, hW⟩ := hv
  have hx := B.exec
  have hb := B.bytes
  have hr := B.returns
  have hlocks := B.notSynchronized
  have hts0 := atoms_spec (ws := ws_ yX0_lambda_new_2 cX0_lambda_new_2 2 (some .int)) B.pre
  have hts : ∀ w ∈ lw_all, w.before [va_rf row, .int i].toArray s = true := fun w h => hts0 w (List.mem_cons_of_mem _ h)
  have hown : s.vm.findClass RX0 = some m.cls := findClass_of_methodNamed B.named
  have hl := lv_entry (n := 2) [va_rf row, .int i] (by cases row <;> exact Nat.le_of_ble_eq_true rfl)
  rw [lg_entry_eq]
  have hl : lv_has _ 2 [(0, va_rf row), (1, .int i)] := Eq.mp (congrArg (lv_has _ 2) (show lv_args 0 [va_rf row, .int i] = [(0, va_rf row), (1, .int i)] from by cases row <;> rfl)) hl
  generalize ((lg_sl [va_rf row, .int i]) ++ List.replicate (2 - (lg_sl [va_rf row, .int i]).length) Slot.unset).toArray = ls at hl ⊢
  have hX := XX.start hW
  have hs9 : ls.size = c.maxLocals := by rw [hml]; exact hl.1
  have leave : ∀ (E : String) (H1 : Heap) (q9 : Addr) (ce : Cell) (pc : Nat) (rest : List Value), res = .inr E → XX G h s.heap (hzz h H1.size) H1 [] → H1[q9]? = some ce → ce.vm = .none → s.vm.findClass E = some ce.cls → vx_W p l e (rmm 8 3 1010 10300) s m [va_rf row, .int i].toArray below meth c H1 [] (0 + 3) (0 + 1010) (vx_MQ below (XQy res) (XCy G res h) [va_rf row, .int i].toArray s 3 1010 (fre h)) (F0 m pc ls rest) q9 :=
    fun E H1 q9 ce pc rest hE hX1 h1 h2 h3 => vx_out (fun x hx => (hT0 x hx).elim) hlocks h1 h2 h3 (fun t ht hA => ⟨hE, H1.size, by rw [ht]; exact hX1.1, hX1.2.1, hX1.2.2.F ht⟩) (fun _ h9 => by cases h9) (by decide) (by decide)
  refine lx_aload_n hx hb dX0_lambda_new_2_0 rfl (lv_at hl 0 rfl) ?_
  cases row with
  | none =>
    refine lv_castN hx hb dX0_lambda_new_2_1 ?_
    refine lv_iload_n hx hb dX0_lambda_new_2_4 rfl (lv_at hl 1 rfl) ?_
    refine vx_ialoadN hx hb dX0_lambda_new_2_5 ?_
    exact x_npe hG hx hl0 hts hK hW hX hlocks hs9 (by decide) (by decide) (by decide) (by decide) (fun H1 q9 ce hX1 h1 h2 h3 => leave _ H1 q9 ce _ _ hres.symm hX1 h1 h2 h3)
  | some a =>
    obtain ⟨ht3, hn⟩ := hrow a rfl
    by_cases ht : hT h a = 100
    · refine x_castY hx hb hown (t := 0) (by decide) (hts _ q883) hK hX rfl ht dX0_lambda_new_2_1 ?_
      refine lv_iload_n hx hb dX0_lambda_new_2_4 rfl (lv_at hl 1 rfl) ?_
      by_cases hin : i < 0 ∨ hN h a ≤ i.toNatClampNeg
      · refine x_ialoadZ hx hb hK hX rfl ht hin dX0_lambda_new_2_5 ?_
        exact x_oob hG hx hl0 hts hK hW hX hlocks hs9 i (hN h a) hn (by decide) (by decide) (by decide) (by decide) (fun H1 q9 ce hX1 h1 h2 h3 => leave _ H1 q9 ce _ _ (by rw [← hres]; show (if hT h a = 100 + 0 then _ else _) = _; rw [if_pos ht, if_pos hin]; rfl) hX1 h1 h2 h3)
      · refine x_iald hx hb hK.1 hX rfl ht hin dX0_lambda_new_2_5 ?_
        refine W.widen (k := 3) (n := 1010) (by decide) (by decide) ?_
        exact vx_ret (W.zret (v := hI h a i.toNatClampNeg) (ty := .int) hx hb hr rfl (fun t ht9 hW9 => ⟨_, by rw [← hres]; show (if hT h a = 100 + 0 then _ else _) = _; rw [if_pos ht, if_neg hin], rfl, ht9⟩) (fun _ h9 => by cases h9) dX0_lambda_new_2_6 hlocks)
    · have ht2 : ∃ t2, (t2 = 0 ∨ t2 = 2 ∨ t2 = 3) ∧ hT h a = 100 + t2 ∧ t2 ≠ 0 := by
        rcases ht3 with z | z | z
        · exact ⟨0, by decide, z, fun q => ht (by omega)⟩
        · exact ⟨2, by decide, z, fun q => ht (by omega)⟩
        · exact ⟨3, by decide, z, fun q => ht (by omega)⟩
      obtain ⟨t2, z1, z2, z3⟩ := ht2
      refine x_castNo hG hx hb hown (t := t2) (t2 := 0) z1 (by decide) z3 (hts _ q883) hK hX rfl z2 dX0_lambda_new_2_1 (fun text x1 x2 => ?_)
      exact x_vm hG hx hl0 hts hK hW hX hlocks (names := nmN) (by decide +kernel) (by decide +kernel) (by decide) (by decide) exnC exnC' exnOC x1 x2 hs9 (by decide) (by decide) (by show (1 + 0) + 10240 ≤ 10300; decide) (by decide) (by decide) (fun H1 q9 ce hX1 h1 h2 h3 => leave _ H1 q9 ce _ _ (by rw [← hres]; show (if hT h a = 100 + 0 then _ else _) = _; rw [if_neg ht]; rfl) hX1 h1 h2 h3)
