/-! THE MODEL's WORLD: an object at o, its arrays behind it, one after another (as its constructor makes them). A state of it: its ints by field, its arrays of ints (and booleans) by field and place, its arrays of longs -/
abbrev Ms : Type := (Nat → Int32) × (Nat → Nat → Int32) × (Nat → Nat → Int64)
def mF (s : Ms) (k : Nat) : Int32 := s.1 k
def mI (s : Ms) (k i : Nat) : Int32 := s.2.1 k i
def mL (s : Ms) (k i : Nat) : Int64 := s.2.2 k i
def uF (s : Ms) (k : Nat) (v : Int32) : Ms := (fun j => if j = k then v else s.1 j, s.2.1, s.2.2)
def uI (s : Ms) (k i : Nat) (v : Int32) : Ms := (s.1, up2 s.2.1 k i v, s.2.2)
def uL (s : Ms) (k i : Nat) (v : Int64) : Ms := (s.1, s.2.1, up2 s.2.2 k i v)
/-- by offset: the field (1000 and more: none), the tag, the length; by field: the offset (0: none) -/
def mKl : List Nat := [999, 0, 1, 2, 3, 4, 5, 6, 7, 9, 10, 11, 12, 21, 22, 23, 24, 25, 26, 28, 29, 30, 31, 32, 33, 34, 35, 36, 40, 41, 42, 43, 44, 48, 49, 50]
def mTl : List Nat := [3, 100, 100, 101, 101, 100, 100, 101, 101, 100, 100, 104, 100, 101, 101, 104, 104, 104, 101, 101, 100, 101, 101, 104, 100, 100, 100, 104, 101, 101, 100, 100, 104, 100, 100, 100]
def mNl : List Nat := [0, 360, 360, 1624, 1624, 8, 8, 16, 16, 49, 98, 2, 200, 40, 40, 10, 10, 10, 4, 6, 21, 21, 21, 21, 21, 21, 21, 21, 96, 48, 48, 48, 48, 4, 4, 160]
def mOl : List Nat := [1, 2, 3, 4, 5, 6, 7, 8, 0, 9, 10, 11, 12, 0, 0, 0, 0, 0, 0, 0, 0, 13, 14, 15, 16, 17, 18, 0, 19, 20, 21, 22, 23, 24, 25, 26, 27, 0, 0, 0, 28, 29, 30, 31, 32, 0, 0, 0, 33, 34, 35, 0]
def mK (j : Nat) : Nat := mKl.getD j (1000 + j)
def mT (j : Nat) : Nat := mTl.getD j 0
def mN (j : Nat) : Nat := mNl.getD j 0
def mO (k : Nat) : Nat := mOl.getD k 0
def mh (o : Nat) (s : Ms) (z : Nat) : Hp := (fun a => if a < o then 0 else mT (a - o), fun a => mN (a - o), fun a i => if a = o then mF s i else mI s (mK (a - o)) i, fun a i => mL s (mK (a - o)) i, fun a k => if a = o then (if mO k = 0 then none else some (o + mO k)) else none, z)
theorem mK_inj (i : Nat) (h : mK i < 1000) (h9 : mK i ≠ 999) : mO (mK i) = i := by
  by_cases hi : i < 36
  · exact (show ∀ i, i < 36 → mK i ≠ 999 → mO (mK i) = i by decide +kernel) i hi h9
  · have : mK i = 1000 + i := by unfold mK; rw [List.getD_eq_getElem?_getD, List.getElem?_eq_none (by show 36 ≤ i; omega)]; rfl
    omega
theorem mT_0 {j : Nat} (h : mT j ≠ 0) : j < 36 := by
  rcases Nat.lt_or_ge j 36 with q | q
  · exact q
  · exact absurd (by unfold mT; rw [List.getD_eq_getElem?_getD, List.getElem?_eq_none (by show 36 ≤ j; omega)]; rfl) h
theorem mh_T (o : Nat) (s : Ms) (z j : Nat) : hT (mh o s z) (o + j) = mT j := by
  show (if o + j < o then 0 else mT (o + j - o)) = _
  rw [if_neg (by omega), Nat.add_sub_cancel_left]
theorem mh_N (o : Nat) (s : Ms) (z j : Nat) : hN (mh o s z) (o + j) = mN j := by
  show mN (o + j - o) = _
  rw [Nat.add_sub_cancel_left]
theorem mh_I (o : Nat) (s : Ms) (z : Nat) {j k : Nat} (hj : mK j = k) (h9 : k < 999) (i : Nat) : hI (mh o s z) (o + j) i = mI s k i := by
  show (if o + j = o then mF s i else mI s (mK (o + j - o)) i) = _
  have : j ≠ 0 := fun e => by subst e; rw [← hj] at h9; exact absurd h9 (by decide)
  rw [if_neg (by omega), Nat.add_sub_cancel_left, hj]
theorem mh_L (o : Nat) (s : Ms) (z : Nat) {j k : Nat} (hj : mK j = k) (i : Nat) : hL (mh o s z) (o + j) i = mL s k i := by
  show mL s (mK (o + j - o)) i = _
  rw [Nat.add_sub_cancel_left, hj]
theorem mh_F (o : Nat) (s : Ms) (z k : Nat) : hI (mh o s z) o k = mF s k := by
  show (if o = o then mF s k else _) = _
  rw [if_pos rfl]
theorem mh_R (o : Nat) (s : Ms) (z k : Nat) {j : Nat} (hj : mO k = j) (h0 : j ≠ 0) : hR (mh o s z) o k = some (o + j) := by
  show (if o = o then (if mO k = 0 then none else some (o + mO k)) else none) = _
  rw [if_pos rfl, hj, if_neg h0]
theorem mh_sF (o : Nat) (s : Ms) (z k : Nat) (v : Int32) : sI (mh o s z) o k v = mh o (uF s k v) z := by
  refine Prod.ext rfl (Prod.ext rfl (Prod.ext ?_ rfl))
  funext a i
  show up2 (hI (mh o s z)) o k v a i = if a = o then mF (uF s k v) i else mI s (mK (a - o)) i
  unfold up2
  by_cases ha : a = o
  · subst ha
    rw [if_pos rfl, mh_F]
    by_cases hi : i = k
    · subst hi; rw [if_pos ⟨rfl, rfl⟩]; show _ = (if i = i then v else s.1 i); rw [if_pos rfl]
    · rw [if_neg (fun q => hi q.2)]; show _ = (if i = k then v else s.1 i); rw [if_neg hi]; rfl
  · rw [if_neg (fun q => ha q.1), if_neg ha]
    show (if a = o then mF s i else mI s (mK (a - o)) i) = _
    rw [if_neg ha]
theorem mh_sI (o : Nat) (s : Ms) (z : Nat) {j k : Nat} (hj : mK j = k) (h9 : k < 999) (i : Nat) (v : Int32) : sI (mh o s z) (o + j) i v = mh o (uI s k i v) z := by
  have hj0 : j ≠ 0 := fun e => by subst e; rw [← hj] at h9; exact absurd h9 (by decide)
  refine Prod.ext rfl (Prod.ext rfl (Prod.ext ?_ rfl))
  funext a x
  show up2 (hI (mh o s z)) (o + j) i v a x = if a = o then mF s x else up2 s.2.1 k i v (mK (a - o)) x
  unfold up2
  by_cases ha : a = o + j
  · subst ha
    rw [if_neg (show ¬ o + j = o by omega), Nat.add_sub_cancel_left, hj, mh_I o s z hj h9]
    by_cases hx : x = i
    · rw [if_pos ⟨rfl, hx⟩, if_pos ⟨rfl, hx⟩]
    · rw [if_neg (fun q => hx q.2), if_neg (fun q => hx q.2)]; rfl
  · rw [if_neg (fun q => ha q.1)]
    show (if a = o then mF s x else mI s (mK (a - o)) x) = _
    by_cases ha0 : a = o
    · rw [if_pos ha0, if_pos ha0]
    · rw [if_neg ha0, if_neg ha0]
      by_cases hk : mK (a - o) = k ∧ x = i
      · exfalso
        have h1 := mK_inj (a - o) (by omega) (by omega)
        have h2 := mK_inj j (by omega) (by omega)
        rw [hk.1, ← hj, h2] at h1
        rcases Nat.lt_or_ge a o with q | q
        · have : a - o = 0 := by omega
          omega
        · omega
      · rw [if_neg hk]; rfl
theorem mh_sL (o : Nat) (s : Ms) (z : Nat) {j k : Nat} (hj : mK j = k) (h9 : k < 999) (i : Nat) (v : Int64) : sL (mh o s z) (o + j) i v = mh o (uL s k i v) z := by
  have hj0 : j ≠ 0 := fun e => by subst e; rw [← hj] at h9; exact absurd h9 (by decide)
  refine Prod.ext rfl (Prod.ext rfl (Prod.ext rfl (Prod.ext ?_ rfl)))
  funext a x
  show up2 (hL (mh o s z)) (o + j) i v a x = up2 s.2.2 k i v (mK (a - o)) x
  unfold up2
  by_cases ha : a = o + j
  · subst ha
    rw [Nat.add_sub_cancel_left, hj, mh_L o s z hj]
    by_cases hx : x = i
    · rw [if_pos ⟨rfl, hx⟩, if_pos ⟨rfl, hx⟩]
    · rw [if_neg (fun q => hx q.2), if_neg (fun q => hx q.2)]; rfl
  · rw [if_neg (fun q => ha q.1)]
    show mL s (mK (a - o)) x = _
    by_cases hk : mK (a - o) = k ∧ x = i
    · exfalso
      have h1 := mK_inj (a - o) (by omega) (by omega)
      have h2 := mK_inj j (by omega) (by omega)
      rw [hk.1, ← hj, h2] at h1
      rcases Nat.lt_or_ge a o with q | q
      · have : a - o = 0 := by omega
        omega
      · omega
    · rw [if_neg hk]; rfl
/-! CONTRACTS: the world's heap is h ahead of the call and h1 behind it -/
def KK (G : Gt) (U : State) : Prop := va_K G.1 vwCl (tysG G) U ∧ gW G U ∧ ∀ s U : State, gW G s → s.WarmedH U.vm → gW G U
theorem KK.warm {G : Gt} {s U : State} (hW : s.WarmedH U.vm) (h : KK G s) : KK G U := ⟨va_K.moved hW.alike h.1, h.2.2 s U h.2.1 hW, h.2.2⟩
def XP (G : Gt) (vs : List Value) (h : Hp) : Array Value → State → Prop := va_Pc vs (fun U => KK G U ∧ XW G h U.heap)
theorem XP.blind {G : Gt} {vs : List Value} {h : Hp} : FrameBlind (XP G vs h) := fun a U g mk q => ⟨q.1, q.2.1.warm (s := U) (U := U.calling g mk a) (State.WarmedH.refl U), q.2.2⟩
def XQ (G : Gt) (r : Option Value) (h h1 : Hp) : Array Value → State → Outcome → State → Prop := fun _ st o t => o = .returned r ∧ XW G h1 t.heap ∧ Ext h h1 ∧ va_F (fre h) st t
def XQp (r : Option Value) : Array Value → State → Outcome → State → Prop := fun _ st o t => o = .returned r ∧ t.heap = st.heap
def rmm (f k n lo : Nat) : Room := { frames := f, cells := k, slots := n, locals := lo }
section XC
variable {p : Program} {l : Launch} {e : Env} {R : Room} {s : State} {m : MethodId} {args : Array Value} {below : List Frame} {meth : Method} {c : Code} {H : Heap} {locs : List Loc} {cells slots : Nat} {Q : State → Prop}
variable {cc : ByteArray} {pc : Nat} {ls : Array Slot} {rest st0 : List Value} {G : Gt} {h h0 h1 : Hp} {H0 : Heap} {a : Nat} {v : Value} {mc ms : Nat}
theorem x_preS (hK : KK G s) (hX : XX G h0 H0 h H locs) (As : List Value) : PreS s H (XP G As h) As := ⟨XP.blind, fun U hU hW => ⟨rfl, hK.warm hW, by rw [hU]; exact hX.1⟩⟩
theorem x_preV (hK : KK G s) (hX : XX G h0 H0 h H locs) {ci : Nat} {C : String} {T : u_T} {N : Nat} {b : Nat} (As : List Value) (ht : hT h b = ci + 1) (hci : ci < 99) (hc : vwCl[ci]? = some (C, T, N)) : PreV s H C b (XP G (.ref b :: As) h) As := by
  refine ⟨XP.blind, ?_, fun U hU hW => ⟨rfl, hK.warm hW, by rw [hU]; exact hX.1⟩⟩
  obtain ⟨cell, q1, q2, q3, -⟩ := hX.1.obj ht hci hc
  exact ⟨cell, q1, by rw [q3]; rfl, by rw [q2]; exact (hK.1.1 ci _ hc).2.1⟩
theorem x_done {r : Option Value} {A : Array Value} {st1 : List Value} (hr : va_Run p l e R s m args below meth c H locs cells slots mc ms (F0 m pc ls st0) rest (XQ G r h h1 A) (fre h)) (hX : XX G h0 H0 h H locs) (hst : r.toList ++ rest = st1)
    (kk : ∀ (H1 : Heap) (locs1 : List Loc), XX G h0 H0 h1 H1 locs1 → W p l e R s m args below meth c H1 locs1 (cells + mc) (slots + ms) Q (F0 m (pc + 3) ls st1)) : W p l e R s m args below meth c H locs cells slots Q (F0 m pc ls st0) := by
  subst hst
  intro T hT X
  obtain ⟨v, st₀, t, T', L, h0', X', hL, e1, e2, ⟨hv, hw, he, hz, hk⟩, st⟩ := hr T hT X
  cases hv
  rw [h0'] at hz hk
  obtain ⟨t2, a1, b1⟩ := kk T'.heap (locs ++ L) ⟨by rw [e1]; exact hw, hX.2.1.tr he, ⟨Nat.le_trans hX.2.2.1 (by rw [e1]; exact hz), fun q q1 q2 => by rw [e1, hk q (Nat.lt_of_lt_of_le q1 hX.2.2.1) (fun z => q2 (hX.2.1.fre z))]; exact hX.2.2.2.1 q q1 q2, fun q hq => by
      rcases List.mem_append.mp hq with z | z
      · exact hX.2.2.2.2 q z
      · exact hX.2.1.fre (hL q z)⟩⟩ T' rfl X'
  exact ⟨t2, st t2 a1, b1⟩
theorem x_doneP {r : Option Value} {A : Array Value} {st1 : List Value} (hr : va_Run p l e R s m args below meth c H locs cells slots 0 0 (F0 m pc ls st0) rest (XQp r A) (fun _ => False)) (hst : r.toList ++ rest = st1)
    (kk : W p l e R s m args below meth c H locs cells slots Q (F0 m (pc + 3) ls st1)) : W p l e R s m args below meth c H locs cells slots Q (F0 m pc ls st0) := by
  subst hst
  intro T hT X
  obtain ⟨v, st₀, t, T', L, h0', X', hL, e1, e2, ⟨hv, hh⟩, st⟩ := hr T hT X
  cases hv
  obtain ⟨t2, a1, b1⟩ := kk T' (by rw [e1, hh, h0']) (Stand.forget X' (fun q z => (hL q z).elim))
  exact ⟨t2, st t2 a1, b1⟩
end XC
/-! the model's rows -/
theorem TX2_own : ∀ k, k < 52 → (TX2 k).1 = RX2 := by decide +kernel
theorem TX2_same {s : State} {k : Nat} (hk : k < 52) (x : ClassId × Class × Nat × Field) (h : s.fieldFound? (TX2 k).1 (TX2 k).2.1 (TX2 k).2.2.1 = some x) : s.fieldFound? RX2 (TX2 k).2.1 (TX2 k).2.2.1 = some x := by rw [TX2_own k hk] at h; exact h
section MR
variable {p : Program} {l : Launch} {e : Env} {R : Room} {s : State} {m : MethodId} {args : Array Value} {below : List Frame} {meth : Method} {c : Code} {H : Heap} {locs : List Loc} {cells slots : Nat} {Q : State → Prop}
variable {pc : Nat} {ls : Array Slot} {rest st0 : List Value} {G : Gt} {H0 : Heap} {h0 : Hp} {cc : ByteArray}
variable {o z : Nat} {sg : Ms}
theorem m_get {index : Nat} (hexec : p.tables.exec = Jvm.exec) (hb : c.code = cc) (hts : ∀ w ∈ lw_all, w.before args s = true) (hown : s.vm.findClass RX2 = some m.cls) (hK : KK G s) (hX : XX G h0 H0 (mh o sg z) H locs) (k : Nat) (hk : k < 52) (hlink : (Cond.fieldLink RX2 index RX2 (TX2 k).2.1 (TX2 k).2.2.1) ∈ lw_all) (hkd : kd (tyX2 k) = 0) (hdg : decode cc pc = .ok (.getfield index, 3))
    (kk : W p l e R s m args below meth c H locs cells slots Q (F0 m (pc + 3) ls (.int (mF sg k) :: rest))) : W p l e R s m args below meth c H locs cells slots Q (F0 m pc ls (.ref o :: rest)) :=
  x_get (ci := 2) (C := RX2) (T := TX2) (N := 52) hexec hb hts in_X2 hown hK.1 hX rfl (mh_T o sg z 0) (by decide) rfl k hk (hts _ hlink) (TX2_same hk) (by show hv (tyX2 k) _ _ _ = _; rw [hv_int hkd, mh_F]) hdg kk
theorem m_geta {index : Nat} (hexec : p.tables.exec = Jvm.exec) (hb : c.code = cc) (hts : ∀ w ∈ lw_all, w.before args s = true) (hown : s.vm.findClass RX2 = some m.cls) (hK : KK G s) (hX : XX G h0 H0 (mh o sg z) H locs) (k j : Nat) (hk : k < 52) (hj : mO k = j) (h0 : j ≠ 0) (hlink : (Cond.fieldLink RX2 index RX2 (TX2 k).2.1 (TX2 k).2.2.1) ∈ lw_all) (hkd : kd (tyX2 k) = 2) (hdg : decode cc pc = .ok (.getfield index, 3))
    (kk : W p l e R s m args below meth c H locs cells slots Q (F0 m (pc + 3) ls (.ref (o + j) :: rest))) : W p l e R s m args below meth c H locs cells slots Q (F0 m pc ls (.ref o :: rest)) :=
  x_get (ci := 2) (C := RX2) (T := TX2) (N := 52) hexec hb hts in_X2 hown hK.1 hX rfl (mh_T o sg z 0) (by decide) rfl k hk (hts _ hlink) (TX2_same hk) (by show hv (tyX2 k) _ _ _ = _; rw [hv_ref hkd, mh_R o sg z k hj h0]; rfl) hdg kk
theorem m_put {index : Nat} (hexec : p.tables.exec = Jvm.exec) (hb : c.code = cc) (hts : ∀ w ∈ lw_all, w.before args s = true) (hown : s.vm.findClass RX2 = some m.cls) (hK : KK G s) (hX : XX G h0 H0 (mh o sg z) H locs) (k : Nat) (hk : k < 52) (hlink : (Cond.fieldLink RX2 index RX2 (TX2 k).2.1 (TX2 k).2.2.1) ∈ lw_all) (hkd : kd (tyX2 k) = 0) (hfin : (TX2 k).2.2.2 = false) {x : Int32} (hn : narrow (tyX2 k) (.int x) = .int x) (hf : fits (tyX2 k) (.int x) = true) (hdg : decode cc pc = .ok (.putfield index, 3))
    (kk : ∀ (H1 : Heap) (locs1 : List Loc), XX G h0 H0 (mh o (uF sg k x) z) H1 locs1 → W p l e R s m args below meth c H1 locs1 cells slots Q (F0 m (pc + 3) ls rest)) : W p l e R s m args below meth c H locs cells slots Q (F0 m pc ls (.int x :: .ref o :: rest)) :=
  x_put (ci := 2) (C := RX2) (T := TX2) (N := 52) hexec hb hts in_X2 tyX2 tyX2_ok nmX2 hown hK.1 hX rfl (mh_T o sg z 0) (by decide) rfl k hk (hts _ hlink) (TX2_same hk) hfin hn hf (Put1.fI hkd) hdg fun H1 locs1 hX1 => kk H1 locs1 (by rw [← mh_sF]; exact hX1)
theorem m_iald (hexec : p.tables.exec = Jvm.exec) (hb : c.code = cc) (hK : KK G s) (hX : XX G h0 H0 (mh o sg z) H locs) (j k n : Nat) (hT : mT j = 100) (hN : mN j = n) (hj : mK j = k) (h9 : k < 999) {i : Int32} (hin : ¬ (i < 0 ∨ n ≤ i.toNatClampNeg)) (hdg : decode cc pc = .ok (.iaload, 1))
    (kk : W p l e R s m args below meth c H locs cells slots Q (F0 m (pc + 1) ls (.int (mI sg k i.toNatClampNeg) :: rest))) : W p l e R s m args below meth c H locs cells slots Q (F0 m pc ls (.int i :: .ref (o + j) :: rest)) :=
  x_iald hexec hb hK.1 hX rfl (by rw [mh_T]; exact hT) (by rw [mh_N, hN]; exact hin) hdg (by rw [mh_I o sg z hj h9]; exact kk)
theorem m_lald (hexec : p.tables.exec = Jvm.exec) (hb : c.code = cc) (hK : KK G s) (hX : XX G h0 H0 (mh o sg z) H locs) (j k n : Nat) (hT : mT j = 101) (hN : mN j = n) (hj : mK j = k) (h9 : k < 999) {i : Int32} (hin : ¬ (i < 0 ∨ n ≤ i.toNatClampNeg)) (hdg : decode cc pc = .ok (.laload, 1))
    (kk : W p l e R s m args below meth c H locs cells slots Q (F0 m (pc + 1) ls (.long (mL sg k i.toNatClampNeg) :: rest))) : W p l e R s m args below meth c H locs cells slots Q (F0 m pc ls (.int i :: .ref (o + j) :: rest)) :=
  x_lald hexec hb hK.1 hX rfl (by rw [mh_T]; exact hT) (by rw [mh_N, hN]; exact hin) hdg (by rw [mh_L o sg z hj]; exact kk)
theorem m_zald (hexec : p.tables.exec = Jvm.exec) (hb : c.code = cc) (hK : KK G s) (hX : XX G h0 H0 (mh o sg z) H locs) (j k n : Nat) (hT : mT j = 104) (hN : mN j = n) (hj : mK j = k) (h9 : k < 999) {i : Int32} (hin : ¬ (i < 0 ∨ n ≤ i.toNatClampNeg)) (hdg : decode cc pc = .ok (.baload, 1))
    (kk : W p l e R s m args below meth c H locs cells slots Q (F0 m (pc + 1) ls (.int (mI sg k i.toNatClampNeg) :: rest))) : W p l e R s m args below meth c H locs cells slots Q (F0 m pc ls (.int i :: .ref (o + j) :: rest)) :=
  x_zald hexec hb hK.1 hX rfl (by rw [mh_T]; exact hT) (by rw [mh_N, hN]; exact hin) hdg (by rw [mh_I o sg z hj h9]; exact kk)
theorem m_iast (hexec : p.tables.exec = Jvm.exec) (hb : c.code = cc) (hK : KK G s) (hX : XX G h0 H0 (mh o sg z) H locs) (j k n : Nat) (hT : mT j = 100) (hN : mN j = n) (hj : mK j = k) (h9 : k < 999) {i : Int32} {x : Int32} (hin : ¬ (i < 0 ∨ n ≤ i.toNatClampNeg)) (hdg : decode cc pc = .ok (.iastore, 1))
    (kk : ∀ (H1 : Heap) (locs1 : List Loc), XX G h0 H0 (mh o (uI sg k i.toNatClampNeg x) z) H1 locs1 → W p l e R s m args below meth c H1 locs1 cells slots Q (F0 m (pc + 1) ls rest)) : W p l e R s m args below meth c H locs cells slots Q (F0 m pc ls (.int x :: .int i :: .ref (o + j) :: rest)) :=
  x_iast hexec hb hK.1 hX rfl (by rw [mh_T]; exact hT) (by rw [mh_N, hN]; exact hin) hdg fun H1 locs1 hX1 => kk H1 locs1 (by rw [← mh_sI o sg z hj h9]; exact hX1)
theorem m_last (hexec : p.tables.exec = Jvm.exec) (hb : c.code = cc) (hK : KK G s) (hX : XX G h0 H0 (mh o sg z) H locs) (j k n : Nat) (hT : mT j = 101) (hN : mN j = n) (hj : mK j = k) (h9 : k < 999) {i : Int32} {x : Int64} (hin : ¬ (i < 0 ∨ n ≤ i.toNatClampNeg)) (hdg : decode cc pc = .ok (.lastore, 1))
    (kk : ∀ (H1 : Heap) (locs1 : List Loc), XX G h0 H0 (mh o (uL sg k i.toNatClampNeg x) z) H1 locs1 → W p l e R s m args below meth c H1 locs1 cells slots Q (F0 m (pc + 1) ls rest)) : W p l e R s m args below meth c H locs cells slots Q (F0 m pc ls (.long x :: .int i :: .ref (o + j) :: rest)) :=
  x_last hexec hb hK.1 hX rfl (by rw [mh_T]; exact hT) (by rw [mh_N, hN]; exact hin) hdg fun H1 locs1 hX1 => kk H1 locs1 (by rw [← mh_sL o sg z hj h9]; exact hX1)
theorem m_zast (hexec : p.tables.exec = Jvm.exec) (hb : c.code = cc) (hK : KK G s) (hX : XX G h0 H0 (mh o sg z) H locs) (j k n : Nat) (hT : mT j = 104) (hN : mN j = n) (hj : mK j = k) (h9 : k < 999) {i : Int32} {x : Int32} (hin : ¬ (i < 0 ∨ n ≤ i.toNatClampNeg)) (hdg : decode cc pc = .ok (.bastore, 1))
    (kk : ∀ (H1 : Heap) (locs1 : List Loc), XX G h0 H0 (mh o (uI sg k i.toNatClampNeg (vp_nar .boolean x)) z) H1 locs1 → W p l e R s m args below meth c H1 locs1 cells slots Q (F0 m (pc + 1) ls rest)) : W p l e R s m args below meth c H locs cells slots Q (F0 m pc ls (.int x :: .int i :: .ref (o + j) :: rest)) :=
  x_zast hexec hb hK.1 hX rfl (by rw [mh_T]; exact hT) (by rw [mh_N, hN]; exact hin) hdg fun H1 locs1 hX1 => kk H1 locs1 (by rw [← mh_sI o sg z hj h9]; exact hX1)
end MR
