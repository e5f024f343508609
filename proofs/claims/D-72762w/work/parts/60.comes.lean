/-! comesBy -/
/-- an answer, and a heap that is h1 but for cells that nobody knows -/
def XQz (G : Gt) (r : Int32) (h h1 : Hp) : Array Value → State → Outcome → State → Prop := fun _ st o t => o = .returned (some (.int r)) ∧ ∃ z, XW G (hzz h1 z) t.heap ∧ Ext h (hzz h1 z) ∧ va_F (fre h) st t
theorem metHz (l : Launch) {y : MethodName} {cc : ByteArray} {maxL : Nat} {rm : Room} {G : Gt} {h h1 : Hp} {vs : List Value} {r : Int32} {mc ms : Nat} {hh : List (Nat × Nat × Nat × Nat)} (hy : plainName y.cls = true) (hn : (lg_sl vs).length ≤ maxL)
    (body : ∀ (p : Program) (e : Env) (s : State) (m : MethodId) (args : Array Value) (below : List Frame) (meth : Method) (c : Code) (Q : State → Prop), p.tables.exec = Jvm.exec → c.code = cc → (∀ w ∈ lw_all, w.before args s = true) → s.vm.findClass y.cls = some m.cls → c.maxLocals = maxL → meth.locks = false → KK G s → XW G h s.heap →
      (∀ (z : Nat) (H : Heap) (locs : List Loc) (cells slots pc : Nat) (ls : Array Slot), XX G h s.heap (hzz h1 z) H locs → cells ≤ mc → slots ≤ ms → decode cc pc = .ok (.ireturn, 1) → W p l e rm s m args below meth c H locs cells slots Q (F0 m pc ls [.int r])) → c.exceptionTable.toList = tableOf hh →
      ∀ ls : Array Slot, lv_has ls maxL (lv_args 0 vs) → W p l e rm s m args below meth c s.heap [] 0 0 Q (F0 m 0 ls [])) : vx_Met l y (wsW_ y cc maxL (some .int) hh) rm (XP G vs h) (XQz G r h h1) (fun _ _ _ _ => False) mc ms (fre h) := by
  refine vx_ofWH (cc := cc) (maxL := maxL) (ret := (some .int)) (hh := hh) hy rfl ?_
  intro p e s m args below meth c s₁ B hml hv
  obtain ⟨rfl, hK, hW⟩ := hv
  have hx := B.exec
  have hb := B.bytes
  have hr := B.returns
  have hlocks := B.notSynchronized
  have hts := atoms_spec (ws := wsW_ y cc maxL (some .int) hh) B.pre
  have htab := vx_table (x := y) B (hts _ List.mem_cons_self)
  have hl := lv_entry vs hn
  rw [lg_entry_eq]
  refine body p e s m _ below meth c _ hx hb (fun w h => hts w (List.mem_cons_of_mem _ h)) (findClass_of_methodNamed B.named) hml hlocks hK hW ?_ htab _ hl
  intro z H locs cells slots pc ls hX h1 h2 hdg
  refine W.widen h1 h2 ?_
  exact vx_ret (W.zret (v := r) (ty := .int) hx hb hr rfl (fun t ht hW9 => ⟨rfl, z, by rw [ht]; exact hX.1, hX.2.1, hX.2.2.F ht⟩) hX.2.2.2.2 hdg hlocks)
def rowB (h : Hp) (row : Option Nat) : Bool := match row with
  | none => true
  | some a => (hT h a == 100 || hT h a == 102 || hT h a == 103) && decide (hN h a < 2 ^ 31)
theorem rowB_ok {h : Hp} {row : Option Nat} (hr : rowB h row = true) : rowOk h row := by
  intro a ha
  subst ha
  simp only [rowB, Bool.and_eq_true, Bool.or_eq_true, beq_iff_eq, decide_eq_true_eq] at hr
  obtain ⟨(h1 | h1) | h1, h2⟩ := hr
  · exact ⟨Or.inl h1, h2⟩
  · exact ⟨Or.inr (Or.inl h1), h2⟩
  · exact ⟨Or.inr (Or.inr h1), h2⟩
def X_cb (n o : Nat) (row : Option Nat) (a : Nat) (f nn : Int32) : Nat → Int32 → Hp → Option (Int32 × Hp)
  | 0, _, _ => none
  | fu + 1, came, h => if nn ≤ came then some (came, h) else gd (hT h o = 1) <| if 48 ≤ hI h o 6 then some (came, h) else gd (304 ≤ hT h a ∧ hT h a < 307) <| gd (rowB h row = true) <| match rowAt h (laneT (hT h a - 304)) row (f + came) with
    | .inl v => bd (X_comes n o (v &&& 255) h) fun h2 => X_cb n o row a f nn fu (came + 1) h2
    | .inr E => if E = eNPE then some (came, sI h o 15 1) else if E = eCCE then some (came, sI h o 15 2) else if E = eOOB then some (came, sI h o 15 3) else none
def X_comesBy (n o : Nat) (row lane : Option Nat) (f nn : Int32) (h : Hp) : Option (Int32 × Hp) := gd (hT h o = 1) <| bd lane fun a => st (sI h o 15 0) fun h1 => X_cb n o row a f nn 21 0 h1
set_option maxHeartbeats 4000000 in
set_option maxRecDepth 100000 in
theorem wx_comesBy (l : Launch) (hl0 : l.stackTraces = false) (G : Gt) (hG : XG G) (h : Hp) (n o : Nat) (row lane : Option Nat) (f nn r : Int32) (h1 : Hp) (hf : X_comesBy n o row lane f nn h = some (r, h1)) : vx_Met l yX0_comesBy (wsW_ yX0_comesBy cX0_comesBy 7 (some .int) [(8, 49, 52, 307), (8, 49, 62, 317), (8, 49, 72, 309)]) (rmm 12 66 22220 10500) (XP G [.ref o, va_rf row, va_rf lane, .int f, .int nn] h) (XQz G r h h1) (fun _ _ _ _ => False) 66 22220 (fre h) := by
  unfold X_comesBy at hf
  obtain ⟨g0, hf1⟩ := gd_e hf
  obtain ⟨a, ha, hf2⟩ := bd_e hf1
  obtain ⟨hs, ehs, hf3⟩ := st_e hf2
  subst ha
  refine metHz l (by decide) (by cases row <;> exact Nat.le_of_ble_eq_true rfl) ?_
  intro p e s m args below meth c Q hx hb hts hown hml hlocks hK hW hret htab ls hl
  have hown : s.vm.findClass RX0 = some m.cls := hown
  have hX := XX.start hW
  have hl : lv_has ls 7 [(0, .ref o), (1, va_rf row), (2, va_rf (some a)), (3, .int f), (4, .int nn)] := Eq.mp (congrArg (lv_has ls 7) (show lv_args 0 [.ref o, va_rf row, va_rf (some a), .int f, .int nn] = [(0, .ref o), (1, va_rf row), (2, va_rf (some a)), (3, .int f), (4, .int nn)] from by cases row <;> rfl)) hl
  have fin : ∀ (z : Nat) (H : Heap) (locs : List Loc) (cells slots : Nat) (ls : Array Slot) (came : Int32) (h9 : Hp), some (came, h9) = some (r, h1) → XX G h s.heap (hzz h9 z) H locs → cells ≤ 66 → slots ≤ 22220 → lv_has ls 7 [(5, .int came)] → W p l e (rmm 12 66 22220 10500) s m args below meth c H locs cells slots Q (F0 m 79 ls []) := by
    intro z H locs cells slots ls came h9 he hX h2 h3 hl
    obtain ⟨rfl, rfl⟩ := Prod.mk.inj (Option.some.inj he)
    refine lv_iload hx hb dX0_comesBy_79 (lv_at hl 0 rfl) ?_
    exact hret z H locs cells slots 81 ls hX h2 h3 dX0_comesBy_81
  have loop : ∀ (fu : Nat) (came : Int32) (h9 : Hp) (H : Heap) (locs : List Loc) (cells slots : Nat) (ls : Array Slot), XX G h s.heap h9 H locs → lv_has ls 7 [(0, .ref o), (1, va_rf row), (2, va_rf (some a)), (3, .int f), (4, .int nn), (5, .int came)] → X_cb n o row a f nn fu came h9 = some (r, h1) → cells + 3 * fu ≤ 66 → slots + 1010 * fu ≤ 22220 → W p l e (rmm 12 66 22220 10500) s m args below meth c H locs cells slots Q (F0 m 8 ls []) := by
    intro fu
    induction fu with
    | zero => intro came h9 H locs cells slots ls hX hl hf; rw [X_cb] at hf; cases hf
    | succ fu ih =>
      intro came h9 H locs cells slots ls hX hl hf hc hsl
      rw [X_cb] at hf
      refine lv_iload hx hb dX0_comesBy_8 (lv_at hl 5 rfl) ?_
      refine lv_iload hx hb dX0_comesBy_10 (lv_at hl 4 rfl) ?_
      refine lv_icmp_ge (tgt := 49) hx hb dX0_comesBy_12 (by decide) (fun c1 => ?_) (fun c1 => ?_)
      · rw [if_pos c1] at hf
        refine lv_goto (tgt := 79) hx hb dX0_comesBy_49 (by decide) ?_
        exact fin (hZ h9) H locs cells slots ls came h9 hf hX (by omega) (by omega) (lv_sub hl [5] rfl)
      · rw [if_neg c1] at hf
        obtain ⟨g1, hf⟩ := gd_e hf
        refine lv_aload_n hx hb dX0_comesBy_15 rfl (lv_at hl 0 rfl) ?_
        refine x_get (ci := 0) (C := RX0) (T := TX0) (N := 16) hx hb hts in_X0 hown hK.1 hX rfl g1 (by decide) rfl 6 (Nat.le_of_ble_eq_true rfl) (hts _ q914) (fun _ h9 => h9) (hv_int rfl) dX0_comesBy_16 ?_
        refine lv_bipush (v := 48) hx hb dX0_comesBy_19 (by decide) ?_
        refine lv_icmp_ge (tgt := 49) hx hb dX0_comesBy_21 (by decide) (fun c2 => ?_) (fun c2 => ?_)
        · rw [if_pos c2] at hf
          refine lv_goto (tgt := 79) hx hb dX0_comesBy_49 (by decide) ?_
          exact fin (hZ h9) H locs cells slots ls came h9 hf hX (by omega) (by omega) (lv_sub hl [5] rfl)
        · rw [if_neg c2] at hf
          obtain ⟨g2, hf⟩ := gd_e hf
          obtain ⟨g3, hf⟩ := gd_e hf
          refine lv_aload_n hx hb dX0_comesBy_24 rfl (lv_at hl 0 rfl) ?_
          refine lx_aload_n hx hb dX0_comesBy_25 rfl (lv_at hl 2 rfl) ?_
          refine lx_aload_n hx hb dX0_comesBy_26 rfl (lv_at hl 1 rfl) ?_
          refine lv_iload_n hx hb dX0_comesBy_27 rfl (lv_at hl 3 rfl) ?_
          refine lv_iload hx hb dX0_comesBy_28 (lv_at hl 5 rfl) ?_
          refine lv_iadd hx hb dX0_comesBy_30 ?_
          refine x_cell hG hl0 hx hb hml hts hown hK hX rfl (k := hT h9 a - 304) (by omega) (by omega) (rowB_ok g3) rfl q1067 hl.1 (Nat.le_of_ble_eq_true rfl) (by show 10 ≤ 12; decide) (by show 10400 ≤ 10500; decide) ⟨by show _ ≤ 66; omega, by show _ ≤ 22220; omega⟩ dX0_comesBy_31 (fun v hv locs1 hX => ?_) (fun E hE z H1 locs1 q ce hX hq1 hq2 hq3 => ?_)
          · rw [hv] at hf
            obtain ⟨h10, e10, hf⟩ := bd_e hf
            refine lv_sipush (v := 255) hx hb dX0_comesBy_36 (by decide) ?_
            refine lv_iand hx hb dX0_comesBy_39 ?_
            refine x_done (mc := 0) (ms := 0) (va_runV (b := o) (As := [.int (v &&& 255)]) (rest := []) ⟨hx, hb, hml, hown, hts⟩ (wx_comes l G hG h9 n o (v &&& 255) h10 e10) (cwV 1 hts (lw_V q800 q802 qs36 q94 q803) rfl rfl rfl ⟨rfl, cdX0_comes⟩ ⟨(Nat.le_of_ble_eq_true rfl), (Nat.le_of_ble_eq_true rfl)⟩) (x_preV (ci := 0) (T := TX0) (N := 16) hK hX _ g1 (by decide) rfl) rfl rfl hl.1 rfl (lv_room (Nat.le_of_ble_eq_true rfl)) dX0_comesBy_40 ⟨by show _ ≤ 66; omega, by show _ ≤ 22220; omega⟩) hX rfl (fun H locs hX => ?_)
            refine lv_iinc (v := (came + 1)) (lv' := [(5, .int (came + 1)), (0, .ref o), (1, va_rf row), (2, va_rf (some a)), (3, .int f), (4, .int nn)]) hx hb dX0_comesBy_43 hl (k := 5) rfl rfl (by decide) rfl (fun ls hl => ?_)
            refine lv_goto (tgt := 8) hx hb dX0_comesBy_46 (by decide) ?_
            exact ih (came + 1) h10 H locs _ _ ls hX (lv_sub hl [1, 2, 3, 4, 5, 0] rfl) hf (by omega) (by omega)
          · rw [hE] at hf
            have hE : E = eNPE ∨ E = eCCE ∨ E = eOOB := by
              by_cases z1 : E = eNPE
              · exact Or.inl z1
              · by_cases z2 : E = eCCE
                · exact Or.inr (Or.inl z2)
                · by_cases z3 : E = eOOB
                  · exact Or.inr (Or.inr z3)
                  · replace hf : (if E = eNPE then some (came, sI h9 o 15 1) else if E = eCCE then some (came, sI h9 o 15 2) else if E = eOOB then some (came, sI h9 o 15 3) else none) = some (r, h1) := hf
                    rw [if_neg z1, if_neg z2, if_neg z3] at hf; cases hf
            have hnc := hG.c hK
            rcases hE with rfl | rfl | rfl
            · refine vx_catch (name := "java/lang/NullPointerException") hown [] _ [_, _] htab (fun _ z => by cases z) rfl (by decide) (hts _ q1000) (va_Nw.use rfl (hG.nw hK nq1022)) hq1 hq2 hq3 ?_
              refine lv_astore (lv' := [(6, .ref q), (0, .ref o), (5, .int came)]) hx hb dX0_comesBy_52 (lv_sub hl [0, 5] rfl) (by decide) rfl (fun ls hl => ?_)
              refine lv_aload_n hx hb dX0_comesBy_54 rfl (lv_at hl 1 rfl) ?_
              refine lv_iconst (v := 1) hx hb dX0_comesBy_55 (by decide) ?_
              refine x_put (ci := 0) (C := RX0) (T := TX0) (N := 16) hx hb hts in_X0 tyX0 tyX0_ok nmX0 hown hK.1 hX rfl g1 (by decide) rfl 15 (Nat.le_of_ble_eq_true rfl) (hts _ q923) (fun _ h9 => h9) rfl rfl rfl (Put1.fI (x := 1) rfl) dX0_comesBy_56 (fun H locs hX => ?_)
              refine lv_goto (tgt := 79) hx hb dX0_comesBy_59 (by decide) ?_
              exact fin z H locs _ _ ls came (sI h9 o 15 1) hf hX (by omega) (by omega) (lv_sub hl [2] rfl)
            · refine vx_catch (name := "java/lang/ClassCastException") hown [_] _ [_] htab (fun x9 z9 => by
                simp only [List.mem_cons, List.not_mem_nil, or_false] at z9
                subst z9
                exact Or.inr ⟨by decide, "java/lang/NullPointerException", hts _ q1000, hnc (_, _) (by decide)⟩) rfl (by decide) (hts _ q1052) (va_Nw.use rfl (hG.nw hK nq1064)) hq1 hq2 hq3 ?_
              refine lv_astore (lv' := [(6, .ref q), (0, .ref o), (5, .int came)]) hx hb dX0_comesBy_62 (lv_sub hl [0, 5] rfl) (by decide) rfl (fun ls hl => ?_)
              refine lv_aload_n hx hb dX0_comesBy_64 rfl (lv_at hl 1 rfl) ?_
              refine lv_iconst (v := 2) hx hb dX0_comesBy_65 (by decide) ?_
              refine x_put (ci := 0) (C := RX0) (T := TX0) (N := 16) hx hb hts in_X0 tyX0 tyX0_ok nmX0 hown hK.1 hX rfl g1 (by decide) rfl 15 (Nat.le_of_ble_eq_true rfl) (hts _ q923) (fun _ h9 => h9) rfl rfl rfl (Put1.fI (x := 2) rfl) dX0_comesBy_66 (fun H locs hX => ?_)
              refine lv_goto (tgt := 79) hx hb dX0_comesBy_69 (by decide) ?_
              exact fin z H locs _ _ ls came (sI h9 o 15 2) hf hX (by omega) (by omega) (lv_sub hl [2] rfl)
            · refine vx_catch (name := "java/lang/ArrayIndexOutOfBoundsException") hown [_, _] _ [] htab (fun x9 z9 => by
                simp only [List.mem_cons, List.not_mem_nil, or_false] at z9
                rcases z9 with z9 | z9 <;> subst z9
                · exact Or.inr ⟨by decide, "java/lang/NullPointerException", hts _ q1000, hnc (_, _) (by decide)⟩
                · exact Or.inr ⟨by decide, "java/lang/ClassCastException", hts _ q1052, hnc (_, _) (by decide)⟩) rfl (by decide) (hts _ q1025) (va_Nw.use rfl (hG.nw hK nq1040)) hq1 hq2 hq3 ?_
              refine lv_astore (lv' := [(6, .ref q), (0, .ref o), (5, .int came)]) hx hb dX0_comesBy_72 (lv_sub hl [0, 5] rfl) (by decide) rfl (fun ls hl => ?_)
              refine lv_aload_n hx hb dX0_comesBy_74 rfl (lv_at hl 1 rfl) ?_
              refine lv_iconst (v := 3) hx hb dX0_comesBy_75 (by decide) ?_
              refine x_put (ci := 0) (C := RX0) (T := TX0) (N := 16) hx hb hts in_X0 tyX0 tyX0_ok nmX0 hown hK.1 hX rfl g1 (by decide) rfl 15 (Nat.le_of_ble_eq_true rfl) (hts _ q923) (fun _ h9 => h9) rfl rfl rfl (Put1.fI (x := 3) rfl) dX0_comesBy_76 (fun H locs hX => ?_)
              exact fin z H locs _ _ ls came (sI h9 o 15 3) hf hX (by omega) (by omega) (lv_sub hl [2] rfl)
  refine lv_iconst (v := 0) hx hb dX0_comesBy_0 (by decide) ?_
  refine lv_istore (lv' := [(5, .int 0), (0, .ref o), (1, va_rf row), (2, va_rf (some a)), (3, .int f), (4, .int nn)]) hx hb dX0_comesBy_1 hl (by decide) rfl (fun ls hl => ?_)
  refine lv_aload_n hx hb dX0_comesBy_3 rfl (lv_at hl 1 rfl) ?_
  refine lv_iconst (v := 0) hx hb dX0_comesBy_4 (by decide) ?_
  refine x_put (ci := 0) (C := RX0) (T := TX0) (N := 16) hx hb hts in_X0 tyX0 tyX0_ok nmX0 hown hK.1 hX rfl g0 (by decide) rfl 15 (Nat.le_of_ble_eq_true rfl) (hts _ q923) (fun _ h9 => h9) rfl rfl rfl (Put1.fI (x := 0) rfl) dX0_comesBy_5 (fun H locs hX => ?_)
  replace hX := hX.re ehs
  exact loop 21 0 hs H locs 0 0 ls hX (lv_sub hl [1, 2, 3, 4, 5, 0] rfl) hf3 (by decide) (by decide)
