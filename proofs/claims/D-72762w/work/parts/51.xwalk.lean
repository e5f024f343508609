/-! walks of the system (by program) -/
theorem cdX3_closes : yX3_closes.cls ≠ "java/lang/invoke/MethodHandle" ∧ yX3_closes.cls ≠ "java/lang/invoke/VarHandle" ∧ (parseMethodDescriptor yX3_closes.desc).map (fun d => d.parameters.length) = some 1 := by decide +kernel
set_option maxHeartbeats 4000000 in
set_option maxRecDepth 100000 in
theorem wx_Reader_closes (l : Launch) (G : Gt) (hG : XG G) (h : Hp) (n : Nat) (o : Nat) (p1 : Int32) (res : Sum (Unit) Nat) (h1 : Hp) (MC MS : Nat) (hf : X_Reader_closes n o p1 h = some ((res, h1), MC, MS)) : vx_Met l yX3_closes (ws_ yX3_closes cX3_closes 2 none) (rmm (7) MC MS (201)) (XP G [.ref o, .int p1] h) (XQn G (fun _ : Unit => none) res h h1) (XCn G res h h1) MC MS (fre h) := by
  rw [X_Reader_closes] at hf
  obtain ⟨g0, hf⟩ := gd_e hf
  refine metXv l (by decide) (Nat.le_of_ble_eq_true rfl) ?_
  intro p e s m args below meth c Q hx hb hts hown hnmd hml hinit hK hW hret hth ls hl
  have hown : s.vm.findClass RX3 = some m.cls := hown
  have hX := XX.start hW
  have kc : 0 + MC = MC := Nat.zero_add _
  have ks : 0 + MS = MS := Nat.zero_add _
  have hl : lv_has ls 2 [(0, .ref o), (1, .int p1)] := hl
  refine lv_aload_n hx hb dX3_closes_0 rfl (lv_at hl 0 rfl) ?_
  refine lv_aload_n hx hb dX3_closes_1 rfl (lv_at hl 0 rfl) ?_
  refine lv_iload_n hx hb dX3_closes_2 rfl (lv_at hl 1 rfl) ?_
  obtain ⟨r2, e1, hf⟩ := bd_e hf
  refine x_doneP (va_runV (b := o) (As := [.int p1]) (rest := [.ref o]) ⟨hx, hb, hml, hown, hts⟩ (wx_Reader_isSign l G hG h n o p1 r2 e1) (cwV 1 hts (lw_V q300 q302 qs6 q98 q303) rfl rfl rfl ⟨rfl, cdX3_isSign⟩ ⟨(by simp only [rmm]; omega), (by simp only [rmm]; omega)⟩) (x_preV (ci := 3) (T := TX3) (N := 9) hK hX _ (hX.tg g0 (by decide)) (by decide) rfl) rfl rfl hl.1 rfl (lv_room (Nat.le_of_ble_eq_true rfl)) dX3_closes_3 ⟨(by simp only [rmm]; omega), (by simp only [rmm]; omega)⟩) rfl ?_
  clear e1
  refine lv_iconst (v := 2) hx hb dX3_closes_6 (by decide) ?_
  obtain ⟨r11, h4, c5, s6, e3, l14, l15, e13⟩ := bdX_e hf
  refine x_doneX (val := (fun _ : Unit => none)) (vx_runV (b := o) (As := [.int r2, .int 2]) (rest := []) ⟨hx, hb, hml, hown, hts⟩ (wx_Reader_must l G hG h n o r2 2 r11 h4 c5 s6 e3) (cwV 2 hts (lw_V q165 q167 qs2 q98 q168) rfl rfl rfl ⟨rfl, cdX3_must⟩ ⟨(by simp only [rmm]; omega), (by simp only [rmm]; omega)⟩) (x_preV (ci := 3) (T := TX3) (N := 9) hK hX _ (hX.tg g0 (by decide)) (by decide) rfl) rfl rfl hl.1 rfl (lv_room (Nat.le_of_ble_eq_true rfl)) dX3_closes_7 ⟨(by simp only [rmm]; omega), (by simp only [rmm]; omega)⟩) hX e13 hth kc ks (fun r12 c7 s8 hf e9 e10 H locs hX => ?_)
  clear e3 l14 l15 e13
  replace kc : (0 + c5) + c7 = MC := by omega
  replace ks : (0 + s6) + s8 = MS := by omega
  clear e9 e10
  refine lv_aload_n hx hb dX3_closes_10 rfl (lv_at hl 0 rfl) ?_
  refine lv_dup hx hb dX3_closes_11 rfl ?_
  refine x_get (ci := 3) (C := RX3) (T := TX3) (N := 9) hx hb hts in_X3 hown hK.1 hX rfl (hX.tg g0 (by decide)) (by decide) rfl 4 (Nat.le_of_ble_eq_true rfl) (hts _ q268) (fun _ h9 => h9) (hv_int rfl) dX3_closes_12 ?_
  refine lv_iconst (v := 1) hx hb dX3_closes_15 (by decide) ?_
  refine lv_isub hx hb dX3_closes_16 ?_
  obtain ⟨h16, eh16, hf⟩ := st_e hf
  refine x_put (ci := 3) (C := RX3) (T := TX3) (N := 9) hx hb hts in_X3 tyX3 tyX3_ok nmX3 hown hK.1 hX rfl (hX.tg g0 (by decide)) (by decide) rfl 4 (Nat.le_of_ble_eq_true rfl) (hts _ q268) (fun _ h9 => h9) rfl rfl rfl (Put1.fI (x := ((hI h4 o 4) - 1)) rfl) dX3_closes_17 (fun H locs hX => ?_)
  replace hX := hX.re eh16
  clear eh16
  refine lv_aload_n hx hb dX3_closes_20 rfl (lv_at hl 0 rfl) ?_
  obtain ⟨r25, h18, c19, s20, e17, l28, l29, e27⟩ := bdX_e hf
  refine x_doneX (val := (fun _ : Unit => none)) (vx_runV (b := o) (As := []) (rest := []) ⟨hx, hb, hml, hown, hts⟩ (wx_Reader_next l G hG h16 n o r25 h18 c19 s20 e17) (cwV 0 hts (lw_V q152 q154 qs0 q98 q155) rfl rfl rfl ⟨rfl, cdX3_next⟩ ⟨(by simp only [rmm]; omega), (by simp only [rmm]; omega)⟩) (x_preV (ci := 3) (T := TX3) (N := 9) hK hX _ (hX.tg g0 (by decide)) (by decide) rfl) rfl rfl hl.1 rfl (lv_room (Nat.le_of_ble_eq_true rfl)) dX3_closes_21 ⟨(by simp only [rmm]; omega), (by simp only [rmm]; omega)⟩) hX e27 hth kc ks (fun r26 c21 s22 hf e23 e24 H locs hX => ?_)
  clear e17 l28 l29 e27
  replace kc : ((0 + c5) + c19) + c21 = MC := by omega
  replace ks : ((0 + s6) + s20) + s22 = MS := by omega
  clear e23 e24
  obtain ⟨q1, q2⟩ := Prod.mk.inj (Option.some.inj hf)
  obtain ⟨q2, q3⟩ := Prod.mk.inj q2
  obtain ⟨q0, rfl⟩ := Prod.mk.inj q1
  refine W.cs (cells' := MC) (slots' := MS) (by omega) (by omega) ?_
  exact hret _ _ _ _ _ q0.symm hX dX3_closes_24
theorem cdX3_wire : yX3_wire.cls ≠ "java/lang/invoke/MethodHandle" ∧ yX3_wire.cls ≠ "java/lang/invoke/VarHandle" ∧ (parseMethodDescriptor yX3_wire.desc).map (fun d => d.parameters.length) = some 0 := by decide +kernel
set_option maxHeartbeats 4000000 in
set_option maxRecDepth 100000 in
theorem wx_Reader_wire (l : Launch) (G : Gt) (hG : XG G) (h : Hp) (n : Nat) (o : Nat) (res : Sum (Option Nat) Nat) (h1 : Hp) (MC MS : Nat) (hf : X_Reader_wire n o h = some ((res, h1), MC, MS)) : vx_Met l yX3_wire (ws_ yX3_wire cX3_wire 2 (some (.object "PromiseTries$Holds"))) (rmm (7) MC MS (3200)) (XP G [.ref o] h) (XQn G (fun r9 : Option Nat => some (va_rf r9)) res h h1) (XCn G res h h1) MC MS (fre h) := by
  rw [X_Reader_wire] at hf
  obtain ⟨g0, hf⟩ := gd_e hf
  refine metXr l (by decide) (Nat.le_of_ble_eq_true rfl) (Or.inl ⟨_, rfl⟩) ?_
  intro p e s m args below meth c Q hx hb hts hown hnmd hml hinit hK hW hret hth ls hl
  have hown : s.vm.findClass RX3 = some m.cls := hown
  have hX := XX.start hW
  have kc : 0 + MC = MC := Nat.zero_add _
  have ks : 0 + MS = MS := Nat.zero_add _
  have hl : lv_has ls 2 [(0, .ref o)] := hl
  refine lv_aload_n hx hb dX3_wire_0 rfl (lv_at hl 0 rfl) ?_
  refine x_get (ci := 3) (C := RX3) (T := TX3) (N := 9) hx hb hts in_X3 hown hK.1 hX rfl (hX.tg g0 (by decide)) (by decide) rfl 8 (Nat.le_of_ble_eq_true rfl) (hts _ q272) (fun _ h9 => h9) (hv_int rfl) dX3_wire_1 ?_
  refine lv_bipush (v := 97) hx hb dX3_wire_4 (by decide) ?_
  refine lv_isub hx hb dX3_wire_6 ?_
  refine lv_istore_n (lv' := [(1, .int ((hI h o 8) - 97)), (0, .ref o)]) hx hb dX3_wire_7 rfl hl (by decide) rfl (fun ls hl => ?_)
  refine lv_aload_n hx hb dX3_wire_8 rfl (lv_at hl 1 rfl) ?_
  obtain ⟨r9, h2, c3, s4, e1, l12, l13, e11⟩ := bdX_e hf
  refine x_doneX (val := (fun _ : Unit => none)) (vx_runV (b := o) (As := []) (rest := []) ⟨hx, hb, hml, hown, hts⟩ (wx_Reader_next l G hG h n o r9 h2 c3 s4 e1) (cwV 0 hts (lw_V q152 q154 qs0 q98 q155) rfl rfl rfl ⟨rfl, cdX3_next⟩ ⟨(by simp only [rmm]; omega), (by simp only [rmm]; omega)⟩) (x_preV (ci := 3) (T := TX3) (N := 9) hK hX _ (hX.tg g0 (by decide)) (by decide) rfl) rfl rfl hl.1 rfl (lv_room (Nat.le_of_ble_eq_true rfl)) dX3_wire_9 ⟨(by simp only [rmm]; omega), (by simp only [rmm]; omega)⟩) hX e11 hth kc ks (fun r10 c5 s6 hf e7 e8 H locs hX => ?_)
  clear e1 l12 l13 e11
  replace kc : (0 + c3) + c5 = MC := by omega
  replace ks : (0 + s4) + s6 = MS := by omega
  clear e7 e8
  refine lv_iload_n hx hb dX3_wire_12 rfl (lv_at hl 0 rfl) ?_
  obtain ⟨c14, s15, hf, e16, e17⟩ := ad_e hf
  obtain ⟨h18, eh18, hf⟩ := st_e hf
  refine x_lam0 hG hx hb hml hts hnmd hK hX hl.1 (Nat.le_of_ble_eq_true rfl) (by simp only [rmm]; omega) (by simp only [rmm]; omega) (by simp only [rmm]; omega) dX3_wire_13 rfl (fun H hX => ?_)
  replace hX := hX.re eh18
  clear eh18
  replace kc : ((0 + c3) + 1) + c14 = MC := by omega
  replace ks : ((0 + s4) + 1) + s15 = MS := by omega
  clear e16 e17
  obtain ⟨q1, q2⟩ := Prod.mk.inj (Option.some.inj hf)
  obtain ⟨q2, q3⟩ := Prod.mk.inj q2
  obtain ⟨q0, rfl⟩ := Prod.mk.inj q1
  refine W.cs (cells' := MC) (slots' := MS) (by omega) (by omega) ?_
  exact hret _ _ _ _ _ q0.symm hX dX3_wire_18
theorem cdX3_bracket : yX3_bracket.cls ≠ "java/lang/invoke/MethodHandle" ∧ yX3_bracket.cls ≠ "java/lang/invoke/VarHandle" ∧ (parseMethodDescriptor yX3_bracket.desc).map (fun d => d.parameters.length) = some 0 := by decide +kernel
set_option maxHeartbeats 4000000 in
set_option maxRecDepth 100000 in
theorem wx_Reader_bracket (l : Launch) (G : Gt) (hG : XG G) (D : Nat) (fo : Nat → Hp → Option ((Sum (Option Nat) Nat × Hp) × Nat × Nat)) (hrec : ∀ o h res h1 c s, fo o h = some ((res, h1), c, s) → vx_Met l yX3_ors (ws_ yX3_ors cX3_ors 4 (some (.object "PromiseTries$Holds"))) (rmm (4 * D + 16) c s (160 * D + 4000)) (XP G [.ref o] h) (XQn G (fun r9 : Option Nat => some (va_rf r9)) res h h1) (XCn G res h h1) c s (fre h)) (h : Hp) (n : Nat) (o : Nat) (res : Sum (Option Nat) Nat) (h1 : Hp) (MC MS : Nat) (hf : X_Reader_bracket n fo o h = some ((res, h1), MC, MS)) : vx_Met l yX3_bracket (ws_ yX3_bracket cX3_bracket 2 (some (.object "PromiseTries$Holds"))) (rmm (4 * D + 17) MC MS (160 * D + 4040)) (XP G [.ref o] h) (XQn G (fun r9 : Option Nat => some (va_rf r9)) res h h1) (XCn G res h h1) MC MS (fre h) := by
  rw [X_Reader_bracket] at hf
  obtain ⟨g0, hf⟩ := gd_e hf
  refine metXr l (by decide) (Nat.le_of_ble_eq_true rfl) (Or.inl ⟨_, rfl⟩) ?_
  intro p e s m args below meth c Q hx hb hts hown hnmd hml hinit hK hW hret hth ls hl
  have hown : s.vm.findClass RX3 = some m.cls := hown
  have hX := XX.start hW
  have kc : 0 + MC = MC := Nat.zero_add _
  have ks : 0 + MS = MS := Nat.zero_add _
  have hl : lv_has ls 2 [(0, .ref o)] := hl
  refine lv_aload_n hx hb dX3_bracket_0 rfl (lv_at hl 0 rfl) ?_
  obtain ⟨r9, h2, c3, s4, e1, l12, l13, e11⟩ := bdX_e hf
  refine x_doneX (val := (fun _ : Unit => none)) (vx_runV (b := o) (As := []) (rest := []) ⟨hx, hb, hml, hown, hts⟩ (wx_Reader_opens l G hG h n o r9 h2 c3 s4 e1) (cwV 0 hts (lw_V q378 q380 qs12 q98 q381) rfl rfl rfl ⟨rfl, cdX3_opens⟩ ⟨(by simp only [rmm]; omega), (by simp only [rmm]; omega)⟩) (x_preV (ci := 3) (T := TX3) (N := 9) hK hX _ (hX.tg g0 (by decide)) (by decide) rfl) rfl rfl hl.1 rfl (lv_room (Nat.le_of_ble_eq_true rfl)) dX3_bracket_1 ⟨(by simp only [rmm]; omega), (by simp only [rmm]; omega)⟩) hX e11 hth kc ks (fun r10 c5 s6 hf e7 e8 H locs hX => ?_)
  clear e1 l12 l13 e11
  replace kc : (0 + c3) + c5 = MC := by omega
  replace ks : (0 + s4) + s6 = MS := by omega
  clear e7 e8
  refine lv_aload_n hx hb dX3_bracket_4 rfl (lv_at hl 0 rfl) ?_
  obtain ⟨r22, h15, c16, s17, e14, l25, l26, e24⟩ := bdX_e hf
  refine x_doneX (val := (fun r9 : Option Nat => some (va_rf r9))) (vx_runV (b := o) (As := []) (rest := []) ⟨hx, hb, hml, hown, hts⟩ (hrec o h2 r22 h15 c16 s17 e14) (cwV 0 hts (lw_V q400 q402 qs17 q98 q403) rfl rfl rfl ⟨rfl, cdX3_ors⟩ ⟨(by simp only [rmm]; omega), (by simp only [rmm]; omega)⟩) (x_preV (ci := 3) (T := TX3) (N := 9) hK hX _ (hX.tg g0 (by decide)) (by decide) rfl) rfl rfl hl.1 rfl (lv_room (Nat.le_of_ble_eq_true rfl)) dX3_bracket_5 ⟨(by simp only [rmm]; omega), (by simp only [rmm]; omega)⟩) hX e24 hth kc ks (fun r23 c18 s19 hf e20 e21 H locs hX => ?_)
  clear e14 l25 l26 e24
  replace kc : ((0 + c3) + c16) + c18 = MC := by omega
  replace ks : ((0 + s4) + s17) + s19 = MS := by omega
  clear e20 e21
  refine lx_astore_n (r := r23) (lv' := [(1, va_rf r23), (0, .ref o)]) hx hb dX3_bracket_8 rfl hl (by decide) rfl (fun ls hl => ?_)
  refine lv_aload_n hx hb dX3_bracket_9 rfl (lv_at hl 1 rfl) ?_
  refine lv_bipush (v := 41) hx hb dX3_bracket_10 (by decide) ?_
  obtain ⟨r35, h28, c29, s30, e27, l38, l39, e37⟩ := bdX_e hf
  refine x_doneX (val := (fun _ : Unit => none)) (vx_runV (b := o) (As := [.int 41]) (rest := []) ⟨hx, hb, hml, hown, hts⟩ (wx_Reader_closes l G hG h15 n o 41 r35 h28 c29 s30 e27) (cwV 1 hts (lw_V q382 q384 qs13 q98 q385) rfl rfl rfl ⟨rfl, cdX3_closes⟩ ⟨(by simp only [rmm]; omega), (by simp only [rmm]; omega)⟩) (x_preV (ci := 3) (T := TX3) (N := 9) hK hX _ (hX.tg g0 (by decide)) (by decide) rfl) rfl rfl hl.1 rfl (lv_room (Nat.le_of_ble_eq_true rfl)) dX3_bracket_12 ⟨(by simp only [rmm]; omega), (by simp only [rmm]; omega)⟩) hX e37 hth kc ks (fun r36 c31 s32 hf e33 e34 H locs hX => ?_)
  clear e27 l38 l39 e37
  replace kc : (((0 + c3) + c16) + c29) + c31 = MC := by omega
  replace ks : (((0 + s4) + s17) + s30) + s32 = MS := by omega
  clear e33 e34
  refine lx_aload_n hx hb dX3_bracket_15 rfl (lv_at hl 0 rfl) ?_
  obtain ⟨q1, q2⟩ := Prod.mk.inj (Option.some.inj hf)
  obtain ⟨q2, q3⟩ := Prod.mk.inj q2
  obtain ⟨q0, rfl⟩ := Prod.mk.inj q1
  refine W.cs (cells' := MC) (slots' := MS) (by omega) (by omega) ?_
  exact hret _ _ _ _ _ q0.symm hX dX3_bracket_16
theorem cdX3_condition : yX3_condition.cls ≠ "java/lang/invoke/MethodHandle" ∧ yX3_condition.cls ≠ "java/lang/invoke/VarHandle" ∧ (parseMethodDescriptor yX3_condition.desc).map (fun d => d.parameters.length) = some 0 := by decide +kernel
set_option maxHeartbeats 4000000 in
set_option maxRecDepth 100000 in
theorem wx_Reader_condition (l : Launch) (G : Gt) (hG : XG G) (D : Nat) (fo : Nat → Hp → Option ((Sum (Option Nat) Nat × Hp) × Nat × Nat)) (hrec : ∀ o h res h1 c s, fo o h = some ((res, h1), c, s) → vx_Met l yX3_ors (ws_ yX3_ors cX3_ors 4 (some (.object "PromiseTries$Holds"))) (rmm (4 * D + 16) c s (160 * D + 4000)) (XP G [.ref o] h) (XQn G (fun r9 : Option Nat => some (va_rf r9)) res h h1) (XCn G res h h1) c s (fre h)) (h : Hp) (n : Nat) (o : Nat) (res : Sum (Option Nat) Nat) (h1 : Hp) (MC MS : Nat) (hf : X_Reader_condition n fo o h = some ((res, h1), MC, MS)) : vx_Met l yX3_condition (ws_ yX3_condition cX3_condition 3 (some (.object "PromiseTries$Holds"))) (rmm (4 * D + 18) MC MS (160 * D + 4080)) (XP G [.ref o] h) (XQn G (fun r9 : Option Nat => some (va_rf r9)) res h h1) (XCn G res h h1) MC MS (fre h) := by
  rw [X_Reader_condition] at hf
  obtain ⟨g0, hf⟩ := gd_e hf
  refine metXr l (by decide) (Nat.le_of_ble_eq_true rfl) (Or.inl ⟨_, rfl⟩) ?_
  intro p e s m args below meth c Q hx hb hts hown hnmd hml hinit hK hW hret hth ls hl
  have hown : s.vm.findClass RX3 = some m.cls := hown
  have hX := XX.start hW
  have kc : 0 + MC = MC := Nat.zero_add _
  have ks : 0 + MS = MS := Nat.zero_add _
  have hl : lv_has ls 3 [(0, .ref o)] := hl
  have B74 : ∀ (v1 : Int32) (t0 : Option Nat) (h_35 : Hp) (ck cs qc qs : Nat) (kc : ck + qc = MC) (ks : cs + qs = MS) (H : Heap) (locs : List Loc) (ls : Array Slot), XX G h s.heap h_35 H locs → lv_has ls 3 [(0, .ref o), (1, .int v1)] → X_Reader_condition_b74 n fo o v1 t0 h_35 = some ((res, h1), qc, qs) → W p l e (rmm (4 * D + 18) MC MS (160 * D + 4080)) s m args below meth c H locs ck cs Q (F0 m 74 ls [va_rf t0]) := by
    intro v1 t0 h_35 ck cs qc qs kc ks H locs ls hX hl hf
    rw [X_Reader_condition_b74] at hf
    refine lx_astore_n (r := t0) (lv' := [(2, va_rf t0), (0, .ref o), (1, .int v1)]) hx hb dX3_condition_74 rfl hl (by decide) rfl (fun ls hl => ?_)
    refine lv_iload_n hx hb dX3_condition_75 rfl (lv_at hl 2 rfl) ?_
    refine lv_if_eq (tgt := 88) hx hb dX3_condition_76 (by decide) (fun c36 => ?_) (fun c36 => ?_)
    · rw [if_pos c36] at hf
      refine lx_aload_n hx hb dX3_condition_88 rfl (lv_at hl 0 rfl) ?_
      obtain ⟨q1, q2⟩ := Prod.mk.inj (Option.some.inj hf)
      obtain ⟨q2, q3⟩ := Prod.mk.inj q2
      obtain ⟨q0, rfl⟩ := Prod.mk.inj q1
      refine W.cs (cells' := MC) (slots' := MS) (by omega) (by omega) ?_
      exact hret _ _ _ _ _ q0.symm hX dX3_condition_89
    · rw [if_neg c36] at hf
      refine lx_aload_n hx hb dX3_condition_79 rfl (lv_at hl 0 rfl) ?_
      obtain ⟨c37, s38, hf, e39, e40⟩ := ad_e hf
      obtain ⟨h41, eh41, hf⟩ := st_e hf
      refine x_lam1 hG hx hb hml hts hnmd hK hX hl.1 (Nat.le_of_ble_eq_true rfl) (by simp only [rmm]; omega) (by simp only [rmm]; omega) (by simp only [rmm]; omega) dX3_condition_80 rfl (fun H hX => ?_)
      replace hX := hX.re eh41
      clear eh41
      replace kc : (ck + 1) + c37 = MC := by omega
      replace ks : (cs + 1) + s38 = MS := by omega
      clear e39 e40
      refine lv_goto (tgt := 89) hx hb dX3_condition_85 (by decide) ?_
      obtain ⟨q1, q2⟩ := Prod.mk.inj (Option.some.inj hf)
      obtain ⟨q2, q3⟩ := Prod.mk.inj q2
      obtain ⟨q0, rfl⟩ := Prod.mk.inj q1
      refine W.cs (cells' := MC) (slots' := MS) (by omega) (by omega) ?_
      exact hret _ _ _ _ _ q0.symm hX dX3_condition_89
  have B51 : ∀ (v1 : Int32) (t0 : Int32) (h_7 : Hp) (ck cs qc qs : Nat) (kc : ck + qc = MC) (ks : cs + qs = MS) (H : Heap) (locs : List Loc) (ls : Array Slot), XX G h s.heap h_7 H locs → lv_has ls 3 [(0, .ref o), (1, .int v1)] → X_Reader_condition_b51 n fo o v1 t0 h_7 = some ((res, h1), qc, qs) → W p l e (rmm (4 * D + 18) MC MS (160 * D + 4080)) s m args below meth c H locs ck cs Q (F0 m 51 ls [.int t0, .ref o]) := by
    intro v1 t0 h_7 ck cs qc qs kc ks H locs ls hX hl hf
    rw [X_Reader_condition_b51] at hf
    refine lv_iconst (v := 2) hx hb dX3_condition_51 (by decide) ?_
    obtain ⟨r16, h9, c10, s11, e8, l19, l20, e18⟩ := bdX_e hf
    refine x_doneX (val := (fun _ : Unit => none)) (vx_runV (b := o) (As := [.int t0, .int 2]) (rest := []) ⟨hx, hb, hml, hown, hts⟩ (wx_Reader_must l G hG h_7 n o t0 2 r16 h9 c10 s11 e8) (cwV 2 hts (lw_V q165 q167 qs2 q98 q168) rfl rfl rfl ⟨rfl, cdX3_must⟩ ⟨(by simp only [rmm]; omega), (by simp only [rmm]; omega)⟩) (x_preV (ci := 3) (T := TX3) (N := 9) hK hX _ (hX.tg g0 (by decide)) (by decide) rfl) rfl rfl hl.1 rfl (lv_room (Nat.le_of_ble_eq_true rfl)) dX3_condition_52 ⟨(by simp only [rmm]; omega), (by simp only [rmm]; omega)⟩) hX e18 hth kc ks (fun r17 c12 s13 hf e14 e15 H locs hX => ?_)
    clear e8 l19 l20 e18
    replace kc : (ck + c10) + c12 = MC := by omega
    replace ks : (cs + s11) + s13 = MS := by omega
    clear e14 e15
    refine lv_aload_n hx hb dX3_condition_55 rfl (lv_at hl 0 rfl) ?_
    refine x_get (ci := 3) (C := RX3) (T := TX3) (N := 9) hx hb hts in_X3 hown hK.1 hX rfl (hX.tg g0 (by decide)) (by decide) rfl 7 (Nat.le_of_ble_eq_true rfl) (hts _ q271) (fun _ h9 => h9) (hv_int rfl) dX3_condition_56 ?_
    refine lv_iconst (v := 1) hx hb dX3_condition_59 (by decide) ?_
    refine lv_icmp_ne (tgt := 70) hx hb dX3_condition_60 (by decide) (fun c21 => ?_) (fun c21 => ?_)
    · rw [if_neg c21] at hf
      refine lv_aload_n hx hb dX3_condition_70 rfl (lv_at hl 0 rfl) ?_
      obtain ⟨r30, h23, c24, s25, e22, l33, l34, e32⟩ := bdX_e hf
      refine x_doneX (val := (fun r9 : Option Nat => some (va_rf r9))) (vx_runV (b := o) (As := []) (rest := []) ⟨hx, hb, hml, hown, hts⟩ (wx_Reader_bracket l G hG D fo hrec h9 n o r30 h23 c24 s25 e22) (cwV 0 hts (lw_V q396 q398 qs16 q98 q399) rfl rfl rfl ⟨rfl, cdX3_bracket⟩ ⟨(by simp only [rmm]; omega), (by simp only [rmm]; omega)⟩) (x_preV (ci := 3) (T := TX3) (N := 9) hK hX _ (hX.tg g0 (by decide)) (by decide) rfl) rfl rfl hl.1 rfl (lv_room (Nat.le_of_ble_eq_true rfl)) dX3_condition_71 ⟨(by simp only [rmm]; omega), (by simp only [rmm]; omega)⟩) hX e32 hth kc ks (fun r31 c26 s27 hf e28 e29 H locs hX => ?_)
      clear e22 l33 l34 e32
      replace kc : ((ck + c10) + c24) + c26 = MC := by omega
      replace ks : ((cs + s11) + s25) + s27 = MS := by omega
      clear e28 e29
      exact B74 v1 r31 h23 _ _ _ _ kc ks _ _ _ hX (lv_sub hl [0, 1] rfl) hf
    · rw [if_pos c21] at hf
      refine lv_aload_n hx hb dX3_condition_63 rfl (lv_at hl 0 rfl) ?_
      obtain ⟨r50, h43, c44, s45, e42, l53, l54, e52⟩ := bdX_e hf
      refine x_doneX (val := (fun r9 : Option Nat => some (va_rf r9))) (vx_runV (b := o) (As := []) (rest := []) ⟨hx, hb, hml, hown, hts⟩ (wx_Reader_wire l G hG h9 n o r50 h43 c44 s45 e42) (cwV 0 hts (lw_V q390 q392 qs15 q98 q393) rfl rfl rfl ⟨rfl, cdX3_wire⟩ ⟨(by simp only [rmm]; omega), (by simp only [rmm]; omega)⟩) (x_preV (ci := 3) (T := TX3) (N := 9) hK hX _ (hX.tg g0 (by decide)) (by decide) rfl) rfl rfl hl.1 rfl (lv_room (Nat.le_of_ble_eq_true rfl)) dX3_condition_64 ⟨(by simp only [rmm]; omega), (by simp only [rmm]; omega)⟩) hX e52 hth kc ks (fun r51 c46 s47 hf e48 e49 H locs hX => ?_)
      clear e42 l53 l54 e52
      replace kc : ((ck + c10) + c44) + c46 = MC := by omega
      replace ks : ((cs + s11) + s45) + s47 = MS := by omega
      clear e48 e49
      refine lv_goto (tgt := 74) hx hb dX3_condition_67 (by decide) ?_
      exact B74 v1 r51 h43 _ _ _ _ kc ks _ _ _ hX (lv_sub hl [0, 1] rfl) hf
  have B46 : ∀ (v1 : Int32) (h_6 : Hp) (ck cs qc qs : Nat) (kc : ck + qc = MC) (ks : cs + qs = MS) (H : Heap) (locs : List Loc) (ls : Array Slot), XX G h s.heap h_6 H locs → lv_has ls 3 [(0, .ref o), (1, .int v1)] → X_Reader_condition_b46 n fo o v1 h_6 = some ((res, h1), qc, qs) → W p l e (rmm (4 * D + 18) MC MS (160 * D + 4080)) s m args below meth c H locs ck cs Q (F0 m 46 ls [.ref o]) := by
    intro v1 h_6 ck cs qc qs kc ks H locs ls hX hl hf
    rw [X_Reader_condition_b46] at hf
    refine lv_iconst (v := 1) hx hb dX3_condition_46 (by decide) ?_
    refine lv_goto (tgt := 51) hx hb dX3_condition_47 (by decide) ?_
    exact B51 v1 1 h_6 _ _ _ _ kc ks _ _ _ hX (lv_sub hl [0, 1] rfl) hf
  have B20 : ∀ (K2 : Int32 → Hp → Option ((Sum (Option Nat) Nat × Hp) × Nat × Nat)) (hK2 : ∀ (v1 : Int32) (h2 : Hp) (ck cs qc qs : Nat) (_ : ck + qc = MC) (_ : cs + qs = MS) (H : Heap) (locs : List Loc) (ls : Array Slot), XX G h s.heap h2 H locs → lv_has ls 3 [(0, .ref o), (1, .int v1)] → K2 v1 h2 = some ((res, h1), qc, qs) → W p l e (rmm (4 * D + 18) MC MS (160 * D + 4080)) s m args below meth c H locs ck cs Q (F0 m 2 ls [])) (t0 : Int32) (h_59 : Hp) (ck cs qc qs : Nat) (kc : ck + qc = MC) (ks : cs + qs = MS) (H : Heap) (locs : List Loc) (ls : Array Slot), XX G h s.heap h_59 H locs → lv_has ls 3 [(0, .ref o)] → X_Reader_condition_b20 n fo o K2 t0 h_59 = some ((res, h1), qc, qs) → W p l e (rmm (4 * D + 18) MC MS (160 * D + 4080)) s m args below meth c H locs ck cs Q (F0 m 20 ls [.int t0]) := by
    intro K2 hK2 t0 h_59 ck cs qc qs kc ks H locs ls hX hl hf
    rw [X_Reader_condition_b20] at hf
    refine lv_istore_n (lv' := [(1, .int t0), (0, .ref o)]) hx hb dX3_condition_20 rfl hl (by decide) rfl (fun ls hl => ?_)
    refine lv_aload_n hx hb dX3_condition_21 rfl (lv_at hl 1 rfl) ?_
    obtain ⟨r68, h61, c62, s63, e60, l71, l72, e70⟩ := bdX_e hf
    refine x_doneX (val := (fun _ : Unit => none)) (vx_runV (b := o) (As := []) (rest := []) ⟨hx, hb, hml, hown, hts⟩ (wx_Reader_next l G hG h_59 n o r68 h61 c62 s63 e60) (cwV 0 hts (lw_V q152 q154 qs0 q98 q155) rfl rfl rfl ⟨rfl, cdX3_next⟩ ⟨(by simp only [rmm]; omega), (by simp only [rmm]; omega)⟩) (x_preV (ci := 3) (T := TX3) (N := 9) hK hX _ (hX.tg g0 (by decide)) (by decide) rfl) rfl rfl hl.1 rfl (lv_room (Nat.le_of_ble_eq_true rfl)) dX3_condition_22 ⟨(by simp only [rmm]; omega), (by simp only [rmm]; omega)⟩) hX e70 hth kc ks (fun r69 c64 s65 hf e66 e67 H locs hX => ?_)
    clear e60 l71 l72 e70
    replace kc : (ck + c62) + c64 = MC := by omega
    replace ks : (cs + s63) + s65 = MS := by omega
    clear e66 e67
    refine lv_goto (tgt := 2) hx hb dX3_condition_25 (by decide) ?_
    exact hK2 t0 h61 _ _ _ _ kc ks _ _ _ hX (lv_sub hl [1, 0] rfl) hf
  have B2 : ∀ (f : Nat) (v1 : Int32) (h_1 : Hp) (ck cs qc qs : Nat) (kc : ck + qc = MC) (ks : cs + qs = MS) (H : Heap) (locs : List Loc) (ls : Array Slot), XX G h s.heap h_1 H locs → lv_has ls 3 [(0, .ref o), (1, .int v1)] → X_Reader_condition_b2 n fo o f v1 h_1 = some ((res, h1), qc, qs) → W p l e (rmm (4 * D + 18) MC MS (160 * D + 4080)) s m args below meth c H locs ck cs Q (F0 m 2 ls []) := by
    intro f
    induction f with
    | zero =>
      intro v1 h_1 ck cs qc qs kc ks H locs ls hX hl hf
      rw [X_Reader_condition_b2] at hf
      cases hf
    | succ f hK2 =>
      intro v1 h_1 ck cs qc qs kc ks H locs ls hX hl hf
      rw [X_Reader_condition_b2] at hf
      refine lv_aload_n hx hb dX3_condition_2 rfl (lv_at hl 0 rfl) ?_
      refine lv_bipush (v := 33) hx hb dX3_condition_3 (by decide) ?_
      obtain ⟨r3, e2, hf⟩ := bd_e hf
      refine x_doneP (va_runV (b := o) (As := [.int 33]) (rest := []) ⟨hx, hb, hml, hown, hts⟩ (wx_Reader_isSign l G hG h_1 n o 33 r3 e2) (cwV 1 hts (lw_V q300 q302 qs6 q98 q303) rfl rfl rfl ⟨rfl, cdX3_isSign⟩ ⟨(by simp only [rmm]; omega), (by simp only [rmm]; omega)⟩) (x_preV (ci := 3) (T := TX3) (N := 9) hK hX _ (hX.tg g0 (by decide)) (by decide) rfl) rfl rfl hl.1 rfl (lv_room (Nat.le_of_ble_eq_true rfl)) dX3_condition_5 ⟨(by simp only [rmm]; omega), (by simp only [rmm]; omega)⟩) rfl ?_
      clear e2
      refine lv_if_eq (tgt := 28) hx hb dX3_condition_8 (by decide) (fun c4 => ?_) (fun c4 => ?_)
      · rw [if_pos c4] at hf
        refine lv_aload_n hx hb dX3_condition_28 rfl (lv_at hl 0 rfl) ?_
        refine lv_aload_n hx hb dX3_condition_29 rfl (lv_at hl 0 rfl) ?_
        refine x_get (ci := 3) (C := RX3) (T := TX3) (N := 9) hx hb hts in_X3 hown hK.1 hX rfl (hX.tg g0 (by decide)) (by decide) rfl 7 (Nat.le_of_ble_eq_true rfl) (hts _ q271) (fun _ h9 => h9) (hv_int rfl) dX3_condition_30 ?_
        refine lv_iconst (v := 1) hx hb dX3_condition_33 (by decide) ?_
        refine lv_icmp_eq (tgt := 46) hx hb dX3_condition_34 (by decide) (fun c5 => ?_) (fun c5 => ?_)
        · rw [if_pos c5] at hf
          exact B46 v1 h_1 _ _ _ _ kc ks _ _ _ hX (lv_sub hl [0, 1] rfl) hf
        · rw [if_neg c5] at hf
          refine lv_aload_n hx hb dX3_condition_37 rfl (lv_at hl 0 rfl) ?_
          refine lv_bipush (v := 40) hx hb dX3_condition_38 (by decide) ?_
          obtain ⟨r56, e55, hf⟩ := bd_e hf
          refine x_doneP (va_runV (b := o) (As := [.int 40]) (rest := [.ref o]) ⟨hx, hb, hml, hown, hts⟩ (wx_Reader_isSign l G hG h_1 n o 40 r56 e55) (cwV 1 hts (lw_V q300 q302 qs6 q98 q303) rfl rfl rfl ⟨rfl, cdX3_isSign⟩ ⟨(by simp only [rmm]; omega), (by simp only [rmm]; omega)⟩) (x_preV (ci := 3) (T := TX3) (N := 9) hK hX _ (hX.tg g0 (by decide)) (by decide) rfl) rfl rfl hl.1 rfl (lv_room (Nat.le_of_ble_eq_true rfl)) dX3_condition_40 ⟨(by simp only [rmm]; omega), (by simp only [rmm]; omega)⟩) rfl ?_
          clear e55
          refine lv_if_eq (tgt := 50) hx hb dX3_condition_43 (by decide) (fun c57 => ?_) (fun c57 => ?_)
          · rw [if_pos c57] at hf
            refine lv_iconst (v := 0) hx hb dX3_condition_50 (by decide) ?_
            exact B51 v1 0 h_1 _ _ _ _ kc ks _ _ _ hX (lv_sub hl [0, 1] rfl) hf
          · rw [if_neg c57] at hf
            exact B46 v1 h_1 _ _ _ _ kc ks _ _ _ hX (lv_sub hl [0, 1] rfl) hf
      · rw [if_neg c4] at hf
        refine lv_iload_n hx hb dX3_condition_11 rfl (lv_at hl 1 rfl) ?_
        refine lv_if_ne (tgt := 19) hx hb dX3_condition_12 (by decide) (fun c58 => ?_) (fun c58 => ?_)
        · rw [if_neg c58] at hf
          refine lv_iconst (v := 0) hx hb dX3_condition_19 (by decide) ?_
          exact B20 (X_Reader_condition_b2 n fo o f) hK2 0 h_1 _ _ _ _ kc ks _ _ _ hX (lv_sub hl [0] rfl) hf
        · rw [if_pos c58] at hf
          refine lv_iconst (v := 1) hx hb dX3_condition_15 (by decide) ?_
          refine lv_goto (tgt := 20) hx hb dX3_condition_16 (by decide) ?_
          exact B20 (X_Reader_condition_b2 n fo o f) hK2 1 h_1 _ _ _ _ kc ks _ _ _ hX (lv_sub hl [0] rfl) hf
  refine lv_iconst (v := 0) hx hb dX3_condition_0 (by decide) ?_
  refine lv_istore_n (lv' := [(1, .int 0), (0, .ref o)]) hx hb dX3_condition_1 rfl hl (by decide) rfl (fun ls hl => ?_)
  exact B2 n 0 h _ _ _ _ kc ks _ _ _ hX (lv_sub hl [1, 0] rfl) hf
theorem cdX7_init : yX7_init.cls ≠ "java/lang/invoke/MethodHandle" ∧ yX7_init.cls ≠ "java/lang/invoke/VarHandle" ∧ (parseMethodDescriptor yX7_init.desc).map (fun d => d.parameters.length) = some 0 := by decide +kernel
set_option maxHeartbeats 4000000 in
set_option maxRecDepth 100000 in
theorem wx_Node_init (l : Launch) (G : Gt) (hG : XG G) (h : Hp) (n : Nat) (o : Nat) (hf : X_Node_init n o h = some ()) : Met l yX7_init (ws_ yX7_init cX7_init 1 none) (rmm (1) 0 0 (64)) (XP G [.ref o] h) (XQp none) 0 0 (fun _ => False) := by
  rw [X_Node_init] at hf
  refine metPv l (by decide) (Nat.le_of_ble_eq_true rfl) ?_
  intro p e s m args below meth c Q hx hb hts hown hnmd hml hinit hK hW hret ls hl
  have hinit : meth.name = "<init>" := hinit rfl
  have hown : s.vm.findClass RX7 = some m.cls := hown
  have hX := XX.start hW
  have hl : lv_has ls 1 [(0, .ref o)] := hl
  refine lv_aload_n hx hb dX7_init_0 rfl (lv_at hl 0 rfl) ?_
  refine W.objInit hx hb hown (hts _ q426) (hts _ q148) (hts _ q149) rfl (by rw [hml]; exact hl.1) rfl dX7_init_1 (Nat.le_of_ble_eq_true rfl) (by show 2 * 0 + _ + 12 ≤ _; first | exact Nat.le_of_ble_eq_true rfl | (simp only [List.map, List.sum_cons, List.sum_nil, rf_cat, cat_i, cat_l, cat_r, rmm] <;> decide)) ?_
  refine W.eq (g2 := F0 m 4 ls []) rfl ?_
  exact hret _ _ dX7_init_4
theorem cdX8_init : yX8_init.cls ≠ "java/lang/invoke/MethodHandle" ∧ yX8_init.cls ≠ "java/lang/invoke/VarHandle" ∧ (parseMethodDescriptor yX8_init.desc).map (fun d => d.parameters.length) = some 2 := by decide +kernel
set_option maxHeartbeats 4000000 in
set_option maxRecDepth 100000 in
theorem wx_Atom_init (l : Launch) (G : Gt) (hG : XG G) (h : Hp) (n : Nat) (o : Nat) (p1 : Int32) (p2 : Option Nat) (h1 : Hp) (hf : X_Atom_init n o p1 p2 h = some h1) : Met l yX8_init (ws_ yX8_init cX8_init 3 none) (rmm (2) 0 0 (84)) (XP G [.ref o, .int p1, va_rf p2] h) (XQ G none h h1) 0 0 (fre h) := by
  rw [X_Atom_init] at hf
  obtain ⟨g0, hf⟩ := gd_e hf
  refine metSv l (by decide) (by cases p2 <;> exact Nat.le_of_ble_eq_true rfl) ?_
  intro p e s m args below meth c Q hx hb hts hown hnmd hml hinit hK hW hret ls hl
  have hinit : meth.name = "<init>" := hinit rfl
  have hown : s.vm.findClass RX8 = some m.cls := hown
  have hX := XX.start hW
  have hl : lv_has ls 3 [(0, .ref o), (1, .int p1), (2, va_rf p2)] := Eq.mp (congrArg (lv_has ls 3) (show lv_args 0 [.ref o, .int p1, va_rf p2] = [(0, .ref o), (1, .int p1), (2, va_rf p2)] from by clear hf; cases p2 <;> rfl)) hl
  refine lv_aload_n hx hb dX8_init_0 rfl (lv_at hl 0 rfl) ?_
  obtain ⟨_, e1, hf⟩ := bd_e hf
  refine x_doneP (va_runIN (As := []) (rest := []) ⟨hx, hb, hml, hown, hts⟩ (wx_Node_init l G hG h n o e1) ⟨va_cnB 0 hts (lw_meth q425) rfl rfl rfl (hG.nw hK nq423) (hts _ q105) cdX7_init ⟨(Nat.le_of_ble_eq_true rfl), (Nat.le_of_ble_eq_true rfl)⟩, rfl, hts _ q424⟩ (x_preS hK hX _) rfl rfl hl.1 rfl (lv_room (Nat.le_of_ble_eq_true rfl)) dX8_init_1 ⟨(Nat.le_of_ble_eq_true rfl), (Nat.le_of_ble_eq_true rfl)⟩) rfl ?_
  clear e1
  refine lv_aload_n hx hb dX8_init_4 rfl (lv_at hl 0 rfl) ?_
  refine lv_iload_n hx hb dX8_init_5 rfl (lv_at hl 1 rfl) ?_
  obtain ⟨h2, eh2, hf⟩ := st_e hf
  refine x_putF (ci := 7) (C := RX8) (T := TX8) (N := 2) hx hb hts in_X8 tyX8 tyX8_ok nmX8 hown hK.1 hX rfl (hX.tg g0 (by decide)) (by decide) rfl 0 (Nat.le_of_ble_eq_true rfl) (hts _ q427) (fun _ h9 => h9) rfl hinit rfl rfl rfl (Put1.fI (x := p1) rfl) dX8_init_6 (fun H locs hX => ?_)
  replace hX := hX.re eh2
  clear eh2
  refine lv_aload_n hx hb dX8_init_9 rfl (lv_at hl 0 rfl) ?_
  refine lx_aload_n hx hb dX8_init_10 rfl (lv_at hl 2 rfl) ?_
  obtain ⟨h3, eh3, hf⟩ := st_e hf
  refine x_putF (ci := 7) (C := RX8) (T := TX8) (N := 2) hx hb hts in_X8 tyX8 tyX8_ok nmX8 hown hK.1 hX rfl (hX.tg g0 (by decide)) (by decide) rfl 1 (Nat.le_of_ble_eq_true rfl) (hts _ q428) (fun _ h9 => h9) rfl hinit rfl (narrow_rfO _ p2) (fits_rfO _ p2) (Put1.fR (x := p2) rfl) dX8_init_11 (fun H locs hX => ?_)
  replace hX := hX.re eh3
  clear eh3
  obtain rfl := Option.some.inj hf
  exact hret _ _ _ _ hX dX8_init_14
theorem cdX3_ands : yX3_ands.cls ≠ "java/lang/invoke/MethodHandle" ∧ yX3_ands.cls ≠ "java/lang/invoke/VarHandle" ∧ (parseMethodDescriptor yX3_ands.desc).map (fun d => d.parameters.length) = some 0 := by decide +kernel
set_option maxHeartbeats 4000000 in
set_option maxRecDepth 100000 in
theorem wx_Reader_ands (l : Launch) (G : Gt) (hG : XG G) (D : Nat) (fo : Nat → Hp → Option ((Sum (Option Nat) Nat × Hp) × Nat × Nat)) (hrec : ∀ o h res h1 c s, fo o h = some ((res, h1), c, s) → vx_Met l yX3_ors (ws_ yX3_ors cX3_ors 4 (some (.object "PromiseTries$Holds"))) (rmm (4 * D + 16) c s (160 * D + 4000)) (XP G [.ref o] h) (XQn G (fun r9 : Option Nat => some (va_rf r9)) res h h1) (XCn G res h h1) c s (fre h)) (h : Hp) (n : Nat) (o : Nat) (res : Sum (Option Nat) Nat) (h1 : Hp) (MC MS : Nat) (hf : X_Reader_ands n fo o h = some ((res, h1), MC, MS)) : vx_Met l yX3_ands (ws_ yX3_ands cX3_ands 4 (some (.object "PromiseTries$Holds"))) (rmm (4 * D + 19) MC MS (160 * D + 4120)) (XP G [.ref o] h) (XQn G (fun r9 : Option Nat => some (va_rf r9)) res h h1) (XCn G res h h1) MC MS (fre h) := by
  rw [X_Reader_ands] at hf
  obtain ⟨g0, hf⟩ := gd_e hf
  refine metXr l (by decide) (Nat.le_of_ble_eq_true rfl) (Or.inl ⟨_, rfl⟩) ?_
  intro p e s m args below meth c Q hx hb hts hown hnmd hml hinit hK hW hret hth ls hl
  have hown : s.vm.findClass RX3 = some m.cls := hown
  have hX := XX.start hW
  have kc : 0 + MC = MC := Nat.zero_add _
  have ks : 0 + MS = MS := Nat.zero_add _
  have hl : lv_has ls 4 [(0, .ref o)] := hl
  have B5 : ∀ (f : Nat) (v1 : Option Nat) (h_14 : Hp) (ck cs qc qs : Nat) (kc : ck + qc = MC) (ks : cs + qs = MS) (H : Heap) (locs : List Loc) (ls : Array Slot), XX G h s.heap h_14 H locs → lv_has ls 4 [(0, .ref o), (1, va_rf v1)] → X_Reader_ands_b5 n fo o f v1 h_14 = some ((res, h1), qc, qs) → W p l e (rmm (4 * D + 19) MC MS (160 * D + 4120)) s m args below meth c H locs ck cs Q (F0 m 5 ls []) := by
    intro f
    induction f with
    | zero =>
      intro v1 h_14 ck cs qc qs kc ks H locs ls hX hl hf
      rw [X_Reader_ands_b5] at hf
      cases hf
    | succ f hK5 =>
      intro v1 h_14 ck cs qc qs kc ks H locs ls hX hl hf
      rw [X_Reader_ands_b5] at hf
      refine lv_aload_n hx hb dX3_ands_5 rfl (lv_at hl 0 rfl) ?_
      refine lv_bipush (v := 38) hx hb dX3_ands_6 (by decide) ?_
      obtain ⟨r16, e15, hf⟩ := bd_e hf
      refine x_doneP (va_runV (b := o) (As := [.int 38]) (rest := []) ⟨hx, hb, hml, hown, hts⟩ (wx_Reader_isSign l G hG h_14 n o 38 r16 e15) (cwV 1 hts (lw_V q300 q302 qs6 q98 q303) rfl rfl rfl ⟨rfl, cdX3_isSign⟩ ⟨(by simp only [rmm]; omega), (by simp only [rmm]; omega)⟩) (x_preV (ci := 3) (T := TX3) (N := 9) hK hX _ (hX.tg g0 (by decide)) (by decide) rfl) rfl rfl hl.1 rfl (lv_room (Nat.le_of_ble_eq_true rfl)) dX3_ands_8 ⟨(by simp only [rmm]; omega), (by simp only [rmm]; omega)⟩) rfl ?_
      clear e15
      refine lv_if_eq (tgt := 36) hx hb dX3_ands_11 (by decide) (fun c17 => ?_) (fun c17 => ?_)
      · rw [if_pos c17] at hf
        refine lx_aload_n hx hb dX3_ands_36 rfl (lv_at hl 1 rfl) ?_
        obtain ⟨q1, q2⟩ := Prod.mk.inj (Option.some.inj hf)
        obtain ⟨q2, q3⟩ := Prod.mk.inj q2
        obtain ⟨q0, rfl⟩ := Prod.mk.inj q1
        refine W.cs (cells' := MC) (slots' := MS) (by omega) (by omega) ?_
        exact hret _ _ _ _ _ q0.symm hX dX3_ands_37
      · rw [if_neg c17] at hf
        refine lv_aload_n hx hb dX3_ands_14 rfl (lv_at hl 0 rfl) ?_
        obtain ⟨r26, h19, c20, s21, e18, l29, l30, e28⟩ := bdX_e hf
        refine x_doneX (val := (fun _ : Unit => none)) (vx_runV (b := o) (As := []) (rest := []) ⟨hx, hb, hml, hown, hts⟩ (wx_Reader_next l G hG h_14 n o r26 h19 c20 s21 e18) (cwV 0 hts (lw_V q152 q154 qs0 q98 q155) rfl rfl rfl ⟨rfl, cdX3_next⟩ ⟨(by simp only [rmm]; omega), (by simp only [rmm]; omega)⟩) (x_preV (ci := 3) (T := TX3) (N := 9) hK hX _ (hX.tg g0 (by decide)) (by decide) rfl) rfl rfl hl.1 rfl (lv_room (Nat.le_of_ble_eq_true rfl)) dX3_ands_15 ⟨(by simp only [rmm]; omega), (by simp only [rmm]; omega)⟩) hX e28 hth kc ks (fun r27 c22 s23 hf e24 e25 H locs hX => ?_)
        clear e18 l29 l30 e28
        replace kc : (ck + c20) + c22 = MC := by omega
        replace ks : (cs + s21) + s23 = MS := by omega
        clear e24 e25
        refine lx_aload_n hx hb dX3_ands_18 rfl (lv_at hl 1 rfl) ?_
        refine lx_astore_n (r := v1) (lv' := [(2, va_rf v1), (0, .ref o), (1, va_rf v1)]) hx hb dX3_ands_19 rfl hl (by decide) (by generalize hq9 : va_rf v1 = w9; have hc9 : w9.category = 1 := (by rw [← hq9]; exact rf_cat _); cases w9 <;> first | rfl | cases hc9) (fun ls hl => ?_)
        refine lv_aload_n hx hb dX3_ands_20 rfl (lv_at hl 1 rfl) ?_
        obtain ⟨r39, h32, c33, s34, e31, l42, l43, e41⟩ := bdX_e hf
        refine x_doneX (val := (fun r9 : Option Nat => some (va_rf r9))) (vx_runV (b := o) (As := []) (rest := []) ⟨hx, hb, hml, hown, hts⟩ (wx_Reader_condition l G hG D fo hrec h19 n o r39 h32 c33 s34 e31) (cwV 0 hts (lw_V q386 q388 qs14 q98 q389) rfl rfl rfl ⟨rfl, cdX3_condition⟩ ⟨(by simp only [rmm]; omega), (by simp only [rmm]; omega)⟩) (x_preV (ci := 3) (T := TX3) (N := 9) hK hX _ (hX.tg g0 (by decide)) (by decide) rfl) rfl rfl hl.1 rfl (lv_room (Nat.le_of_ble_eq_true rfl)) dX3_ands_21 ⟨(by simp only [rmm]; omega), (by simp only [rmm]; omega)⟩) hX e41 hth kc ks (fun r40 c35 s36 hf e37 e38 H locs hX => ?_)
        clear e31 l42 l43 e41
        replace kc : ((ck + c20) + c33) + c35 = MC := by omega
        replace ks : ((cs + s21) + s34) + s36 = MS := by omega
        clear e37 e38
        refine lx_astore_n (r := r40) (lv' := [(3, va_rf r40), (2, va_rf v1), (0, .ref o), (1, va_rf v1)]) hx hb dX3_ands_24 rfl hl (by decide) (by generalize hq9 : va_rf v1 = w9; have hc9 : w9.category = 1 := (by rw [← hq9]; exact rf_cat _); cases w9 <;> first | rfl | cases hc9) (fun ls hl => ?_)
        refine lx_aload_n hx hb dX3_ands_25 rfl (lv_at hl 1 rfl) ?_
        refine lx_aload_n hx hb dX3_ands_26 rfl (lv_at hl 0 rfl) ?_
        obtain ⟨c44, s45, hf, e46, e47⟩ := ad_e hf
        obtain ⟨h48, eh48, hf⟩ := st_e hf
        refine x_lam3 hG hx hb hml hts hnmd hK hX hl.1 (Nat.le_of_ble_eq_true rfl) (by simp only [rmm]; omega) (by simp only [rmm]; omega) (by simp only [rmm]; omega) dX3_ands_27 rfl (fun H hX => ?_)
        replace hX := hX.re eh48
        clear eh48
        replace kc : (((ck + c20) + c33) + 1) + c44 = MC := by omega
        replace ks : (((cs + s21) + s34) + 2) + s45 = MS := by omega
        clear e46 e47
        refine lv_astore_n (lv' := [(1, .ref (hZ h32)), (3, va_rf r40), (2, va_rf v1), (0, .ref o)]) hx hb dX3_ands_32 rfl hl (by decide) rfl (fun ls hl => ?_)
        refine lv_goto (tgt := 5) hx hb dX3_ands_33 (by decide) ?_
        exact hK5 (some (hZ h32)) h48 _ _ _ _ kc ks _ _ _ hX (lv_sub hl [3, 0] rfl) hf
  refine lv_aload_n hx hb dX3_ands_0 rfl (lv_at hl 0 rfl) ?_
  obtain ⟨r9, h2, c3, s4, e1, l12, l13, e11⟩ := bdX_e hf
  refine x_doneX (val := (fun r9 : Option Nat => some (va_rf r9))) (vx_runV (b := o) (As := []) (rest := []) ⟨hx, hb, hml, hown, hts⟩ (wx_Reader_condition l G hG D fo hrec h n o r9 h2 c3 s4 e1) (cwV 0 hts (lw_V q386 q388 qs14 q98 q389) rfl rfl rfl ⟨rfl, cdX3_condition⟩ ⟨(by simp only [rmm]; omega), (by simp only [rmm]; omega)⟩) (x_preV (ci := 3) (T := TX3) (N := 9) hK hX _ (hX.tg g0 (by decide)) (by decide) rfl) rfl rfl hl.1 rfl (lv_room (Nat.le_of_ble_eq_true rfl)) dX3_ands_1 ⟨(by simp only [rmm]; omega), (by simp only [rmm]; omega)⟩) hX e11 hth kc ks (fun r10 c5 s6 hf e7 e8 H locs hX => ?_)
  clear e1 l12 l13 e11
  replace kc : (0 + c3) + c5 = MC := by omega
  replace ks : (0 + s4) + s6 = MS := by omega
  clear e7 e8
  refine lx_astore_n (r := r10) (lv' := [(1, va_rf r10), (0, .ref o)]) hx hb dX3_ands_4 rfl hl (by decide) rfl (fun ls hl => ?_)
  exact B5 n r10 h2 _ _ _ _ kc ks _ _ _ hX (lv_sub hl [1, 0] rfl) hf
set_option maxHeartbeats 4000000 in
set_option maxRecDepth 100000 in
theorem wx_Reader_ors (l : Launch) (G : Gt) (hG : XG G) (D : Nat) (fo : Nat → Hp → Option ((Sum (Option Nat) Nat × Hp) × Nat × Nat)) (hrec : ∀ o h res h1 c s, fo o h = some ((res, h1), c, s) → vx_Met l yX3_ors (ws_ yX3_ors cX3_ors 4 (some (.object "PromiseTries$Holds"))) (rmm (4 * D + 16) c s (160 * D + 4000)) (XP G [.ref o] h) (XQn G (fun r9 : Option Nat => some (va_rf r9)) res h h1) (XCn G res h h1) c s (fre h)) (h : Hp) (n : Nat) (o : Nat) (res : Sum (Option Nat) Nat) (h1 : Hp) (MC MS : Nat) (hf : X_Reader_ors n fo o h = some ((res, h1), MC, MS)) : vx_Met l yX3_ors (ws_ yX3_ors cX3_ors 4 (some (.object "PromiseTries$Holds"))) (rmm (4 * D + 20) MC MS (160 * D + 4160)) (XP G [.ref o] h) (XQn G (fun r9 : Option Nat => some (va_rf r9)) res h h1) (XCn G res h h1) MC MS (fre h) := by
  rw [X_Reader_ors] at hf
  obtain ⟨g0, hf⟩ := gd_e hf
  refine metXr l (by decide) (Nat.le_of_ble_eq_true rfl) (Or.inl ⟨_, rfl⟩) ?_
  intro p e s m args below meth c Q hx hb hts hown hnmd hml hinit hK hW hret hth ls hl
  have hown : s.vm.findClass RX3 = some m.cls := hown
  have hX := XX.start hW
  have kc : 0 + MC = MC := Nat.zero_add _
  have ks : 0 + MS = MS := Nat.zero_add _
  have hl : lv_has ls 4 [(0, .ref o)] := hl
  have B5 : ∀ (f : Nat) (v1 : Option Nat) (h_14 : Hp) (ck cs qc qs : Nat) (kc : ck + qc = MC) (ks : cs + qs = MS) (H : Heap) (locs : List Loc) (ls : Array Slot), XX G h s.heap h_14 H locs → lv_has ls 4 [(0, .ref o), (1, va_rf v1)] → X_Reader_ors_b5 n fo o f v1 h_14 = some ((res, h1), qc, qs) → W p l e (rmm (4 * D + 20) MC MS (160 * D + 4160)) s m args below meth c H locs ck cs Q (F0 m 5 ls []) := by
    intro f
    induction f with
    | zero =>
      intro v1 h_14 ck cs qc qs kc ks H locs ls hX hl hf
      rw [X_Reader_ors_b5] at hf
      cases hf
    | succ f hK5 =>
      intro v1 h_14 ck cs qc qs kc ks H locs ls hX hl hf
      rw [X_Reader_ors_b5] at hf
      refine lv_aload_n hx hb dX3_ors_5 rfl (lv_at hl 0 rfl) ?_
      refine lv_bipush (v := 124) hx hb dX3_ors_6 (by decide) ?_
      obtain ⟨r16, e15, hf⟩ := bd_e hf
      refine x_doneP (va_runV (b := o) (As := [.int 124]) (rest := []) ⟨hx, hb, hml, hown, hts⟩ (wx_Reader_isSign l G hG h_14 n o 124 r16 e15) (cwV 1 hts (lw_V q300 q302 qs6 q98 q303) rfl rfl rfl ⟨rfl, cdX3_isSign⟩ ⟨(by simp only [rmm]; omega), (by simp only [rmm]; omega)⟩) (x_preV (ci := 3) (T := TX3) (N := 9) hK hX _ (hX.tg g0 (by decide)) (by decide) rfl) rfl rfl hl.1 rfl (lv_room (Nat.le_of_ble_eq_true rfl)) dX3_ors_8 ⟨(by simp only [rmm]; omega), (by simp only [rmm]; omega)⟩) rfl ?_
      clear e15
      refine lv_if_eq (tgt := 36) hx hb dX3_ors_11 (by decide) (fun c17 => ?_) (fun c17 => ?_)
      · rw [if_pos c17] at hf
        refine lx_aload_n hx hb dX3_ors_36 rfl (lv_at hl 1 rfl) ?_
        obtain ⟨q1, q2⟩ := Prod.mk.inj (Option.some.inj hf)
        obtain ⟨q2, q3⟩ := Prod.mk.inj q2
        obtain ⟨q0, rfl⟩ := Prod.mk.inj q1
        refine W.cs (cells' := MC) (slots' := MS) (by omega) (by omega) ?_
        exact hret _ _ _ _ _ q0.symm hX dX3_ors_37
      · rw [if_neg c17] at hf
        refine lv_aload_n hx hb dX3_ors_14 rfl (lv_at hl 0 rfl) ?_
        obtain ⟨r26, h19, c20, s21, e18, l29, l30, e28⟩ := bdX_e hf
        refine x_doneX (val := (fun _ : Unit => none)) (vx_runV (b := o) (As := []) (rest := []) ⟨hx, hb, hml, hown, hts⟩ (wx_Reader_next l G hG h_14 n o r26 h19 c20 s21 e18) (cwV 0 hts (lw_V q152 q154 qs0 q98 q155) rfl rfl rfl ⟨rfl, cdX3_next⟩ ⟨(by simp only [rmm]; omega), (by simp only [rmm]; omega)⟩) (x_preV (ci := 3) (T := TX3) (N := 9) hK hX _ (hX.tg g0 (by decide)) (by decide) rfl) rfl rfl hl.1 rfl (lv_room (Nat.le_of_ble_eq_true rfl)) dX3_ors_15 ⟨(by simp only [rmm]; omega), (by simp only [rmm]; omega)⟩) hX e28 hth kc ks (fun r27 c22 s23 hf e24 e25 H locs hX => ?_)
        clear e18 l29 l30 e28
        replace kc : (ck + c20) + c22 = MC := by omega
        replace ks : (cs + s21) + s23 = MS := by omega
        clear e24 e25
        refine lx_aload_n hx hb dX3_ors_18 rfl (lv_at hl 1 rfl) ?_
        refine lx_astore_n (r := v1) (lv' := [(2, va_rf v1), (0, .ref o), (1, va_rf v1)]) hx hb dX3_ors_19 rfl hl (by decide) (by generalize hq9 : va_rf v1 = w9; have hc9 : w9.category = 1 := (by rw [← hq9]; exact rf_cat _); cases w9 <;> first | rfl | cases hc9) (fun ls hl => ?_)
        refine lv_aload_n hx hb dX3_ors_20 rfl (lv_at hl 1 rfl) ?_
        obtain ⟨r39, h32, c33, s34, e31, l42, l43, e41⟩ := bdX_e hf
        refine x_doneX (val := (fun r9 : Option Nat => some (va_rf r9))) (vx_runV (b := o) (As := []) (rest := []) ⟨hx, hb, hml, hown, hts⟩ (wx_Reader_ands l G hG D fo hrec h19 n o r39 h32 c33 s34 e31) (cwV 0 hts (lw_V q404 q406 qs18 q98 q407) rfl rfl rfl ⟨rfl, cdX3_ands⟩ ⟨(by simp only [rmm]; omega), (by simp only [rmm]; omega)⟩) (x_preV (ci := 3) (T := TX3) (N := 9) hK hX _ (hX.tg g0 (by decide)) (by decide) rfl) rfl rfl hl.1 rfl (lv_room (Nat.le_of_ble_eq_true rfl)) dX3_ors_21 ⟨(by simp only [rmm]; omega), (by simp only [rmm]; omega)⟩) hX e41 hth kc ks (fun r40 c35 s36 hf e37 e38 H locs hX => ?_)
        clear e31 l42 l43 e41
        replace kc : ((ck + c20) + c33) + c35 = MC := by omega
        replace ks : ((cs + s21) + s34) + s36 = MS := by omega
        clear e37 e38
        refine lx_astore_n (r := r40) (lv' := [(3, va_rf r40), (2, va_rf v1), (0, .ref o), (1, va_rf v1)]) hx hb dX3_ors_24 rfl hl (by decide) (by generalize hq9 : va_rf v1 = w9; have hc9 : w9.category = 1 := (by rw [← hq9]; exact rf_cat _); cases w9 <;> first | rfl | cases hc9) (fun ls hl => ?_)
        refine lx_aload_n hx hb dX3_ors_25 rfl (lv_at hl 1 rfl) ?_
        refine lx_aload_n hx hb dX3_ors_26 rfl (lv_at hl 0 rfl) ?_
        obtain ⟨c44, s45, hf, e46, e47⟩ := ad_e hf
        obtain ⟨h48, eh48, hf⟩ := st_e hf
        refine x_lam2 hG hx hb hml hts hnmd hK hX hl.1 (Nat.le_of_ble_eq_true rfl) (by simp only [rmm]; omega) (by simp only [rmm]; omega) (by simp only [rmm]; omega) dX3_ors_27 rfl (fun H hX => ?_)
        replace hX := hX.re eh48
        clear eh48
        replace kc : (((ck + c20) + c33) + 1) + c44 = MC := by omega
        replace ks : (((cs + s21) + s34) + 2) + s45 = MS := by omega
        clear e46 e47
        refine lv_astore_n (lv' := [(1, .ref (hZ h32)), (3, va_rf r40), (2, va_rf v1), (0, .ref o)]) hx hb dX3_ors_32 rfl hl (by decide) rfl (fun ls hl => ?_)
        refine lv_goto (tgt := 5) hx hb dX3_ors_33 (by decide) ?_
        exact hK5 (some (hZ h32)) h48 _ _ _ _ kc ks _ _ _ hX (lv_sub hl [3, 0] rfl) hf
  refine lv_aload_n hx hb dX3_ors_0 rfl (lv_at hl 0 rfl) ?_
  obtain ⟨r9, h2, c3, s4, e1, l12, l13, e11⟩ := bdX_e hf
  refine x_doneX (val := (fun r9 : Option Nat => some (va_rf r9))) (vx_runV (b := o) (As := []) (rest := []) ⟨hx, hb, hml, hown, hts⟩ (wx_Reader_ands l G hG D fo hrec h n o r9 h2 c3 s4 e1) (cwV 0 hts (lw_V q404 q406 qs18 q98 q407) rfl rfl rfl ⟨rfl, cdX3_ands⟩ ⟨(by simp only [rmm]; omega), (by simp only [rmm]; omega)⟩) (x_preV (ci := 3) (T := TX3) (N := 9) hK hX _ (hX.tg g0 (by decide)) (by decide) rfl) rfl rfl hl.1 rfl (lv_room (Nat.le_of_ble_eq_true rfl)) dX3_ors_1 ⟨(by simp only [rmm]; omega), (by simp only [rmm]; omega)⟩) hX e11 hth kc ks (fun r10 c5 s6 hf e7 e8 H locs hX => ?_)
  clear e1 l12 l13 e11
  replace kc : (0 + c3) + c5 = MC := by omega
  replace ks : (0 + s4) + s6 = MS := by omega
  clear e7 e8
  refine lx_astore_n (r := r10) (lv' := [(1, va_rf r10), (0, .ref o)]) hx hb dX3_ors_4 rfl hl (by decide) rfl (fun ls hl => ?_)
  exact B5 n r10 h2 _ _ _ _ kc ks _ _ _ hX (lv_sub hl [1, 0] rfl) hf
theorem ors_ok (l : Launch) (G : Gt) (hG : XG G) (n d o : Nat) (h : Hp) (res : Sum (Option Nat) Nat) (h1 : Hp) (c s : Nat) (e : X_ors n d o h = some ((res, h1), c, s)) : vx_Met l yX3_ors (ws_ yX3_ors cX3_ors 4 (some (.object "PromiseTries$Holds"))) (rmm (4 * d + 16) c s (160 * d + 4000)) (XP G [.ref o] h) (XQn G (fun r9 : Option Nat => some (va_rf r9)) res h h1) (XCn G res h h1) c s (fre h) := by
  induction d generalizing o h res h1 c s with
  | zero => rw [X_ors] at e; cases e
  | succ d ih =>
    rw [X_ors] at e
    rw [show 4 * (d + 1) + 16 = 4 * d + 20 from by omega, show 160 * (d + 1) + 4000 = 160 * d + 4160 from by omega]
    exact wx_Reader_ors l G hG d (X_ors n d) (fun o h res h1 c s e => ih o h res h1 c s e) h n o res h1 c s e
theorem cdX3_atom : yX3_atom.cls ≠ "java/lang/invoke/MethodHandle" ∧ yX3_atom.cls ≠ "java/lang/invoke/VarHandle" ∧ (parseMethodDescriptor yX3_atom.desc).map (fun d => d.parameters.length) = some 0 := by decide +kernel
set_option maxHeartbeats 4000000 in
set_option maxRecDepth 100000 in
theorem wx_Reader_atom (l : Launch) (G : Gt) (hG : XG G) (D : Nat) (fo : Nat → Hp → Option ((Sum (Option Nat) Nat × Hp) × Nat × Nat)) (hrec : ∀ o h res h1 c s, fo o h = some ((res, h1), c, s) → vx_Met l yX3_sequence (ws_ yX3_sequence cX3_sequence 2 (some (.object "PromiseTries$Node"))) (rmm (4 * D + 80) c s (160 * D + 8000)) (XP G [.ref o] h) (XQn G (fun r9 : Option Nat => some (va_rf r9)) res h h1) (XCn G res h h1) c s (fre h)) (h : Hp) (n : Nat) (o : Nat) (res : Sum (Option Nat) Nat) (h1 : Hp) (MC MS : Nat) (hf : X_Reader_atom n fo o h = some ((res, h1), MC, MS)) : vx_Met l yX3_atom (ws_ yX3_atom cX3_atom 3 (some (.object "PromiseTries$Node"))) (rmm (4 * D + 81) MC MS (160 * D + 8040)) (XP G [.ref o] h) (XQn G (fun r9 : Option Nat => some (va_rf r9)) res h h1) (XCn G res h h1) MC MS (fre h) := by
  rw [X_Reader_atom] at hf
  obtain ⟨g0, hf⟩ := gd_e hf
  refine metXr l (by decide) (Nat.le_of_ble_eq_true rfl) (Or.inl ⟨_, rfl⟩) ?_
  intro p e s m args below meth c Q hx hb hts hown hnmd hml hinit hK hW hret hth ls hl
  have hown : s.vm.findClass RX3 = some m.cls := hown
  have hX := XX.start hW
  have kc : 0 + MC = MC := Nat.zero_add _
  have ks : 0 + MS = MS := Nat.zero_add _
  have hl : lv_has ls 3 [(0, .ref o)] := hl
  have B55 : ∀ (v1 : Int32) (v2 : Option Nat) (h_21 : Hp) (ck cs qc qs : Nat) (kc : ck + qc = MC) (ks : cs + qs = MS) (H : Heap) (locs : List Loc) (ls : Array Slot), XX G h s.heap h_21 H locs → lv_has ls 3 [(0, .ref o), (1, .int v1), (2, va_rf v2)] → X_Reader_atom_b55 n fo o v1 v2 h_21 = some ((res, h1), qc, qs) → W p l e (rmm (4 * D + 81) MC MS (160 * D + 8040)) s m args below meth c H locs ck cs Q (F0 m 55 ls []) := by
    intro v1 v2 h_21 ck cs qc qs kc ks H locs ls hX hl hf
    rw [X_Reader_atom_b55] at hf
    refine lv_aload_n hx hb dX3_atom_55 rfl (lv_at hl 0 rfl) ?_
    refine x_get (ci := 3) (C := RX3) (T := TX3) (N := 9) hx hb hts in_X3 hown hK.1 hX rfl (hX.tg g0 (by decide)) (by decide) rfl 3 (Nat.le_of_ble_eq_true rfl) (hts _ q267) (fun _ h9 => h9) (hv_ref rfl) dX3_atom_56 ?_
    refine lv_dup hx hb dX3_atom_59 (rf_cat _) ?_
    obtain ⟨a22, e23, hf⟩ := bd_e hf
    obtain ⟨g24, hf⟩ := gd_e hf
    refine x_getN (ci := 6) (C := RX6) (T := TX6) (N := 5) hx hb hts in_X6 hown hK.1 hX (rf_some e23) g24 (by decide) rfl 1 (Nat.le_of_ble_eq_true rfl) (hG.nw hK nq323) (fun _ h9 => h9) (hv_int rfl) dX3_atom_60 ?_
    refine lv_iconst (v := 1) hx hb dX3_atom_63 (by decide) ?_
    refine lv_iadd hx hb dX3_atom_64 ?_
    obtain ⟨h25, eh25, hf⟩ := st_e hf
    refine x_putN (ci := 6) (C := RX6) (T := TX6) (N := 5) hx hb hts in_X6 tyX6 tyX6_ok nmX6 hown hK.1 hX (rf_some e23) g24 (by decide) rfl 1 (Nat.le_of_ble_eq_true rfl) (hG.nw hK nq323) (fun _ h9 => h9) rfl rfl rfl (Put1.fI (x := ((hI h_21 a22 1) + 1)) rfl) dX3_atom_65 (fun H locs hX => ?_)
    replace hX := hX.re eh25
    clear eh25
    obtain ⟨c26, s27, hf, e28, e29⟩ := ad_e hf
    obtain ⟨h30, eh30, hf⟩ := st_e hf
    refine x_new (ci := 7) (C := RX8) (T := TX8) (N := 2) hx hb hts in_X8 hown q418 q419 q106 hK hX (by decide) rfl tyX8_ok (fun k hk => dfl _ (dfC7 k hk)) (by simp only [rmm]; omega) (by simp only [rmm]; omega) dX3_atom_68 (fun H hX => ?_)
    replace hX := hX.re eh30
    have g31 : hT h30 (hZ h25) = 8 := by rw [eh30]; exact nw_T _ _ _
    clear eh30
    replace kc : (ck + 1) + c26 = MC := by omega
    replace ks : (cs + 2) + s27 = MS := by omega
    clear e28 e29
    refine lv_dup hx hb dX3_atom_71 rfl ?_
    refine lv_iload_n hx hb dX3_atom_72 rfl (lv_at hl 1 rfl) ?_
    refine lx_aload_n hx hb dX3_atom_73 rfl (lv_at hl 2 rfl) ?_
    obtain ⟨h33, e32, hf⟩ := bd_e hf
    refine x_done (mc := 0) (ms := 0) (va_runI (As := [.int v1, va_rf v2]) (rest := [.ref (hZ h25)]) ⟨hx, hb, hml, hown, hts⟩ (wx_Atom_init l G hG h30 n (hZ h25) v1 v2 h33 e32) (cwI 2 hts (lw_meth q422) rfl rfl rfl (hts _ q106) (hts _ q420) (hts _ q421) rfl cdX8_init ⟨(by simp only [rmm]; omega), (by simp only [rmm]; omega)⟩) (x_preS hK hX _) rfl rfl hl.1 rfl (lv_room (Nat.le_of_ble_eq_true rfl)) dX3_atom_74 ⟨(by simp only [rmm]; omega), (by simp only [rmm]; omega)⟩) hX rfl (fun H locs hX => ?_)
    clear e32
    obtain ⟨q1, q2⟩ := Prod.mk.inj (Option.some.inj hf)
    obtain ⟨q2, q3⟩ := Prod.mk.inj q2
    obtain ⟨q0, rfl⟩ := Prod.mk.inj q1
    refine W.cs (cells' := MC) (slots' := MS) (by omega) (by omega) ?_
    exact hret _ _ _ _ _ q0.symm hX dX3_atom_77
  refine lv_aload_n hx hb dX3_atom_0 rfl (lv_at hl 0 rfl) ?_
  refine lv_bipush (v := 123) hx hb dX3_atom_1 (by decide) ?_
  obtain ⟨r2, e1, hf⟩ := bd_e hf
  refine x_doneP (va_runV (b := o) (As := [.int 123]) (rest := []) ⟨hx, hb, hml, hown, hts⟩ (wx_Reader_isSign l G hG h n o 123 r2 e1) (cwV 1 hts (lw_V q300 q302 qs6 q98 q303) rfl rfl rfl ⟨rfl, cdX3_isSign⟩ ⟨(by simp only [rmm]; omega), (by simp only [rmm]; omega)⟩) (x_preV (ci := 3) (T := TX3) (N := 9) hK hX _ (hX.tg g0 (by decide)) (by decide) rfl) rfl rfl hl.1 rfl (lv_room (Nat.le_of_ble_eq_true rfl)) dX3_atom_3 ⟨(by simp only [rmm]; omega), (by simp only [rmm]; omega)⟩) rfl ?_
  clear e1
  refine lv_if_eq (tgt := 26) hx hb dX3_atom_6 (by decide) (fun c3 => ?_) (fun c3 => ?_)
  · rw [if_pos c3] at hf
    refine lv_aload_n hx hb dX3_atom_26 rfl (lv_at hl 0 rfl) ?_
    refine x_get (ci := 3) (C := RX3) (T := TX3) (N := 9) hx hb hts in_X3 hown hK.1 hX rfl (hX.tg g0 (by decide)) (by decide) rfl 3 (Nat.le_of_ble_eq_true rfl) (hts _ q267) (fun _ h9 => h9) (hv_ref rfl) dX3_atom_27 ?_
    obtain ⟨a4, e5, hf⟩ := bd_e hf
    obtain ⟨g6, hf⟩ := gd_e hf
    refine x_getN (ci := 6) (C := RX6) (T := TX6) (N := 5) hx hb hts in_X6 hown hK.1 hX (rf_some e5) g6 (by decide) rfl 1 (Nat.le_of_ble_eq_true rfl) (hG.nw hK nq323) (fun _ h9 => h9) (hv_int rfl) dX3_atom_30 ?_
    refine lv_istore_n (lv' := [(1, .int (hI h a4 1)), (0, .ref o)]) hx hb dX3_atom_33 rfl hl (by decide) rfl (fun ls hl => ?_)
    refine lv_aload_n hx hb dX3_atom_34 rfl (lv_at hl 1 rfl) ?_
    obtain ⟨r15, h8, c9, s10, e7, l18, l19, e17⟩ := bdX_e hf
    refine x_doneX (val := (fun r9 : Option Nat => some (va_rf r9))) (vx_runV (b := o) (As := []) (rest := []) ⟨hx, hb, hml, hown, hts⟩ (wx_Reader_condition l G hG 12 (X_ors n 12) (fun o h res h1 c s e => ors_ok l G hG n 12 o h res h1 c s e) h n o r15 h8 c9 s10 e7) (cwV 0 hts (lw_V q386 q388 qs14 q98 q389) rfl rfl rfl ⟨rfl, cdX3_condition⟩ ⟨(by simp only [rmm]; omega), (by simp only [rmm]; omega)⟩) (x_preV (ci := 3) (T := TX3) (N := 9) hK hX _ (hX.tg g0 (by decide)) (by decide) rfl) rfl rfl hl.1 rfl (lv_room (Nat.le_of_ble_eq_true rfl)) dX3_atom_35 ⟨(by simp only [rmm]; omega), (by simp only [rmm]; omega)⟩) hX e17 hth kc ks (fun r16 c11 s12 hf e13 e14 H locs hX => ?_)
    clear e7 l18 l19 e17
    replace kc : (0 + c9) + c11 = MC := by omega
    replace ks : (0 + s10) + s12 = MS := by omega
    clear e13 e14
    refine lx_astore_n (r := r16) (lv' := [(2, va_rf r16), (1, .int (hI h a4 1)), (0, .ref o)]) hx hb dX3_atom_38 rfl hl (by decide) rfl (fun ls hl => ?_)
    refine lv_iload_n hx hb dX3_atom_39 rfl (lv_at hl 1 rfl) ?_
    refine lv_bipush (v := 40) hx hb dX3_atom_40 (by decide) ?_
    refine lv_icmp_gt (tgt := 55) hx hb dX3_atom_42 (by decide) (fun c20 => ?_) (fun c20 => ?_)
    · rw [if_pos c20] at hf
      exact B55 (hI h a4 1) r16 h8 _ _ _ _ kc ks _ _ _ hX (lv_sub hl [2, 1, 0] rfl) hf
    · rw [if_neg c20] at hf
      refine lv_aload_n hx hb dX3_atom_45 rfl (lv_at hl 2 rfl) ?_
      refine x_get (ci := 3) (C := RX3) (T := TX3) (N := 9) hx hb hts in_X3 hown hK.1 hX rfl (hX.tg g0 (by decide)) (by decide) rfl 3 (Nat.le_of_ble_eq_true rfl) (hts _ q267) (fun _ h9 => h9) (hv_ref rfl) dX3_atom_46 ?_
      obtain ⟨a34, e35, hf⟩ := bd_e hf
      obtain ⟨g36, hf⟩ := gd_e hf
      refine x_getN (ci := 6) (C := RX6) (T := TX6) (N := 5) hx hb hts in_X6 hown hK.1 hX (rf_some e35) g36 (by decide) rfl 0 (Nat.le_of_ble_eq_true rfl) (hG.nw hK nq321) (fun _ h9 => h9) (hv_ref rfl) dX3_atom_49 ?_
      refine lv_iload_n hx hb dX3_atom_52 rfl (lv_at hl 1 rfl) ?_
      refine lx_aload_n hx hb dX3_atom_53 rfl (lv_at hl 0 rfl) ?_
      obtain ⟨a37, e38, hf⟩ := bd_e hf
      obtain ⟨g39, hf⟩ := gd_e hf
      obtain ⟨a40, e41, hf⟩ := bd_e hf
      obtain ⟨g42, hf⟩ := gd_e hf
      obtain ⟨g43, hf⟩ := gd_e hf
      obtain ⟨h44, eh44, hf⟩ := st_e hf
      refine x_aastL' hG hx hb hK hX (rf_some e38) g39 (rf_some e41) g42 g43 dX3_atom_54 (fun H locs hX => ?_)
      replace hX := hX.re eh44
      clear eh44
      exact B55 (hI h a4 1) r16 h44 _ _ _ _ kc ks _ _ _ hX (lv_sub hl [2, 1, 0] rfl) hf
  · rw [if_neg c3] at hf
    refine lv_aload_n hx hb dX3_atom_9 rfl (lv_at hl 0 rfl) ?_
    obtain ⟨r53, h46, c47, s48, e45, l56, l57, e55⟩ := bdX_e hf
    refine x_doneX (val := (fun _ : Unit => none)) (vx_runV (b := o) (As := []) (rest := []) ⟨hx, hb, hml, hown, hts⟩ (wx_Reader_opens l G hG h n o r53 h46 c47 s48 e45) (cwV 0 hts (lw_V q378 q380 qs12 q98 q381) rfl rfl rfl ⟨rfl, cdX3_opens⟩ ⟨(by simp only [rmm]; omega), (by simp only [rmm]; omega)⟩) (x_preV (ci := 3) (T := TX3) (N := 9) hK hX _ (hX.tg g0 (by decide)) (by decide) rfl) rfl rfl hl.1 rfl (lv_room (Nat.le_of_ble_eq_true rfl)) dX3_atom_10 ⟨(by simp only [rmm]; omega), (by simp only [rmm]; omega)⟩) hX e55 hth kc ks (fun r54 c49 s50 hf e51 e52 H locs hX => ?_)
    clear e45 l56 l57 e55
    replace kc : (0 + c47) + c49 = MC := by omega
    replace ks : (0 + s48) + s50 = MS := by omega
    clear e51 e52
    refine lv_aload_n hx hb dX3_atom_13 rfl (lv_at hl 0 rfl) ?_
    obtain ⟨r66, h59, c60, s61, e58, l69, l70, e68⟩ := bdX_e hf
    refine x_doneX (val := (fun r9 : Option Nat => some (va_rf r9))) (vx_runV (b := o) (As := []) (rest := []) ⟨hx, hb, hml, hown, hts⟩ (hrec o h46 r66 h59 c60 s61 e58) (cwV 0 hts (lw_V q362 q364 qs8 q98 q365) rfl rfl rfl ⟨rfl, cdX3_sequence⟩ ⟨(by simp only [rmm]; omega), (by simp only [rmm]; omega)⟩) (x_preV (ci := 3) (T := TX3) (N := 9) hK hX _ (hX.tg g0 (by decide)) (by decide) rfl) rfl rfl hl.1 rfl (lv_room (Nat.le_of_ble_eq_true rfl)) dX3_atom_14 ⟨(by simp only [rmm]; omega), (by simp only [rmm]; omega)⟩) hX e68 hth kc ks (fun r67 c62 s63 hf e64 e65 H locs hX => ?_)
    clear e58 l69 l70 e68
    replace kc : ((0 + c47) + c60) + c62 = MC := by omega
    replace ks : ((0 + s48) + s61) + s63 = MS := by omega
    clear e64 e65
    refine lx_astore_n (r := r67) (lv' := [(1, va_rf r67), (0, .ref o)]) hx hb dX3_atom_17 rfl hl (by decide) rfl (fun ls hl => ?_)
    refine lv_aload_n hx hb dX3_atom_18 rfl (lv_at hl 1 rfl) ?_
    refine lv_bipush (v := 125) hx hb dX3_atom_19 (by decide) ?_
    obtain ⟨r79, h72, c73, s74, e71, l82, l83, e81⟩ := bdX_e hf
    refine x_doneX (val := (fun _ : Unit => none)) (vx_runV (b := o) (As := [.int 125]) (rest := []) ⟨hx, hb, hml, hown, hts⟩ (wx_Reader_closes l G hG h59 n o 125 r79 h72 c73 s74 e71) (cwV 1 hts (lw_V q382 q384 qs13 q98 q385) rfl rfl rfl ⟨rfl, cdX3_closes⟩ ⟨(by simp only [rmm]; omega), (by simp only [rmm]; omega)⟩) (x_preV (ci := 3) (T := TX3) (N := 9) hK hX _ (hX.tg g0 (by decide)) (by decide) rfl) rfl rfl hl.1 rfl (lv_room (Nat.le_of_ble_eq_true rfl)) dX3_atom_21 ⟨(by simp only [rmm]; omega), (by simp only [rmm]; omega)⟩) hX e81 hth kc ks (fun r80 c75 s76 hf e77 e78 H locs hX => ?_)
    clear e71 l82 l83 e81
    replace kc : (((0 + c47) + c60) + c73) + c75 = MC := by omega
    replace ks : (((0 + s48) + s61) + s74) + s76 = MS := by omega
    clear e77 e78
    refine lx_aload_n hx hb dX3_atom_24 rfl (lv_at hl 0 rfl) ?_
    obtain ⟨q1, q2⟩ := Prod.mk.inj (Option.some.inj hf)
    obtain ⟨q2, q3⟩ := Prod.mk.inj q2
    obtain ⟨q0, rfl⟩ := Prod.mk.inj q1
    refine W.cs (cells' := MC) (slots' := MS) (by omega) (by omega) ?_
    exact hret _ _ _ _ _ q0.symm hX dX3_atom_25
theorem cdX3_number : yX3_number.cls ≠ "java/lang/invoke/MethodHandle" ∧ yX3_number.cls ≠ "java/lang/invoke/VarHandle" ∧ (parseMethodDescriptor yX3_number.desc).map (fun d => d.parameters.length) = some 2 := by decide +kernel
set_option maxHeartbeats 4000000 in
set_option maxRecDepth 100000 in
theorem wx_Reader_number (l : Launch) (G : Gt) (hG : XG G) (h : Hp) (n : Nat) (o : Nat) (p1 : Int32) (p2 : Int32) (res : Sum (Int32) Nat) (h1 : Hp) (MC MS : Nat) (hf : X_Reader_number n o p1 p2 h = some ((res, h1), MC, MS)) : vx_Met l yX3_number (ws_ yX3_number cX3_number 4 (some .int)) (rmm (7) MC MS (201)) (XP G [.ref o, .int p1, .int p2] h) (XQn G (fun r9 : Int32 => some (Value.int r9)) res h h1) (XCn G res h h1) MC MS (fre h) := by
  rw [X_Reader_number] at hf
  obtain ⟨g0, hf⟩ := gd_e hf
  refine metXi l (by decide) (Nat.le_of_ble_eq_true rfl) ?_
  intro p e s m args below meth c Q hx hb hts hown hnmd hml hinit hK hW hret hth ls hl
  have hown : s.vm.findClass RX3 = some m.cls := hown
  have hX := XX.start hW
  have kc : 0 + MC = MC := Nat.zero_add _
  have ks : 0 + MS = MS := Nat.zero_add _
  have hl : lv_has ls 4 [(0, .ref o), (1, .int p1), (2, .int p2)] := hl
  have B14 : ∀ (v1 : Int32) (v2 : Int32) (t0 : Int32) (h_2 : Hp) (ck cs qc qs : Nat) (kc : ck + qc = MC) (ks : cs + qs = MS) (H : Heap) (locs : List Loc) (ls : Array Slot), XX G h s.heap h_2 H locs → lv_has ls 4 [(0, .ref o), (1, .int v1), (2, .int v2)] → X_Reader_number_b14 n o v1 v2 t0 h_2 = some ((res, h1), qc, qs) → W p l e (rmm (7) MC MS (201)) s m args below meth c H locs ck cs Q (F0 m 14 ls [.int t0, .ref o]) := by
    intro v1 v2 t0 h_2 ck cs qc qs kc ks H locs ls hX hl hf
    rw [X_Reader_number_b14] at hf
    refine lv_iconst (v := 2) hx hb dX3_number_14 (by decide) ?_
    obtain ⟨r11, h4, c5, s6, e3, l14, l15, e13⟩ := bdX_e hf
    refine x_doneX (val := (fun _ : Unit => none)) (vx_runV (b := o) (As := [.int t0, .int 2]) (rest := []) ⟨hx, hb, hml, hown, hts⟩ (wx_Reader_must l G hG h_2 n o t0 2 r11 h4 c5 s6 e3) (cwV 2 hts (lw_V q165 q167 qs2 q98 q168) rfl rfl rfl ⟨rfl, cdX3_must⟩ ⟨(by simp only [rmm]; omega), (by simp only [rmm]; omega)⟩) (x_preV (ci := 3) (T := TX3) (N := 9) hK hX _ (hX.tg g0 (by decide)) (by decide) rfl) rfl rfl hl.1 rfl (lv_room (Nat.le_of_ble_eq_true rfl)) dX3_number_15 ⟨(by simp only [rmm]; omega), (by simp only [rmm]; omega)⟩) hX e13 hth kc ks (fun r12 c7 s8 hf e9 e10 H locs hX => ?_)
    clear e3 l14 l15 e13
    replace kc : (ck + c5) + c7 = MC := by omega
    replace ks : (cs + s6) + s8 = MS := by omega
    clear e9 e10
    refine lv_aload_n hx hb dX3_number_18 rfl (lv_at hl 0 rfl) ?_
    refine lv_aload_n hx hb dX3_number_19 rfl (lv_at hl 0 rfl) ?_
    refine x_get (ci := 3) (C := RX3) (T := TX3) (N := 9) hx hb hts in_X3 hown hK.1 hX rfl (hX.tg g0 (by decide)) (by decide) rfl 8 (Nat.le_of_ble_eq_true rfl) (hts _ q272) (fun _ h9 => h9) (hv_int rfl) dX3_number_20 ?_
    refine lv_i2l hx hb dX3_number_23 rfl ?_
    refine lv_iload_n hx hb dX3_number_24 rfl (lv_at hl 1 rfl) ?_
    refine lv_i2l hx hb dX3_number_25 rfl ?_
    refine lv_iload_n hx hb dX3_number_26 rfl (lv_at hl 2 rfl) ?_
    refine lv_i2l hx hb dX3_number_27 rfl ?_
    obtain ⟨r17, e16, hf⟩ := bd_e hf
    refine x_doneP (va_runSN (As := [.long (Int32.toInt64 (hI h4 o 8)), .long (Int32.toInt64 v1), .long (Int32.toInt64 v2)]) (rest := [.ref o]) ⟨hx, hb, hml, hown, hts⟩ (wx_isIn l G hG h4 n (Int32.toInt64 (hI h4 o 8)) (Int32.toInt64 v1) (Int32.toInt64 v2) r17 e16) ⟨va_cnB 3 hts (lw_meth q129) rfl rfl rfl (hG.nw hK nq162) (hts _ q94) cdX0_isIn ⟨(by simp only [rmm]; omega), (by simp only [rmm]; omega)⟩, hts _ q128, trivial⟩ (x_preS hK hX _) rfl rfl hl.1 rfl (lv_room (Nat.le_of_ble_eq_true rfl)) dX3_number_28 ⟨(by simp only [rmm]; omega), (by simp only [rmm]; omega)⟩) rfl ?_
    clear e16
    refine lv_iconst (v := 3) hx hb dX3_number_31 (by decide) ?_
    obtain ⟨r26, h19, c20, s21, e18, l29, l30, e28⟩ := bdX_e hf
    refine x_doneX (val := (fun _ : Unit => none)) (vx_runV (b := o) (As := [.int r17, .int 3]) (rest := []) ⟨hx, hb, hml, hown, hts⟩ (wx_Reader_must l G hG h4 n o r17 3 r26 h19 c20 s21 e18) (cwV 2 hts (lw_V q165 q167 qs2 q98 q168) rfl rfl rfl ⟨rfl, cdX3_must⟩ ⟨(by simp only [rmm]; omega), (by simp only [rmm]; omega)⟩) (x_preV (ci := 3) (T := TX3) (N := 9) hK hX _ (hX.tg g0 (by decide)) (by decide) rfl) rfl rfl hl.1 rfl (lv_room (Nat.le_of_ble_eq_true rfl)) dX3_number_32 ⟨(by simp only [rmm]; omega), (by simp only [rmm]; omega)⟩) hX e28 hth kc ks (fun r27 c22 s23 hf e24 e25 H locs hX => ?_)
    clear e18 l29 l30 e28
    replace kc : ((ck + c5) + c20) + c22 = MC := by omega
    replace ks : ((cs + s6) + s21) + s23 = MS := by omega
    clear e24 e25
    refine lv_aload_n hx hb dX3_number_35 rfl (lv_at hl 0 rfl) ?_
    refine x_get (ci := 3) (C := RX3) (T := TX3) (N := 9) hx hb hts in_X3 hown hK.1 hX rfl (hX.tg g0 (by decide)) (by decide) rfl 8 (Nat.le_of_ble_eq_true rfl) (hts _ q272) (fun _ h9 => h9) (hv_int rfl) dX3_number_36 ?_
    refine lv_istore_n (lv' := [(3, .int (hI h19 o 8)), (0, .ref o), (1, .int v1), (2, .int v2)]) hx hb dX3_number_39 rfl hl (by decide) rfl (fun ls hl => ?_)
    refine lv_aload_n hx hb dX3_number_40 rfl (lv_at hl 1 rfl) ?_
    obtain ⟨r39, h32, c33, s34, e31, l42, l43, e41⟩ := bdX_e hf
    refine x_doneX (val := (fun _ : Unit => none)) (vx_runV (b := o) (As := []) (rest := []) ⟨hx, hb, hml, hown, hts⟩ (wx_Reader_next l G hG h19 n o r39 h32 c33 s34 e31) (cwV 0 hts (lw_V q152 q154 qs0 q98 q155) rfl rfl rfl ⟨rfl, cdX3_next⟩ ⟨(by simp only [rmm]; omega), (by simp only [rmm]; omega)⟩) (x_preV (ci := 3) (T := TX3) (N := 9) hK hX _ (hX.tg g0 (by decide)) (by decide) rfl) rfl rfl hl.1 rfl (lv_room (Nat.le_of_ble_eq_true rfl)) dX3_number_41 ⟨(by simp only [rmm]; omega), (by simp only [rmm]; omega)⟩) hX e41 hth kc ks (fun r40 c35 s36 hf e37 e38 H locs hX => ?_)
    clear e31 l42 l43 e41
    replace kc : (((ck + c5) + c20) + c33) + c35 = MC := by omega
    replace ks : (((cs + s6) + s21) + s34) + s36 = MS := by omega
    clear e37 e38
    refine lv_iload_n hx hb dX3_number_44 rfl (lv_at hl 0 rfl) ?_
    obtain ⟨q1, q2⟩ := Prod.mk.inj (Option.some.inj hf)
    obtain ⟨q2, q3⟩ := Prod.mk.inj q2
    obtain ⟨q0, rfl⟩ := Prod.mk.inj q1
    refine W.cs (cells' := MC) (slots' := MS) (by omega) (by omega) ?_
    exact hret _ _ _ _ _ q0.symm hX rfl dX3_number_45
  refine lv_aload_n hx hb dX3_number_0 rfl (lv_at hl 0 rfl) ?_
  refine lv_aload_n hx hb dX3_number_1 rfl (lv_at hl 0 rfl) ?_
  refine x_get (ci := 3) (C := RX3) (T := TX3) (N := 9) hx hb hts in_X3 hown hK.1 hX rfl (hX.tg g0 (by decide)) (by decide) rfl 7 (Nat.le_of_ble_eq_true rfl) (hts _ q271) (fun _ h9 => h9) (hv_int rfl) dX3_number_2 ?_
  refine lv_iconst (v := 2) hx hb dX3_number_5 (by decide) ?_
  refine lv_icmp_ne (tgt := 13) hx hb dX3_number_6 (by decide) (fun c1 => ?_) (fun c1 => ?_)
  · rw [if_neg c1] at hf
    refine lv_iconst (v := 0) hx hb dX3_number_13 (by decide) ?_
    exact B14 p1 p2 0 h _ _ _ _ kc ks _ _ _ hX (lv_sub hl [0, 1, 2] rfl) hf
  · rw [if_pos c1] at hf
    refine lv_iconst (v := 1) hx hb dX3_number_9 (by decide) ?_
    refine lv_goto (tgt := 14) hx hb dX3_number_10 (by decide) ?_
    exact B14 p1 p2 1 h _ _ _ _ kc ks _ _ _ hX (lv_sub hl [0, 1, 2] rfl) hf
theorem cdX9_init : yX9_init.cls ≠ "java/lang/invoke/MethodHandle" ∧ yX9_init.cls ≠ "java/lang/invoke/VarHandle" ∧ (parseMethodDescriptor yX9_init.desc).map (fun d => d.parameters.length) = some 3 := by decide +kernel
set_option maxHeartbeats 4000000 in
set_option maxRecDepth 100000 in
theorem wx_Times_init (l : Launch) (G : Gt) (hG : XG G) (h : Hp) (n : Nat) (o : Nat) (p1 : Option Nat) (p2 : Int32) (p3 : Int32) (h1 : Hp) (hf : X_Times_init n o p1 p2 p3 h = some h1) : Met l yX9_init (ws_ yX9_init cX9_init 4 none) (rmm (2) 0 0 (84)) (XP G [.ref o, va_rf p1, .int p2, .int p3] h) (XQ G none h h1) 0 0 (fre h) := by
  rw [X_Times_init] at hf
  obtain ⟨g0, hf⟩ := gd_e hf
  refine metSv l (by decide) (by cases p1 <;> exact Nat.le_of_ble_eq_true rfl) ?_
  intro p e s m args below meth c Q hx hb hts hown hnmd hml hinit hK hW hret ls hl
  have hinit : meth.name = "<init>" := hinit rfl
  have hown : s.vm.findClass RX9 = some m.cls := hown
  have hX := XX.start hW
  have hl : lv_has ls 4 [(0, .ref o), (1, va_rf p1), (2, .int p2), (3, .int p3)] := Eq.mp (congrArg (lv_has ls 4) (show lv_args 0 [.ref o, va_rf p1, .int p2, .int p3] = [(0, .ref o), (1, va_rf p1), (2, .int p2), (3, .int p3)] from by clear hf; cases p1 <;> rfl)) hl
  refine lv_aload_n hx hb dX9_init_0 rfl (lv_at hl 0 rfl) ?_
  obtain ⟨_, e1, hf⟩ := bd_e hf
  refine x_doneP (va_runIN (As := []) (rest := []) ⟨hx, hb, hml, hown, hts⟩ (wx_Node_init l G hG h n o e1) ⟨va_cnB 0 hts (lw_meth q425) rfl rfl rfl (hG.nw hK nq446) (hts _ q105) cdX7_init ⟨(Nat.le_of_ble_eq_true rfl), (Nat.le_of_ble_eq_true rfl)⟩, rfl, hts _ q424⟩ (x_preS hK hX _) rfl rfl hl.1 rfl (lv_room (Nat.le_of_ble_eq_true rfl)) dX9_init_1 ⟨(Nat.le_of_ble_eq_true rfl), (Nat.le_of_ble_eq_true rfl)⟩) rfl ?_
  clear e1
  refine lv_aload_n hx hb dX9_init_4 rfl (lv_at hl 0 rfl) ?_
  refine lx_aload_n hx hb dX9_init_5 rfl (lv_at hl 1 rfl) ?_
  obtain ⟨h2, eh2, hf⟩ := st_e hf
  refine x_putF (ci := 8) (C := RX9) (T := TX9) (N := 3) hx hb hts in_X9 tyX9 tyX9_ok nmX9 hown hK.1 hX rfl (hX.tg g0 (by decide)) (by decide) rfl 0 (Nat.le_of_ble_eq_true rfl) (hts _ q447) (fun _ h9 => h9) rfl hinit rfl (narrow_rfO _ p1) (fits_rfO _ p1) (Put1.fR (x := p1) rfl) dX9_init_6 (fun H locs hX => ?_)
  replace hX := hX.re eh2
  clear eh2
  refine lv_aload_n hx hb dX9_init_9 rfl (lv_at hl 0 rfl) ?_
  refine lv_iload_n hx hb dX9_init_10 rfl (lv_at hl 2 rfl) ?_
  obtain ⟨h3, eh3, hf⟩ := st_e hf
  refine x_putF (ci := 8) (C := RX9) (T := TX9) (N := 3) hx hb hts in_X9 tyX9 tyX9_ok nmX9 hown hK.1 hX rfl (hX.tg g0 (by decide)) (by decide) rfl 1 (Nat.le_of_ble_eq_true rfl) (hts _ q448) (fun _ h9 => h9) rfl hinit rfl rfl rfl (Put1.fI (x := p2) rfl) dX9_init_11 (fun H locs hX => ?_)
  replace hX := hX.re eh3
  clear eh3
  refine lv_aload_n hx hb dX9_init_14 rfl (lv_at hl 0 rfl) ?_
  refine lv_iload_n hx hb dX9_init_15 rfl (lv_at hl 3 rfl) ?_
  obtain ⟨h4, eh4, hf⟩ := st_e hf
  refine x_putF (ci := 8) (C := RX9) (T := TX9) (N := 3) hx hb hts in_X9 tyX9 tyX9_ok nmX9 hown hK.1 hX rfl (hX.tg g0 (by decide)) (by decide) rfl 2 (Nat.le_of_ble_eq_true rfl) (hts _ q449) (fun _ h9 => h9) rfl hinit rfl rfl rfl (Put1.fI (x := p3) rfl) dX9_init_16 (fun H locs hX => ?_)
  replace hX := hX.re eh4
  clear eh4
  obtain rfl := Option.some.inj hf
  exact hret _ _ _ _ hX dX9_init_19
theorem cdX3_repeated : yX3_repeated.cls ≠ "java/lang/invoke/MethodHandle" ∧ yX3_repeated.cls ≠ "java/lang/invoke/VarHandle" ∧ (parseMethodDescriptor yX3_repeated.desc).map (fun d => d.parameters.length) = some 0 := by decide +kernel
set_option maxHeartbeats 4000000 in
set_option maxRecDepth 100000 in
theorem wx_Reader_repeated (l : Launch) (G : Gt) (hG : XG G) (D : Nat) (fo : Nat → Hp → Option ((Sum (Option Nat) Nat × Hp) × Nat × Nat)) (hrec : ∀ o h res h1 c s, fo o h = some ((res, h1), c, s) → vx_Met l yX3_sequence (ws_ yX3_sequence cX3_sequence 2 (some (.object "PromiseTries$Node"))) (rmm (4 * D + 80) c s (160 * D + 8000)) (XP G [.ref o] h) (XQn G (fun r9 : Option Nat => some (va_rf r9)) res h h1) (XCn G res h h1) c s (fre h)) (h : Hp) (n : Nat) (o : Nat) (res : Sum (Option Nat) Nat) (h1 : Hp) (MC MS : Nat) (hf : X_Reader_repeated n fo o h = some ((res, h1), MC, MS)) : vx_Met l yX3_repeated (ws_ yX3_repeated cX3_repeated 3 (some (.object "PromiseTries$Node"))) (rmm (4 * D + 82) MC MS (160 * D + 8080)) (XP G [.ref o] h) (XQn G (fun r9 : Option Nat => some (va_rf r9)) res h h1) (XCn G res h h1) MC MS (fre h) := by
  rw [X_Reader_repeated] at hf
  obtain ⟨g0, hf⟩ := gd_e hf
  refine metXr l (by decide) (Nat.le_of_ble_eq_true rfl) (Or.inl ⟨_, rfl⟩) ?_
  intro p e s m args below meth c Q hx hb hts hown hnmd hml hinit hK hW hret hth ls hl
  have hown : s.vm.findClass RX3 = some m.cls := hown
  have hX := XX.start hW
  have kc : 0 + MC = MC := Nat.zero_add _
  have ks : 0 + MS = MS := Nat.zero_add _
  have hl : lv_has ls 3 [(0, .ref o)] := hl
  refine lv_aload_n hx hb dX3_repeated_0 rfl (lv_at hl 0 rfl) ?_
  obtain ⟨r9, h2, c3, s4, e1, l12, l13, e11⟩ := bdX_e hf
  refine x_doneX (val := (fun r9 : Option Nat => some (va_rf r9))) (vx_runV (b := o) (As := []) (rest := []) ⟨hx, hb, hml, hown, hts⟩ (wx_Reader_atom l G hG D fo hrec h n o r9 h2 c3 s4 e1) (cwV 0 hts (lw_V q374 q376 qs11 q98 q377) rfl rfl rfl ⟨rfl, cdX3_atom⟩ ⟨(by simp only [rmm]; omega), (by simp only [rmm]; omega)⟩) (x_preV (ci := 3) (T := TX3) (N := 9) hK hX _ (hX.tg g0 (by decide)) (by decide) rfl) rfl rfl hl.1 rfl (lv_room (Nat.le_of_ble_eq_true rfl)) dX3_repeated_1 ⟨(by simp only [rmm]; omega), (by simp only [rmm]; omega)⟩) hX e11 hth kc ks (fun r10 c5 s6 hf e7 e8 H locs hX => ?_)
  clear e1 l12 l13 e11
  replace kc : (0 + c3) + c5 = MC := by omega
  replace ks : (0 + s4) + s6 = MS := by omega
  clear e7 e8
  refine lx_astore_n (r := r10) (lv' := [(1, va_rf r10), (0, .ref o)]) hx hb dX3_repeated_4 rfl hl (by decide) rfl (fun ls hl => ?_)
  refine lv_aload_n hx hb dX3_repeated_5 rfl (lv_at hl 1 rfl) ?_
  refine lv_bipush (v := 42) hx hb dX3_repeated_6 (by decide) ?_
  obtain ⟨r15, e14, hf⟩ := bd_e hf
  refine x_doneP (va_runV (b := o) (As := [.int 42]) (rest := []) ⟨hx, hb, hml, hown, hts⟩ (wx_Reader_isSign l G hG h2 n o 42 r15 e14) (cwV 1 hts (lw_V q300 q302 qs6 q98 q303) rfl rfl rfl ⟨rfl, cdX3_isSign⟩ ⟨(by simp only [rmm]; omega), (by simp only [rmm]; omega)⟩) (x_preV (ci := 3) (T := TX3) (N := 9) hK hX _ (hX.tg g0 (by decide)) (by decide) rfl) rfl rfl hl.1 rfl (lv_room (Nat.le_of_ble_eq_true rfl)) dX3_repeated_8 ⟨(by simp only [rmm]; omega), (by simp only [rmm]; omega)⟩) rfl ?_
  clear e14
  refine lv_if_ne (tgt := 16) hx hb dX3_repeated_11 (by decide) (fun c16 => ?_) (fun c16 => ?_)
  · rw [if_neg c16] at hf
    refine lv_aload_n hx hb dX3_repeated_16 rfl (lv_at hl 1 rfl) ?_
    obtain ⟨r25, h18, c19, s20, e17, l28, l29, e27⟩ := bdX_e hf
    refine x_doneX (val := (fun _ : Unit => none)) (vx_runV (b := o) (As := []) (rest := []) ⟨hx, hb, hml, hown, hts⟩ (wx_Reader_next l G hG h2 n o r25 h18 c19 s20 e17) (cwV 0 hts (lw_V q152 q154 qs0 q98 q155) rfl rfl rfl ⟨rfl, cdX3_next⟩ ⟨(by simp only [rmm]; omega), (by simp only [rmm]; omega)⟩) (x_preV (ci := 3) (T := TX3) (N := 9) hK hX _ (hX.tg g0 (by decide)) (by decide) rfl) rfl rfl hl.1 rfl (lv_room (Nat.le_of_ble_eq_true rfl)) dX3_repeated_17 ⟨(by simp only [rmm]; omega), (by simp only [rmm]; omega)⟩) hX e27 hth kc ks (fun r26 c21 s22 hf e23 e24 H locs hX => ?_)
    clear e17 l28 l29 e27
    replace kc : ((0 + c3) + c19) + c21 = MC := by omega
    replace ks : ((0 + s4) + s20) + s22 = MS := by omega
    clear e23 e24
    refine lv_aload_n hx hb dX3_repeated_20 rfl (lv_at hl 1 rfl) ?_
    refine lv_iconst (v := 0) hx hb dX3_repeated_21 (by decide) ?_
    refine lv_bipush (v := 9) hx hb dX3_repeated_22 (by decide) ?_
    obtain ⟨r38, h31, c32, s33, e30, l41, l42, e40⟩ := bdX_e hf
    refine x_doneX (val := (fun r9 : Int32 => some (Value.int r9))) (vx_runV (b := o) (As := [.int 0, .int 9]) (rest := []) ⟨hx, hb, hml, hown, hts⟩ (wx_Reader_number l G hG h18 n o 0 9 r38 h31 c32 s33 e30) (cwV 2 hts (lw_V q434 q436 qs19 q98 q437) rfl rfl rfl ⟨rfl, cdX3_number⟩ ⟨(by simp only [rmm]; omega), (by simp only [rmm]; omega)⟩) (x_preV (ci := 3) (T := TX3) (N := 9) hK hX _ (hX.tg g0 (by decide)) (by decide) rfl) rfl rfl hl.1 rfl (lv_room (Nat.le_of_ble_eq_true rfl)) dX3_repeated_24 ⟨(by simp only [rmm]; omega), (by simp only [rmm]; omega)⟩) hX e40 hth kc ks (fun r39 c34 s35 hf e36 e37 H locs hX => ?_)
    clear e30 l41 l42 e40
    replace kc : (((0 + c3) + c19) + c32) + c34 = MC := by omega
    replace ks : (((0 + s4) + s20) + s33) + s35 = MS := by omega
    clear e36 e37
    refine lv_istore_n (lv' := [(2, .int r39), (1, va_rf r10), (0, .ref o)]) hx hb dX3_repeated_27 rfl hl (by decide) (by generalize hq9 : va_rf r10 = w9; have hc9 : w9.category = 1 := (by rw [← hq9]; exact rf_cat _); cases w9 <;> first | rfl | cases hc9) (fun ls hl => ?_)
    obtain ⟨c43, s44, hf, e45, e46⟩ := ad_e hf
    obtain ⟨h47, eh47, hf⟩ := st_e hf
    refine x_new (ci := 8) (C := RX9) (T := TX9) (N := 3) hx hb hts in_X9 hown q438 q439 q107 hK hX (by decide) rfl tyX9_ok (fun k hk => dfl _ (dfC8 k hk)) (by simp only [rmm]; omega) (by simp only [rmm]; omega) dX3_repeated_28 (fun H hX => ?_)
    replace hX := hX.re eh47
    have g48 : hT h47 (hZ h31) = 9 := by rw [eh47]; exact nw_T _ _ _
    clear eh47
    replace kc : ((((0 + c3) + c19) + c32) + 1) + c43 = MC := by omega
    replace ks : ((((0 + s4) + s20) + s33) + 3) + s44 = MS := by omega
    clear e45 e46
    refine lv_dup hx hb dX3_repeated_31 rfl ?_
    refine lx_aload_n hx hb dX3_repeated_32 rfl (lv_at hl 1 rfl) ?_
    refine lv_iload_n hx hb dX3_repeated_33 rfl (lv_at hl 0 rfl) ?_
    refine lv_aload_n hx hb dX3_repeated_34 rfl (lv_at hl 2 rfl) ?_
    refine lv_iconst (v := 1) hx hb dX3_repeated_35 (by decide) ?_
    refine lv_iload_n hx hb dX3_repeated_36 rfl (lv_at hl 0 rfl) ?_
    refine va_mmax hx hb (hml.trans hl.1.symm) hown (hts _ q440) (hts _ q441) (hts _ q108) (hts _ q442) (by simp only [rmm]; omega) (by show _ ≤ _; first | decide | (simp [rf_cat, cat_i, cat_l, cat_r, rmm]; done) | (simp [rf_cat, cat_i, cat_l, cat_r, rmm]; omega)) (by simp only [rmm]; omega) (by simp only [rmm]; omega) dX3_repeated_37 ?_
    refine lv_bipush (v := 9) hx hb dX3_repeated_40 (by decide) ?_
    obtain ⟨r57, h50, c51, s52, e49, l60, l61, e59⟩ := bdX_e hf
    refine x_doneX (val := (fun r9 : Int32 => some (Value.int r9))) (vx_runV (b := o) (As := [.int (if 1 < r39 then r39 else 1), .int 9]) (rest := [.int r39, va_rf r10, .ref (hZ h31), .ref (hZ h31)]) ⟨hx, hb, hml, hown, hts⟩ (wx_Reader_number l G hG h47 n o (if 1 < r39 then r39 else 1) 9 r57 h50 c51 s52 e49) (cwV 2 hts (lw_V q434 q436 qs19 q98 q437) rfl rfl rfl ⟨rfl, cdX3_number⟩ ⟨(by simp only [rmm]; omega), (by simp only [rmm]; omega)⟩) (x_preV (ci := 3) (T := TX3) (N := 9) hK hX _ (hX.tg g0 (by decide)) (by decide) rfl) rfl rfl hl.1 rfl (lv_room (by simp only [List.map, List.sum_cons, List.sum_nil, rf_cat, cat_i, cat_l, cat_r] <;> decide)) dX3_repeated_42 ⟨(by simp only [rmm]; omega), (by simp only [rmm]; omega)⟩) hX e59 hth kc ks (fun r58 c53 s54 hf e55 e56 H locs hX => ?_)
    clear e49 l60 l61 e59
    replace kc : (((((0 + c3) + c19) + c32) + 1) + c51) + c53 = MC := by omega
    replace ks : (((((0 + s4) + s20) + s33) + 3) + s52) + s54 = MS := by omega
    clear e55 e56
    obtain ⟨h63, e62, hf⟩ := bd_e hf
    refine x_done (mc := 0) (ms := 0) (va_runI (As := [va_rf r10, .int r39, .int r58]) (rest := [.ref (hZ h31)]) ⟨hx, hb, hml, hown, hts⟩ (wx_Times_init l G hG h50 n (hZ h31) r10 r39 r58 h63 e62) (cwI 3 hts (lw_meth q445) rfl rfl rfl (hts _ q107) (hts _ q443) (hts _ q444) rfl cdX9_init ⟨(by simp only [rmm]; omega), (by simp only [rmm]; omega)⟩) (x_preS hK hX _) rfl rfl hl.1 rfl (lv_room (Nat.le_of_ble_eq_true rfl)) dX3_repeated_45 ⟨(by simp only [rmm]; omega), (by simp only [rmm]; omega)⟩) hX rfl (fun H locs hX => ?_)
    clear e62
    obtain ⟨q1, q2⟩ := Prod.mk.inj (Option.some.inj hf)
    obtain ⟨q2, q3⟩ := Prod.mk.inj q2
    obtain ⟨q0, rfl⟩ := Prod.mk.inj q1
    refine W.cs (cells' := MC) (slots' := MS) (by omega) (by omega) ?_
    exact hret _ _ _ _ _ q0.symm hX dX3_repeated_48
  · rw [if_pos c16] at hf
    refine lx_aload_n hx hb dX3_repeated_14 rfl (lv_at hl 0 rfl) ?_
    obtain ⟨q1, q2⟩ := Prod.mk.inj (Option.some.inj hf)
    obtain ⟨q2, q3⟩ := Prod.mk.inj q2
    obtain ⟨q0, rfl⟩ := Prod.mk.inj q1
    refine W.cs (cells' := MC) (slots' := MS) (by omega) (by omega) ?_
    exact hret _ _ _ _ _ q0.symm hX dX3_repeated_15
theorem cdX10_init : yX10_init.cls ≠ "java/lang/invoke/MethodHandle" ∧ yX10_init.cls ≠ "java/lang/invoke/VarHandle" ∧ (parseMethodDescriptor yX10_init.desc).map (fun d => d.parameters.length) = some 2 := by decide +kernel
set_option maxHeartbeats 4000000 in
set_option maxRecDepth 100000 in
theorem wx_Two_init_Then (l : Launch) (G : Gt) (hG : XG G) (h : Hp) (n : Nat) (o : Nat) (p1 : Option Nat) (p2 : Option Nat) (h1 : Hp) (hf : X_Two_init_Then n o p1 p2 h = some h1) : Met l yX10_init (ws_ yX10_init cX10_init 3 none) (rmm (2) 0 0 (84)) (XP G [.ref o, va_rf p1, va_rf p2] h) (XQ G none h h1) 0 0 (fre h) := by
  rw [X_Two_init_Then] at hf
  obtain ⟨g0, hf⟩ := gd_e hf
  refine metSv l (by decide) (by cases p1 <;> cases p2 <;> exact Nat.le_of_ble_eq_true rfl) ?_
  intro p e s m args below meth c Q hx hb hts hown hnmd hml hinit hK hW hret ls hl
  have hinit : meth.name = "<init>" := hinit rfl
  have hown : s.vm.findClass RX10 = some m.cls := hown
  have hX := XX.start hW
  have hl : lv_has ls 3 [(0, .ref o), (1, va_rf p1), (2, va_rf p2)] := Eq.mp (congrArg (lv_has ls 3) (show lv_args 0 [.ref o, va_rf p1, va_rf p2] = [(0, .ref o), (1, va_rf p1), (2, va_rf p2)] from by clear hf; cases p1 <;> cases p2 <;> rfl)) hl
  refine lv_aload_n hx hb dX10_init_0 rfl (lv_at hl 0 rfl) ?_
  obtain ⟨_, e1, hf⟩ := bd_e hf
  refine x_doneP (va_runIN (As := []) (rest := []) ⟨hx, hb, hml, hown, hts⟩ (wx_Node_init l G hG h n o e1) ⟨va_cnB 0 hts (lw_meth q425) rfl rfl rfl (hG.nw hK nq465) (hts _ q105) cdX7_init ⟨(Nat.le_of_ble_eq_true rfl), (Nat.le_of_ble_eq_true rfl)⟩, rfl, hts _ q424⟩ (x_preS hK hX _) rfl rfl hl.1 rfl (lv_room (Nat.le_of_ble_eq_true rfl)) dX10_init_1 ⟨(Nat.le_of_ble_eq_true rfl), (Nat.le_of_ble_eq_true rfl)⟩) rfl ?_
  clear e1
  refine lv_aload_n hx hb dX10_init_4 rfl (lv_at hl 0 rfl) ?_
  refine lx_aload_n hx hb dX10_init_5 rfl (lv_at hl 1 rfl) ?_
  obtain ⟨h2, eh2, hf⟩ := st_e hf
  refine x_putF (ci := 9) (C := RX11) (T := TX11) (N := 2) hx hb hts in_X11 tyX11 tyX11_ok nmX11 hown hK.1 hX rfl (hX.tg g0 (by decide)) (by decide) rfl 0 (Nat.le_of_ble_eq_true rfl) (hts _ q466) (fun _ h9 => h9) rfl hinit rfl (narrow_rfO _ p1) (fits_rfO _ p1) (Put1.fR (x := p1) rfl) dX10_init_6 (fun H locs hX => ?_)
  replace hX := hX.re eh2
  clear eh2
  refine lv_aload_n hx hb dX10_init_9 rfl (lv_at hl 0 rfl) ?_
  refine lx_aload_n hx hb dX10_init_10 rfl (lv_at hl 2 rfl) ?_
  obtain ⟨h3, eh3, hf⟩ := st_e hf
  refine x_putF (ci := 9) (C := RX11) (T := TX11) (N := 2) hx hb hts in_X11 tyX11 tyX11_ok nmX11 hown hK.1 hX rfl (hX.tg g0 (by decide)) (by decide) rfl 1 (Nat.le_of_ble_eq_true rfl) (hts _ q471) (fun _ h9 => h9) rfl hinit rfl (narrow_rfO _ p2) (fits_rfO _ p2) (Put1.fR (x := p2) rfl) dX10_init_11 (fun H locs hX => ?_)
  replace hX := hX.re eh3
  clear eh3
  obtain rfl := Option.some.inj hf
  exact hret _ _ _ _ hX dX10_init_14
theorem cdX11_init : yX11_init.cls ≠ "java/lang/invoke/MethodHandle" ∧ yX11_init.cls ≠ "java/lang/invoke/VarHandle" ∧ (parseMethodDescriptor yX11_init.desc).map (fun d => d.parameters.length) = some 2 := by decide +kernel
set_option maxHeartbeats 4000000 in
set_option maxRecDepth 100000 in
theorem wx_Then_init (l : Launch) (G : Gt) (hG : XG G) (h : Hp) (n : Nat) (o : Nat) (p1 : Option Nat) (p2 : Option Nat) (h1 : Hp) (hf : X_Then_init n o p1 p2 h = some h1) : Met l yX11_init (ws_ yX11_init cX11_init 3 none) (rmm (3) 0 0 (106)) (XP G [.ref o, va_rf p1, va_rf p2] h) (XQ G none h h1) 0 0 (fre h) := by
  rw [X_Then_init] at hf
  refine metSv l (by decide) (by cases p1 <;> cases p2 <;> exact Nat.le_of_ble_eq_true rfl) ?_
  intro p e s m args below meth c Q hx hb hts hown hnmd hml hinit hK hW hret ls hl
  have hinit : meth.name = "<init>" := hinit rfl
  have hown : s.vm.findClass RX11 = some m.cls := hown
  have hX := XX.start hW
  have hl : lv_has ls 3 [(0, .ref o), (1, va_rf p1), (2, va_rf p2)] := Eq.mp (congrArg (lv_has ls 3) (show lv_args 0 [.ref o, va_rf p1, va_rf p2] = [(0, .ref o), (1, va_rf p1), (2, va_rf p2)] from by clear hf; cases p1 <;> cases p2 <;> rfl)) hl
  refine lv_aload_n hx hb dX11_init_0 rfl (lv_at hl 0 rfl) ?_
  refine lx_aload_n hx hb dX11_init_1 rfl (lv_at hl 1 rfl) ?_
  refine lx_aload_n hx hb dX11_init_2 rfl (lv_at hl 2 rfl) ?_
  obtain ⟨h2, e1, hf⟩ := bd_e hf
  refine x_done (mc := 0) (ms := 0) (va_runI (As := [va_rf p1, va_rf p2]) (rest := []) ⟨hx, hb, hml, hown, hts⟩ (wx_Two_init_Then l G hG h n o p1 p2 h2 e1) (cwI 2 hts (lw_meth q464) rfl rfl rfl (hts _ q109) (hts _ q462) (hts _ q463) rfl cdX10_init ⟨(Nat.le_of_ble_eq_true rfl), (Nat.le_of_ble_eq_true rfl)⟩) (x_preS hK hX _) rfl rfl hl.1 rfl (lv_room (Nat.le_of_ble_eq_true rfl)) dX11_init_3 ⟨(Nat.le_of_ble_eq_true rfl), (Nat.le_of_ble_eq_true rfl)⟩) hX rfl (fun H locs hX => ?_)
  clear e1
  obtain rfl := Option.some.inj hf
  exact hret _ _ _ _ hX dX11_init_6
