/-! walks of the system (by program) -/
theorem cdX0_might : yX0_might.cls ≠ "java/lang/invoke/MethodHandle" ∧ yX0_might.cls ≠ "java/lang/invoke/VarHandle" ∧ (parseMethodDescriptor yX0_might.desc).map (fun d => d.parameters.length) = some 3 := by decide +kernel
set_option maxHeartbeats 4000000 in
set_option maxRecDepth 100000 in
theorem wx_might (l : Launch) (G : Gt) (hG : XG G) (h : Hp) (n : Nat) (o : Nat) (p1 : Int32) (p2 : Int32) (p3 : Int32) (r : Int32) (h1 : Hp) (hf : X_might n o p1 p2 p3 h = some (r, h1)) : Met l yX0_might (ws_ yX0_might cX0_might 5 (some .int)) (rmm (423) 0 0 (13514)) (XP G [.ref o, .int p1, .int p2, .int p3] h) (XQ G (some (.int r)) h h1) 0 0 (fre h) := by
  rw [X_might] at hf
  obtain ⟨g0, hf⟩ := gd_e hf
  refine metSi l (by decide) (Nat.le_of_ble_eq_true rfl) ?_
  intro p e s m args below meth c Q hx hb hts hown hnmd hml hinit hK hW hret ls hl
  have hown : s.vm.findClass RX0 = some m.cls := hown
  have hX := XX.start hW
  have hl : lv_has ls 5 [(0, .ref o), (1, .int p1), (2, .int p2), (3, .int p3)] := hl
  have B80 : ∀ (h_35 : Hp) (H : Heap) (locs : List Loc) (ls : Array Slot), XX G h s.heap h_35 H locs → lv_has ls 5 [(0, .ref o)] → X_might_b80 n o h_35 = some (r, h1) → W p l e (rmm (423) 0 0 (13514)) s m args below meth c H locs 0 0 Q (F0 m 80 ls []) := by
    intro h_35 H locs ls hX hl hf
    rw [X_might_b80] at hf
    refine lv_iconst (v := 0) hx hb dX0_might_80 (by decide) ?_
    obtain ⟨rfl, rfl⟩ := Prod.mk.inj (Option.some.inj hf)
    exact hret _ _ _ _ hX rfl dX0_might_81
  have B76 : ∀ (h_36 : Hp) (H : Heap) (locs : List Loc) (ls : Array Slot), XX G h s.heap h_36 H locs → lv_has ls 5 [(0, .ref o)] → X_might_b76 n o h_36 = some (r, h1) → W p l e (rmm (423) 0 0 (13514)) s m args below meth c H locs 0 0 Q (F0 m 76 ls []) := by
    intro h_36 H locs ls hX hl hf
    rw [X_might_b76] at hf
    refine lv_iconst (v := 1) hx hb dX0_might_76 (by decide) ?_
    refine lv_goto (tgt := 81) hx hb dX0_might_77 (by decide) ?_
    obtain ⟨rfl, rfl⟩ := Prod.mk.inj (Option.some.inj hf)
    exact hret _ _ _ _ hX rfl dX0_might_81
  refine lv_aload_n hx hb dX0_might_0 rfl (lv_at hl 0 rfl) ?_
  refine lv_iload_n hx hb dX0_might_1 rfl (lv_at hl 1 rfl) ?_
  refine lv_iload_n hx hb dX0_might_2 rfl (lv_at hl 2 rfl) ?_
  refine lv_iload_n hx hb dX0_might_3 rfl (lv_at hl 3 rfl) ?_
  obtain ⟨r2, e1, hf⟩ := bd_e hf
  refine x_doneP (va_runV (b := o) (As := [.int p1, .int p2, .int p3]) (rest := []) ⟨hx, hb, hml, hown, hts⟩ (wx_isSide l G hG h n o p1 p2 p3 r2 e1) (cwV 3 hts (lw_V q787 q789 qs35 q94 q790) rfl rfl rfl ⟨rfl, cdX0_isSide⟩ ⟨(Nat.le_of_ble_eq_true rfl), (Nat.le_of_ble_eq_true rfl)⟩) (x_preV (ci := 0) (T := TX0) (N := 16) hK hX _ (hX.tg g0 (by decide)) (by decide) rfl) rfl rfl hl.1 rfl (lv_room (Nat.le_of_ble_eq_true rfl)) dX0_might_4 ⟨(Nat.le_of_ble_eq_true rfl), (Nat.le_of_ble_eq_true rfl)⟩) rfl ?_
  clear e1
  refine lv_if_ne (tgt := 12) hx hb dX0_might_7 (by decide) (fun c3 => ?_) (fun c3 => ?_)
  · rw [if_neg c3] at hf
    refine lv_aload_n hx hb dX0_might_12 rfl (lv_at hl 0 rfl) ?_
    obtain ⟨h5, e4, hf⟩ := bd_e hf
    refine x_done (mc := 0) (ms := 0) (va_runV (b := o) (As := []) (rest := []) ⟨hx, hb, hml, hown, hts⟩ (wx_runsAll l G hG h n o h5 e4) (cwV 0 hts (lw_V q656 q658 qs23 q94 q659) rfl rfl rfl ⟨rfl, cdX0_runsAll⟩ ⟨(Nat.le_of_ble_eq_true rfl), (Nat.le_of_ble_eq_true rfl)⟩) (x_preV (ci := 0) (T := TX0) (N := 16) hK hX _ (hX.tg g0 (by decide)) (by decide) rfl) rfl rfl hl.1 rfl (lv_room (Nat.le_of_ble_eq_true rfl)) dX0_might_13 ⟨(Nat.le_of_ble_eq_true rfl), (Nat.le_of_ble_eq_true rfl)⟩) hX rfl (fun H locs hX => ?_)
    clear e4
    refine lv_aload_n hx hb dX0_might_16 rfl (lv_at hl 0 rfl) ?_
    refine x_get (ci := 0) (C := RX0) (T := TX0) (N := 16) hx hb hts in_X0 hown hK.1 hX rfl (hX.tg g0 (by decide)) (by decide) rfl 3 (Nat.le_of_ble_eq_true rfl) (hts _ q911) (fun _ h9 => h9) (hv_ref rfl) dX0_might_17 ?_
    refine lv_iload_n hx hb dX0_might_20 rfl (lv_at hl 1 rfl) ?_
    obtain ⟨a6, e7, hf⟩ := bd_e hf
    obtain ⟨g8, hf⟩ := gd_e hf
    obtain ⟨g9, hf⟩ := gd_e hf
    refine x_aald hx hb hK.1 hX (rf_some e7) 7 g8 (by decide) rfl rfl rfl g9 dX0_might_21 ?_
    obtain ⟨a10, e11, hf⟩ := bd_e hf
    obtain ⟨g12, hf⟩ := gd_e hf
    refine x_getN (ci := 5) (C := RX5) (T := TX5) (N := 3) hx hb hts in_X5 hown hK.1 hX (rf_some e11) g12 (by decide) rfl 0 (Nat.le_of_ble_eq_true rfl) (hG.nw hK nq344) (fun _ h9 => h9) (hv_ref rfl) dX0_might_22 ?_
    refine lv_iload_n hx hb dX0_might_25 rfl (lv_at hl 2 rfl) ?_
    obtain ⟨a13, e14, hf⟩ := bd_e hf
    obtain ⟨g15, hf⟩ := gd_e hf
    obtain ⟨g16, hf⟩ := gd_e hf
    refine x_aald hx hb hK.1 hX (rf_some e14) 6 g15 (by decide) rfl rfl rfl g16 dX0_might_26 ?_
    refine lx_astore (r := (hR h5 a13 (Int32.toNatClampNeg p2))) (lv' := [(4, va_rf (hR h5 a13 (Int32.toNatClampNeg p2))), (0, .ref o), (1, .int p1), (2, .int p2), (3, .int p3)]) hx hb dX0_might_27 hl (by decide) rfl (fun ls hl => ?_)
    refine lv_iload_n hx hb dX0_might_29 rfl (lv_at hl 4 rfl) ?_
    refine lv_aload_n hx hb dX0_might_30 rfl (lv_at hl 1 rfl) ?_
    refine x_get (ci := 0) (C := RX0) (T := TX0) (N := 16) hx hb hts in_X0 hown hK.1 hX rfl (hX.tg g0 (by decide)) (by decide) rfl 6 (Nat.le_of_ble_eq_true rfl) (hts _ q914) (fun _ h9 => h9) (hv_int rfl) dX0_might_31 ?_
    refine lv_icmp_ne (tgt := 51) hx hb dX0_might_34 (by decide) (fun c17 => ?_) (fun c17 => ?_)
    · rw [if_neg c17] at hf
      refine lx_aload hx hb dX0_might_51 (lv_at hl 0 rfl) ?_
      obtain ⟨a18, e19, hf⟩ := bd_e hf
      obtain ⟨g20, hf⟩ := gd_e hf
      refine x_getN (ci := 6) (C := RX6) (T := TX6) (N := 5) hx hb hts in_X6 hown hK.1 hX (rf_some e19) g20 (by decide) rfl 3 (Nat.le_of_ble_eq_true rfl) (hG.nw hK nq327) (fun _ h9 => h9) (hv_ref rfl) dX0_might_53 ?_
      refine lx_aload hx hb dX0_might_56 (lv_at hl 0 rfl) ?_
      refine x_getN (ci := 6) (C := RX6) (T := TX6) (N := 5) hx hb hts in_X6 hown hK.1 hX (rf_some e19) g20 (by decide) rfl 4 (Nat.le_of_ble_eq_true rfl) (hG.nw hK nq330) (fun _ h9 => h9) (hv_ref rfl) dX0_might_58 ?_
      refine lv_iload_n hx hb dX0_might_61 rfl (lv_at hl 4 rfl) ?_
      obtain ⟨a21, e22, hf⟩ := bd_e hf
      obtain ⟨g23, hf⟩ := gd_e hf
      obtain ⟨g24, hf⟩ := gd_e hf
      refine x_aald hx hb hK.1 hX (rf_some e22) 11 g23 (by decide) rfl rfl rfl g24 dX0_might_62 ?_
      refine lv_aload_n hx hb dX0_might_63 rfl (lv_at hl 1 rfl) ?_
      refine x_get (ci := 0) (C := RX0) (T := TX0) (N := 16) hx hb hts in_X0 hown hK.1 hX rfl (hX.tg g0 (by decide)) (by decide) rfl 6 (Nat.le_of_ble_eq_true rfl) (hts _ q914) (fun _ h9 => h9) (hv_int rfl) dX0_might_64 ?_
      refine lv_iconst (v := 1) hx hb dX0_might_67 (by decide) ?_
      refine lv_isub hx hb dX0_might_68 ?_
      obtain ⟨a25, e26, hf⟩ := bd_e hf
      obtain ⟨g27, hf⟩ := gd_e hf
      obtain ⟨g28, hf⟩ := gd_e hf
      refine x_lald hx hb hK.1 hX (rf_some e26) g27 g28 dX0_might_69 ?_
      obtain ⟨a29, e30, hf⟩ := bd_e hf
      obtain ⟨g32, hf⟩ := gd_e hf
      obtain ⟨r33, e31, hf⟩ := bd_e hf
      refine x_doneP (va_runV (b := a29) (As := [.long (hL h5 a25 (Int32.toNatClampNeg ((hI h5 o 6) - 1)))]) (rest := []) ⟨hx, hb, hml, hown, hts⟩ (wx_Machine_mightGoOn l G hG h5 n a29 (hL h5 a25 (Int32.toNatClampNeg ((hI h5 o 6) - 1))) r33 e31) (cwV 1 hts (lw_V q715 q716 q717 q112 q718) rfl rfl rfl ⟨rfl, cdX13_mightGoOn⟩ ⟨(Nat.le_of_ble_eq_true rfl), (Nat.le_of_ble_eq_true rfl)⟩) (x_preV (ci := 11) (T := TX13) (N := 6) hK hX _ g32 (by decide) rfl) rfl rfl hl.1 (stk_eq (rf_some e30) rfl) (lv_room (Nat.le_of_ble_eq_true rfl)) dX0_might_70 ⟨(Nat.le_of_ble_eq_true rfl), (Nat.le_of_ble_eq_true rfl)⟩) rfl ?_
      clear e31
      refine lv_if_eq (tgt := 80) hx hb dX0_might_73 (by decide) (fun c34 => ?_) (fun c34 => ?_)
      · rw [if_pos c34] at hf
        exact B80 h5 _ _ _ hX (lv_sub hl [1] rfl) hf
      · rw [if_neg c34] at hf
        exact B76 h5 _ _ _ hX (lv_sub hl [1] rfl) hf
    · rw [if_pos c17] at hf
      refine lx_aload hx hb dX0_might_37 (lv_at hl 0 rfl) ?_
      obtain ⟨a37, e38, hf⟩ := bd_e hf
      obtain ⟨g39, hf⟩ := gd_e hf
      refine x_getN (ci := 6) (C := RX6) (T := TX6) (N := 5) hx hb hts in_X6 hown hK.1 hX (rf_some e38) g39 (by decide) rfl 3 (Nat.le_of_ble_eq_true rfl) (hG.nw hK nq327) (fun _ h9 => h9) (hv_ref rfl) dX0_might_39 ?_
      obtain ⟨a40, e41, hf⟩ := bd_e hf
      obtain ⟨g43, hf⟩ := gd_e hf
      obtain ⟨r44, e42, hf⟩ := bd_e hf
      refine x_doneP (va_runV (b := a40) (As := []) (rest := []) ⟨hx, hb, hml, hown, hts⟩ (wx_Machine_mightBegin l G hG h5 n a40 r44 e42) (cwV 0 hts (lw_V q711 q712 q713 q112 q714) rfl rfl rfl ⟨rfl, cdX13_mightBegin⟩ ⟨(Nat.le_of_ble_eq_true rfl), (Nat.le_of_ble_eq_true rfl)⟩) (x_preV (ci := 11) (T := TX13) (N := 6) hK hX _ g43 (by decide) rfl) rfl rfl hl.1 (stk_eq (rf_some e41) rfl) (lv_room (Nat.le_of_ble_eq_true rfl)) dX0_might_42 ⟨(Nat.le_of_ble_eq_true rfl), (Nat.le_of_ble_eq_true rfl)⟩) rfl ?_
      clear e42
      refine lv_if_eq (tgt := 80) hx hb dX0_might_45 (by decide) (fun c45 => ?_) (fun c45 => ?_)
      · rw [if_pos c45] at hf
        exact B80 h5 _ _ _ hX (lv_sub hl [1] rfl) hf
      · rw [if_neg c45] at hf
        refine lv_goto (tgt := 76) hx hb dX0_might_48 (by decide) ?_
        exact B76 h5 _ _ _ hX (lv_sub hl [1] rfl) hf
  · rw [if_pos c3] at hf
    refine lv_iconst (v := (-1)) hx hb dX0_might_10 (by decide) ?_
    obtain ⟨rfl, rfl⟩ := Prod.mk.inj (Option.some.inj hf)
    exact hret _ _ _ _ hX rfl dX0_might_11
theorem cdX0_comes : yX0_comes.cls ≠ "java/lang/invoke/MethodHandle" ∧ yX0_comes.cls ≠ "java/lang/invoke/VarHandle" ∧ (parseMethodDescriptor yX0_comes.desc).map (fun d => d.parameters.length) = some 1 := by decide +kernel
set_option maxHeartbeats 4000000 in
set_option maxRecDepth 100000 in
theorem wx_comes (l : Launch) (G : Gt) (hG : XG G) (h : Hp) (n : Nat) (o : Nat) (p1 : Int32) (h1 : Hp) (hf : X_comes n o p1 h = some h1) : Met l yX0_comes (ws_ yX0_comes cX0_comes 2 none) (rmm (0) 0 0 (0)) (XP G [.ref o, .int p1] h) (XQ G none h h1) 0 0 (fre h) := by
  rw [X_comes] at hf
  obtain ⟨g0, hf⟩ := gd_e hf
  refine metSv l (by decide) (Nat.le_of_ble_eq_true rfl) ?_
  intro p e s m args below meth c Q hx hb hts hown hnmd hml hinit hK hW hret ls hl
  have hown : s.vm.findClass RX0 = some m.cls := hown
  have hX := XX.start hW
  have hl : lv_has ls 2 [(0, .ref o), (1, .int p1)] := hl
  refine lv_aload_n hx hb dX0_comes_0 rfl (lv_at hl 0 rfl) ?_
  refine x_get (ci := 0) (C := RX0) (T := TX0) (N := 16) hx hb hts in_X0 hown hK.1 hX rfl (hX.tg g0 (by decide)) (by decide) rfl 5 (Nat.le_of_ble_eq_true rfl) (hts _ q913) (fun _ h9 => h9) (hv_ref rfl) dX0_comes_1 ?_
  refine lv_aload_n hx hb dX0_comes_4 rfl (lv_at hl 0 rfl) ?_
  refine x_get (ci := 0) (C := RX0) (T := TX0) (N := 16) hx hb hts in_X0 hown hK.1 hX rfl (hX.tg g0 (by decide)) (by decide) rfl 6 (Nat.le_of_ble_eq_true rfl) (hts _ q914) (fun _ h9 => h9) (hv_int rfl) dX0_comes_5 ?_
  refine lv_iload_n hx hb dX0_comes_8 rfl (lv_at hl 1 rfl) ?_
  obtain ⟨a1, e2, hf⟩ := bd_e hf
  obtain ⟨g3, hf⟩ := gd_e hf
  obtain ⟨g4, hf⟩ := gd_e hf
  obtain ⟨h5, eh5, hf⟩ := st_e hf
  refine x_iast hx hb hK.1 hX (rf_some e2) g3 g4 dX0_comes_9 (fun H locs hX => ?_)
  replace hX := hX.re eh5
  clear eh5
  refine lv_aload_n hx hb dX0_comes_10 rfl (lv_at hl 0 rfl) ?_
  refine lv_dup hx hb dX0_comes_11 rfl ?_
  refine x_get (ci := 0) (C := RX0) (T := TX0) (N := 16) hx hb hts in_X0 hown hK.1 hX rfl (hX.tg g0 (by decide)) (by decide) rfl 6 (Nat.le_of_ble_eq_true rfl) (hts _ q914) (fun _ h9 => h9) (hv_int rfl) dX0_comes_12 ?_
  refine lv_iconst (v := 1) hx hb dX0_comes_15 (by decide) ?_
  refine lv_iadd hx hb dX0_comes_16 ?_
  obtain ⟨h6, eh6, hf⟩ := st_e hf
  refine x_put (ci := 0) (C := RX0) (T := TX0) (N := 16) hx hb hts in_X0 tyX0 tyX0_ok nmX0 hown hK.1 hX rfl (hX.tg g0 (by decide)) (by decide) rfl 6 (Nat.le_of_ble_eq_true rfl) (hts _ q914) (fun _ h9 => h9) rfl rfl rfl (Put1.fI (x := ((hI h5 o 6) + 1)) rfl) dX0_comes_17 (fun H locs hX => ?_)
  replace hX := hX.re eh6
  clear eh6
  refine lv_aload_n hx hb dX0_comes_20 rfl (lv_at hl 0 rfl) ?_
  refine lv_iconst (v := 0) hx hb dX0_comes_21 (by decide) ?_
  obtain ⟨h7, eh7, hf⟩ := st_e hf
  refine x_put (ci := 0) (C := RX0) (T := TX0) (N := 16) hx hb hts in_X0 tyX0 tyX0_ok nmX0 hown hK.1 hX rfl (hX.tg g0 (by decide)) (by decide) rfl 7 (Nat.le_of_ble_eq_true rfl) (hts _ q915) (fun _ h9 => h9) rfl rfl rfl (Put1.fI (x := 0) rfl) dX0_comes_22 (fun H locs hX => ?_)
  replace hX := hX.re eh7
  clear eh7
  obtain rfl := Option.some.inj hf
  exact hret _ _ _ _ hX dX0_comes_25
theorem cdX0_failedBy : yX0_failedBy.cls ≠ "java/lang/invoke/MethodHandle" ∧ yX0_failedBy.cls ≠ "java/lang/invoke/VarHandle" ∧ (parseMethodDescriptor yX0_failedBy.desc).map (fun d => d.parameters.length) = some 1 := by decide +kernel
set_option maxHeartbeats 4000000 in
set_option maxRecDepth 100000 in
theorem wx_failedBy (l : Launch) (G : Gt) (hG : XG G) (h : Hp) (n : Nat) (o : Nat) (p1 : Int32) (r : Int32) (h1 : Hp) (hf : X_failedBy n o p1 h = some (r, h1)) : Met l yX0_failedBy (ws_ yX0_failedBy cX0_failedBy 5 (some .int)) (rmm (423) 0 0 (13514)) (XP G [.ref o, .int p1] h) (XQ G (some (.int r)) h h1) 0 0 (fre h) := by
  rw [X_failedBy] at hf
  obtain ⟨g0, hf⟩ := gd_e hf
  refine metSi l (by decide) (Nat.le_of_ble_eq_true rfl) ?_
  intro p e s m args below meth c Q hx hb hts hown hnmd hml hinit hK hW hret ls hl
  have hown : s.vm.findClass RX0 = some m.cls := hown
  have hX := XX.start hW
  have hl : lv_has ls 5 [(0, .ref o), (1, .int p1)] := hl
  have B60 : ∀ (K19 : Int32 → Int32 → Int32 → Int32 → Hp → Option (Int32 × Hp)) (hK19 : ∀ (v1 : Int32) (v2 : Int32) (v3 : Int32) (v4 : Int32) (h2 : Hp) (H : Heap) (locs : List Loc) (ls : Array Slot), XX G h s.heap h2 H locs → lv_has ls 5 [(0, .ref o), (1, .int v1), (2, .int v2), (3, .int v3), (4, .int v4)] → K19 v1 v2 v3 v4 h2 = some (r, h1) → W p l e (rmm (423) 0 0 (13514)) s m args below meth c H locs 0 0 Q (F0 m 19 ls [])) (v1 : Int32) (v3 : Int32) (v4 : Int32) (t0 : Int32) (t1 : Int32) (h_17 : Hp) (H : Heap) (locs : List Loc) (ls : Array Slot), XX G h s.heap h_17 H locs → lv_has ls 5 [(0, .ref o), (1, .int v1), (3, .int v3), (4, .int v4)] → X_failedBy_b60 n o K19 v1 v3 v4 t0 t1 h_17 = some (r, h1) → W p l e (rmm (423) 0 0 (13514)) s m args below meth c H locs 0 0 Q (F0 m 60 ls [.int t0, .int t1]) := by
    intro K19 hK19 v1 v3 v4 t0 t1 h_17 H locs ls hX hl hf
    rw [X_failedBy_b60] at hf
    refine lv_iadd hx hb dX0_failedBy_60 ?_
    refine lv_istore_n (lv' := [(2, .int (t1 + t0)), (0, .ref o), (1, .int v1), (3, .int v3), (4, .int v4)]) hx hb dX0_failedBy_61 rfl hl (by decide) rfl (fun ls hl => ?_)
    refine lv_iinc (v := (v4 + 1)) (lv' := [(4, .int (v4 + 1)), (2, .int (t1 + t0)), (0, .ref o), (1, .int v1), (3, .int v3)]) hx hb dX0_failedBy_62 hl (k := 4) rfl rfl (by decide) rfl (fun ls hl => ?_)
    refine lv_goto (tgt := 19) hx hb dX0_failedBy_65 (by decide) ?_
    exact hK19 v1 (t1 + t0) v3 (v4 + 1) h_17 _ _ _ hX (lv_sub hl [2, 3, 1, 4, 0] rfl) hf
  have B59 : ∀ (K19 : Int32 → Int32 → Int32 → Int32 → Hp → Option (Int32 × Hp)) (hK19 : ∀ (v1 : Int32) (v2 : Int32) (v3 : Int32) (v4 : Int32) (h2 : Hp) (H : Heap) (locs : List Loc) (ls : Array Slot), XX G h s.heap h2 H locs → lv_has ls 5 [(0, .ref o), (1, .int v1), (2, .int v2), (3, .int v3), (4, .int v4)] → K19 v1 v2 v3 v4 h2 = some (r, h1) → W p l e (rmm (423) 0 0 (13514)) s m args below meth c H locs 0 0 Q (F0 m 19 ls [])) (v1 : Int32) (v3 : Int32) (v4 : Int32) (t0 : Int32) (h_16 : Hp) (H : Heap) (locs : List Loc) (ls : Array Slot), XX G h s.heap h_16 H locs → lv_has ls 5 [(0, .ref o), (1, .int v1), (3, .int v3), (4, .int v4)] → X_failedBy_b59 n o K19 v1 v3 v4 t0 h_16 = some (r, h1) → W p l e (rmm (423) 0 0 (13514)) s m args below meth c H locs 0 0 Q (F0 m 59 ls [.int t0]) := by
    intro K19 hK19 v1 v3 v4 t0 h_16 H locs ls hX hl hf
    rw [X_failedBy_b59] at hf
    refine lv_iconst (v := 0) hx hb dX0_failedBy_59 (by decide) ?_
    exact B60 K19 hK19 v1 v3 v4 0 t0 h_16 _ _ _ hX (lv_sub hl [0, 1, 2, 3] rfl) hf
  have B19 : ∀ (K8 : Int32 → Int32 → Int32 → Hp → Option (Int32 × Hp)) (hK8 : ∀ (v1 : Int32) (v2 : Int32) (v3 : Int32) (h2 : Hp) (H : Heap) (locs : List Loc) (ls : Array Slot), XX G h s.heap h2 H locs → lv_has ls 5 [(0, .ref o), (1, .int v1), (2, .int v2), (3, .int v3)] → K8 v1 v2 v3 h2 = some (r, h1) → W p l e (rmm (423) 0 0 (13514)) s m args below meth c H locs 0 0 Q (F0 m 8 ls [])) (f : Nat) (v1 : Int32) (v2 : Int32) (v3 : Int32) (v4 : Int32) (h_5 : Hp) (H : Heap) (locs : List Loc) (ls : Array Slot), XX G h s.heap h_5 H locs → lv_has ls 5 [(0, .ref o), (1, .int v1), (2, .int v2), (3, .int v3), (4, .int v4)] → X_failedBy_b19 n o K8 f v1 v2 v3 v4 h_5 = some (r, h1) → W p l e (rmm (423) 0 0 (13514)) s m args below meth c H locs 0 0 Q (F0 m 19 ls []) := by
    intro K8 hK8
    intro f
    induction f with
    | zero =>
      intro v1 v2 v3 v4 h_5 H locs ls hX hl hf
      rw [X_failedBy_b19] at hf
      cases hf
    | succ f hK19 =>
      intro v1 v2 v3 v4 h_5 H locs ls hX hl hf
      rw [X_failedBy_b19] at hf
      refine lv_iload hx hb dX0_failedBy_19 (lv_at hl 4 rfl) ?_
      refine lv_aload_n hx hb dX0_failedBy_21 rfl (lv_at hl 0 rfl) ?_
      refine x_get (ci := 0) (C := RX0) (T := TX0) (N := 16) hx hb hts in_X0 hown hK.1 hX rfl (hX.tg g0 (by decide)) (by decide) rfl 6 (Nat.le_of_ble_eq_true rfl) (hts _ q914) (fun _ h9 => h9) (hv_int rfl) dX0_failedBy_22 ?_
      refine lv_icmp_ge (tgt := 68) hx hb dX0_failedBy_25 (by decide) (fun c6 => ?_) (fun c6 => ?_)
      · rw [if_pos c6] at hf
        refine lv_iinc (v := (v3 + 1)) (lv' := [(3, .int (v3 + 1)), (0, .ref o), (1, .int v1), (2, .int v2), (4, .int v4)]) hx hb dX0_failedBy_68 hl (k := 3) rfl rfl (by decide) rfl (fun ls hl => ?_)
        refine lv_goto (tgt := 8) hx hb dX0_failedBy_71 (by decide) ?_
        exact hK8 v1 v2 (v3 + 1) h_5 _ _ _ hX (lv_sub hl [1, 2, 3, 0] rfl) hf
      · rw [if_neg c6] at hf
        refine lv_iload_n hx hb dX0_failedBy_28 rfl (lv_at hl 2 rfl) ?_
        refine lv_aload_n hx hb dX0_failedBy_29 rfl (lv_at hl 0 rfl) ?_
        refine x_get (ci := 0) (C := RX0) (T := TX0) (N := 16) hx hb hts in_X0 hown hK.1 hX rfl (hX.tg g0 (by decide)) (by decide) rfl 8 (Nat.le_of_ble_eq_true rfl) (hts _ q916) (fun _ h9 => h9) (hv_ref rfl) dX0_failedBy_30 ?_
        refine lv_iload_n hx hb dX0_failedBy_33 rfl (lv_at hl 3 rfl) ?_
        obtain ⟨a7, e8, hf⟩ := bd_e hf
        obtain ⟨g9, hf⟩ := gd_e hf
        obtain ⟨g10, hf⟩ := gd_e hf
        refine x_aald hx hb hK.1 hX (rf_some e8) 10 g9 (by decide) rfl rfl rfl g10 dX0_failedBy_34 ?_
        refine lv_iload hx hb dX0_failedBy_35 (lv_at hl 4 rfl) ?_
        obtain ⟨a11, e12, hf⟩ := bd_e hf
        obtain ⟨g13, hf⟩ := gd_e hf
        obtain ⟨g14, hf⟩ := gd_e hf
        refine x_iald hx hb hK.1 hX (rf_some e12) g13 g14 dX0_failedBy_37 ?_
        refine lv_iconst (v := 2) hx hb dX0_failedBy_38 (by decide) ?_
        refine lv_icmp_ne (tgt := 59) hx hb dX0_failedBy_39 (by decide) (fun c15 => ?_) (fun c15 => ?_)
        · rw [if_neg c15] at hf
          exact B59 (X_failedBy_b19 n o K8 f) hK19 v1 v3 v4 v2 h_5 _ _ _ hX (lv_sub hl [0, 1, 3, 4] rfl) hf
        · rw [if_pos c15] at hf
          refine lv_aload_n hx hb dX0_failedBy_42 rfl (lv_at hl 0 rfl) ?_
          refine x_get (ci := 0) (C := RX0) (T := TX0) (N := 16) hx hb hts in_X0 hown hK.1 hX rfl (hX.tg g0 (by decide)) (by decide) rfl 9 (Nat.le_of_ble_eq_true rfl) (hts _ q917) (fun _ h9 => h9) (hv_ref rfl) dX0_failedBy_43 ?_
          refine lv_iload_n hx hb dX0_failedBy_46 rfl (lv_at hl 3 rfl) ?_
          obtain ⟨a18, e19, hf⟩ := bd_e hf
          obtain ⟨g20, hf⟩ := gd_e hf
          obtain ⟨g21, hf⟩ := gd_e hf
          refine x_aald hx hb hK.1 hX (rf_some e19) 10 g20 (by decide) rfl rfl rfl g21 dX0_failedBy_47 ?_
          refine lv_iload hx hb dX0_failedBy_48 (lv_at hl 4 rfl) ?_
          obtain ⟨a22, e23, hf⟩ := bd_e hf
          obtain ⟨g24, hf⟩ := gd_e hf
          obtain ⟨g25, hf⟩ := gd_e hf
          refine x_iald hx hb hK.1 hX (rf_some e23) g24 g25 dX0_failedBy_50 ?_
          refine lv_iload_n hx hb dX0_failedBy_51 rfl (lv_at hl 1 rfl) ?_
          refine lv_icmp_ne (tgt := 59) hx hb dX0_failedBy_52 (by decide) (fun c26 => ?_) (fun c26 => ?_)
          · rw [if_neg c26] at hf
            exact B59 (X_failedBy_b19 n o K8 f) hK19 v1 v3 v4 v2 h_5 _ _ _ hX (lv_sub hl [0, 1, 3, 4] rfl) hf
          · rw [if_pos c26] at hf
            refine lv_iconst (v := 1) hx hb dX0_failedBy_55 (by decide) ?_
            refine lv_goto (tgt := 60) hx hb dX0_failedBy_56 (by decide) ?_
            exact B60 (X_failedBy_b19 n o K8 f) hK19 v1 v3 v4 1 v2 h_5 _ _ _ hX (lv_sub hl [0, 1, 3, 4] rfl) hf
  have B8 : ∀ (f : Nat) (v1 : Int32) (v2 : Int32) (v3 : Int32) (h_3 : Hp) (H : Heap) (locs : List Loc) (ls : Array Slot), XX G h s.heap h_3 H locs → lv_has ls 5 [(0, .ref o), (1, .int v1), (2, .int v2), (3, .int v3)] → X_failedBy_b8 n o f v1 v2 v3 h_3 = some (r, h1) → W p l e (rmm (423) 0 0 (13514)) s m args below meth c H locs 0 0 Q (F0 m 8 ls []) := by
    intro f
    induction f with
    | zero =>
      intro v1 v2 v3 h_3 H locs ls hX hl hf
      rw [X_failedBy_b8] at hf
      cases hf
    | succ f hK8 =>
      intro v1 v2 v3 h_3 H locs ls hX hl hf
      rw [X_failedBy_b8] at hf
      refine lv_iload_n hx hb dX0_failedBy_8 rfl (lv_at hl 3 rfl) ?_
      refine lv_aload_n hx hb dX0_failedBy_9 rfl (lv_at hl 0 rfl) ?_
      refine x_get (ci := 0) (C := RX0) (T := TX0) (N := 16) hx hb hts in_X0 hown hK.1 hX rfl (hX.tg g0 (by decide)) (by decide) rfl 4 (Nat.le_of_ble_eq_true rfl) (hts _ q912) (fun _ h9 => h9) (hv_int rfl) dX0_failedBy_10 ?_
      refine lv_icmp_ge (tgt := 74) hx hb dX0_failedBy_13 (by decide) (fun c4 => ?_) (fun c4 => ?_)
      · rw [if_pos c4] at hf
        refine lv_iload_n hx hb dX0_failedBy_74 rfl (lv_at hl 2 rfl) ?_
        obtain ⟨rfl, rfl⟩ := Prod.mk.inj (Option.some.inj hf)
        exact hret _ _ _ _ hX rfl dX0_failedBy_75
      · rw [if_neg c4] at hf
        refine lv_iconst (v := 0) hx hb dX0_failedBy_16 (by decide) ?_
        refine lv_istore (lv' := [(4, .int 0), (0, .ref o), (1, .int v1), (2, .int v2), (3, .int v3)]) hx hb dX0_failedBy_17 hl (by decide) rfl (fun ls hl => ?_)
        exact B19 (X_failedBy_b8 n o f) hK8 n v1 v2 v3 0 h_3 _ _ _ hX (lv_sub hl [1, 2, 3, 4, 0] rfl) hf
  refine lv_aload_n hx hb dX0_failedBy_0 rfl (lv_at hl 0 rfl) ?_
  obtain ⟨h2, e1, hf⟩ := bd_e hf
  refine x_done (mc := 0) (ms := 0) (va_runV (b := o) (As := []) (rest := []) ⟨hx, hb, hml, hown, hts⟩ (wx_runsAll l G hG h n o h2 e1) (cwV 0 hts (lw_V q656 q658 qs23 q94 q659) rfl rfl rfl ⟨rfl, cdX0_runsAll⟩ ⟨(Nat.le_of_ble_eq_true rfl), (Nat.le_of_ble_eq_true rfl)⟩) (x_preV (ci := 0) (T := TX0) (N := 16) hK hX _ (hX.tg g0 (by decide)) (by decide) rfl) rfl rfl hl.1 rfl (lv_room (Nat.le_of_ble_eq_true rfl)) dX0_failedBy_1 ⟨(Nat.le_of_ble_eq_true rfl), (Nat.le_of_ble_eq_true rfl)⟩) hX rfl (fun H locs hX => ?_)
  clear e1
  refine lv_iconst (v := 0) hx hb dX0_failedBy_4 (by decide) ?_
  refine lv_istore_n (lv' := [(2, .int 0), (0, .ref o), (1, .int p1)]) hx hb dX0_failedBy_5 rfl hl (by decide) rfl (fun ls hl => ?_)
  refine lv_iconst (v := 0) hx hb dX0_failedBy_6 (by decide) ?_
  refine lv_istore_n (lv' := [(3, .int 0), (2, .int 0), (0, .ref o), (1, .int p1)]) hx hb dX0_failedBy_7 rfl hl (by decide) rfl (fun ls hl => ?_)
  exact B8 n p1 0 0 h2 _ _ _ hX (lv_sub hl [2, 3, 1, 0] rfl) hf
theorem cdX0_tick : yX0_tick.cls ≠ "java/lang/invoke/MethodHandle" ∧ yX0_tick.cls ≠ "java/lang/invoke/VarHandle" ∧ (parseMethodDescriptor yX0_tick.desc).map (fun d => d.parameters.length) = some 1 := by decide +kernel
set_option maxHeartbeats 4000000 in
set_option maxRecDepth 100000 in
theorem wx_tick (l : Launch) (G : Gt) (hG : XG G) (h : Hp) (n : Nat) (o : Nat) (p1 : Int32) (r : Int32) (h1 : Hp) (hf : X_tick n o p1 h = some (r, h1)) : Met l yX0_tick (ws_ yX0_tick cX0_tick 2 (some .int)) (rmm (424) 0 0 (13538)) (XP G [.ref o, .int p1] h) (XQ G (some (.int r)) h h1) 0 0 (fre h) := by
  rw [X_tick] at hf
  obtain ⟨g0, hf⟩ := gd_e hf
  refine metSi l (by decide) (Nat.le_of_ble_eq_true rfl) ?_
  intro p e s m args below meth c Q hx hb hts hown hnmd hml hinit hK hW hret ls hl
  have hown : s.vm.findClass RX0 = some m.cls := hown
  have hX := XX.start hW
  have hl : lv_has ls 2 [(0, .ref o), (1, .int p1)] := hl
  refine lv_iload_n hx hb dX0_tick_0 rfl (lv_at hl 1 rfl) ?_
  refine lv_i2l hx hb dX0_tick_1 rfl ?_
  refine lv_lconst (v := 0) hx hb dX0_tick_2 (by decide) ?_
  refine lv_ldc2 (v := 255) hx hb hown (hts _ q777) dX0_tick_3 ?_
  obtain ⟨r2, e1, hf⟩ := bd_e hf
  refine x_doneP (va_runS (As := [.long (Int32.toInt64 p1), .long 0, .long 255]) (rest := []) ⟨hx, hb, hml, hown, hts⟩ (wx_isIn l G hG h n (Int32.toInt64 p1) 0 255 r2 e1) (va_cwS 3 hts (lw_S q127 q128 q94 q129) rfl rfl rfl cdX0_isIn ⟨(Nat.le_of_ble_eq_true rfl), (Nat.le_of_ble_eq_true rfl)⟩) (x_preS hK hX _) rfl rfl hl.1 rfl (lv_room (Nat.le_of_ble_eq_true rfl)) dX0_tick_6 ⟨(Nat.le_of_ble_eq_true rfl), (Nat.le_of_ble_eq_true rfl)⟩) rfl ?_
  clear e1
  refine lv_if_ne (tgt := 14) hx hb dX0_tick_9 (by decide) (fun c3 => ?_) (fun c3 => ?_)
  · rw [if_neg c3] at hf
    refine lv_aload_n hx hb dX0_tick_14 rfl (lv_at hl 0 rfl) ?_
    refine x_get (ci := 0) (C := RX0) (T := TX0) (N := 16) hx hb hts in_X0 hown hK.1 hX rfl (hX.tg g0 (by decide)) (by decide) rfl 6 (Nat.le_of_ble_eq_true rfl) (hts _ q914) (fun _ h9 => h9) (hv_int rfl) dX0_tick_15 ?_
    refine lv_bipush (v := 48) hx hb dX0_tick_18 (by decide) ?_
    refine lv_icmp_ne (tgt := 26) hx hb dX0_tick_20 (by decide) (fun c4 => ?_) (fun c4 => ?_)
    · rw [if_neg c4] at hf
      refine lv_aload_n hx hb dX0_tick_26 rfl (lv_at hl 0 rfl) ?_
      refine lv_iload_n hx hb dX0_tick_27 rfl (lv_at hl 1 rfl) ?_
      obtain ⟨h6, e5, hf⟩ := bd_e hf
      refine x_done (mc := 0) (ms := 0) (va_runV (b := o) (As := [.int p1]) (rest := []) ⟨hx, hb, hml, hown, hts⟩ (wx_comes l G hG h n o p1 h6 e5) (cwV 1 hts (lw_V q800 q802 qs36 q94 q803) rfl rfl rfl ⟨rfl, cdX0_comes⟩ ⟨(Nat.le_of_ble_eq_true rfl), (Nat.le_of_ble_eq_true rfl)⟩) (x_preV (ci := 0) (T := TX0) (N := 16) hK hX _ (hX.tg g0 (by decide)) (by decide) rfl) rfl rfl hl.1 rfl (lv_room (Nat.le_of_ble_eq_true rfl)) dX0_tick_28 ⟨(Nat.le_of_ble_eq_true rfl), (Nat.le_of_ble_eq_true rfl)⟩) hX rfl (fun H locs hX => ?_)
      clear e5
      refine lv_aload_n hx hb dX0_tick_31 rfl (lv_at hl 0 rfl) ?_
      refine lv_aload_n hx hb dX0_tick_32 rfl (lv_at hl 0 rfl) ?_
      refine x_get (ci := 0) (C := RX0) (T := TX0) (N := 16) hx hb hts in_X0 hown hK.1 hX rfl (hX.tg g0 (by decide)) (by decide) rfl 6 (Nat.le_of_ble_eq_true rfl) (hts _ q914) (fun _ h9 => h9) (hv_int rfl) dX0_tick_33 ?_
      refine lv_iconst (v := 1) hx hb dX0_tick_36 (by decide) ?_
      refine lv_isub hx hb dX0_tick_37 ?_
      obtain ⟨r9, h8, e7, hf⟩ := bd2_e hf
      refine x_done (mc := 0) (ms := 0) (va_runV (b := o) (As := [.int ((hI h6 o 6) - 1)]) (rest := []) ⟨hx, hb, hml, hown, hts⟩ (wx_failedBy l G hG h6 n o ((hI h6 o 6) - 1) r9 h8 e7) (cwV 1 hts (lw_V q804 q806 qs37 q94 q807) rfl rfl rfl ⟨rfl, cdX0_failedBy⟩ ⟨(Nat.le_of_ble_eq_true rfl), (Nat.le_of_ble_eq_true rfl)⟩) (x_preV (ci := 0) (T := TX0) (N := 16) hK hX _ (hX.tg g0 (by decide)) (by decide) rfl) rfl rfl hl.1 rfl (lv_room (Nat.le_of_ble_eq_true rfl)) dX0_tick_38 ⟨(Nat.le_of_ble_eq_true rfl), (Nat.le_of_ble_eq_true rfl)⟩) hX rfl (fun H locs hX => ?_)
      clear e7
      obtain ⟨rfl, rfl⟩ := Prod.mk.inj (Option.some.inj hf)
      exact hret _ _ _ _ hX rfl dX0_tick_41
    · rw [if_pos c4] at hf
      refine lv_bipush (v := (-3)) hx hb dX0_tick_23 (by decide) ?_
      obtain ⟨rfl, rfl⟩ := Prod.mk.inj (Option.some.inj hf)
      exact hret _ _ _ _ hX rfl dX0_tick_25
  · rw [if_pos c3] at hf
    refine lv_iconst (v := (-1)) hx hb dX0_tick_12 (by decide) ?_
    obtain ⟨rfl, rfl⟩ := Prod.mk.inj (Option.some.inj hf)
    exact hret _ _ _ _ hX rfl dX0_tick_13
theorem cdX0_isTick : yX0_isTick.cls ≠ "java/lang/invoke/MethodHandle" ∧ yX0_isTick.cls ≠ "java/lang/invoke/VarHandle" ∧ (parseMethodDescriptor yX0_isTick.desc).map (fun d => d.parameters.length) = some 1 := by decide +kernel
set_option maxHeartbeats 4000000 in
set_option maxRecDepth 100000 in
theorem wx_isTick (l : Launch) (G : Gt) (hG : XG G) (h : Hp) (n : Nat) (o : Nat) (p1 : Int32) (r : Int32) (hf : X_isTick n o p1 h = some r) : Met l yX0_isTick (ws_ yX0_isTick cX0_isTick 2 (some .boolean)) (rmm (1) 0 0 (25)) (XP G [.ref o, .int p1] h) (XQp (some (.int r))) 0 0 (fun _ => False) := by
  rw [X_isTick] at hf
  obtain ⟨g0, hf⟩ := gd_e hf
  refine metPi l (by decide) (Nat.le_of_ble_eq_true rfl) ?_
  intro p e s m args below meth c Q hx hb hts hown hnmd hml hinit hK hW hret ls hl
  have hown : s.vm.findClass RX0 = some m.cls := hown
  have hX := XX.start hW
  have hl : lv_has ls 2 [(0, .ref o), (1, .int p1)] := hl
  refine lv_iload_n hx hb dX0_isTick_0 rfl (lv_at hl 1 rfl) ?_
  refine lv_i2l hx hb dX0_isTick_1 rfl ?_
  refine lv_lconst (v := 0) hx hb dX0_isTick_2 (by decide) ?_
  refine lv_aload_n hx hb dX0_isTick_3 rfl (lv_at hl 0 rfl) ?_
  refine x_get (ci := 0) (C := RX0) (T := TX0) (N := 16) hx hb hts in_X0 hown hK.1 hX rfl g0 (by decide) rfl 6 (Nat.le_of_ble_eq_true rfl) (hts _ q914) (fun _ h9 => h9) (hv_int rfl) dX0_isTick_4 ?_
  refine lv_iconst (v := 1) hx hb dX0_isTick_7 (by decide) ?_
  refine lv_isub hx hb dX0_isTick_8 ?_
  refine lv_i2l hx hb dX0_isTick_9 rfl ?_
  obtain ⟨r2, e1, hf⟩ := bd_e hf
  refine x_doneP (va_runS (As := [.long (Int32.toInt64 p1), .long 0, .long (Int32.toInt64 ((hI h o 6) - 1))]) (rest := []) ⟨hx, hb, hml, hown, hts⟩ (wx_isIn l G hG h n (Int32.toInt64 p1) 0 (Int32.toInt64 ((hI h o 6) - 1)) r2 e1) (va_cwS 3 hts (lw_S q127 q128 q94 q129) rfl rfl rfl cdX0_isIn ⟨(Nat.le_of_ble_eq_true rfl), (Nat.le_of_ble_eq_true rfl)⟩) (x_preS hK hX _) rfl rfl hl.1 rfl (lv_room (Nat.le_of_ble_eq_true rfl)) dX0_isTick_10 ⟨(Nat.le_of_ble_eq_true rfl), (Nat.le_of_ble_eq_true rfl)⟩) rfl ?_
  clear e1
  obtain ⟨g3, hf⟩ := gd_e hf
  obtain rfl := Option.some.inj hf
  exact hret _ _ (nb01 g3) dX0_isTick_13
theorem cdX0_bits : yX0_bits.cls ≠ "java/lang/invoke/MethodHandle" ∧ yX0_bits.cls ≠ "java/lang/invoke/VarHandle" ∧ (parseMethodDescriptor yX0_bits.desc).map (fun d => d.parameters.length) = some 1 := by decide +kernel
set_option maxHeartbeats 4000000 in
set_option maxRecDepth 100000 in
theorem wx_bits (l : Launch) (G : Gt) (hG : XG G) (h : Hp) (n : Nat) (o : Nat) (p1 : Int32) (r : Int32) (hf : X_bits n o p1 h = some r) : Met l yX0_bits (ws_ yX0_bits cX0_bits 2 (some .int)) (rmm (2) 0 0 (46)) (XP G [.ref o, .int p1] h) (XQp (some (.int r))) 0 0 (fun _ => False) := by
  rw [X_bits] at hf
  obtain ⟨g0, hf⟩ := gd_e hf
  refine metPi l (by decide) (Nat.le_of_ble_eq_true rfl) ?_
  intro p e s m args below meth c Q hx hb hts hown hnmd hml hinit hK hW hret ls hl
  have hown : s.vm.findClass RX0 = some m.cls := hown
  have hX := XX.start hW
  have hl : lv_has ls 2 [(0, .ref o), (1, .int p1)] := hl
  refine lv_aload_n hx hb dX0_bits_0 rfl (lv_at hl 0 rfl) ?_
  refine lv_iload_n hx hb dX0_bits_1 rfl (lv_at hl 1 rfl) ?_
  obtain ⟨r2, e1, hf⟩ := bd_e hf
  refine x_doneP (va_runV (b := o) (As := [.int p1]) (rest := []) ⟨hx, hb, hml, hown, hts⟩ (wx_isTick l G hG h n o p1 r2 e1) (cwV 1 hts (lw_V q812 q814 qs38 q94 q815) rfl rfl rfl ⟨rfl, cdX0_isTick⟩ ⟨(Nat.le_of_ble_eq_true rfl), (Nat.le_of_ble_eq_true rfl)⟩) (x_preV (ci := 0) (T := TX0) (N := 16) hK hX _ g0 (by decide) rfl) rfl rfl hl.1 rfl (lv_room (Nat.le_of_ble_eq_true rfl)) dX0_bits_2 ⟨(Nat.le_of_ble_eq_true rfl), (Nat.le_of_ble_eq_true rfl)⟩) rfl ?_
  clear e1
  refine lv_if_eq (tgt := 17) hx hb dX0_bits_5 (by decide) (fun c3 => ?_) (fun c3 => ?_)
  · rw [if_pos c3] at hf
    refine lv_iconst (v := (-1)) hx hb dX0_bits_17 (by decide) ?_
    obtain rfl := Option.some.inj hf
    exact hret _ _ rfl dX0_bits_18
  · rw [if_neg c3] at hf
    refine lv_aload_n hx hb dX0_bits_8 rfl (lv_at hl 0 rfl) ?_
    refine x_get (ci := 0) (C := RX0) (T := TX0) (N := 16) hx hb hts in_X0 hown hK.1 hX rfl g0 (by decide) rfl 5 (Nat.le_of_ble_eq_true rfl) (hts _ q913) (fun _ h9 => h9) (hv_ref rfl) dX0_bits_9 ?_
    refine lv_iload_n hx hb dX0_bits_12 rfl (lv_at hl 1 rfl) ?_
    obtain ⟨a4, e5, hf⟩ := bd_e hf
    obtain ⟨g6, hf⟩ := gd_e hf
    obtain ⟨g7, hf⟩ := gd_e hf
    refine x_iald hx hb hK.1 hX (rf_some e5) g6 g7 dX0_bits_13 ?_
    refine lv_goto (tgt := 18) hx hb dX0_bits_14 (by decide) ?_
    obtain rfl := Option.some.inj hf
    exact hret _ _ rfl dX0_bits_18
theorem cdX0_put : yX0_put.cls ≠ "java/lang/invoke/MethodHandle" ∧ yX0_put.cls ≠ "java/lang/invoke/VarHandle" ∧ (parseMethodDescriptor yX0_put.desc).map (fun d => d.parameters.length) = some 2 := by decide +kernel
set_option maxHeartbeats 4000000 in
set_option maxRecDepth 100000 in
theorem wx_put (l : Launch) (G : Gt) (hG : XG G) (h : Hp) (n : Nat) (o : Nat) (p1 : Int32) (p2 : Int32) (r : Int32) (h1 : Hp) (hf : X_put n o p1 p2 h = some (r, h1)) : Met l yX0_put (ws_ yX0_put cX0_put 4 (some .int)) (rmm (2) 0 0 (46)) (XP G [.ref o, .int p1, .int p2] h) (XQ G (some (.int r)) h h1) 0 0 (fre h) := by
  rw [X_put] at hf
  obtain ⟨g0, hf⟩ := gd_e hf
  refine metSi l (by decide) (Nat.le_of_ble_eq_true rfl) ?_
  intro p e s m args below meth c Q hx hb hts hown hnmd hml hinit hK hW hret ls hl
  have hown : s.vm.findClass RX0 = some m.cls := hown
  have hX := XX.start hW
  have hl : lv_has ls 4 [(0, .ref o), (1, .int p1), (2, .int p2)] := hl
  have B20 : ∀ (h_4 : Hp) (H : Heap) (locs : List Loc) (ls : Array Slot), XX G h s.heap h_4 H locs → lv_has ls 4 [(0, .ref o)] → X_put_b20 n o h_4 = some (r, h1) → W p l e (rmm (2) 0 0 (46)) s m args below meth c H locs 0 0 Q (F0 m 20 ls []) := by
    intro h_4 H locs ls hX hl hf
    rw [X_put_b20] at hf
    refine lv_iconst (v := (-1)) hx hb dX0_put_20 (by decide) ?_
    obtain ⟨rfl, rfl⟩ := Prod.mk.inj (Option.some.inj hf)
    exact hret _ _ _ _ hX rfl dX0_put_21
  refine lv_aload_n hx hb dX0_put_0 rfl (lv_at hl 0 rfl) ?_
  refine lv_iload_n hx hb dX0_put_1 rfl (lv_at hl 1 rfl) ?_
  obtain ⟨r2, e1, hf⟩ := bd_e hf
  refine x_doneP (va_runV (b := o) (As := [.int p1]) (rest := []) ⟨hx, hb, hml, hown, hts⟩ (wx_isTick l G hG h n o p1 r2 e1) (cwV 1 hts (lw_V q812 q814 qs38 q94 q815) rfl rfl rfl ⟨rfl, cdX0_isTick⟩ ⟨(Nat.le_of_ble_eq_true rfl), (Nat.le_of_ble_eq_true rfl)⟩) (x_preV (ci := 0) (T := TX0) (N := 16) hK hX _ (hX.tg g0 (by decide)) (by decide) rfl) rfl rfl hl.1 rfl (lv_room (Nat.le_of_ble_eq_true rfl)) dX0_put_2 ⟨(Nat.le_of_ble_eq_true rfl), (Nat.le_of_ble_eq_true rfl)⟩) rfl ?_
  clear e1
  refine lv_if_eq (tgt := 20) hx hb dX0_put_5 (by decide) (fun c3 => ?_) (fun c3 => ?_)
  · rw [if_pos c3] at hf
    exact B20 h _ _ _ hX (lv_sub hl [0] rfl) hf
  · rw [if_neg c3] at hf
    refine lv_iload_n hx hb dX0_put_8 rfl (lv_at hl 2 rfl) ?_
    refine lv_i2l hx hb dX0_put_9 rfl ?_
    refine lv_lconst (v := 0) hx hb dX0_put_10 (by decide) ?_
    refine lv_ldc2 (v := 255) hx hb hown (hts _ q777) dX0_put_11 ?_
    obtain ⟨r6, e5, hf⟩ := bd_e hf
    refine x_doneP (va_runS (As := [.long (Int32.toInt64 p2), .long 0, .long 255]) (rest := []) ⟨hx, hb, hml, hown, hts⟩ (wx_isIn l G hG h n (Int32.toInt64 p2) 0 255 r6 e5) (va_cwS 3 hts (lw_S q127 q128 q94 q129) rfl rfl rfl cdX0_isIn ⟨(Nat.le_of_ble_eq_true rfl), (Nat.le_of_ble_eq_true rfl)⟩) (x_preS hK hX _) rfl rfl hl.1 rfl (lv_room (Nat.le_of_ble_eq_true rfl)) dX0_put_14 ⟨(Nat.le_of_ble_eq_true rfl), (Nat.le_of_ble_eq_true rfl)⟩) rfl ?_
    clear e5
    refine lv_if_ne (tgt := 22) hx hb dX0_put_17 (by decide) (fun c7 => ?_) (fun c7 => ?_)
    · rw [if_neg c7] at hf
      refine lv_aload_n hx hb dX0_put_22 rfl (lv_at hl 0 rfl) ?_
      refine x_get (ci := 0) (C := RX0) (T := TX0) (N := 16) hx hb hts in_X0 hown hK.1 hX rfl (hX.tg g0 (by decide)) (by decide) rfl 5 (Nat.le_of_ble_eq_true rfl) (hts _ q913) (fun _ h9 => h9) (hv_ref rfl) dX0_put_23 ?_
      refine lv_iload_n hx hb dX0_put_26 rfl (lv_at hl 1 rfl) ?_
      obtain ⟨a8, e9, hf⟩ := bd_e hf
      obtain ⟨g10, hf⟩ := gd_e hf
      obtain ⟨g11, hf⟩ := gd_e hf
      refine x_iald hx hb hK.1 hX (rf_some e9) g10 g11 dX0_put_27 ?_
      refine lv_istore_n (lv' := [(3, .int (hI h a8 (Int32.toNatClampNeg p1))), (0, .ref o), (1, .int p1), (2, .int p2)]) hx hb dX0_put_28 rfl hl (by decide) rfl (fun ls hl => ?_)
      refine lv_aload_n hx hb dX0_put_29 rfl (lv_at hl 1 rfl) ?_
      refine x_get (ci := 0) (C := RX0) (T := TX0) (N := 16) hx hb hts in_X0 hown hK.1 hX rfl (hX.tg g0 (by decide)) (by decide) rfl 5 (Nat.le_of_ble_eq_true rfl) (hts _ q913) (fun _ h9 => h9) (hv_ref rfl) dX0_put_30 ?_
      refine lv_iload_n hx hb dX0_put_33 rfl (lv_at hl 2 rfl) ?_
      refine lv_iload_n hx hb dX0_put_34 rfl (lv_at hl 3 rfl) ?_
      obtain ⟨g12, hf⟩ := gd_e hf
      obtain ⟨h13, eh13, hf⟩ := st_e hf
      refine x_iast hx hb hK.1 hX (rf_some e9) g10 g12 dX0_put_35 (fun H locs hX => ?_)
      replace hX := hX.re eh13
      clear eh13
      refine lv_aload_n hx hb dX0_put_36 rfl (lv_at hl 1 rfl) ?_
      refine lv_iconst (v := 0) hx hb dX0_put_37 (by decide) ?_
      obtain ⟨h14, eh14, hf⟩ := st_e hf
      refine x_put (ci := 0) (C := RX0) (T := TX0) (N := 16) hx hb hts in_X0 tyX0 tyX0_ok nmX0 hown hK.1 hX rfl (hX.tg g0 (by decide)) (by decide) rfl 7 (Nat.le_of_ble_eq_true rfl) (hts _ q915) (fun _ h9 => h9) rfl rfl rfl (Put1.fI (x := 0) rfl) dX0_put_38 (fun H locs hX => ?_)
      replace hX := hX.re eh14
      clear eh14
      refine lv_iload_n hx hb dX0_put_41 rfl (lv_at hl 0 rfl) ?_
      obtain ⟨rfl, rfl⟩ := Prod.mk.inj (Option.some.inj hf)
      exact hret _ _ _ _ hX rfl dX0_put_42
    · rw [if_pos c7] at hf
      exact B20 h _ _ _ hX (lv_sub hl [0] rfl) hf
theorem cdX0_keeps : yX0_keeps.cls ≠ "java/lang/invoke/MethodHandle" ∧ yX0_keeps.cls ≠ "java/lang/invoke/VarHandle" ∧ (parseMethodDescriptor yX0_keeps.desc).map (fun d => d.parameters.length) = some 1 := by decide +kernel
set_option maxHeartbeats 4000000 in
set_option maxRecDepth 100000 in
theorem wx_keeps (l : Launch) (G : Gt) (hG : XG G) (h : Hp) (n : Nat) (o : Nat) (p1 : Int32) (r : Int32) (h1 : Hp) (hf : X_keeps n o p1 h = some (r, h1)) : Met l yX0_keeps (ws_ yX0_keeps cX0_keeps 3 (some .int)) (rmm (1) 0 0 (25)) (XP G [.ref o, .int p1] h) (XQ G (some (.int r)) h h1) 0 0 (fre h) := by
  rw [X_keeps] at hf
  obtain ⟨g0, hf⟩ := gd_e hf
  refine metSi l (by decide) (Nat.le_of_ble_eq_true rfl) ?_
  intro p e s m args below meth c Q hx hb hts hown hnmd hml hinit hK hW hret ls hl
  have hown : s.vm.findClass RX0 = some m.cls := hown
  have hX := XX.start hW
  have hl : lv_has ls 3 [(0, .ref o), (1, .int p1)] := hl
  refine lv_iload_n hx hb dX0_keeps_0 rfl (lv_at hl 1 rfl) ?_
  refine lv_i2l hx hb dX0_keeps_1 rfl ?_
  refine lv_lconst (v := 0) hx hb dX0_keeps_2 (by decide) ?_
  refine lv_aload_n hx hb dX0_keeps_3 rfl (lv_at hl 0 rfl) ?_
  refine x_get (ci := 0) (C := RX0) (T := TX0) (N := 16) hx hb hts in_X0 hown hK.1 hX rfl (hX.tg g0 (by decide)) (by decide) rfl 6 (Nat.le_of_ble_eq_true rfl) (hts _ q914) (fun _ h9 => h9) (hv_int rfl) dX0_keeps_4 ?_
  refine lv_i2l hx hb dX0_keeps_7 rfl ?_
  obtain ⟨r2, e1, hf⟩ := bd_e hf
  refine x_doneP (va_runS (As := [.long (Int32.toInt64 p1), .long 0, .long (Int32.toInt64 (hI h o 6))]) (rest := []) ⟨hx, hb, hml, hown, hts⟩ (wx_isIn l G hG h n (Int32.toInt64 p1) 0 (Int32.toInt64 (hI h o 6)) r2 e1) (va_cwS 3 hts (lw_S q127 q128 q94 q129) rfl rfl rfl cdX0_isIn ⟨(Nat.le_of_ble_eq_true rfl), (Nat.le_of_ble_eq_true rfl)⟩) (x_preS hK hX _) rfl rfl hl.1 rfl (lv_room (Nat.le_of_ble_eq_true rfl)) dX0_keeps_8 ⟨(Nat.le_of_ble_eq_true rfl), (Nat.le_of_ble_eq_true rfl)⟩) rfl ?_
  clear e1
  refine lv_if_ne (tgt := 16) hx hb dX0_keeps_11 (by decide) (fun c3 => ?_) (fun c3 => ?_)
  · rw [if_neg c3] at hf
    refine lv_aload_n hx hb dX0_keeps_16 rfl (lv_at hl 0 rfl) ?_
    refine x_get (ci := 0) (C := RX0) (T := TX0) (N := 16) hx hb hts in_X0 hown hK.1 hX rfl (hX.tg g0 (by decide)) (by decide) rfl 6 (Nat.le_of_ble_eq_true rfl) (hts _ q914) (fun _ h9 => h9) (hv_int rfl) dX0_keeps_17 ?_
    refine lv_istore_n (lv' := [(2, .int (hI h o 6)), (0, .ref o), (1, .int p1)]) hx hb dX0_keeps_20 rfl hl (by decide) rfl (fun ls hl => ?_)
    refine lv_aload_n hx hb dX0_keeps_21 rfl (lv_at hl 1 rfl) ?_
    refine lv_iload_n hx hb dX0_keeps_22 rfl (lv_at hl 2 rfl) ?_
    obtain ⟨h4, eh4, hf⟩ := st_e hf
    refine x_put (ci := 0) (C := RX0) (T := TX0) (N := 16) hx hb hts in_X0 tyX0 tyX0_ok nmX0 hown hK.1 hX rfl (hX.tg g0 (by decide)) (by decide) rfl 6 (Nat.le_of_ble_eq_true rfl) (hts _ q914) (fun _ h9 => h9) rfl rfl rfl (Put1.fI (x := p1) rfl) dX0_keeps_23 (fun H locs hX => ?_)
    replace hX := hX.re eh4
    clear eh4
    refine lv_aload_n hx hb dX0_keeps_26 rfl (lv_at hl 1 rfl) ?_
    refine lv_iconst (v := 0) hx hb dX0_keeps_27 (by decide) ?_
    obtain ⟨h5, eh5, hf⟩ := st_e hf
    refine x_put (ci := 0) (C := RX0) (T := TX0) (N := 16) hx hb hts in_X0 tyX0 tyX0_ok nmX0 hown hK.1 hX rfl (hX.tg g0 (by decide)) (by decide) rfl 7 (Nat.le_of_ble_eq_true rfl) (hts _ q915) (fun _ h9 => h9) rfl rfl rfl (Put1.fI (x := 0) rfl) dX0_keeps_28 (fun H locs hX => ?_)
    replace hX := hX.re eh5
    clear eh5
    refine lv_iload_n hx hb dX0_keeps_31 rfl (lv_at hl 0 rfl) ?_
    obtain ⟨rfl, rfl⟩ := Prod.mk.inj (Option.some.inj hf)
    exact hret _ _ _ _ hX rfl dX0_keeps_32
  · rw [if_pos c3] at hf
    refine lv_iconst (v := (-1)) hx hb dX0_keeps_14 (by decide) ?_
    obtain ⟨rfl, rfl⟩ := Prod.mk.inj (Option.some.inj hf)
    exact hret _ _ _ _ hX rfl dX0_keeps_15
theorem cdX0_got : yX0_got.cls ≠ "java/lang/invoke/MethodHandle" ∧ yX0_got.cls ≠ "java/lang/invoke/VarHandle" ∧ (parseMethodDescriptor yX0_got.desc).map (fun d => d.parameters.length) = some 0 := by decide +kernel
set_option maxHeartbeats 4000000 in
set_option maxRecDepth 100000 in
theorem wx_got (l : Launch) (G : Gt) (hG : XG G) (h : Hp) (n : Nat) (o : Nat) (r : Int32) (h1 : Hp) (hf : X_got n o h = some (r, h1)) : Met l yX0_got (ws_ yX0_got cX0_got 1 (some .int)) (rmm (0) 0 0 (0)) (XP G [.ref o] h) (XQ G (some (.int r)) h h1) 0 0 (fre h) := by
  rw [X_got] at hf
  obtain ⟨g0, hf⟩ := gd_e hf
  refine metSi l (by decide) (Nat.le_of_ble_eq_true rfl) ?_
  intro p e s m args below meth c Q hx hb hts hown hnmd hml hinit hK hW hret ls hl
  have hown : s.vm.findClass RX0 = some m.cls := hown
  have hX := XX.start hW
  have hl : lv_has ls 1 [(0, .ref o)] := hl
  refine lv_aload_n hx hb dX0_got_0 rfl (lv_at hl 0 rfl) ?_
  refine lv_aload_n hx hb dX0_got_1 rfl (lv_at hl 0 rfl) ?_
  refine x_get (ci := 0) (C := RX0) (T := TX0) (N := 16) hx hb hts in_X0 hown hK.1 hX rfl (hX.tg g0 (by decide)) (by decide) rfl 11 (Nat.le_of_ble_eq_true rfl) (hts _ q919) (fun _ h9 => h9) (hv_int rfl) dX0_got_2 ?_
  refine lv_ldc (v := 1103515245) hx hb hown (hts _ q833) dX0_got_5 ?_
  refine lv_imul hx hb dX0_got_7 ?_
  refine lv_sipush (v := 12345) hx hb dX0_got_8 (by decide) ?_
  refine lv_iadd hx hb dX0_got_11 ?_
  obtain ⟨h1, eh1, hf⟩ := st_e hf
  refine x_put (ci := 0) (C := RX0) (T := TX0) (N := 16) hx hb hts in_X0 tyX0 tyX0_ok nmX0 hown hK.1 hX rfl (hX.tg g0 (by decide)) (by decide) rfl 11 (Nat.le_of_ble_eq_true rfl) (hts _ q919) (fun _ h9 => h9) rfl rfl rfl (Put1.fI (x := (((hI h o 11) * 1103515245) + 12345)) rfl) dX0_got_12 (fun H locs hX => ?_)
  replace hX := hX.re eh1
  clear eh1
  refine lv_aload_n hx hb dX0_got_15 rfl (lv_at hl 0 rfl) ?_
  refine x_get (ci := 0) (C := RX0) (T := TX0) (N := 16) hx hb hts in_X0 hown hK.1 hX rfl (hX.tg g0 (by decide)) (by decide) rfl 11 (Nat.le_of_ble_eq_true rfl) (hts _ q919) (fun _ h9 => h9) (hv_int rfl) dX0_got_16 ?_
  refine lv_bipush (v := 16) hx hb dX0_got_19 (by decide) ?_
  refine lv_ishr hx hb dX0_got_21 ?_
  refine lv_sipush (v := 32767) hx hb dX0_got_22 (by decide) ?_
  refine lv_iand hx hb dX0_got_25 ?_
  obtain ⟨rfl, rfl⟩ := Prod.mk.inj (Option.some.inj hf)
  exact hret _ _ _ _ hX rfl dX0_got_26
theorem cdX0_draw : yX0_draw.cls ≠ "java/lang/invoke/MethodHandle" ∧ yX0_draw.cls ≠ "java/lang/invoke/VarHandle" ∧ (parseMethodDescriptor yX0_draw.desc).map (fun d => d.parameters.length) = some 2 := by decide +kernel
set_option maxHeartbeats 4000000 in
set_option maxRecDepth 100000 in
theorem wx_draw (l : Launch) (G : Gt) (hG : XG G) (h : Hp) (n : Nat) (o : Nat) (p1 : Int32) (p2 : Int32) (r : Int32) (h1 : Hp) (hf : X_draw n o p1 p2 h = some (r, h1)) : Met l yX0_draw (ws_ yX0_draw cX0_draw 5 (some .int)) (rmm (1) 0 0 (25)) (XP G [.ref o, .int p1, .int p2] h) (XQ G (some (.int r)) h h1) 0 0 (fre h) := by
  rw [X_draw] at hf
  obtain ⟨g0, hf⟩ := gd_e hf
  refine metSi l (by decide) (Nat.le_of_ble_eq_true rfl) ?_
  intro p e s m args below meth c Q hx hb hts hown hnmd hml hinit hK hW hret ls hl
  have hown : s.vm.findClass RX0 = some m.cls := hown
  have hX := XX.start hW
  have hl : lv_has ls 5 [(0, .ref o), (1, .int p1), (2, .int p2)] := hl
  have B35 : ∀ (f : Nat) (v2 : Int32) (v3 : Int32) (h_6 : Hp) (H : Heap) (locs : List Loc) (ls : Array Slot), XX G h s.heap h_6 H locs → lv_has ls 5 [(0, .ref o), (2, .int v2), (3, .int v3)] → X_draw_b35 n o f v2 v3 h_6 = some (r, h1) → W p l e (rmm (1) 0 0 (25)) s m args below meth c H locs 0 0 Q (F0 m 35 ls []) := by
    intro f
    induction f with
    | zero =>
      intro v2 v3 h_6 H locs ls hX hl hf
      rw [X_draw_b35] at hf
      cases hf
    | succ f hK35 =>
      intro v2 v3 h_6 H locs ls hX hl hf
      rw [X_draw_b35] at hf
      refine lv_iload_n hx hb dX0_draw_35 rfl (lv_at hl 2 rfl) ?_
      refine lv_iload_n hx hb dX0_draw_36 rfl (lv_at hl 1 rfl) ?_
      refine lv_icmp_ge (tgt := 71) hx hb dX0_draw_37 (by decide) (fun c7 => ?_) (fun c7 => ?_)
      · rw [if_pos c7] at hf
        refine lv_aload_n hx hb dX0_draw_71 rfl (lv_at hl 0 rfl) ?_
        refine x_get (ci := 0) (C := RX0) (T := TX0) (N := 16) hx hb hts in_X0 hown hK.1 hX rfl (hX.tg g0 (by decide)) (by decide) rfl 6 (Nat.le_of_ble_eq_true rfl) (hts _ q914) (fun _ h9 => h9) (hv_int rfl) dX0_draw_72 ?_
        obtain ⟨rfl, rfl⟩ := Prod.mk.inj (Option.some.inj hf)
        exact hret _ _ _ _ hX rfl dX0_draw_75
      · rw [if_neg c7] at hf
        refine lv_aload_n hx hb dX0_draw_40 rfl (lv_at hl 0 rfl) ?_
        obtain ⟨r10, h9, e8, hf⟩ := bd2_e hf
        refine x_done (mc := 0) (ms := 0) (va_runV (b := o) (As := []) (rest := []) ⟨hx, hb, hml, hown, hts⟩ (wx_got l G hG h_6 n o r10 h9 e8) (cwV 0 hts (lw_V q829 q831 qs39 q94 q832) rfl rfl rfl ⟨rfl, cdX0_got⟩ ⟨(Nat.le_of_ble_eq_true rfl), (Nat.le_of_ble_eq_true rfl)⟩) (x_preV (ci := 0) (T := TX0) (N := 16) hK hX _ (hX.tg g0 (by decide)) (by decide) rfl) rfl rfl hl.1 rfl (lv_room (Nat.le_of_ble_eq_true rfl)) dX0_draw_41 ⟨(Nat.le_of_ble_eq_true rfl), (Nat.le_of_ble_eq_true rfl)⟩) hX rfl (fun H locs hX => ?_)
        clear e8
        refine lv_sipush (v := 256) hx hb dX0_draw_44 (by decide) ?_
        refine lv_irem hx hb dX0_draw_47 (by decide) ?_
        refine lv_istore (lv' := [(4, .int (r10 - r10 / 256 * 256)), (0, .ref o), (2, .int v2), (3, .int v3)]) hx hb dX0_draw_48 hl (by decide) rfl (fun ls hl => ?_)
        refine lv_aload_n hx hb dX0_draw_50 rfl (lv_at hl 1 rfl) ?_
        refine lv_iload hx hb dX0_draw_51 (lv_at hl 0 rfl) ?_
        refine lv_aload_n hx hb dX0_draw_53 rfl (lv_at hl 1 rfl) ?_
        obtain ⟨r13, h12, e11, hf⟩ := bd2_e hf
        refine x_done (mc := 0) (ms := 0) (va_runV (b := o) (As := []) (rest := [.int (r10 - r10 / 256 * 256), .ref o]) ⟨hx, hb, hml, hown, hts⟩ (wx_got l G hG h9 n o r13 h12 e11) (cwV 0 hts (lw_V q829 q831 qs39 q94 q832) rfl rfl rfl ⟨rfl, cdX0_got⟩ ⟨(Nat.le_of_ble_eq_true rfl), (Nat.le_of_ble_eq_true rfl)⟩) (x_preV (ci := 0) (T := TX0) (N := 16) hK hX _ (hX.tg g0 (by decide)) (by decide) rfl) rfl rfl hl.1 rfl (lv_room (Nat.le_of_ble_eq_true rfl)) dX0_draw_54 ⟨(Nat.le_of_ble_eq_true rfl), (Nat.le_of_ble_eq_true rfl)⟩) hX rfl (fun H locs hX => ?_)
        clear e11
        refine lv_sipush (v := 256) hx hb dX0_draw_57 (by decide) ?_
        refine lv_irem hx hb dX0_draw_60 (by decide) ?_
        refine lv_iand hx hb dX0_draw_61 ?_
        obtain ⟨h15, e14, hf⟩ := bd_e hf
        refine x_done (mc := 0) (ms := 0) (va_runV (b := o) (As := [.int ((r10 - r10 / 256 * 256) &&& (r13 - r13 / 256 * 256))]) (rest := []) ⟨hx, hb, hml, hown, hts⟩ (wx_comes l G hG h12 n o ((r10 - r10 / 256 * 256) &&& (r13 - r13 / 256 * 256)) h15 e14) (cwV 1 hts (lw_V q800 q802 qs36 q94 q803) rfl rfl rfl ⟨rfl, cdX0_comes⟩ ⟨(Nat.le_of_ble_eq_true rfl), (Nat.le_of_ble_eq_true rfl)⟩) (x_preV (ci := 0) (T := TX0) (N := 16) hK hX _ (hX.tg g0 (by decide)) (by decide) rfl) rfl rfl hl.1 rfl (lv_room (Nat.le_of_ble_eq_true rfl)) dX0_draw_62 ⟨(Nat.le_of_ble_eq_true rfl), (Nat.le_of_ble_eq_true rfl)⟩) hX rfl (fun H locs hX => ?_)
        clear e14
        refine lv_iinc (v := (v3 + 1)) (lv' := [(3, .int (v3 + 1)), (4, .int (r10 - r10 / 256 * 256)), (0, .ref o), (2, .int v2)]) hx hb dX0_draw_65 hl (k := 3) rfl rfl (by decide) rfl (fun ls hl => ?_)
        refine lv_goto (tgt := 35) hx hb dX0_draw_68 (by decide) ?_
        exact hK35 v2 (v3 + 1) h15 _ _ _ hX (lv_sub hl [2, 3, 0] rfl) hf
  refine lv_iload_n hx hb dX0_draw_0 rfl (lv_at hl 2 rfl) ?_
  refine lv_i2l hx hb dX0_draw_1 rfl ?_
  refine lv_lconst (v := 1) hx hb dX0_draw_2 (by decide) ?_
  refine lv_ldc2 (v := 20) hx hb hown (hts _ q828) dX0_draw_3 ?_
  obtain ⟨r2, e1, hf⟩ := bd_e hf
  refine x_doneP (va_runS (As := [.long (Int32.toInt64 p2), .long 1, .long 20]) (rest := []) ⟨hx, hb, hml, hown, hts⟩ (wx_isIn l G hG h n (Int32.toInt64 p2) 1 20 r2 e1) (va_cwS 3 hts (lw_S q127 q128 q94 q129) rfl rfl rfl cdX0_isIn ⟨(Nat.le_of_ble_eq_true rfl), (Nat.le_of_ble_eq_true rfl)⟩) (x_preS hK hX _) rfl rfl hl.1 rfl (lv_room (Nat.le_of_ble_eq_true rfl)) dX0_draw_6 ⟨(Nat.le_of_ble_eq_true rfl), (Nat.le_of_ble_eq_true rfl)⟩) rfl ?_
  clear e1
  refine lv_if_ne (tgt := 14) hx hb dX0_draw_9 (by decide) (fun c3 => ?_) (fun c3 => ?_)
  · rw [if_neg c3] at hf
    refine lv_aload_n hx hb dX0_draw_14 rfl (lv_at hl 0 rfl) ?_
    refine x_get (ci := 0) (C := RX0) (T := TX0) (N := 16) hx hb hts in_X0 hown hK.1 hX rfl (hX.tg g0 (by decide)) (by decide) rfl 6 (Nat.le_of_ble_eq_true rfl) (hts _ q914) (fun _ h9 => h9) (hv_int rfl) dX0_draw_15 ?_
    refine lv_iload_n hx hb dX0_draw_18 rfl (lv_at hl 2 rfl) ?_
    refine lv_iadd hx hb dX0_draw_19 ?_
    refine lv_bipush (v := 48) hx hb dX0_draw_20 (by decide) ?_
    refine lv_icmp_le (tgt := 28) hx hb dX0_draw_22 (by decide) (fun c4 => ?_) (fun c4 => ?_)
    · rw [if_pos c4] at hf
      refine lv_aload_n hx hb dX0_draw_28 rfl (lv_at hl 0 rfl) ?_
      refine lv_iload_n hx hb dX0_draw_29 rfl (lv_at hl 1 rfl) ?_
      obtain ⟨h5, eh5, hf⟩ := st_e hf
      refine x_put (ci := 0) (C := RX0) (T := TX0) (N := 16) hx hb hts in_X0 tyX0 tyX0_ok nmX0 hown hK.1 hX rfl (hX.tg g0 (by decide)) (by decide) rfl 11 (Nat.le_of_ble_eq_true rfl) (hts _ q919) (fun _ h9 => h9) rfl rfl rfl (Put1.fI (x := p1) rfl) dX0_draw_30 (fun H locs hX => ?_)
      replace hX := hX.re eh5
      clear eh5
      refine lv_iconst (v := 0) hx hb dX0_draw_33 (by decide) ?_
      refine lv_istore_n (lv' := [(3, .int 0), (0, .ref o), (1, .int p1), (2, .int p2)]) hx hb dX0_draw_34 rfl hl (by decide) rfl (fun ls hl => ?_)
      exact B35 n p2 0 h5 _ _ _ hX (lv_sub hl [1, 3, 0] rfl) hf
    · rw [if_neg c4] at hf
      refine lv_bipush (v := (-3)) hx hb dX0_draw_25 (by decide) ?_
      obtain ⟨rfl, rfl⟩ := Prod.mk.inj (Option.some.inj hf)
      exact hret _ _ _ _ hX rfl dX0_draw_27
  · rw [if_pos c3] at hf
    refine lv_iconst (v := (-1)) hx hb dX0_draw_12 (by decide) ?_
    obtain ⟨rfl, rfl⟩ := Prod.mk.inj (Option.some.inj hf)
    exact hret _ _ _ _ hX rfl dX0_draw_13
theorem cdX0_verdict : yX0_verdict.cls ≠ "java/lang/invoke/MethodHandle" ∧ yX0_verdict.cls ≠ "java/lang/invoke/VarHandle" ∧ (parseMethodDescriptor yX0_verdict.desc).map (fun d => d.parameters.length) = some 2 := by decide +kernel
set_option maxHeartbeats 4000000 in
set_option maxRecDepth 100000 in
theorem wx_verdict (l : Launch) (G : Gt) (hG : XG G) (h : Hp) (n : Nat) (o : Nat) (p1 : Int32) (p2 : Int32) (r : Int32) (h1 : Hp) (hf : X_verdict n o p1 p2 h = some (r, h1)) : Met l yX0_verdict (ws_ yX0_verdict cX0_verdict 3 (some .int)) (rmm (423) 0 0 (13514)) (XP G [.ref o, .int p1, .int p2] h) (XQ G (some (.int r)) h h1) 0 0 (fre h) := by
  rw [X_verdict] at hf
  obtain ⟨g0, hf⟩ := gd_e hf
  refine metSi l (by decide) (Nat.le_of_ble_eq_true rfl) ?_
  intro p e s m args below meth c Q hx hb hts hown hnmd hml hinit hK hW hret ls hl
  have hown : s.vm.findClass RX0 = some m.cls := hown
  have hX := XX.start hW
  have hl : lv_has ls 3 [(0, .ref o), (1, .int p1), (2, .int p2)] := hl
  have B16 : ∀ (h_4 : Hp) (H : Heap) (locs : List Loc) (ls : Array Slot), XX G h s.heap h_4 H locs → lv_has ls 3 [(0, .ref o)] → X_verdict_b16 n o h_4 = some (r, h1) → W p l e (rmm (423) 0 0 (13514)) s m args below meth c H locs 0 0 Q (F0 m 16 ls []) := by
    intro h_4 H locs ls hX hl hf
    rw [X_verdict_b16] at hf
    refine lv_iconst (v := (-1)) hx hb dX0_verdict_16 (by decide) ?_
    obtain ⟨rfl, rfl⟩ := Prod.mk.inj (Option.some.inj hf)
    exact hret _ _ _ _ hX rfl dX0_verdict_17
  refine lv_aload_n hx hb dX0_verdict_0 rfl (lv_at hl 0 rfl) ?_
  refine lv_iload_n hx hb dX0_verdict_1 rfl (lv_at hl 1 rfl) ?_
  obtain ⟨r2, e1, hf⟩ := bd_e hf
  refine x_doneP (va_runV (b := o) (As := [.int p1]) (rest := []) ⟨hx, hb, hml, hown, hts⟩ (wx_isPromise l G hG h n o p1 r2 e1) (cwV 1 hts (lw_V q742 q744 qs33 q94 q745) rfl rfl rfl ⟨rfl, cdX0_isPromise⟩ ⟨(Nat.le_of_ble_eq_true rfl), (Nat.le_of_ble_eq_true rfl)⟩) (x_preV (ci := 0) (T := TX0) (N := 16) hK hX _ (hX.tg g0 (by decide)) (by decide) rfl) rfl rfl hl.1 rfl (lv_room (Nat.le_of_ble_eq_true rfl)) dX0_verdict_2 ⟨(Nat.le_of_ble_eq_true rfl), (Nat.le_of_ble_eq_true rfl)⟩) rfl ?_
  clear e1
  refine lv_if_eq (tgt := 16) hx hb dX0_verdict_5 (by decide) (fun c3 => ?_) (fun c3 => ?_)
  · rw [if_pos c3] at hf
    exact B16 h _ _ _ hX (lv_sub hl [0] rfl) hf
  · rw [if_neg c3] at hf
    refine lv_aload_n hx hb dX0_verdict_8 rfl (lv_at hl 0 rfl) ?_
    refine lv_iload_n hx hb dX0_verdict_9 rfl (lv_at hl 2 rfl) ?_
    obtain ⟨r6, e5, hf⟩ := bd_e hf
    refine x_doneP (va_runV (b := o) (As := [.int p2]) (rest := []) ⟨hx, hb, hml, hown, hts⟩ (wx_isTick l G hG h n o p2 r6 e5) (cwV 1 hts (lw_V q812 q814 qs38 q94 q815) rfl rfl rfl ⟨rfl, cdX0_isTick⟩ ⟨(Nat.le_of_ble_eq_true rfl), (Nat.le_of_ble_eq_true rfl)⟩) (x_preV (ci := 0) (T := TX0) (N := 16) hK hX _ (hX.tg g0 (by decide)) (by decide) rfl) rfl rfl hl.1 rfl (lv_room (Nat.le_of_ble_eq_true rfl)) dX0_verdict_10 ⟨(Nat.le_of_ble_eq_true rfl), (Nat.le_of_ble_eq_true rfl)⟩) rfl ?_
    clear e5
    refine lv_if_ne (tgt := 18) hx hb dX0_verdict_13 (by decide) (fun c7 => ?_) (fun c7 => ?_)
    · rw [if_neg c7] at hf
      refine lv_aload_n hx hb dX0_verdict_18 rfl (lv_at hl 0 rfl) ?_
      obtain ⟨h9, e8, hf⟩ := bd_e hf
      refine x_done (mc := 0) (ms := 0) (va_runV (b := o) (As := []) (rest := []) ⟨hx, hb, hml, hown, hts⟩ (wx_runsAll l G hG h n o h9 e8) (cwV 0 hts (lw_V q656 q658 qs23 q94 q659) rfl rfl rfl ⟨rfl, cdX0_runsAll⟩ ⟨(Nat.le_of_ble_eq_true rfl), (Nat.le_of_ble_eq_true rfl)⟩) (x_preV (ci := 0) (T := TX0) (N := 16) hK hX _ (hX.tg g0 (by decide)) (by decide) rfl) rfl rfl hl.1 rfl (lv_room (Nat.le_of_ble_eq_true rfl)) dX0_verdict_19 ⟨(Nat.le_of_ble_eq_true rfl), (Nat.le_of_ble_eq_true rfl)⟩) hX rfl (fun H locs hX => ?_)
      clear e8
      refine lv_aload_n hx hb dX0_verdict_22 rfl (lv_at hl 0 rfl) ?_
      refine x_get (ci := 0) (C := RX0) (T := TX0) (N := 16) hx hb hts in_X0 hown hK.1 hX rfl (hX.tg g0 (by decide)) (by decide) rfl 8 (Nat.le_of_ble_eq_true rfl) (hts _ q916) (fun _ h9 => h9) (hv_ref rfl) dX0_verdict_23 ?_
      refine lv_iload_n hx hb dX0_verdict_26 rfl (lv_at hl 1 rfl) ?_
      obtain ⟨a10, e11, hf⟩ := bd_e hf
      obtain ⟨g12, hf⟩ := gd_e hf
      obtain ⟨g13, hf⟩ := gd_e hf
      refine x_aald hx hb hK.1 hX (rf_some e11) 10 g12 (by decide) rfl rfl rfl g13 dX0_verdict_27 ?_
      refine lv_iload_n hx hb dX0_verdict_28 rfl (lv_at hl 2 rfl) ?_
      obtain ⟨a14, e15, hf⟩ := bd_e hf
      obtain ⟨g16, hf⟩ := gd_e hf
      obtain ⟨g17, hf⟩ := gd_e hf
      refine x_iald hx hb hK.1 hX (rf_some e15) g16 g17 dX0_verdict_29 ?_
      obtain ⟨rfl, rfl⟩ := Prod.mk.inj (Option.some.inj hf)
      exact hret _ _ _ _ hX rfl dX0_verdict_30
    · rw [if_pos c7] at hf
      exact B16 h _ _ _ hX (lv_sub hl [0] rfl) hf
theorem cdX0_decided : yX0_decided.cls ≠ "java/lang/invoke/MethodHandle" ∧ yX0_decided.cls ≠ "java/lang/invoke/VarHandle" ∧ (parseMethodDescriptor yX0_decided.desc).map (fun d => d.parameters.length) = some 2 := by decide +kernel
set_option maxHeartbeats 4000000 in
set_option maxRecDepth 100000 in
theorem wx_decided (l : Launch) (G : Gt) (hG : XG G) (h : Hp) (n : Nat) (o : Nat) (p1 : Int32) (p2 : Int32) (r : Int32) (h1 : Hp) (hf : X_decided n o p1 p2 h = some (r, h1)) : Met l yX0_decided (ws_ yX0_decided cX0_decided 3 (some .int)) (rmm (423) 0 0 (13514)) (XP G [.ref o, .int p1, .int p2] h) (XQ G (some (.int r)) h h1) 0 0 (fre h) := by
  rw [X_decided] at hf
  obtain ⟨g0, hf⟩ := gd_e hf
  refine metSi l (by decide) (Nat.le_of_ble_eq_true rfl) ?_
  intro p e s m args below meth c Q hx hb hts hown hnmd hml hinit hK hW hret ls hl
  have hown : s.vm.findClass RX0 = some m.cls := hown
  have hX := XX.start hW
  have hl : lv_has ls 3 [(0, .ref o), (1, .int p1), (2, .int p2)] := hl
  have B16 : ∀ (h_4 : Hp) (H : Heap) (locs : List Loc) (ls : Array Slot), XX G h s.heap h_4 H locs → lv_has ls 3 [(0, .ref o)] → X_decided_b16 n o h_4 = some (r, h1) → W p l e (rmm (423) 0 0 (13514)) s m args below meth c H locs 0 0 Q (F0 m 16 ls []) := by
    intro h_4 H locs ls hX hl hf
    rw [X_decided_b16] at hf
    refine lv_iconst (v := (-1)) hx hb dX0_decided_16 (by decide) ?_
    obtain ⟨rfl, rfl⟩ := Prod.mk.inj (Option.some.inj hf)
    exact hret _ _ _ _ hX rfl dX0_decided_17
  refine lv_aload_n hx hb dX0_decided_0 rfl (lv_at hl 0 rfl) ?_
  refine lv_iload_n hx hb dX0_decided_1 rfl (lv_at hl 1 rfl) ?_
  obtain ⟨r2, e1, hf⟩ := bd_e hf
  refine x_doneP (va_runV (b := o) (As := [.int p1]) (rest := []) ⟨hx, hb, hml, hown, hts⟩ (wx_isPromise l G hG h n o p1 r2 e1) (cwV 1 hts (lw_V q742 q744 qs33 q94 q745) rfl rfl rfl ⟨rfl, cdX0_isPromise⟩ ⟨(Nat.le_of_ble_eq_true rfl), (Nat.le_of_ble_eq_true rfl)⟩) (x_preV (ci := 0) (T := TX0) (N := 16) hK hX _ (hX.tg g0 (by decide)) (by decide) rfl) rfl rfl hl.1 rfl (lv_room (Nat.le_of_ble_eq_true rfl)) dX0_decided_2 ⟨(Nat.le_of_ble_eq_true rfl), (Nat.le_of_ble_eq_true rfl)⟩) rfl ?_
  clear e1
  refine lv_if_eq (tgt := 16) hx hb dX0_decided_5 (by decide) (fun c3 => ?_) (fun c3 => ?_)
  · rw [if_pos c3] at hf
    exact B16 h _ _ _ hX (lv_sub hl [0] rfl) hf
  · rw [if_neg c3] at hf
    refine lv_aload_n hx hb dX0_decided_8 rfl (lv_at hl 0 rfl) ?_
    refine lv_iload_n hx hb dX0_decided_9 rfl (lv_at hl 2 rfl) ?_
    obtain ⟨r6, e5, hf⟩ := bd_e hf
    refine x_doneP (va_runV (b := o) (As := [.int p2]) (rest := []) ⟨hx, hb, hml, hown, hts⟩ (wx_isTick l G hG h n o p2 r6 e5) (cwV 1 hts (lw_V q812 q814 qs38 q94 q815) rfl rfl rfl ⟨rfl, cdX0_isTick⟩ ⟨(Nat.le_of_ble_eq_true rfl), (Nat.le_of_ble_eq_true rfl)⟩) (x_preV (ci := 0) (T := TX0) (N := 16) hK hX _ (hX.tg g0 (by decide)) (by decide) rfl) rfl rfl hl.1 rfl (lv_room (Nat.le_of_ble_eq_true rfl)) dX0_decided_10 ⟨(Nat.le_of_ble_eq_true rfl), (Nat.le_of_ble_eq_true rfl)⟩) rfl ?_
    clear e5
    refine lv_if_ne (tgt := 18) hx hb dX0_decided_13 (by decide) (fun c7 => ?_) (fun c7 => ?_)
    · rw [if_neg c7] at hf
      refine lv_aload_n hx hb dX0_decided_18 rfl (lv_at hl 0 rfl) ?_
      obtain ⟨h9, e8, hf⟩ := bd_e hf
      refine x_done (mc := 0) (ms := 0) (va_runV (b := o) (As := []) (rest := []) ⟨hx, hb, hml, hown, hts⟩ (wx_runsAll l G hG h n o h9 e8) (cwV 0 hts (lw_V q656 q658 qs23 q94 q659) rfl rfl rfl ⟨rfl, cdX0_runsAll⟩ ⟨(Nat.le_of_ble_eq_true rfl), (Nat.le_of_ble_eq_true rfl)⟩) (x_preV (ci := 0) (T := TX0) (N := 16) hK hX _ (hX.tg g0 (by decide)) (by decide) rfl) rfl rfl hl.1 rfl (lv_room (Nat.le_of_ble_eq_true rfl)) dX0_decided_19 ⟨(Nat.le_of_ble_eq_true rfl), (Nat.le_of_ble_eq_true rfl)⟩) hX rfl (fun H locs hX => ?_)
      clear e8
      refine lv_aload_n hx hb dX0_decided_22 rfl (lv_at hl 0 rfl) ?_
      refine x_get (ci := 0) (C := RX0) (T := TX0) (N := 16) hx hb hts in_X0 hown hK.1 hX rfl (hX.tg g0 (by decide)) (by decide) rfl 9 (Nat.le_of_ble_eq_true rfl) (hts _ q917) (fun _ h9 => h9) (hv_ref rfl) dX0_decided_23 ?_
      refine lv_iload_n hx hb dX0_decided_26 rfl (lv_at hl 1 rfl) ?_
      obtain ⟨a10, e11, hf⟩ := bd_e hf
      obtain ⟨g12, hf⟩ := gd_e hf
      obtain ⟨g13, hf⟩ := gd_e hf
      refine x_aald hx hb hK.1 hX (rf_some e11) 10 g12 (by decide) rfl rfl rfl g13 dX0_decided_27 ?_
      refine lv_iload_n hx hb dX0_decided_28 rfl (lv_at hl 2 rfl) ?_
      obtain ⟨a14, e15, hf⟩ := bd_e hf
      obtain ⟨g16, hf⟩ := gd_e hf
      obtain ⟨g17, hf⟩ := gd_e hf
      refine x_iald hx hb hK.1 hX (rf_some e15) g16 g17 dX0_decided_29 ?_
      obtain ⟨rfl, rfl⟩ := Prod.mk.inj (Option.some.inj hf)
      exact hret _ _ _ _ hX rfl dX0_decided_30
    · rw [if_pos c7] at hf
      exact B16 h _ _ _ hX (lv_sub hl [0] rfl) hf
theorem cdX0_duties : yX0_duties.cls ≠ "java/lang/invoke/MethodHandle" ∧ yX0_duties.cls ≠ "java/lang/invoke/VarHandle" ∧ (parseMethodDescriptor yX0_duties.desc).map (fun d => d.parameters.length) = some 2 := by decide +kernel
set_option maxHeartbeats 4000000 in
set_option maxRecDepth 100000 in
theorem wx_duties (l : Launch) (G : Gt) (hG : XG G) (h : Hp) (n : Nat) (o : Nat) (p1 : Int32) (p2 : Int32) (r : Int32) (h1 : Hp) (hf : X_duties n o p1 p2 h = some (r, h1)) : Met l yX0_duties (ws_ yX0_duties cX0_duties 3 (some .int)) (rmm (423) 0 0 (13514)) (XP G [.ref o, .int p1, .int p2] h) (XQ G (some (.int r)) h h1) 0 0 (fre h) := by
  rw [X_duties] at hf
  obtain ⟨g0, hf⟩ := gd_e hf
  refine metSi l (by decide) (Nat.le_of_ble_eq_true rfl) ?_
  intro p e s m args below meth c Q hx hb hts hown hnmd hml hinit hK hW hret ls hl
  have hown : s.vm.findClass RX0 = some m.cls := hown
  have hX := XX.start hW
  have hl : lv_has ls 3 [(0, .ref o), (1, .int p1), (2, .int p2)] := hl
  have B16 : ∀ (h_4 : Hp) (H : Heap) (locs : List Loc) (ls : Array Slot), XX G h s.heap h_4 H locs → lv_has ls 3 [(0, .ref o)] → X_duties_b16 n o h_4 = some (r, h1) → W p l e (rmm (423) 0 0 (13514)) s m args below meth c H locs 0 0 Q (F0 m 16 ls []) := by
    intro h_4 H locs ls hX hl hf
    rw [X_duties_b16] at hf
    refine lv_iconst (v := (-1)) hx hb dX0_duties_16 (by decide) ?_
    obtain ⟨rfl, rfl⟩ := Prod.mk.inj (Option.some.inj hf)
    exact hret _ _ _ _ hX rfl dX0_duties_17
  refine lv_aload_n hx hb dX0_duties_0 rfl (lv_at hl 0 rfl) ?_
  refine lv_iload_n hx hb dX0_duties_1 rfl (lv_at hl 1 rfl) ?_
  obtain ⟨r2, e1, hf⟩ := bd_e hf
  refine x_doneP (va_runV (b := o) (As := [.int p1]) (rest := []) ⟨hx, hb, hml, hown, hts⟩ (wx_isPromise l G hG h n o p1 r2 e1) (cwV 1 hts (lw_V q742 q744 qs33 q94 q745) rfl rfl rfl ⟨rfl, cdX0_isPromise⟩ ⟨(Nat.le_of_ble_eq_true rfl), (Nat.le_of_ble_eq_true rfl)⟩) (x_preV (ci := 0) (T := TX0) (N := 16) hK hX _ (hX.tg g0 (by decide)) (by decide) rfl) rfl rfl hl.1 rfl (lv_room (Nat.le_of_ble_eq_true rfl)) dX0_duties_2 ⟨(Nat.le_of_ble_eq_true rfl), (Nat.le_of_ble_eq_true rfl)⟩) rfl ?_
  clear e1
  refine lv_if_eq (tgt := 16) hx hb dX0_duties_5 (by decide) (fun c3 => ?_) (fun c3 => ?_)
  · rw [if_pos c3] at hf
    exact B16 h _ _ _ hX (lv_sub hl [0] rfl) hf
  · rw [if_neg c3] at hf
    refine lv_aload_n hx hb dX0_duties_8 rfl (lv_at hl 0 rfl) ?_
    refine lv_iload_n hx hb dX0_duties_9 rfl (lv_at hl 2 rfl) ?_
    obtain ⟨r6, e5, hf⟩ := bd_e hf
    refine x_doneP (va_runV (b := o) (As := [.int p2]) (rest := []) ⟨hx, hb, hml, hown, hts⟩ (wx_isTick l G hG h n o p2 r6 e5) (cwV 1 hts (lw_V q812 q814 qs38 q94 q815) rfl rfl rfl ⟨rfl, cdX0_isTick⟩ ⟨(Nat.le_of_ble_eq_true rfl), (Nat.le_of_ble_eq_true rfl)⟩) (x_preV (ci := 0) (T := TX0) (N := 16) hK hX _ (hX.tg g0 (by decide)) (by decide) rfl) rfl rfl hl.1 rfl (lv_room (Nat.le_of_ble_eq_true rfl)) dX0_duties_10 ⟨(Nat.le_of_ble_eq_true rfl), (Nat.le_of_ble_eq_true rfl)⟩) rfl ?_
    clear e5
    refine lv_if_ne (tgt := 18) hx hb dX0_duties_13 (by decide) (fun c7 => ?_) (fun c7 => ?_)
    · rw [if_neg c7] at hf
      refine lv_aload_n hx hb dX0_duties_18 rfl (lv_at hl 0 rfl) ?_
      obtain ⟨h9, e8, hf⟩ := bd_e hf
      refine x_done (mc := 0) (ms := 0) (va_runV (b := o) (As := []) (rest := []) ⟨hx, hb, hml, hown, hts⟩ (wx_runsAll l G hG h n o h9 e8) (cwV 0 hts (lw_V q656 q658 qs23 q94 q659) rfl rfl rfl ⟨rfl, cdX0_runsAll⟩ ⟨(Nat.le_of_ble_eq_true rfl), (Nat.le_of_ble_eq_true rfl)⟩) (x_preV (ci := 0) (T := TX0) (N := 16) hK hX _ (hX.tg g0 (by decide)) (by decide) rfl) rfl rfl hl.1 rfl (lv_room (Nat.le_of_ble_eq_true rfl)) dX0_duties_19 ⟨(Nat.le_of_ble_eq_true rfl), (Nat.le_of_ble_eq_true rfl)⟩) hX rfl (fun H locs hX => ?_)
      clear e8
      refine lv_aload_n hx hb dX0_duties_22 rfl (lv_at hl 0 rfl) ?_
      refine lv_iload_n hx hb dX0_duties_23 rfl (lv_at hl 1 rfl) ?_
      refine lv_iload_n hx hb dX0_duties_24 rfl (lv_at hl 2 rfl) ?_
      obtain ⟨r11, e10, hf⟩ := bd_e hf
      refine x_doneP (va_runV (b := o) (As := [.int p1, .int p2]) (rest := []) ⟨hx, hb, hml, hown, hts⟩ (wx_dutiesOf l G hG h9 n o p1 p2 r11 e10) (cwV 2 hts (lw_V q734 q736 qs32 q94 q737) rfl rfl rfl ⟨rfl, cdX0_dutiesOf⟩ ⟨(Nat.le_of_ble_eq_true rfl), (Nat.le_of_ble_eq_true rfl)⟩) (x_preV (ci := 0) (T := TX0) (N := 16) hK hX _ (hX.tg g0 (by decide)) (by decide) rfl) rfl rfl hl.1 rfl (lv_room (Nat.le_of_ble_eq_true rfl)) dX0_duties_25 ⟨(Nat.le_of_ble_eq_true rfl), (Nat.le_of_ble_eq_true rfl)⟩) rfl ?_
      clear e10
      obtain ⟨rfl, rfl⟩ := Prod.mk.inj (Option.some.inj hf)
      exact hret _ _ _ _ hX rfl dX0_duties_28
    · rw [if_pos c7] at hf
      exact B16 h _ _ _ hX (lv_sub hl [0] rfl) hf
theorem cdX0_dutyAt : yX0_dutyAt.cls ≠ "java/lang/invoke/MethodHandle" ∧ yX0_dutyAt.cls ≠ "java/lang/invoke/VarHandle" ∧ (parseMethodDescriptor yX0_dutyAt.desc).map (fun d => d.parameters.length) = some 3 := by decide +kernel
set_option maxHeartbeats 4000000 in
set_option maxRecDepth 100000 in
theorem wx_dutyAt (l : Launch) (G : Gt) (hG : XG G) (h : Hp) (n : Nat) (o : Nat) (p1 : Int32) (p2 : Int32) (p3 : Int32) (r : Int32) (hf : X_dutyAt n o p1 p2 p3 h = some r) : Met l yX0_dutyAt (ws_ yX0_dutyAt cX0_dutyAt 6 (some .int)) (rmm (2) 0 0 (46)) (XP G [.ref o, .int p1, .int p2, .int p3] h) (XQp (some (.int r))) 0 0 (fun _ => False) := by
  rw [X_dutyAt] at hf
  obtain ⟨g0, hf⟩ := gd_e hf
  refine metPi l (by decide) (Nat.le_of_ble_eq_true rfl) ?_
  intro p e s m args below meth c Q hx hb hts hown hnmd hml hinit hK hW hret ls hl
  have hown : s.vm.findClass RX0 = some m.cls := hown
  have hX := XX.start hW
  have hl : lv_has ls 6 [(0, .ref o), (1, .int p1), (2, .int p2), (3, .int p3)] := hl
  have B42 : ∀ (K6 : Int32 → Int32 → Int32 → Int32 → Option (Int32)) (hK6 : ∀ (v1 : Int32) (v2 : Int32) (v4 : Int32) (v5 : Int32) (ls : Array Slot), lv_has ls 6 [(0, .ref o), (1, .int v1), (2, .int v2), (4, .int v4), (5, .int v5)] → K6 v1 v2 v4 v5 = some r → W p l e (rmm (2) 0 0 (46)) s m args below meth c s.heap [] 0 0 Q (F0 m 6 ls [])) (v1 : Int32) (v2 : Int32) (v4 : Int32) (v5 : Int32) (ls : Array Slot), lv_has ls 6 [(0, .ref o), (1, .int v1), (2, .int v2), (4, .int v4), (5, .int v5)] → X_dutyAt_b42 n o K6 h v1 v2 v4 v5 = some r → W p l e (rmm (2) 0 0 (46)) s m args below meth c s.heap [] 0 0 Q (F0 m 42 ls []) := by
    intro K6 hK6 v1 v2 v4 v5 ls hl hf
    rw [X_dutyAt_b42] at hf
    refine lv_iinc (v := (v5 + 1)) (lv' := [(5, .int (v5 + 1)), (0, .ref o), (1, .int v1), (2, .int v2), (4, .int v4)]) hx hb dX0_dutyAt_42 hl (k := 4) rfl rfl (by decide) rfl (fun ls hl => ?_)
    refine lv_goto (tgt := 6) hx hb dX0_dutyAt_45 (by decide) ?_
    exact hK6 v1 v2 v4 (v5 + 1) _ (lv_sub hl [1, 2, 3, 4, 0] rfl) hf
  have B6 : ∀ (f : Nat) (v1 : Int32) (v2 : Int32) (v4 : Int32) (v5 : Int32) (ls : Array Slot), lv_has ls 6 [(0, .ref o), (1, .int v1), (2, .int v2), (4, .int v4), (5, .int v5)] → X_dutyAt_b6 n o h f v1 v2 v4 v5 = some r → W p l e (rmm (2) 0 0 (46)) s m args below meth c s.heap [] 0 0 Q (F0 m 6 ls []) := by
    intro f
    induction f with
    | zero =>
      intro v1 v2 v4 v5 ls hl hf
      rw [X_dutyAt_b6] at hf
      cases hf
    | succ f hK6 =>
      intro v1 v2 v4 v5 ls hl hf
      rw [X_dutyAt_b6] at hf
      refine lv_iload hx hb dX0_dutyAt_6 (lv_at hl 4 rfl) ?_
      refine lv_aload_n hx hb dX0_dutyAt_8 rfl (lv_at hl 0 rfl) ?_
      refine x_get (ci := 0) (C := RX0) (T := TX0) (N := 16) hx hb hts in_X0 hown hK.1 hX rfl g0 (by decide) rfl 6 (Nat.le_of_ble_eq_true rfl) (hts _ q914) (fun _ h9 => h9) (hv_int rfl) dX0_dutyAt_9 ?_
      refine lv_icmp_ge (tgt := 48) hx hb dX0_dutyAt_12 (by decide) (fun c1 => ?_) (fun c1 => ?_)
      · rw [if_pos c1] at hf
        refine lv_bipush (v := (-4)) hx hb dX0_dutyAt_48 (by decide) ?_
        obtain rfl := Option.some.inj hf
        exact hret _ _ rfl dX0_dutyAt_50
      · rw [if_neg c1] at hf
        refine lv_aload_n hx hb dX0_dutyAt_15 rfl (lv_at hl 0 rfl) ?_
        refine lv_aload_n hx hb dX0_dutyAt_16 rfl (lv_at hl 0 rfl) ?_
        refine x_get (ci := 0) (C := RX0) (T := TX0) (N := 16) hx hb hts in_X0 hown hK.1 hX rfl g0 (by decide) rfl 3 (Nat.le_of_ble_eq_true rfl) (hts _ q911) (fun _ h9 => h9) (hv_ref rfl) dX0_dutyAt_17 ?_
        refine lv_iload_n hx hb dX0_dutyAt_20 rfl (lv_at hl 1 rfl) ?_
        obtain ⟨a2, e3, hf⟩ := bd_e hf
        obtain ⟨g4, hf⟩ := gd_e hf
        obtain ⟨g5, hf⟩ := gd_e hf
        refine x_aald hx hb hK.1 hX (rf_some e3) 7 g4 (by decide) rfl rfl rfl g5 dX0_dutyAt_21 ?_
        refine lv_iload_n hx hb dX0_dutyAt_22 rfl (lv_at hl 2 rfl) ?_
        refine lv_iload hx hb dX0_dutyAt_23 (lv_at hl 4 rfl) ?_
        obtain ⟨r7, e6, hf⟩ := bd_e hf
        refine x_doneP (va_runV (b := o) (As := [va_rf (hR h a2 (Int32.toNatClampNeg v1)), .int v2, .int v5]) (rest := []) ⟨hx, hb, hml, hown, hts⟩ (wx_isDuty l G hG h n o (hR h a2 (Int32.toNatClampNeg v1)) v2 v5 r7 e6) (cwV 3 hts (lw_V q723 q725 qs30 q94 q726) rfl rfl rfl ⟨rfl, cdX0_isDuty⟩ ⟨(Nat.le_of_ble_eq_true rfl), (Nat.le_of_ble_eq_true rfl)⟩) (x_preV (ci := 0) (T := TX0) (N := 16) hK hX _ g0 (by decide) rfl) rfl rfl hl.1 rfl (lv_room (Nat.le_of_ble_eq_true rfl)) dX0_dutyAt_25 ⟨(Nat.le_of_ble_eq_true rfl), (Nat.le_of_ble_eq_true rfl)⟩) rfl ?_
        clear e6
        refine lv_if_eq (tgt := 42) hx hb dX0_dutyAt_28 (by decide) (fun c8 => ?_) (fun c8 => ?_)
        · rw [if_pos c8] at hf
          exact B42 (X_dutyAt_b6 n o h f) hK6 v1 v2 v4 v5 _ (lv_sub hl [0, 1, 2, 3, 4] rfl) hf
        · rw [if_neg c8] at hf
          refine lv_iload hx hb dX0_dutyAt_31 (lv_at hl 3 rfl) ?_
          refine lv_if_ne (tgt := 39) hx hb dX0_dutyAt_33 (by decide) (fun c9 => ?_) (fun c9 => ?_)
          · rw [if_neg c9] at hf
            refine lv_iinc (v := (v4 + (-1))) (lv' := [(4, .int (v4 + (-1))), (0, .ref o), (1, .int v1), (2, .int v2), (5, .int v5)]) hx hb dX0_dutyAt_39 hl (k := 3) rfl rfl (by decide) rfl (fun ls hl => ?_)
            exact B42 (X_dutyAt_b6 n o h f) hK6 v1 v2 (v4 + (-1)) v5 _ (lv_sub hl [1, 2, 3, 0, 4] rfl) hf
          · rw [if_pos c9] at hf
            refine lv_iload hx hb dX0_dutyAt_36 (lv_at hl 4 rfl) ?_
            obtain rfl := Option.some.inj hf
            exact hret _ _ rfl dX0_dutyAt_38
  refine lv_iload_n hx hb dX0_dutyAt_0 rfl (lv_at hl 3 rfl) ?_
  refine lv_istore (lv' := [(4, .int p3), (0, .ref o), (1, .int p1), (2, .int p2), (3, .int p3)]) hx hb dX0_dutyAt_1 hl (by decide) rfl (fun ls hl => ?_)
  refine lv_iload_n hx hb dX0_dutyAt_3 rfl (lv_at hl 3 rfl) ?_
  refine lv_istore (lv' := [(5, .int p2), (4, .int p3), (0, .ref o), (1, .int p1), (2, .int p2), (3, .int p3)]) hx hb dX0_dutyAt_4 hl (by decide) rfl (fun ls hl => ?_)
  exact B6 n p1 p2 p3 p2 _ (lv_sub hl [2, 3, 4, 1, 0] rfl) hf
theorem cdX0_duty : yX0_duty.cls ≠ "java/lang/invoke/MethodHandle" ∧ yX0_duty.cls ≠ "java/lang/invoke/VarHandle" ∧ (parseMethodDescriptor yX0_duty.desc).map (fun d => d.parameters.length) = some 4 := by decide +kernel
set_option maxHeartbeats 4000000 in
set_option maxRecDepth 100000 in
theorem wx_duty (l : Launch) (G : Gt) (hG : XG G) (h : Hp) (n : Nat) (o : Nat) (p1 : Int32) (p2 : Int32) (p3 : Int32) (p4 : Int32) (r : Int32) (h1 : Hp) (hf : X_duty n o p1 p2 p3 p4 h = some (r, h1)) : Met l yX0_duty (ws_ yX0_duty cX0_duty 7 (some .int)) (rmm (423) 0 0 (13514)) (XP G [.ref o, .int p1, .int p2, .int p3, .int p4] h) (XQ G (some (.int r)) h h1) 0 0 (fre h) := by
  rw [X_duty] at hf
  obtain ⟨g0, hf⟩ := gd_e hf
  refine metSi l (by decide) (Nat.le_of_ble_eq_true rfl) ?_
  intro p e s m args below meth c Q hx hb hts hown hnmd hml hinit hK hW hret ls hl
  have hown : s.vm.findClass RX0 = some m.cls := hown
  have hX := XX.start hW
  have hl : lv_has ls 7 [(0, .ref o), (1, .int p1), (2, .int p2), (3, .int p3), (4, .int p4)] := hl
  have B33 : ∀ (h_4 : Hp) (H : Heap) (locs : List Loc) (ls : Array Slot), XX G h s.heap h_4 H locs → lv_has ls 7 [(0, .ref o)] → X_duty_b33 n o h_4 = some (r, h1) → W p l e (rmm (423) 0 0 (13514)) s m args below meth c H locs 0 0 Q (F0 m 33 ls []) := by
    intro h_4 H locs ls hX hl hf
    rw [X_duty_b33] at hf
    refine lv_iconst (v := (-1)) hx hb dX0_duty_33 (by decide) ?_
    obtain ⟨rfl, rfl⟩ := Prod.mk.inj (Option.some.inj hf)
    exact hret _ _ _ _ hX rfl dX0_duty_34
  refine lv_aload_n hx hb dX0_duty_0 rfl (lv_at hl 0 rfl) ?_
  refine lv_iload_n hx hb dX0_duty_1 rfl (lv_at hl 1 rfl) ?_
  obtain ⟨r2, e1, hf⟩ := bd_e hf
  refine x_doneP (va_runV (b := o) (As := [.int p1]) (rest := []) ⟨hx, hb, hml, hown, hts⟩ (wx_isPromise l G hG h n o p1 r2 e1) (cwV 1 hts (lw_V q742 q744 qs33 q94 q745) rfl rfl rfl ⟨rfl, cdX0_isPromise⟩ ⟨(Nat.le_of_ble_eq_true rfl), (Nat.le_of_ble_eq_true rfl)⟩) (x_preV (ci := 0) (T := TX0) (N := 16) hK hX _ (hX.tg g0 (by decide)) (by decide) rfl) rfl rfl hl.1 rfl (lv_room (Nat.le_of_ble_eq_true rfl)) dX0_duty_2 ⟨(Nat.le_of_ble_eq_true rfl), (Nat.le_of_ble_eq_true rfl)⟩) rfl ?_
  clear e1
  refine lv_if_eq (tgt := 33) hx hb dX0_duty_5 (by decide) (fun c3 => ?_) (fun c3 => ?_)
  · rw [if_pos c3] at hf
    exact B33 h _ _ _ hX (lv_sub hl [0] rfl) hf
  · rw [if_neg c3] at hf
    refine lv_aload_n hx hb dX0_duty_8 rfl (lv_at hl 0 rfl) ?_
    refine lv_iload_n hx hb dX0_duty_9 rfl (lv_at hl 2 rfl) ?_
    obtain ⟨r6, e5, hf⟩ := bd_e hf
    refine x_doneP (va_runV (b := o) (As := [.int p2]) (rest := []) ⟨hx, hb, hml, hown, hts⟩ (wx_isTick l G hG h n o p2 r6 e5) (cwV 1 hts (lw_V q812 q814 qs38 q94 q815) rfl rfl rfl ⟨rfl, cdX0_isTick⟩ ⟨(Nat.le_of_ble_eq_true rfl), (Nat.le_of_ble_eq_true rfl)⟩) (x_preV (ci := 0) (T := TX0) (N := 16) hK hX _ (hX.tg g0 (by decide)) (by decide) rfl) rfl rfl hl.1 rfl (lv_room (Nat.le_of_ble_eq_true rfl)) dX0_duty_10 ⟨(Nat.le_of_ble_eq_true rfl), (Nat.le_of_ble_eq_true rfl)⟩) rfl ?_
    clear e5
    refine lv_if_eq (tgt := 33) hx hb dX0_duty_13 (by decide) (fun c7 => ?_) (fun c7 => ?_)
    · rw [if_pos c7] at hf
      exact B33 h _ _ _ hX (lv_sub hl [0] rfl) hf
    · rw [if_neg c7] at hf
      refine lv_iload_n hx hb dX0_duty_16 rfl (lv_at hl 3 rfl) ?_
      refine lv_if_lt (tgt := 33) hx hb dX0_duty_17 (by decide) (fun c8 => ?_) (fun c8 => ?_)
      · rw [if_pos c8] at hf
        exact B33 h _ _ _ hX (lv_sub hl [0] rfl) hf
      · rw [if_neg c8] at hf
        refine lv_iload hx hb dX0_duty_20 (lv_at hl 4 rfl) ?_
        refine lv_i2l hx hb dX0_duty_22 rfl ?_
        refine lv_lconst (v := 0) hx hb dX0_duty_23 (by decide) ?_
        refine lv_ldc2 (v := 2) hx hb hown (hts _ q776) dX0_duty_24 ?_
        obtain ⟨r10, e9, hf⟩ := bd_e hf
        refine x_doneP (va_runS (As := [.long (Int32.toInt64 p4), .long 0, .long 2]) (rest := []) ⟨hx, hb, hml, hown, hts⟩ (wx_isIn l G hG h n (Int32.toInt64 p4) 0 2 r10 e9) (va_cwS 3 hts (lw_S q127 q128 q94 q129) rfl rfl rfl cdX0_isIn ⟨(Nat.le_of_ble_eq_true rfl), (Nat.le_of_ble_eq_true rfl)⟩) (x_preS hK hX _) rfl rfl hl.1 rfl (lv_room (Nat.le_of_ble_eq_true rfl)) dX0_duty_27 ⟨(Nat.le_of_ble_eq_true rfl), (Nat.le_of_ble_eq_true rfl)⟩) rfl ?_
        clear e9
        refine lv_if_ne (tgt := 35) hx hb dX0_duty_30 (by decide) (fun c11 => ?_) (fun c11 => ?_)
        · rw [if_neg c11] at hf
          refine lv_aload_n hx hb dX0_duty_35 rfl (lv_at hl 0 rfl) ?_
          obtain ⟨h13, e12, hf⟩ := bd_e hf
          refine x_done (mc := 0) (ms := 0) (va_runV (b := o) (As := []) (rest := []) ⟨hx, hb, hml, hown, hts⟩ (wx_runsAll l G hG h n o h13 e12) (cwV 0 hts (lw_V q656 q658 qs23 q94 q659) rfl rfl rfl ⟨rfl, cdX0_runsAll⟩ ⟨(Nat.le_of_ble_eq_true rfl), (Nat.le_of_ble_eq_true rfl)⟩) (x_preV (ci := 0) (T := TX0) (N := 16) hK hX _ (hX.tg g0 (by decide)) (by decide) rfl) rfl rfl hl.1 rfl (lv_room (Nat.le_of_ble_eq_true rfl)) dX0_duty_36 ⟨(Nat.le_of_ble_eq_true rfl), (Nat.le_of_ble_eq_true rfl)⟩) hX rfl (fun H locs hX => ?_)
          clear e12
          refine lv_aload_n hx hb dX0_duty_39 rfl (lv_at hl 0 rfl) ?_
          refine lv_iload_n hx hb dX0_duty_40 rfl (lv_at hl 1 rfl) ?_
          refine lv_iload_n hx hb dX0_duty_41 rfl (lv_at hl 2 rfl) ?_
          refine lv_iload_n hx hb dX0_duty_42 rfl (lv_at hl 3 rfl) ?_
          obtain ⟨r15, e14, hf⟩ := bd_e hf
          refine x_doneP (va_runV (b := o) (As := [.int p1, .int p2, .int p3]) (rest := []) ⟨hx, hb, hml, hown, hts⟩ (wx_dutyAt l G hG h13 n o p1 p2 p3 r15 e14) (cwV 3 hts (lw_V q850 q852 qs40 q94 q853) rfl rfl rfl ⟨rfl, cdX0_dutyAt⟩ ⟨(Nat.le_of_ble_eq_true rfl), (Nat.le_of_ble_eq_true rfl)⟩) (x_preV (ci := 0) (T := TX0) (N := 16) hK hX _ (hX.tg g0 (by decide)) (by decide) rfl) rfl rfl hl.1 rfl (lv_room (Nat.le_of_ble_eq_true rfl)) dX0_duty_43 ⟨(Nat.le_of_ble_eq_true rfl), (Nat.le_of_ble_eq_true rfl)⟩) rfl ?_
          clear e14
          refine lv_istore (lv' := [(5, .int r15), (0, .ref o), (1, .int p1), (2, .int p2), (3, .int p3), (4, .int p4)]) hx hb dX0_duty_46 hl (by decide) rfl (fun ls hl => ?_)
          refine lv_iload hx hb dX0_duty_48 (lv_at hl 0 rfl) ?_
          refine lv_bipush (v := (-4)) hx hb dX0_duty_50 (by decide) ?_
          refine lv_icmp_ne (tgt := 58) hx hb dX0_duty_52 (by decide) (fun c16 => ?_) (fun c16 => ?_)
          · rw [if_neg c16] at hf
            refine lv_aload_n hx hb dX0_duty_58 rfl (lv_at hl 1 rfl) ?_
            refine lv_aload_n hx hb dX0_duty_59 rfl (lv_at hl 1 rfl) ?_
            refine x_get (ci := 0) (C := RX0) (T := TX0) (N := 16) hx hb hts in_X0 hown hK.1 hX rfl (hX.tg g0 (by decide)) (by decide) rfl 3 (Nat.le_of_ble_eq_true rfl) (hts _ q911) (fun _ h9 => h9) (hv_ref rfl) dX0_duty_60 ?_
            refine lv_iload_n hx hb dX0_duty_63 rfl (lv_at hl 2 rfl) ?_
            obtain ⟨a17, e18, hf⟩ := bd_e hf
            obtain ⟨g19, hf⟩ := gd_e hf
            obtain ⟨g20, hf⟩ := gd_e hf
            refine x_aald hx hb hK.1 hX (rf_some e18) 7 g19 (by decide) rfl rfl rfl g20 dX0_duty_64 ?_
            refine lv_iload hx hb dX0_duty_65 (lv_at hl 0 rfl) ?_
            obtain ⟨r22, e21, hf⟩ := bd_e hf
            refine x_doneP (va_runV (b := o) (As := [va_rf (hR h13 a17 (Int32.toNatClampNeg p1)), .int r15]) (rest := []) ⟨hx, hb, hml, hown, hts⟩ (wx_dutyOf l G hG h13 n o (hR h13 a17 (Int32.toNatClampNeg p1)) r15 r22 e21) (cwV 2 hts (lw_V q678 q680 qs26 q94 q681) rfl rfl rfl ⟨rfl, cdX0_dutyOf⟩ ⟨(Nat.le_of_ble_eq_true rfl), (Nat.le_of_ble_eq_true rfl)⟩) (x_preV (ci := 0) (T := TX0) (N := 16) hK hX _ (hX.tg g0 (by decide)) (by decide) rfl) rfl rfl hl.1 rfl (lv_room (Nat.le_of_ble_eq_true rfl)) dX0_duty_67 ⟨(Nat.le_of_ble_eq_true rfl), (Nat.le_of_ble_eq_true rfl)⟩) rfl ?_
            clear e21
            refine lv_istore (lv' := [(6, .int r22), (5, .int r15), (0, .ref o), (1, .int p1), (2, .int p2), (3, .int p3), (4, .int p4)]) hx hb dX0_duty_70 hl (by decide) rfl (fun ls hl => ?_)
            refine lv_iload hx hb dX0_duty_72 (lv_at hl 6 rfl) ?_
            refine lv_if_ne (tgt := 82) hx hb dX0_duty_74 (by decide) (fun c23 => ?_) (fun c23 => ?_)
            · rw [if_neg c23] at hf
              refine lv_iload hx hb dX0_duty_82 (lv_at hl 6 rfl) ?_
              refine lv_iconst (v := 1) hx hb dX0_duty_84 (by decide) ?_
              refine lv_icmp_ne (tgt := 95) hx hb dX0_duty_85 (by decide) (fun c24 => ?_) (fun c24 => ?_)
              · rw [if_neg c24] at hf
                refine lv_iload hx hb dX0_duty_95 (lv_at hl 0 rfl) ?_
                refine lv_if_ne (tgt := 105) hx hb dX0_duty_97 (by decide) (fun c25 => ?_) (fun c25 => ?_)
                · rw [if_neg c25] at hf
                  refine lv_iload hx hb dX0_duty_105 (lv_at hl 1 rfl) ?_
                  refine lv_iload hx hb dX0_duty_107 (lv_at hl 0 rfl) ?_
                  refine lv_iconst (v := 2) hx hb dX0_duty_109 (by decide) ?_
                  refine lv_ishr hx hb dX0_duty_110 ?_
                  refine va_mmax hx hb (hml.trans hl.1.symm) hown (hts _ q791) (hts _ q441) (hts _ q108) (hts _ q442) (Nat.le_of_ble_eq_true rfl) (by show _ ≤ _; first | decide | (simp [rf_cat, cat_i, cat_l, cat_r, rmm]; done) | (simp [rf_cat, cat_i, cat_l, cat_r, rmm]; omega)) (by simp only [rmm]; omega) (by simp only [rmm]; omega) dX0_duty_111 ?_
                  obtain ⟨rfl, rfl⟩ := Prod.mk.inj (Option.some.inj hf)
                  exact hret _ _ _ _ hX rfl dX0_duty_114
                · rw [if_pos c25] at hf
                  refine lv_bipush (v := (-4)) hx hb dX0_duty_100 (by decide) ?_
                  refine lv_goto (tgt := 114) hx hb dX0_duty_102 (by decide) ?_
                  obtain ⟨rfl, rfl⟩ := Prod.mk.inj (Option.some.inj hf)
                  exact hret _ _ _ _ hX rfl dX0_duty_114
              · rw [if_pos c24] at hf
                refine lv_iload hx hb dX0_duty_88 (lv_at hl 0 rfl) ?_
                refine lv_iconst (v := 3) hx hb dX0_duty_90 (by decide) ?_
                refine lv_iand hx hb dX0_duty_91 ?_
                refine lv_goto (tgt := 114) hx hb dX0_duty_92 (by decide) ?_
                obtain ⟨rfl, rfl⟩ := Prod.mk.inj (Option.some.inj hf)
                exact hret _ _ _ _ hX rfl dX0_duty_114
            · rw [if_pos c23] at hf
              refine lv_iload hx hb dX0_duty_77 (lv_at hl 1 rfl) ?_
              refine lv_goto (tgt := 114) hx hb dX0_duty_79 (by decide) ?_
              obtain ⟨rfl, rfl⟩ := Prod.mk.inj (Option.some.inj hf)
              exact hret _ _ _ _ hX rfl dX0_duty_114
          · rw [if_pos c16] at hf
            refine lv_bipush (v := (-4)) hx hb dX0_duty_55 (by decide) ?_
            obtain ⟨rfl, rfl⟩ := Prod.mk.inj (Option.some.inj hf)
            exact hret _ _ _ _ hX rfl dX0_duty_57
        · rw [if_pos c11] at hf
          exact B33 h _ _ _ hX (lv_sub hl [0] rfl) hf
theorem cdX0_tries : yX0_tries.cls ≠ "java/lang/invoke/MethodHandle" ∧ yX0_tries.cls ≠ "java/lang/invoke/VarHandle" ∧ (parseMethodDescriptor yX0_tries.desc).map (fun d => d.parameters.length) = some 2 := by decide +kernel
set_option maxHeartbeats 4000000 in
set_option maxRecDepth 100000 in
theorem wx_tries (l : Launch) (G : Gt) (hG : XG G) (h : Hp) (n : Nat) (o : Nat) (p1 : Int32) (p2 : Int32) (r : Int32) (h1 : Hp) (hf : X_tries n o p1 p2 h = some (r, h1)) : Met l yX0_tries (ws_ yX0_tries cX0_tries 3 (some .int)) (rmm (423) 0 0 (13514)) (XP G [.ref o, .int p1, .int p2] h) (XQ G (some (.int r)) h h1) 0 0 (fre h) := by
  rw [X_tries] at hf
  obtain ⟨g0, hf⟩ := gd_e hf
  refine metSi l (by decide) (Nat.le_of_ble_eq_true rfl) ?_
  intro p e s m args below meth c Q hx hb hts hown hnmd hml hinit hK hW hret ls hl
  have hown : s.vm.findClass RX0 = some m.cls := hown
  have hX := XX.start hW
  have hl : lv_has ls 3 [(0, .ref o), (1, .int p1), (2, .int p2)] := hl
  have B20 : ∀ (h_4 : Hp) (H : Heap) (locs : List Loc) (ls : Array Slot), XX G h s.heap h_4 H locs → lv_has ls 3 [(0, .ref o)] → X_tries_b20 n o h_4 = some (r, h1) → W p l e (rmm (423) 0 0 (13514)) s m args below meth c H locs 0 0 Q (F0 m 20 ls []) := by
    intro h_4 H locs ls hX hl hf
    rw [X_tries_b20] at hf
    refine lv_iconst (v := (-1)) hx hb dX0_tries_20 (by decide) ?_
    obtain ⟨rfl, rfl⟩ := Prod.mk.inj (Option.some.inj hf)
    exact hret _ _ _ _ hX rfl dX0_tries_21
  refine lv_aload_n hx hb dX0_tries_0 rfl (lv_at hl 0 rfl) ?_
  refine lv_iload_n hx hb dX0_tries_1 rfl (lv_at hl 1 rfl) ?_
  obtain ⟨r2, e1, hf⟩ := bd_e hf
  refine x_doneP (va_runV (b := o) (As := [.int p1]) (rest := []) ⟨hx, hb, hml, hown, hts⟩ (wx_isPromise l G hG h n o p1 r2 e1) (cwV 1 hts (lw_V q742 q744 qs33 q94 q745) rfl rfl rfl ⟨rfl, cdX0_isPromise⟩ ⟨(Nat.le_of_ble_eq_true rfl), (Nat.le_of_ble_eq_true rfl)⟩) (x_preV (ci := 0) (T := TX0) (N := 16) hK hX _ (hX.tg g0 (by decide)) (by decide) rfl) rfl rfl hl.1 rfl (lv_room (Nat.le_of_ble_eq_true rfl)) dX0_tries_2 ⟨(Nat.le_of_ble_eq_true rfl), (Nat.le_of_ble_eq_true rfl)⟩) rfl ?_
  clear e1
  refine lv_if_eq (tgt := 20) hx hb dX0_tries_5 (by decide) (fun c3 => ?_) (fun c3 => ?_)
  · rw [if_pos c3] at hf
    exact B20 h _ _ _ hX (lv_sub hl [0] rfl) hf
  · rw [if_neg c3] at hf
    refine lv_iload_n hx hb dX0_tries_8 rfl (lv_at hl 2 rfl) ?_
    refine lv_i2l hx hb dX0_tries_9 rfl ?_
    refine lv_lconst (v := 0) hx hb dX0_tries_10 (by decide) ?_
    refine lv_ldc2 (v := 4) hx hb hown (hts _ q858) dX0_tries_11 ?_
    obtain ⟨r6, e5, hf⟩ := bd_e hf
    refine x_doneP (va_runS (As := [.long (Int32.toInt64 p2), .long 0, .long 4]) (rest := []) ⟨hx, hb, hml, hown, hts⟩ (wx_isIn l G hG h n (Int32.toInt64 p2) 0 4 r6 e5) (va_cwS 3 hts (lw_S q127 q128 q94 q129) rfl rfl rfl cdX0_isIn ⟨(Nat.le_of_ble_eq_true rfl), (Nat.le_of_ble_eq_true rfl)⟩) (x_preS hK hX _) rfl rfl hl.1 rfl (lv_room (Nat.le_of_ble_eq_true rfl)) dX0_tries_14 ⟨(Nat.le_of_ble_eq_true rfl), (Nat.le_of_ble_eq_true rfl)⟩) rfl ?_
    clear e5
    refine lv_if_ne (tgt := 22) hx hb dX0_tries_17 (by decide) (fun c7 => ?_) (fun c7 => ?_)
    · rw [if_neg c7] at hf
      refine lv_aload_n hx hb dX0_tries_22 rfl (lv_at hl 0 rfl) ?_
      obtain ⟨h9, e8, hf⟩ := bd_e hf
      refine x_done (mc := 0) (ms := 0) (va_runV (b := o) (As := []) (rest := []) ⟨hx, hb, hml, hown, hts⟩ (wx_runsAll l G hG h n o h9 e8) (cwV 0 hts (lw_V q656 q658 qs23 q94 q659) rfl rfl rfl ⟨rfl, cdX0_runsAll⟩ ⟨(Nat.le_of_ble_eq_true rfl), (Nat.le_of_ble_eq_true rfl)⟩) (x_preV (ci := 0) (T := TX0) (N := 16) hK hX _ (hX.tg g0 (by decide)) (by decide) rfl) rfl rfl hl.1 rfl (lv_room (Nat.le_of_ble_eq_true rfl)) dX0_tries_23 ⟨(Nat.le_of_ble_eq_true rfl), (Nat.le_of_ble_eq_true rfl)⟩) hX rfl (fun H locs hX => ?_)
      clear e8
      refine lv_aload_n hx hb dX0_tries_26 rfl (lv_at hl 0 rfl) ?_
      refine lv_iload_n hx hb dX0_tries_27 rfl (lv_at hl 1 rfl) ?_
      refine lv_iload_n hx hb dX0_tries_28 rfl (lv_at hl 2 rfl) ?_
      obtain ⟨r11, e10, hf⟩ := bd_e hf
      refine x_doneP (va_runV (b := o) (As := [.int p1, .int p2]) (rest := []) ⟨hx, hb, hml, hown, hts⟩ (wx_counted l G hG h9 n o p1 p2 r11 e10) (cwV 2 hts (lw_V q730 q732 qs31 q94 q733) rfl rfl rfl ⟨rfl, cdX0_counted⟩ ⟨(Nat.le_of_ble_eq_true rfl), (Nat.le_of_ble_eq_true rfl)⟩) (x_preV (ci := 0) (T := TX0) (N := 16) hK hX _ (hX.tg g0 (by decide)) (by decide) rfl) rfl rfl hl.1 rfl (lv_room (Nat.le_of_ble_eq_true rfl)) dX0_tries_29 ⟨(Nat.le_of_ble_eq_true rfl), (Nat.le_of_ble_eq_true rfl)⟩) rfl ?_
      clear e10
      obtain ⟨rfl, rfl⟩ := Prod.mk.inj (Option.some.inj hf)
      exact hret _ _ _ _ hX rfl dX0_tries_32
    · rw [if_pos c7] at hf
      exact B20 h _ _ _ hX (lv_sub hl [0] rfl) hf
