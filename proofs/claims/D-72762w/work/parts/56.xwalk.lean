/-! walks of the system (by program) -/
theorem cdX0_runsAll : yX0_runsAll.cls ≠ "java/lang/invoke/MethodHandle" ∧ yX0_runsAll.cls ≠ "java/lang/invoke/VarHandle" ∧ (parseMethodDescriptor yX0_runsAll.desc).map (fun d => d.parameters.length) = some 0 := by decide +kernel
set_option maxHeartbeats 4000000 in
set_option maxRecDepth 100000 in
theorem wx_runsAll (l : Launch) (G : Gt) (hG : XG G) (h : Hp) (n : Nat) (o : Nat) (h1 : Hp) (hf : X_runsAll n o h = some h1) : Met l yX0_runsAll (ws_ yX0_runsAll cX0_runsAll 2 none) (rmm (422) 0 0 (13493)) (XP G [.ref o] h) (XQ G none h h1) 0 0 (fre h) := by
  rw [X_runsAll] at hf
  obtain ⟨g0, hf⟩ := gd_e hf
  refine metSv l (by decide) (Nat.le_of_ble_eq_true rfl) ?_
  intro p e s m args below meth c Q hx hb hts hown hnmd hml hinit hK hW hret ls hl
  have hown : s.vm.findClass RX0 = some m.cls := hown
  have hX := XX.start hW
  have hl : lv_has ls 2 [(0, .ref o)] := hl
  have B15 : ∀ (f : Nat) (v1 : Int32) (h_3 : Hp) (H : Heap) (locs : List Loc) (ls : Array Slot), XX G h s.heap h_3 H locs → lv_has ls 2 [(0, .ref o), (1, .int v1)] → X_runsAll_b15 n o f v1 h_3 = some h1 → W p l e (rmm (422) 0 0 (13493)) s m args below meth c H locs 0 0 Q (F0 m 15 ls []) := by
    intro f
    induction f with
    | zero =>
      intro v1 h_3 H locs ls hX hl hf
      rw [X_runsAll_b15] at hf
      cases hf
    | succ f hK15 =>
      intro v1 h_3 H locs ls hX hl hf
      rw [X_runsAll_b15] at hf
      refine lv_iload_n hx hb dX0_runsAll_15 rfl (lv_at hl 1 rfl) ?_
      refine lv_aload_n hx hb dX0_runsAll_16 rfl (lv_at hl 0 rfl) ?_
      refine x_get (ci := 0) (C := RX0) (T := TX0) (N := 16) hx hb hts in_X0 hown hK.1 hX rfl (hX.tg g0 (by decide)) (by decide) rfl 4 (Nat.le_of_ble_eq_true rfl) (hts _ q912) (fun _ h9 => h9) (hv_int rfl) dX0_runsAll_17 ?_
      refine lv_icmp_ge (tgt := 64) hx hb dX0_runsAll_20 (by decide) (fun c4 => ?_) (fun c4 => ?_)
      · rw [if_pos c4] at hf
        obtain rfl := Option.some.inj hf
        exact hret _ _ _ _ hX dX0_runsAll_64
      · rw [if_neg c4] at hf
        refine lv_aload_n hx hb dX0_runsAll_23 rfl (lv_at hl 0 rfl) ?_
        refine lv_aload_n hx hb dX0_runsAll_24 rfl (lv_at hl 0 rfl) ?_
        refine x_get (ci := 0) (C := RX0) (T := TX0) (N := 16) hx hb hts in_X0 hown hK.1 hX rfl (hX.tg g0 (by decide)) (by decide) rfl 3 (Nat.le_of_ble_eq_true rfl) (hts _ q911) (fun _ h9 => h9) (hv_ref rfl) dX0_runsAll_25 ?_
        refine lv_iload_n hx hb dX0_runsAll_28 rfl (lv_at hl 1 rfl) ?_
        obtain ⟨a5, e6, hf⟩ := bd_e hf
        obtain ⟨g7, hf⟩ := gd_e hf
        obtain ⟨g8, hf⟩ := gd_e hf
        refine x_aald hx hb hK.1 hX (rf_some e6) 7 g7 (by decide) rfl rfl rfl g8 dX0_runsAll_29 ?_
        obtain ⟨a9, e10, hf⟩ := bd_e hf
        obtain ⟨g11, hf⟩ := gd_e hf
        refine x_getN (ci := 5) (C := RX5) (T := TX5) (N := 3) hx hb hts in_X5 hown hK.1 hX (rf_some e10) g11 (by decide) rfl 0 (Nat.le_of_ble_eq_true rfl) (hG.nw hK nq344) (fun _ h9 => h9) (hv_ref rfl) dX0_runsAll_30 ?_
        refine lv_iconst (v := 0) hx hb dX0_runsAll_33 (by decide) ?_
        obtain ⟨a12, e13, hf⟩ := bd_e hf
        obtain ⟨g14, hf⟩ := gd_e hf
        obtain ⟨g15, hf⟩ := gd_e hf
        refine x_aald hx hb hK.1 hX (rf_some e13) 6 g14 (by decide) rfl rfl rfl g15 dX0_runsAll_34 ?_
        obtain ⟨h17, e16, hf⟩ := bd_e hf
        refine x_done (mc := 0) (ms := 0) (va_runV (b := o) (As := [va_rf (hR h_3 a12 (Int32.toNatClampNeg 0))]) (rest := []) ⟨hx, hb, hml, hown, hts⟩ (wx_runs l G hG h_3 n o (hR h_3 a12 (Int32.toNatClampNeg 0)) h17 e16) (cwV 1 hts (lw_V q660 q662 qs24 q94 q663) rfl rfl rfl ⟨rfl, cdX0_runs⟩ ⟨(Nat.le_of_ble_eq_true rfl), (Nat.le_of_ble_eq_true rfl)⟩) (x_preV (ci := 0) (T := TX0) (N := 16) hK hX _ (hX.tg g0 (by decide)) (by decide) rfl) rfl rfl hl.1 rfl (lv_room (Nat.le_of_ble_eq_true rfl)) dX0_runsAll_35 ⟨(Nat.le_of_ble_eq_true rfl), (Nat.le_of_ble_eq_true rfl)⟩) hX rfl (fun H locs hX => ?_)
        clear e16
        refine lv_aload_n hx hb dX0_runsAll_38 rfl (lv_at hl 0 rfl) ?_
        refine lv_aload_n hx hb dX0_runsAll_39 rfl (lv_at hl 0 rfl) ?_
        refine x_get (ci := 0) (C := RX0) (T := TX0) (N := 16) hx hb hts in_X0 hown hK.1 hX rfl (hX.tg g0 (by decide)) (by decide) rfl 3 (Nat.le_of_ble_eq_true rfl) (hts _ q911) (fun _ h9 => h9) (hv_ref rfl) dX0_runsAll_40 ?_
        refine lv_iload_n hx hb dX0_runsAll_43 rfl (lv_at hl 1 rfl) ?_
        obtain ⟨a18, e19, hf⟩ := bd_e hf
        obtain ⟨g20, hf⟩ := gd_e hf
        obtain ⟨g21, hf⟩ := gd_e hf
        refine x_aald hx hb hK.1 hX (rf_some e19) 7 g20 (by decide) rfl rfl rfl g21 dX0_runsAll_44 ?_
        obtain ⟨a22, e23, hf⟩ := bd_e hf
        obtain ⟨g24, hf⟩ := gd_e hf
        refine x_getN (ci := 5) (C := RX5) (T := TX5) (N := 3) hx hb hts in_X5 hown hK.1 hX (rf_some e23) g24 (by decide) rfl 0 (Nat.le_of_ble_eq_true rfl) (hG.nw hK nq344) (fun _ h9 => h9) (hv_ref rfl) dX0_runsAll_45 ?_
        refine lv_iconst (v := 1) hx hb dX0_runsAll_48 (by decide) ?_
        obtain ⟨a25, e26, hf⟩ := bd_e hf
        obtain ⟨g27, hf⟩ := gd_e hf
        obtain ⟨g28, hf⟩ := gd_e hf
        refine x_aald hx hb hK.1 hX (rf_some e26) 6 g27 (by decide) rfl rfl rfl g28 dX0_runsAll_49 ?_
        obtain ⟨h30, e29, hf⟩ := bd_e hf
        refine x_done (mc := 0) (ms := 0) (va_runV (b := o) (As := [va_rf (hR h17 a25 (Int32.toNatClampNeg 1))]) (rest := []) ⟨hx, hb, hml, hown, hts⟩ (wx_runs l G hG h17 n o (hR h17 a25 (Int32.toNatClampNeg 1)) h30 e29) (cwV 1 hts (lw_V q660 q662 qs24 q94 q663) rfl rfl rfl ⟨rfl, cdX0_runs⟩ ⟨(Nat.le_of_ble_eq_true rfl), (Nat.le_of_ble_eq_true rfl)⟩) (x_preV (ci := 0) (T := TX0) (N := 16) hK hX _ (hX.tg g0 (by decide)) (by decide) rfl) rfl rfl hl.1 rfl (lv_room (Nat.le_of_ble_eq_true rfl)) dX0_runsAll_50 ⟨(Nat.le_of_ble_eq_true rfl), (Nat.le_of_ble_eq_true rfl)⟩) hX rfl (fun H locs hX => ?_)
        clear e29
        refine lv_aload_n hx hb dX0_runsAll_53 rfl (lv_at hl 0 rfl) ?_
        refine lv_iload_n hx hb dX0_runsAll_54 rfl (lv_at hl 1 rfl) ?_
        obtain ⟨h32, e31, hf⟩ := bd_e hf
        refine x_done (mc := 0) (ms := 0) (va_runV (b := o) (As := [.int v1]) (rest := []) ⟨hx, hb, hml, hown, hts⟩ (wx_judges l G hG h30 n o v1 h32 e31) (cwV 1 hts (lw_V q674 q676 qs25 q94 q677) rfl rfl rfl ⟨rfl, cdX0_judges⟩ ⟨(Nat.le_of_ble_eq_true rfl), (Nat.le_of_ble_eq_true rfl)⟩) (x_preV (ci := 0) (T := TX0) (N := 16) hK hX _ (hX.tg g0 (by decide)) (by decide) rfl) rfl rfl hl.1 rfl (lv_room (Nat.le_of_ble_eq_true rfl)) dX0_runsAll_55 ⟨(Nat.le_of_ble_eq_true rfl), (Nat.le_of_ble_eq_true rfl)⟩) hX rfl (fun H locs hX => ?_)
        clear e31
        refine lv_iinc (v := (v1 + 1)) (lv' := [(1, .int (v1 + 1)), (0, .ref o)]) hx hb dX0_runsAll_58 hl (k := 1) rfl rfl (by decide) rfl (fun ls hl => ?_)
        refine lv_goto (tgt := 15) hx hb dX0_runsAll_61 (by decide) ?_
        exact hK15 (v1 + 1) h32 _ _ _ hX (lv_sub hl [1, 0] rfl) hf
  refine lv_aload_n hx hb dX0_runsAll_0 rfl (lv_at hl 0 rfl) ?_
  refine x_get (ci := 0) (C := RX0) (T := TX0) (N := 16) hx hb hts in_X0 hown hK.1 hX rfl (hX.tg g0 (by decide)) (by decide) rfl 7 (Nat.le_of_ble_eq_true rfl) (hts _ q915) (fun _ h9 => h9) (hv_int rfl) dX0_runsAll_1 ?_
  refine lv_if_eq (tgt := 8) hx hb dX0_runsAll_4 (by decide) (fun c1 => ?_) (fun c1 => ?_)
  · rw [if_pos c1] at hf
    refine lv_aload_n hx hb dX0_runsAll_8 rfl (lv_at hl 0 rfl) ?_
    refine lv_iconst (v := 1) hx hb dX0_runsAll_9 (by decide) ?_
    obtain ⟨h2, eh2, hf⟩ := st_e hf
    refine x_put (ci := 0) (C := RX0) (T := TX0) (N := 16) hx hb hts in_X0 tyX0 tyX0_ok nmX0 hown hK.1 hX rfl (hX.tg g0 (by decide)) (by decide) rfl 7 (Nat.le_of_ble_eq_true rfl) (hts _ q915) (fun _ h9 => h9) rfl rfl rfl (Put1.fI (x := 1) rfl) dX0_runsAll_10 (fun H locs hX => ?_)
    replace hX := hX.re eh2
    clear eh2
    refine lv_iconst (v := 0) hx hb dX0_runsAll_13 (by decide) ?_
    refine lv_istore_n (lv' := [(1, .int 0), (0, .ref o)]) hx hb dX0_runsAll_14 rfl hl (by decide) rfl (fun ls hl => ?_)
    exact B15 n 0 h2 _ _ _ hX (lv_sub hl [1, 0] rfl) hf
  · rw [if_neg c1] at hf
    obtain rfl := Option.some.inj hf
    exact hret _ _ _ _ hX dX0_runsAll_7
theorem cdX0_dutiesOf : yX0_dutiesOf.cls ≠ "java/lang/invoke/MethodHandle" ∧ yX0_dutiesOf.cls ≠ "java/lang/invoke/VarHandle" ∧ (parseMethodDescriptor yX0_dutiesOf.desc).map (fun d => d.parameters.length) = some 2 := by decide +kernel
set_option maxHeartbeats 4000000 in
set_option maxRecDepth 100000 in
theorem wx_dutiesOf (l : Launch) (G : Gt) (hG : XG G) (h : Hp) (n : Nat) (o : Nat) (p1 : Int32) (p2 : Int32) (r : Int32) (hf : X_dutiesOf n o p1 p2 h = some r) : Met l yX0_dutiesOf (ws_ yX0_dutiesOf cX0_dutiesOf 5 (some .int)) (rmm (2) 0 0 (46)) (XP G [.ref o, .int p1, .int p2] h) (XQp (some (.int r))) 0 0 (fun _ => False) := by
  rw [X_dutiesOf] at hf
  obtain ⟨g0, hf⟩ := gd_e hf
  refine metPi l (by decide) (Nat.le_of_ble_eq_true rfl) ?_
  intro p e s m args below meth c Q hx hb hts hown hnmd hml hinit hK hW hret ls hl
  have hown : s.vm.findClass RX0 = some m.cls := hown
  have hX := XX.start hW
  have hl : lv_has ls 5 [(0, .ref o), (1, .int p1), (2, .int p2)] := hl
  have B36 : ∀ (K5 : Int32 → Int32 → Int32 → Int32 → Option (Int32)) (hK5 : ∀ (v1 : Int32) (v2 : Int32) (v3 : Int32) (v4 : Int32) (ls : Array Slot), lv_has ls 5 [(0, .ref o), (1, .int v1), (2, .int v2), (3, .int v3), (4, .int v4)] → K5 v1 v2 v3 v4 = some r → W p l e (rmm (2) 0 0 (46)) s m args below meth c s.heap [] 0 0 Q (F0 m 5 ls [])) (v1 : Int32) (v2 : Int32) (v4 : Int32) (t0 : Int32) (t1 : Int32) (ls : Array Slot), lv_has ls 5 [(0, .ref o), (1, .int v1), (2, .int v2), (4, .int v4)] → X_dutiesOf_b36 n o K5 h v1 v2 v4 t0 t1 = some r → W p l e (rmm (2) 0 0 (46)) s m args below meth c s.heap [] 0 0 Q (F0 m 36 ls [.int t0, .int t1]) := by
    intro K5 hK5 v1 v2 v4 t0 t1 ls hl hf
    rw [X_dutiesOf_b36] at hf
    refine lv_iadd hx hb dX0_dutiesOf_36 ?_
    refine lv_istore_n (lv' := [(3, .int (t1 + t0)), (0, .ref o), (1, .int v1), (2, .int v2), (4, .int v4)]) hx hb dX0_dutiesOf_37 rfl hl (by decide) rfl (fun ls hl => ?_)
    refine lv_iinc (v := (v4 + 1)) (lv' := [(4, .int (v4 + 1)), (3, .int (t1 + t0)), (0, .ref o), (1, .int v1), (2, .int v2)]) hx hb dX0_dutiesOf_38 hl (k := 4) rfl rfl (by decide) rfl (fun ls hl => ?_)
    refine lv_goto (tgt := 5) hx hb dX0_dutiesOf_41 (by decide) ?_
    exact hK5 v1 v2 (t1 + t0) (v4 + 1) _ (lv_sub hl [2, 3, 4, 1, 0] rfl) hf
  have B5 : ∀ (f : Nat) (v1 : Int32) (v2 : Int32) (v3 : Int32) (v4 : Int32) (ls : Array Slot), lv_has ls 5 [(0, .ref o), (1, .int v1), (2, .int v2), (3, .int v3), (4, .int v4)] → X_dutiesOf_b5 n o h f v1 v2 v3 v4 = some r → W p l e (rmm (2) 0 0 (46)) s m args below meth c s.heap [] 0 0 Q (F0 m 5 ls []) := by
    intro f
    induction f with
    | zero =>
      intro v1 v2 v3 v4 ls hl hf
      rw [X_dutiesOf_b5] at hf
      cases hf
    | succ f hK5 =>
      intro v1 v2 v3 v4 ls hl hf
      rw [X_dutiesOf_b5] at hf
      refine lv_iload hx hb dX0_dutiesOf_5 (lv_at hl 4 rfl) ?_
      refine lv_aload_n hx hb dX0_dutiesOf_7 rfl (lv_at hl 0 rfl) ?_
      refine x_get (ci := 0) (C := RX0) (T := TX0) (N := 16) hx hb hts in_X0 hown hK.1 hX rfl g0 (by decide) rfl 6 (Nat.le_of_ble_eq_true rfl) (hts _ q914) (fun _ h9 => h9) (hv_int rfl) dX0_dutiesOf_8 ?_
      refine lv_icmp_ge (tgt := 44) hx hb dX0_dutiesOf_11 (by decide) (fun c1 => ?_) (fun c1 => ?_)
      · rw [if_pos c1] at hf
        refine lv_iload_n hx hb dX0_dutiesOf_44 rfl (lv_at hl 3 rfl) ?_
        obtain rfl := Option.some.inj hf
        exact hret _ _ rfl dX0_dutiesOf_45
      · rw [if_neg c1] at hf
        refine lv_iload_n hx hb dX0_dutiesOf_14 rfl (lv_at hl 3 rfl) ?_
        refine lv_aload_n hx hb dX0_dutiesOf_15 rfl (lv_at hl 0 rfl) ?_
        refine lv_aload_n hx hb dX0_dutiesOf_16 rfl (lv_at hl 0 rfl) ?_
        refine x_get (ci := 0) (C := RX0) (T := TX0) (N := 16) hx hb hts in_X0 hown hK.1 hX rfl g0 (by decide) rfl 3 (Nat.le_of_ble_eq_true rfl) (hts _ q911) (fun _ h9 => h9) (hv_ref rfl) dX0_dutiesOf_17 ?_
        refine lv_iload_n hx hb dX0_dutiesOf_20 rfl (lv_at hl 1 rfl) ?_
        obtain ⟨a2, e3, hf⟩ := bd_e hf
        obtain ⟨g4, hf⟩ := gd_e hf
        obtain ⟨g5, hf⟩ := gd_e hf
        refine x_aald hx hb hK.1 hX (rf_some e3) 7 g4 (by decide) rfl rfl rfl g5 dX0_dutiesOf_21 ?_
        refine lv_iload_n hx hb dX0_dutiesOf_22 rfl (lv_at hl 2 rfl) ?_
        refine lv_iload hx hb dX0_dutiesOf_23 (lv_at hl 4 rfl) ?_
        obtain ⟨r7, e6, hf⟩ := bd_e hf
        refine x_doneP (va_runV (b := o) (As := [va_rf (hR h a2 (Int32.toNatClampNeg v1)), .int v2, .int v4]) (rest := [.int v3]) ⟨hx, hb, hml, hown, hts⟩ (wx_isDuty l G hG h n o (hR h a2 (Int32.toNatClampNeg v1)) v2 v4 r7 e6) (cwV 3 hts (lw_V q723 q725 qs30 q94 q726) rfl rfl rfl ⟨rfl, cdX0_isDuty⟩ ⟨(Nat.le_of_ble_eq_true rfl), (Nat.le_of_ble_eq_true rfl)⟩) (x_preV (ci := 0) (T := TX0) (N := 16) hK hX _ g0 (by decide) rfl) rfl rfl hl.1 rfl (lv_room (Nat.le_of_ble_eq_true rfl)) dX0_dutiesOf_25 ⟨(Nat.le_of_ble_eq_true rfl), (Nat.le_of_ble_eq_true rfl)⟩) rfl ?_
        clear e6
        refine lv_if_eq (tgt := 35) hx hb dX0_dutiesOf_28 (by decide) (fun c8 => ?_) (fun c8 => ?_)
        · rw [if_pos c8] at hf
          refine lv_iconst (v := 0) hx hb dX0_dutiesOf_35 (by decide) ?_
          exact B36 (X_dutiesOf_b5 n o h f) hK5 v1 v2 v4 0 v3 _ (lv_sub hl [0, 1, 2, 4] rfl) hf
        · rw [if_neg c8] at hf
          refine lv_iconst (v := 1) hx hb dX0_dutiesOf_31 (by decide) ?_
          refine lv_goto (tgt := 36) hx hb dX0_dutiesOf_32 (by decide) ?_
          exact B36 (X_dutiesOf_b5 n o h f) hK5 v1 v2 v4 1 v3 _ (lv_sub hl [0, 1, 2, 4] rfl) hf
  refine lv_iconst (v := 0) hx hb dX0_dutiesOf_0 (by decide) ?_
  refine lv_istore_n (lv' := [(3, .int 0), (0, .ref o), (1, .int p1), (2, .int p2)]) hx hb dX0_dutiesOf_1 rfl hl (by decide) rfl (fun ls hl => ?_)
  refine lv_iload_n hx hb dX0_dutiesOf_2 rfl (lv_at hl 3 rfl) ?_
  refine lv_istore (lv' := [(4, .int p2), (3, .int 0), (0, .ref o), (1, .int p1), (2, .int p2)]) hx hb dX0_dutiesOf_3 hl (by decide) rfl (fun ls hl => ?_)
  exact B5 n p1 p2 0 p2 _ (lv_sub hl [2, 3, 4, 1, 0] rfl) hf
theorem cdX0_counted : yX0_counted.cls ≠ "java/lang/invoke/MethodHandle" ∧ yX0_counted.cls ≠ "java/lang/invoke/VarHandle" ∧ (parseMethodDescriptor yX0_counted.desc).map (fun d => d.parameters.length) = some 2 := by decide +kernel
set_option maxHeartbeats 4000000 in
set_option maxRecDepth 100000 in
theorem wx_counted (l : Launch) (G : Gt) (hG : XG G) (h : Hp) (n : Nat) (o : Nat) (p1 : Int32) (p2 : Int32) (r : Int32) (hf : X_counted n o p1 p2 h = some r) : Met l yX0_counted (ws_ yX0_counted cX0_counted 5 (some .int)) (rmm (3) 0 0 (70)) (XP G [.ref o, .int p1, .int p2] h) (XQp (some (.int r))) 0 0 (fun _ => False) := by
  rw [X_counted] at hf
  obtain ⟨g0, hf⟩ := gd_e hf
  refine metPi l (by decide) (Nat.le_of_ble_eq_true rfl) ?_
  intro p e s m args below meth c Q hx hb hts hown hnmd hml hinit hK hW hret ls hl
  have hown : s.vm.findClass RX0 = some m.cls := hown
  have hX := XX.start hW
  have hl : lv_has ls 5 [(0, .ref o), (1, .int p1), (2, .int p2)] := hl
  have B48 : ∀ (K5 : Int32 → Int32 → Int32 → Int32 → Option (Int32)) (hK5 : ∀ (v1 : Int32) (v2 : Int32) (v3 : Int32) (v4 : Int32) (ls : Array Slot), lv_has ls 5 [(0, .ref o), (1, .int v1), (2, .int v2), (3, .int v3), (4, .int v4)] → K5 v1 v2 v3 v4 = some r → W p l e (rmm (3) 0 0 (70)) s m args below meth c s.heap [] 0 0 Q (F0 m 5 ls [])) (v1 : Int32) (v2 : Int32) (v4 : Int32) (t0 : Int32) (t1 : Int32) (ls : Array Slot), lv_has ls 5 [(0, .ref o), (1, .int v1), (2, .int v2), (4, .int v4)] → X_counted_b48 n o K5 h v1 v2 v4 t0 t1 = some r → W p l e (rmm (3) 0 0 (70)) s m args below meth c s.heap [] 0 0 Q (F0 m 48 ls [.int t0, .int t1]) := by
    intro K5 hK5 v1 v2 v4 t0 t1 ls hl hf
    rw [X_counted_b48] at hf
    refine lv_iadd hx hb dX0_counted_48 ?_
    refine lv_istore_n (lv' := [(3, .int (t1 + t0)), (0, .ref o), (1, .int v1), (2, .int v2), (4, .int v4)]) hx hb dX0_counted_49 rfl hl (by decide) rfl (fun ls hl => ?_)
    refine lv_iinc (v := (v4 + 1)) (lv' := [(4, .int (v4 + 1)), (3, .int (t1 + t0)), (0, .ref o), (1, .int v1), (2, .int v2)]) hx hb dX0_counted_50 hl (k := 4) rfl rfl (by decide) rfl (fun ls hl => ?_)
    refine lv_goto (tgt := 5) hx hb dX0_counted_53 (by decide) ?_
    exact hK5 v1 v2 (t1 + t0) (v4 + 1) _ (lv_sub hl [2, 3, 4, 1, 0] rfl) hf
  have B5 : ∀ (f : Nat) (v1 : Int32) (v2 : Int32) (v3 : Int32) (v4 : Int32) (ls : Array Slot), lv_has ls 5 [(0, .ref o), (1, .int v1), (2, .int v2), (3, .int v3), (4, .int v4)] → X_counted_b5 n o h f v1 v2 v3 v4 = some r → W p l e (rmm (3) 0 0 (70)) s m args below meth c s.heap [] 0 0 Q (F0 m 5 ls []) := by
    intro f
    induction f with
    | zero =>
      intro v1 v2 v3 v4 ls hl hf
      rw [X_counted_b5] at hf
      cases hf
    | succ f hK5 =>
      intro v1 v2 v3 v4 ls hl hf
      rw [X_counted_b5] at hf
      refine lv_iload hx hb dX0_counted_5 (lv_at hl 4 rfl) ?_
      refine lv_aload_n hx hb dX0_counted_7 rfl (lv_at hl 0 rfl) ?_
      refine x_get (ci := 0) (C := RX0) (T := TX0) (N := 16) hx hb hts in_X0 hown hK.1 hX rfl g0 (by decide) rfl 6 (Nat.le_of_ble_eq_true rfl) (hts _ q914) (fun _ h9 => h9) (hv_int rfl) dX0_counted_8 ?_
      refine lv_icmp_ge (tgt := 56) hx hb dX0_counted_11 (by decide) (fun c1 => ?_) (fun c1 => ?_)
      · rw [if_pos c1] at hf
        refine lv_iload_n hx hb dX0_counted_56 rfl (lv_at hl 3 rfl) ?_
        obtain rfl := Option.some.inj hf
        exact hret _ _ rfl dX0_counted_57
      · rw [if_neg c1] at hf
        refine lv_iload_n hx hb dX0_counted_14 rfl (lv_at hl 3 rfl) ?_
        refine lv_iload_n hx hb dX0_counted_15 rfl (lv_at hl 2 rfl) ?_
        refine lv_iconst (v := 5) hx hb dX0_counted_16 (by decide) ?_
        refine lv_icmp_ne (tgt := 30) hx hb dX0_counted_17 (by decide) (fun c2 => ?_) (fun c2 => ?_)
        · rw [if_neg c2] at hf
          refine lv_aload_n hx hb dX0_counted_30 rfl (lv_at hl 0 rfl) ?_
          refine x_get (ci := 0) (C := RX0) (T := TX0) (N := 16) hx hb hts in_X0 hown hK.1 hX rfl g0 (by decide) rfl 8 (Nat.le_of_ble_eq_true rfl) (hts _ q916) (fun _ h9 => h9) (hv_ref rfl) dX0_counted_31 ?_
          refine lv_iload_n hx hb dX0_counted_34 rfl (lv_at hl 1 rfl) ?_
          obtain ⟨a3, e4, hf⟩ := bd_e hf
          obtain ⟨g5, hf⟩ := gd_e hf
          obtain ⟨g6, hf⟩ := gd_e hf
          refine x_aald hx hb hK.1 hX (rf_some e4) 10 g5 (by decide) rfl rfl rfl g6 dX0_counted_35 ?_
          refine lv_iload hx hb dX0_counted_36 (lv_at hl 4 rfl) ?_
          obtain ⟨a7, e8, hf⟩ := bd_e hf
          obtain ⟨g9, hf⟩ := gd_e hf
          obtain ⟨g10, hf⟩ := gd_e hf
          refine x_iald hx hb hK.1 hX (rf_some e8) g9 g10 dX0_counted_38 ?_
          refine lv_iload_n hx hb dX0_counted_39 rfl (lv_at hl 2 rfl) ?_
          refine lv_icmp_ne (tgt := 47) hx hb dX0_counted_40 (by decide) (fun c11 => ?_) (fun c11 => ?_)
          · rw [if_neg c11] at hf
            refine lv_iconst (v := 0) hx hb dX0_counted_47 (by decide) ?_
            exact B48 (X_counted_b5 n o h f) hK5 v1 v2 v4 0 v3 _ (lv_sub hl [0, 1, 2, 4] rfl) hf
          · rw [if_pos c11] at hf
            refine lv_iconst (v := 1) hx hb dX0_counted_43 (by decide) ?_
            refine lv_goto (tgt := 48) hx hb dX0_counted_44 (by decide) ?_
            exact B48 (X_counted_b5 n o h f) hK5 v1 v2 v4 1 v3 _ (lv_sub hl [0, 1, 2, 4] rfl) hf
        · rw [if_pos c2] at hf
          refine lv_aload_n hx hb dX0_counted_20 rfl (lv_at hl 0 rfl) ?_
          refine lv_iload_n hx hb dX0_counted_21 rfl (lv_at hl 1 rfl) ?_
          refine lv_iload hx hb dX0_counted_22 (lv_at hl 4 rfl) ?_
          obtain ⟨r13, e12, hf⟩ := bd_e hf
          refine x_doneP (va_runV (b := o) (As := [.int v1, .int v4]) (rest := [.int v3]) ⟨hx, hb, hml, hown, hts⟩ (wx_dutiesOf l G hG h n o v1 v4 r13 e12) (cwV 2 hts (lw_V q734 q736 qs32 q94 q737) rfl rfl rfl ⟨rfl, cdX0_dutiesOf⟩ ⟨(Nat.le_of_ble_eq_true rfl), (Nat.le_of_ble_eq_true rfl)⟩) (x_preV (ci := 0) (T := TX0) (N := 16) hK hX _ g0 (by decide) rfl) rfl rfl hl.1 rfl (lv_room (Nat.le_of_ble_eq_true rfl)) dX0_counted_24 ⟨(Nat.le_of_ble_eq_true rfl), (Nat.le_of_ble_eq_true rfl)⟩) rfl ?_
          clear e12
          refine lv_goto (tgt := 48) hx hb dX0_counted_27 (by decide) ?_
          exact B48 (X_counted_b5 n o h f) hK5 v1 v2 v4 r13 v3 _ (lv_sub hl [0, 1, 2, 4] rfl) hf
  refine lv_iconst (v := 0) hx hb dX0_counted_0 (by decide) ?_
  refine lv_istore_n (lv' := [(3, .int 0), (0, .ref o), (1, .int p1), (2, .int p2)]) hx hb dX0_counted_1 rfl hl (by decide) rfl (fun ls hl => ?_)
  refine lv_iconst (v := 0) hx hb dX0_counted_2 (by decide) ?_
  refine lv_istore (lv' := [(4, .int 0), (3, .int 0), (0, .ref o), (1, .int p1), (2, .int p2)]) hx hb dX0_counted_3 hl (by decide) rfl (fun ls hl => ?_)
  exact B5 n p1 p2 0 0 _ (lv_sub hl [2, 3, 4, 1, 0] rfl) hf
theorem cdX0_countedAll : yX0_countedAll.cls ≠ "java/lang/invoke/MethodHandle" ∧ yX0_countedAll.cls ≠ "java/lang/invoke/VarHandle" ∧ (parseMethodDescriptor yX0_countedAll.desc).map (fun d => d.parameters.length) = some 1 := by decide +kernel
set_option maxHeartbeats 4000000 in
set_option maxRecDepth 100000 in
theorem wx_countedAll (l : Launch) (G : Gt) (hG : XG G) (h : Hp) (n : Nat) (o : Nat) (p1 : Int32) (r : Int32) (h1 : Hp) (hf : X_countedAll n o p1 h = some (r, h1)) : Met l yX0_countedAll (ws_ yX0_countedAll cX0_countedAll 4 (some .int)) (rmm (423) 0 0 (13514)) (XP G [.ref o, .int p1] h) (XQ G (some (.int r)) h h1) 0 0 (fre h) := by
  rw [X_countedAll] at hf
  obtain ⟨g0, hf⟩ := gd_e hf
  refine metSi l (by decide) (Nat.le_of_ble_eq_true rfl) ?_
  intro p e s m args below meth c Q hx hb hts hown hnmd hml hinit hK hW hret ls hl
  have hown : s.vm.findClass RX0 = some m.cls := hown
  have hX := XX.start hW
  have hl : lv_has ls 4 [(0, .ref o), (1, .int p1)] := hl
  have B8 : ∀ (f : Nat) (v1 : Int32) (v2 : Int32) (v3 : Int32) (h_3 : Hp) (H : Heap) (locs : List Loc) (ls : Array Slot), XX G h s.heap h_3 H locs → lv_has ls 4 [(0, .ref o), (1, .int v1), (2, .int v2), (3, .int v3)] → X_countedAll_b8 n o f v1 v2 v3 h_3 = some (r, h1) → W p l e (rmm (423) 0 0 (13514)) s m args below meth c H locs 0 0 Q (F0 m 8 ls []) := by
    intro f
    induction f with
    | zero =>
      intro v1 v2 v3 h_3 H locs ls hX hl hf
      rw [X_countedAll_b8] at hf
      cases hf
    | succ f hK8 =>
      intro v1 v2 v3 h_3 H locs ls hX hl hf
      rw [X_countedAll_b8] at hf
      refine lv_iload_n hx hb dX0_countedAll_8 rfl (lv_at hl 3 rfl) ?_
      refine lv_aload_n hx hb dX0_countedAll_9 rfl (lv_at hl 0 rfl) ?_
      refine x_get (ci := 0) (C := RX0) (T := TX0) (N := 16) hx hb hts in_X0 hown hK.1 hX rfl (hX.tg g0 (by decide)) (by decide) rfl 4 (Nat.le_of_ble_eq_true rfl) (hts _ q912) (fun _ h9 => h9) (hv_int rfl) dX0_countedAll_10 ?_
      refine lv_icmp_ge (tgt := 31) hx hb dX0_countedAll_13 (by decide) (fun c4 => ?_) (fun c4 => ?_)
      · rw [if_pos c4] at hf
        refine lv_iload_n hx hb dX0_countedAll_31 rfl (lv_at hl 2 rfl) ?_
        obtain ⟨rfl, rfl⟩ := Prod.mk.inj (Option.some.inj hf)
        exact hret _ _ _ _ hX rfl dX0_countedAll_32
      · rw [if_neg c4] at hf
        refine lv_iload_n hx hb dX0_countedAll_16 rfl (lv_at hl 2 rfl) ?_
        refine lv_aload_n hx hb dX0_countedAll_17 rfl (lv_at hl 0 rfl) ?_
        refine lv_iload_n hx hb dX0_countedAll_18 rfl (lv_at hl 3 rfl) ?_
        refine lv_iload_n hx hb dX0_countedAll_19 rfl (lv_at hl 1 rfl) ?_
        obtain ⟨r6, e5, hf⟩ := bd_e hf
        refine x_doneP (va_runV (b := o) (As := [.int v3, .int v1]) (rest := [.int v2]) ⟨hx, hb, hml, hown, hts⟩ (wx_counted l G hG h_3 n o v3 v1 r6 e5) (cwV 2 hts (lw_V q730 q732 qs31 q94 q733) rfl rfl rfl ⟨rfl, cdX0_counted⟩ ⟨(Nat.le_of_ble_eq_true rfl), (Nat.le_of_ble_eq_true rfl)⟩) (x_preV (ci := 0) (T := TX0) (N := 16) hK hX _ (hX.tg g0 (by decide)) (by decide) rfl) rfl rfl hl.1 rfl (lv_room (Nat.le_of_ble_eq_true rfl)) dX0_countedAll_20 ⟨(Nat.le_of_ble_eq_true rfl), (Nat.le_of_ble_eq_true rfl)⟩) rfl ?_
        clear e5
        refine lv_iadd hx hb dX0_countedAll_23 ?_
        refine lv_istore_n (lv' := [(2, .int (v2 + r6)), (0, .ref o), (1, .int v1), (3, .int v3)]) hx hb dX0_countedAll_24 rfl hl (by decide) rfl (fun ls hl => ?_)
        refine lv_iinc (v := (v3 + 1)) (lv' := [(3, .int (v3 + 1)), (2, .int (v2 + r6)), (0, .ref o), (1, .int v1)]) hx hb dX0_countedAll_25 hl (k := 3) rfl rfl (by decide) rfl (fun ls hl => ?_)
        refine lv_goto (tgt := 8) hx hb dX0_countedAll_28 (by decide) ?_
        exact hK8 v1 (v2 + r6) (v3 + 1) h_3 _ _ _ hX (lv_sub hl [2, 3, 1, 0] rfl) hf
  refine lv_aload_n hx hb dX0_countedAll_0 rfl (lv_at hl 0 rfl) ?_
  obtain ⟨h2, e1, hf⟩ := bd_e hf
  refine x_done (mc := 0) (ms := 0) (va_runV (b := o) (As := []) (rest := []) ⟨hx, hb, hml, hown, hts⟩ (wx_runsAll l G hG h n o h2 e1) (cwV 0 hts (lw_V q656 q658 qs23 q94 q659) rfl rfl rfl ⟨rfl, cdX0_runsAll⟩ ⟨(Nat.le_of_ble_eq_true rfl), (Nat.le_of_ble_eq_true rfl)⟩) (x_preV (ci := 0) (T := TX0) (N := 16) hK hX _ (hX.tg g0 (by decide)) (by decide) rfl) rfl rfl hl.1 rfl (lv_room (Nat.le_of_ble_eq_true rfl)) dX0_countedAll_1 ⟨(Nat.le_of_ble_eq_true rfl), (Nat.le_of_ble_eq_true rfl)⟩) hX rfl (fun H locs hX => ?_)
  clear e1
  refine lv_iconst (v := 0) hx hb dX0_countedAll_4 (by decide) ?_
  refine lv_istore_n (lv' := [(2, .int 0), (0, .ref o), (1, .int p1)]) hx hb dX0_countedAll_5 rfl hl (by decide) rfl (fun ls hl => ?_)
  refine lv_iconst (v := 0) hx hb dX0_countedAll_6 (by decide) ?_
  refine lv_istore_n (lv' := [(3, .int 0), (2, .int 0), (0, .ref o), (1, .int p1)]) hx hb dX0_countedAll_7 rfl hl (by decide) rfl (fun ls hl => ?_)
  exact B8 n p1 0 0 h2 _ _ _ hX (lv_sub hl [2, 3, 1, 0] rfl) hf
theorem cdX0_rule : yX0_rule.cls ≠ "java/lang/invoke/MethodHandle" ∧ yX0_rule.cls ≠ "java/lang/invoke/VarHandle" ∧ (parseMethodDescriptor yX0_rule.desc).map (fun d => d.parameters.length) = some 1 := by decide +kernel
set_option maxHeartbeats 4000000 in
set_option maxRecDepth 100000 in
theorem wx_rule (l : Launch) (G : Gt) (hG : XG G) (h : Hp) (n : Nat) (o : Nat) (p1 : Int32) (r : Int32) (h1 : Hp) (hf : X_rule n o p1 h = some (r, h1)) : Met l yX0_rule (ws_ yX0_rule cX0_rule 2 (some .int)) (rmm (424) 0 0 (13537)) (XP G [.ref o, .int p1] h) (XQ G (some (.int r)) h h1) 0 0 (fre h) := by
  rw [X_rule] at hf
  obtain ⟨g0, hf⟩ := gd_e hf
  refine metSi l (by decide) (Nat.le_of_ble_eq_true rfl) ?_
  intro p e s m args below meth c Q hx hb hts hown hnmd hml hinit hK hW hret ls hl
  have hown : s.vm.findClass RX0 = some m.cls := hown
  have hX := XX.start hW
  have hl : lv_has ls 2 [(0, .ref o), (1, .int p1)] := hl
  have B58 : ∀ (v1 : Int32) (h_9 : Hp) (H : Heap) (locs : List Loc) (ls : Array Slot), XX G h s.heap h_9 H locs → lv_has ls 2 [(0, .ref o), (1, .int v1)] → X_rule_b58 n o v1 h_9 = some (r, h1) → W p l e (rmm (424) 0 0 (13537)) s m args below meth c H locs 0 0 Q (F0 m 58 ls []) := by
    intro v1 h_9 H locs ls hX hl hf
    rw [X_rule_b58] at hf
    refine lv_aload_n hx hb dX0_rule_58 rfl (lv_at hl 0 rfl) ?_
    refine lv_iload_n hx hb dX0_rule_59 rfl (lv_at hl 1 rfl) ?_
    refine lv_iconst (v := 2) hx hb dX0_rule_60 (by decide) ?_
    refine lv_isub hx hb dX0_rule_61 ?_
    obtain ⟨r12, h11, e10, hf⟩ := bd2_e hf
    refine x_done (mc := 0) (ms := 0) (va_runV (b := o) (As := [.int (v1 - 2)]) (rest := []) ⟨hx, hb, hml, hown, hts⟩ (wx_countedAll l G hG h_9 n o (v1 - 2) r12 h11 e10) (cwV 1 hts (lw_V q651 q653 qs22 q94 q655) rfl rfl rfl ⟨rfl, cdX0_countedAll⟩ ⟨(Nat.le_of_ble_eq_true rfl), (Nat.le_of_ble_eq_true rfl)⟩) (x_preV (ci := 0) (T := TX0) (N := 16) hK hX _ (hX.tg g0 (by decide)) (by decide) rfl) rfl rfl hl.1 rfl (lv_room (Nat.le_of_ble_eq_true rfl)) dX0_rule_62 ⟨(Nat.le_of_ble_eq_true rfl), (Nat.le_of_ble_eq_true rfl)⟩) hX rfl (fun H locs hX => ?_)
    clear e10
    obtain ⟨rfl, rfl⟩ := Prod.mk.inj (Option.some.inj hf)
    exact hret _ _ _ _ hX rfl dX0_rule_65
  refine lv_iload_n hx hb dX0_rule_0 rfl (lv_at hl 1 rfl) ?_
  by_cases c1 : p1 = 0
  · rw [if_pos c1] at hf
    refine lv_tableIn (off := 47) (tgt := 48) hx hb dX0_rule_1 (by rw [c1]; decide) (by rw [c1]; decide) (by rw [c1]; decide) (by decide) ?_
    refine lv_aload_n hx hb dX0_rule_48 rfl (lv_at hl 0 rfl) ?_
    refine x_get (ci := 0) (C := RX0) (T := TX0) (N := 16) hx hb hts in_X0 hown hK.1 hX rfl (hX.tg g0 (by decide)) (by decide) rfl 4 (Nat.le_of_ble_eq_true rfl) (hts _ q912) (fun _ h9 => h9) (hv_int rfl) dX0_rule_49 ?_
    obtain ⟨rfl, rfl⟩ := Prod.mk.inj (Option.some.inj hf)
    exact hret _ _ _ _ hX rfl dX0_rule_52
  · rw [if_neg c1] at hf
    by_cases c2 : p1 = 1
    · rw [if_pos c2] at hf
      refine lv_tableIn (off := 52) (tgt := 53) hx hb dX0_rule_1 (by rw [c2]; decide) (by rw [c2]; decide) (by rw [c2]; decide) (by decide) ?_
      refine lv_aload_n hx hb dX0_rule_53 rfl (lv_at hl 0 rfl) ?_
      refine x_get (ci := 0) (C := RX0) (T := TX0) (N := 16) hx hb hts in_X0 hown hK.1 hX rfl (hX.tg g0 (by decide)) (by decide) rfl 6 (Nat.le_of_ble_eq_true rfl) (hts _ q914) (fun _ h9 => h9) (hv_int rfl) dX0_rule_54 ?_
      obtain ⟨rfl, rfl⟩ := Prod.mk.inj (Option.some.inj hf)
      exact hret _ _ _ _ hX rfl dX0_rule_57
    · rw [if_neg c2] at hf
      by_cases c3 : p1 = 2
      · rw [if_pos c3] at hf
        refine lv_tableIn (off := 57) (tgt := 58) hx hb dX0_rule_1 (by rw [c3]; decide) (by rw [c3]; decide) (by rw [c3]; decide) (by decide) ?_
        exact B58 p1 h _ _ _ hX (lv_sub hl [0, 1] rfl) hf
      · rw [if_neg c3] at hf
        by_cases c4 : p1 = 3
        · rw [if_pos c4] at hf
          refine lv_tableIn (off := 57) (tgt := 58) hx hb dX0_rule_1 (by rw [c4]; decide) (by rw [c4]; decide) (by rw [c4]; decide) (by decide) ?_
          exact B58 p1 h _ _ _ hX (lv_sub hl [0, 1] rfl) hf
        · rw [if_neg c4] at hf
          by_cases c5 : p1 = 4
          · rw [if_pos c5] at hf
            refine lv_tableIn (off := 57) (tgt := 58) hx hb dX0_rule_1 (by rw [c5]; decide) (by rw [c5]; decide) (by rw [c5]; decide) (by decide) ?_
            exact B58 p1 h _ _ _ hX (lv_sub hl [0, 1] rfl) hf
          · rw [if_neg c5] at hf
            by_cases c6 : p1 = 5
            · rw [if_pos c6] at hf
              refine lv_tableIn (off := 57) (tgt := 58) hx hb dX0_rule_1 (by rw [c6]; decide) (by rw [c6]; decide) (by rw [c6]; decide) (by decide) ?_
              exact B58 p1 h _ _ _ hX (lv_sub hl [0, 1] rfl) hf
            · rw [if_neg c6] at hf
              by_cases c7 : p1 = 6
              · rw [if_pos c7] at hf
                refine lv_tableIn (off := 57) (tgt := 58) hx hb dX0_rule_1 (by rw [c7]; decide) (by rw [c7]; decide) (by rw [c7]; decide) (by decide) ?_
                exact B58 p1 h _ _ _ hX (lv_sub hl [0, 1] rfl) hf
              · rw [if_neg c7] at hf
                by_cases c8 : p1 = 7
                · rw [if_pos c8] at hf
                  refine lv_tableIn (off := 57) (tgt := 58) hx hb dX0_rule_1 (by rw [c8]; decide) (by rw [c8]; decide) (by rw [c8]; decide) (by decide) ?_
                  exact B58 p1 h _ _ _ hX (lv_sub hl [0, 1] rfl) hf
                · rw [if_neg c8] at hf
                  have hlo : p1.toInt < 0 ∨ 7 < p1.toInt := by
                    have := lv_neT c1 (a := 0) (by decide)
                    have := lv_neT c2 (a := 1) (by decide)
                    have := lv_neT c3 (a := 2) (by decide)
                    have := lv_neT c4 (a := 3) (by decide)
                    have := lv_neT c5 (a := 4) (by decide)
                    have := lv_neT c6 (a := 5) (by decide)
                    have := lv_neT c7 (a := 6) (by decide)
                    have := lv_neT c8 (a := 7) (by decide)
                    omega
                  refine lv_tableOut (tgt := 66) hx hb dX0_rule_1 hlo (by decide) ?_
                  refine lv_iconst (v := (-1)) hx hb dX0_rule_66 (by decide) ?_
                  obtain ⟨rfl, rfl⟩ := Prod.mk.inj (Option.some.inj hf)
                  exact hret _ _ _ _ hX rfl dX0_rule_67
theorem cdX0_isPromise : yX0_isPromise.cls ≠ "java/lang/invoke/MethodHandle" ∧ yX0_isPromise.cls ≠ "java/lang/invoke/VarHandle" ∧ (parseMethodDescriptor yX0_isPromise.desc).map (fun d => d.parameters.length) = some 1 := by decide +kernel
set_option maxHeartbeats 4000000 in
set_option maxRecDepth 100000 in
theorem wx_isPromise (l : Launch) (G : Gt) (hG : XG G) (h : Hp) (n : Nat) (o : Nat) (p1 : Int32) (r : Int32) (hf : X_isPromise n o p1 h = some r) : Met l yX0_isPromise (ws_ yX0_isPromise cX0_isPromise 2 (some .boolean)) (rmm (1) 0 0 (25)) (XP G [.ref o, .int p1] h) (XQp (some (.int r))) 0 0 (fun _ => False) := by
  rw [X_isPromise] at hf
  obtain ⟨g0, hf⟩ := gd_e hf
  refine metPi l (by decide) (Nat.le_of_ble_eq_true rfl) ?_
  intro p e s m args below meth c Q hx hb hts hown hnmd hml hinit hK hW hret ls hl
  have hown : s.vm.findClass RX0 = some m.cls := hown
  have hX := XX.start hW
  have hl : lv_has ls 2 [(0, .ref o), (1, .int p1)] := hl
  refine lv_iload_n hx hb dX0_isPromise_0 rfl (lv_at hl 1 rfl) ?_
  refine lv_i2l hx hb dX0_isPromise_1 rfl ?_
  refine lv_lconst (v := 0) hx hb dX0_isPromise_2 (by decide) ?_
  refine lv_aload_n hx hb dX0_isPromise_3 rfl (lv_at hl 0 rfl) ?_
  refine x_get (ci := 0) (C := RX0) (T := TX0) (N := 16) hx hb hts in_X0 hown hK.1 hX rfl g0 (by decide) rfl 4 (Nat.le_of_ble_eq_true rfl) (hts _ q912) (fun _ h9 => h9) (hv_int rfl) dX0_isPromise_4 ?_
  refine lv_iconst (v := 1) hx hb dX0_isPromise_7 (by decide) ?_
  refine lv_isub hx hb dX0_isPromise_8 ?_
  refine lv_i2l hx hb dX0_isPromise_9 rfl ?_
  obtain ⟨r2, e1, hf⟩ := bd_e hf
  refine x_doneP (va_runS (As := [.long (Int32.toInt64 p1), .long 0, .long (Int32.toInt64 ((hI h o 4) - 1))]) (rest := []) ⟨hx, hb, hml, hown, hts⟩ (wx_isIn l G hG h n (Int32.toInt64 p1) 0 (Int32.toInt64 ((hI h o 4) - 1)) r2 e1) (va_cwS 3 hts (lw_S q127 q128 q94 q129) rfl rfl rfl cdX0_isIn ⟨(Nat.le_of_ble_eq_true rfl), (Nat.le_of_ble_eq_true rfl)⟩) (x_preS hK hX _) rfl rfl hl.1 rfl (lv_room (Nat.le_of_ble_eq_true rfl)) dX0_isPromise_10 ⟨(Nat.le_of_ble_eq_true rfl), (Nat.le_of_ble_eq_true rfl)⟩) rfl ?_
  clear e1
  obtain ⟨g3, hf⟩ := gd_e hf
  obtain rfl := Option.some.inj hf
  exact hret _ _ (nb01 g3) dX0_isPromise_13
theorem cdX11_most : yX11_most.cls ≠ "java/lang/invoke/MethodHandle" ∧ yX11_most.cls ≠ "java/lang/invoke/VarHandle" ∧ (parseMethodDescriptor yX11_most.desc).map (fun d => d.parameters.length) = some 0 := by decide +kernel
set_option maxHeartbeats 4000000 in
set_option maxRecDepth 100000 in
theorem wx_Then_most (l : Launch) (G : Gt) (hG : XG G) (D : Nat) (hD : 2 ≤ D) (fw : Nat → Option Int32) (h : Hp) (hrec : ∀ a r, fw a = some r → MostOK l G h a r D) (n : Nat) (o : Nat) (r : Int32) (hf : X_Then_most n fw o h = some r) : Met l yX11_most (ws_ yX11_most cX11_most 1 (some .int)) (rmm (D + 3) 0 0 (64 * (D + 1))) (XP G [.ref o] h) (XQp (some (.int r))) 0 0 (fun _ => False) := by
  rw [X_Then_most] at hf
  obtain ⟨g0, hf⟩ := gd_e hf
  refine metPi l (by decide) (Nat.le_of_ble_eq_true rfl) ?_
  intro p e s m args below meth c Q hx hb hts hown hnmd hml hinit hK hW hret ls hl
  have hown : s.vm.findClass RX11 = some m.cls := hown
  have hX := XX.start hW
  have hl : lv_has ls 1 [(0, .ref o)] := hl
  refine lv_aload_n hx hb dX11_most_0 rfl (lv_at hl 0 rfl) ?_
  refine x_get (ci := 9) (C := RX11) (T := TX11) (N := 2) hx hb hts in_X11 hown hK.1 hX rfl g0 (by decide) rfl 0 (Nat.le_of_ble_eq_true rfl) (hts _ q469) (u_same (hts _ q470)) (hv_ref rfl) dX11_most_1 ?_
  obtain ⟨a1, e2, hf⟩ := bd_e hf
  obtain ⟨r4, e3, hf⟩ := bd_e hf
  refine x_most hG hx hb hml hts hown hK hX (rf_some e2) (hrec _ _ e3) q761 hl.1 (Nat.le_of_ble_eq_true rfl) (by simp only [rmm]; omega) (by simp only [rmm]; omega) ⟨(by simp only [rmm]; omega), (by simp only [rmm]; omega)⟩ dX11_most_4 ?_
  clear e3
  refine lv_aload_n hx hb dX11_most_7 rfl (lv_at hl 0 rfl) ?_
  refine x_get (ci := 9) (C := RX11) (T := TX11) (N := 2) hx hb hts in_X11 hown hK.1 hX rfl g0 (by decide) rfl 1 (Nat.le_of_ble_eq_true rfl) (hts _ q472) (u_same (hts _ q473)) (hv_ref rfl) dX11_most_8 ?_
  obtain ⟨a5, e6, hf⟩ := bd_e hf
  obtain ⟨r8, e7, hf⟩ := bd_e hf
  refine x_most hG hx hb hml hts hown hK hX (rf_some e6) (hrec _ _ e7) q761 hl.1 (Nat.le_of_ble_eq_true rfl) (by simp only [rmm]; omega) (by simp only [rmm]; omega) ⟨(by simp only [rmm]; omega), (by simp only [rmm]; omega)⟩ dX11_most_11 ?_
  clear e7
  refine lv_iadd hx hb dX11_most_14 ?_
  obtain ⟨r10, e9, hf⟩ := bd_e hf
  refine x_doneP (va_runSN (As := [.int (r4 + r8)]) (rest := []) ⟨hx, hb, hml, hown, hts⟩ (wx_capped l G hG h n (r4 + r8) r10 e9) ⟨va_cnB 1 hts (lw_meth q508) rfl rfl rfl (hG.nw hK nq512) (hts _ q94) cdX0_capped ⟨(by simp only [rmm]; omega), (by simp only [rmm]; omega)⟩, hts _ q507, trivial⟩ (x_preS hK hX _) rfl rfl hl.1 rfl (lv_room (Nat.le_of_ble_eq_true rfl)) dX11_most_15 ⟨(Nat.le_of_ble_eq_true rfl), (Nat.le_of_ble_eq_true rfl)⟩) rfl ?_
  clear e9
  obtain rfl := Option.some.inj hf
  exact hret _ _ rfl dX11_most_18
theorem cdX12_most : yX12_most.cls ≠ "java/lang/invoke/MethodHandle" ∧ yX12_most.cls ≠ "java/lang/invoke/VarHandle" ∧ (parseMethodDescriptor yX12_most.desc).map (fun d => d.parameters.length) = some 0 := by decide +kernel
set_option maxHeartbeats 4000000 in
set_option maxRecDepth 100000 in
theorem wx_Either_most (l : Launch) (G : Gt) (hG : XG G) (D : Nat) (hD : 2 ≤ D) (fw : Nat → Option Int32) (h : Hp) (hrec : ∀ a r, fw a = some r → MostOK l G h a r D) (n : Nat) (o : Nat) (r : Int32) (hf : X_Either_most n fw o h = some r) : Met l yX12_most (ws_ yX12_most cX12_most 1 (some .int)) (rmm (D + 3) 0 0 (64 * (D + 1))) (XP G [.ref o] h) (XQp (some (.int r))) 0 0 (fun _ => False) := by
  rw [X_Either_most] at hf
  obtain ⟨g0, hf⟩ := gd_e hf
  refine metPi l (by decide) (Nat.le_of_ble_eq_true rfl) ?_
  intro p e s m args below meth c Q hx hb hts hown hnmd hml hinit hK hW hret ls hl
  have hown : s.vm.findClass RX12 = some m.cls := hown
  have hX := XX.start hW
  have hl : lv_has ls 1 [(0, .ref o)] := hl
  refine lv_aload_n hx hb dX12_most_0 rfl (lv_at hl 0 rfl) ?_
  refine x_get (ci := 10) (C := RX12) (T := TX12) (N := 2) hx hb hts in_X12 hown hK.1 hX rfl g0 (by decide) rfl 0 (Nat.le_of_ble_eq_true rfl) (hts _ q467) (u_same (hts _ q468)) (hv_ref rfl) dX12_most_1 ?_
  obtain ⟨a1, e2, hf⟩ := bd_e hf
  obtain ⟨r4, e3, hf⟩ := bd_e hf
  refine x_most hG hx hb hml hts hown hK hX (rf_some e2) (hrec _ _ e3) q758 hl.1 (Nat.le_of_ble_eq_true rfl) (by simp only [rmm]; omega) (by simp only [rmm]; omega) ⟨(by simp only [rmm]; omega), (by simp only [rmm]; omega)⟩ dX12_most_4 ?_
  clear e3
  refine lv_aload_n hx hb dX12_most_7 rfl (lv_at hl 0 rfl) ?_
  refine x_get (ci := 10) (C := RX12) (T := TX12) (N := 2) hx hb hts in_X12 hown hK.1 hX rfl g0 (by decide) rfl 1 (Nat.le_of_ble_eq_true rfl) (hts _ q474) (u_same (hts _ q475)) (hv_ref rfl) dX12_most_8 ?_
  obtain ⟨a5, e6, hf⟩ := bd_e hf
  obtain ⟨r8, e7, hf⟩ := bd_e hf
  refine x_most hG hx hb hml hts hown hK hX (rf_some e6) (hrec _ _ e7) q758 hl.1 (Nat.le_of_ble_eq_true rfl) (by simp only [rmm]; omega) (by simp only [rmm]; omega) ⟨(by simp only [rmm]; omega), (by simp only [rmm]; omega)⟩ dX12_most_11 ?_
  clear e7
  refine va_mmax hx hb (hml.trans hl.1.symm) hown (hts _ q765) (hts _ q441) (hts _ q108) (hts _ q442) (by simp only [rmm]; omega) (by show _ ≤ _; first | decide | (simp [rf_cat, cat_i, cat_l, cat_r, rmm]; done) | (simp [rf_cat, cat_i, cat_l, cat_r, rmm]; omega)) (by simp only [rmm]; omega) (by simp only [rmm]; omega) dX12_most_14 ?_
  obtain rfl := Option.some.inj hf
  exact hret _ _ rfl dX12_most_17
theorem cdX8_most : yX8_most.cls ≠ "java/lang/invoke/MethodHandle" ∧ yX8_most.cls ≠ "java/lang/invoke/VarHandle" ∧ (parseMethodDescriptor yX8_most.desc).map (fun d => d.parameters.length) = some 0 := by decide +kernel
set_option maxHeartbeats 4000000 in
set_option maxRecDepth 100000 in
theorem wx_Atom_most (l : Launch) (G : Gt) (hG : XG G) (h : Hp) (n : Nat) (o : Nat) (r : Int32) (hf : X_Atom_most n o h = some r) : Met l yX8_most (ws_ yX8_most cX8_most 1 (some .int)) (rmm (0) 0 0 (0)) (XP G [.ref o] h) (XQp (some (.int r))) 0 0 (fun _ => False) := by
  rw [X_Atom_most] at hf
  refine metPi l (by decide) (Nat.le_of_ble_eq_true rfl) ?_
  intro p e s m args below meth c Q hx hb hts hown hnmd hml hinit hK hW hret ls hl
  have hown : s.vm.findClass RX8 = some m.cls := hown
  have hX := XX.start hW
  have hl : lv_has ls 1 [(0, .ref o)] := hl
  refine lv_iconst (v := 1) hx hb dX8_most_0 (by decide) ?_
  obtain rfl := Option.some.inj hf
  exact hret _ _ rfl dX8_most_1
theorem cdX9_most : yX9_most.cls ≠ "java/lang/invoke/MethodHandle" ∧ yX9_most.cls ≠ "java/lang/invoke/VarHandle" ∧ (parseMethodDescriptor yX9_most.desc).map (fun d => d.parameters.length) = some 0 := by decide +kernel
set_option maxHeartbeats 4000000 in
set_option maxRecDepth 100000 in
theorem wx_Times_most (l : Launch) (G : Gt) (hG : XG G) (D : Nat) (hD : 2 ≤ D) (fw : Nat → Option Int32) (h : Hp) (hrec : ∀ a r, fw a = some r → MostOK l G h a r D) (n : Nat) (o : Nat) (r : Int32) (hf : X_Times_most n fw o h = some r) : Met l yX9_most (ws_ yX9_most cX9_most 1 (some .int)) (rmm (D + 3) 0 0 (64 * (D + 1))) (XP G [.ref o] h) (XQp (some (.int r))) 0 0 (fun _ => False) := by
  rw [X_Times_most] at hf
  obtain ⟨g0, hf⟩ := gd_e hf
  refine metPi l (by decide) (Nat.le_of_ble_eq_true rfl) ?_
  intro p e s m args below meth c Q hx hb hts hown hnmd hml hinit hK hW hret ls hl
  have hown : s.vm.findClass RX9 = some m.cls := hown
  have hX := XX.start hW
  have hl : lv_has ls 1 [(0, .ref o)] := hl
  refine lv_aload_n hx hb dX9_most_0 rfl (lv_at hl 0 rfl) ?_
  refine x_get (ci := 8) (C := RX9) (T := TX9) (N := 3) hx hb hts in_X9 hown hK.1 hX rfl g0 (by decide) rfl 2 (Nat.le_of_ble_eq_true rfl) (hts _ q449) (fun _ h9 => h9) (hv_int rfl) dX9_most_1 ?_
  refine lv_aload_n hx hb dX9_most_4 rfl (lv_at hl 0 rfl) ?_
  refine x_get (ci := 8) (C := RX9) (T := TX9) (N := 3) hx hb hts in_X9 hown hK.1 hX rfl g0 (by decide) rfl 0 (Nat.le_of_ble_eq_true rfl) (hts _ q447) (fun _ h9 => h9) (hv_ref rfl) dX9_most_5 ?_
  obtain ⟨a1, e2, hf⟩ := bd_e hf
  obtain ⟨r4, e3, hf⟩ := bd_e hf
  refine x_most hG hx hb hml hts hown hK hX (rf_some e2) (hrec _ _ e3) q764 hl.1 (Nat.le_of_ble_eq_true rfl) (by simp only [rmm]; omega) (by simp only [rmm]; omega) ⟨(by simp only [rmm]; omega), (by simp only [rmm]; omega)⟩ dX9_most_8 ?_
  clear e3
  refine lv_imul hx hb dX9_most_11 ?_
  obtain ⟨r6, e5, hf⟩ := bd_e hf
  refine x_doneP (va_runSN (As := [.int ((hI h o 2) * r4)]) (rest := []) ⟨hx, hb, hml, hown, hts⟩ (wx_capped l G hG h n ((hI h o 2) * r4) r6 e5) ⟨va_cnB 1 hts (lw_meth q508) rfl rfl rfl (hG.nw hK nq506) (hts _ q94) cdX0_capped ⟨(by simp only [rmm]; omega), (by simp only [rmm]; omega)⟩, hts _ q507, trivial⟩ (x_preS hK hX _) rfl rfl hl.1 rfl (lv_room (Nat.le_of_ble_eq_true rfl)) dX9_most_12 ⟨(Nat.le_of_ble_eq_true rfl), (Nat.le_of_ble_eq_true rfl)⟩) rfl ?_
  clear e5
  obtain rfl := Option.some.inj hf
  exact hret _ _ rfl dX9_most_15
theorem most_ok (l : Launch) (G : Gt) (hG : XG G) (d a : Nat) (h : Hp) (r : Int32) (e : X_most d a h = some r) : MostOK l G h a r (d + 2) := by
  induction d generalizing a r with
  | zero => rw [X_most] at e; cases e
  | succ d ih =>
    rw [X_most] at e
    have ih' : ∀ a r, (fun a => X_most d a h) a = some r → MostOK l G h a r (d + 2) := fun a r e => ih a r e
    by_cases t0 : hT h a = 8
    · rw [if_pos t0] at e; exact ⟨0, 0, by omega, by omega, Or.inl ⟨t0, wx_Atom_most l G hG h 0 a r e⟩⟩
    rw [if_neg t0] at e
    by_cases t1 : hT h a = 9
    · rw [if_pos t1] at e; exact ⟨d + 2 + 3, 64 * (d + 2 + 1), by omega, by omega, Or.inr (Or.inl ⟨t1, wx_Times_most l G hG (d + 2) (by omega) _ h ih' 0 a r e⟩)⟩
    rw [if_neg t1] at e
    by_cases t2 : hT h a = 10
    · rw [if_pos t2] at e; exact ⟨d + 2 + 3, 64 * (d + 2 + 1), by omega, by omega, Or.inr (Or.inr (Or.inl ⟨t2, wx_Then_most l G hG (d + 2) (by omega) _ h ih' 0 a r e⟩))⟩
    rw [if_neg t2] at e
    by_cases t3 : hT h a = 11
    · rw [if_pos t3] at e; exact ⟨d + 2 + 3, 64 * (d + 2 + 1), by omega, by omega, Or.inr (Or.inr (Or.inr (⟨t3, wx_Either_most l G hG (d + 2) (by omega) _ h ih' 0 a r e⟩)))⟩
    rw [if_neg t3] at e
    cases e
theorem cdX0_promise : yX0_promise.cls ≠ "java/lang/invoke/MethodHandle" ∧ yX0_promise.cls ≠ "java/lang/invoke/VarHandle" ∧ (parseMethodDescriptor yX0_promise.desc).map (fun d => d.parameters.length) = some 2 := by decide +kernel
set_option maxHeartbeats 4000000 in
set_option maxRecDepth 100000 in
theorem wx_promise (l : Launch) (G : Gt) (hG : XG G) (h : Hp) (n : Nat) (o : Nat) (p1 : Int32) (p2 : Int32) (r : Int32) (hf : X_promise n o p1 p2 h = some r) : Met l yX0_promise (ws_ yX0_promise cX0_promise 5 (some .int)) (rmm (213) 0 0 (13504)) (XP G [.ref o, .int p1, .int p2] h) (XQp (some (.int r))) 0 0 (fun _ => False) := by
  rw [X_promise] at hf
  obtain ⟨g0, hf⟩ := gd_e hf
  refine metPi l (by decide) (Nat.le_of_ble_eq_true rfl) ?_
  intro p e s m args below meth c Q hx hb hts hown hnmd hml hinit hK hW hret ls hl
  have hown : s.vm.findClass RX0 = some m.cls := hown
  have hX := XX.start hW
  have hl : lv_has ls 5 [(0, .ref o), (1, .int p1), (2, .int p2)] := hl
  have B20 : ∀ (ls : Array Slot), lv_has ls 5 [(0, .ref o)] → X_promise_b20 n o h = some r → W p l e (rmm (213) 0 0 (13504)) s m args below meth c s.heap [] 0 0 Q (F0 m 20 ls []) := by
    intro ls hl hf
    rw [X_promise_b20] at hf
    refine lv_iconst (v := (-1)) hx hb dX0_promise_20 (by decide) ?_
    obtain rfl := Option.some.inj hf
    exact hret _ _ rfl dX0_promise_21
  refine lv_aload_n hx hb dX0_promise_0 rfl (lv_at hl 0 rfl) ?_
  refine lv_iload_n hx hb dX0_promise_1 rfl (lv_at hl 1 rfl) ?_
  obtain ⟨r2, e1, hf⟩ := bd_e hf
  refine x_doneP (va_runV (b := o) (As := [.int p1]) (rest := []) ⟨hx, hb, hml, hown, hts⟩ (wx_isPromise l G hG h n o p1 r2 e1) (cwV 1 hts (lw_V q742 q744 qs33 q94 q745) rfl rfl rfl ⟨rfl, cdX0_isPromise⟩ ⟨(Nat.le_of_ble_eq_true rfl), (Nat.le_of_ble_eq_true rfl)⟩) (x_preV (ci := 0) (T := TX0) (N := 16) hK hX _ g0 (by decide) rfl) rfl rfl hl.1 rfl (lv_room (Nat.le_of_ble_eq_true rfl)) dX0_promise_2 ⟨(Nat.le_of_ble_eq_true rfl), (Nat.le_of_ble_eq_true rfl)⟩) rfl ?_
  clear e1
  refine lv_if_eq (tgt := 20) hx hb dX0_promise_5 (by decide) (fun c3 => ?_) (fun c3 => ?_)
  · rw [if_pos c3] at hf
    exact B20 _ (lv_sub hl [0] rfl) hf
  · rw [if_neg c3] at hf
    refine lv_iload_n hx hb dX0_promise_8 rfl (lv_at hl 2 rfl) ?_
    refine lv_i2l hx hb dX0_promise_9 rfl ?_
    refine lv_lconst (v := 0) hx hb dX0_promise_10 (by decide) ?_
    refine lv_ldc2 (v := 9) hx hb hown (hts _ q746) dX0_promise_11 ?_
    obtain ⟨r5, e4, hf⟩ := bd_e hf
    refine x_doneP (va_runS (As := [.long (Int32.toInt64 p2), .long 0, .long 9]) (rest := []) ⟨hx, hb, hml, hown, hts⟩ (wx_isIn l G hG h n (Int32.toInt64 p2) 0 9 r5 e4) (va_cwS 3 hts (lw_S q127 q128 q94 q129) rfl rfl rfl cdX0_isIn ⟨(Nat.le_of_ble_eq_true rfl), (Nat.le_of_ble_eq_true rfl)⟩) (x_preS hK hX _) rfl rfl hl.1 rfl (lv_room (Nat.le_of_ble_eq_true rfl)) dX0_promise_14 ⟨(Nat.le_of_ble_eq_true rfl), (Nat.le_of_ble_eq_true rfl)⟩) rfl ?_
    clear e4
    refine lv_if_ne (tgt := 22) hx hb dX0_promise_17 (by decide) (fun c6 => ?_) (fun c6 => ?_)
    · rw [if_neg c6] at hf
      refine lv_aload_n hx hb dX0_promise_22 rfl (lv_at hl 0 rfl) ?_
      refine x_get (ci := 0) (C := RX0) (T := TX0) (N := 16) hx hb hts in_X0 hown hK.1 hX rfl g0 (by decide) rfl 3 (Nat.le_of_ble_eq_true rfl) (hts _ q911) (fun _ h9 => h9) (hv_ref rfl) dX0_promise_23 ?_
      refine lv_iload_n hx hb dX0_promise_26 rfl (lv_at hl 1 rfl) ?_
      obtain ⟨a7, e8, hf⟩ := bd_e hf
      obtain ⟨g9, hf⟩ := gd_e hf
      obtain ⟨g10, hf⟩ := gd_e hf
      refine x_aald hx hb hK.1 hX (rf_some e8) 7 g9 (by decide) rfl rfl rfl g10 dX0_promise_27 ?_
      refine lx_astore_n (r := (hR h a7 (Int32.toNatClampNeg p1))) (lv' := [(3, va_rf (hR h a7 (Int32.toNatClampNeg p1))), (0, .ref o), (1, .int p1), (2, .int p2)]) hx hb dX0_promise_28 rfl hl (by decide) rfl (fun ls hl => ?_)
      refine lx_aload_n hx hb dX0_promise_29 rfl (lv_at hl 0 rfl) ?_
      obtain ⟨a11, e12, hf⟩ := bd_e hf
      obtain ⟨g13, hf⟩ := gd_e hf
      refine x_getN (ci := 5) (C := RX5) (T := TX5) (N := 3) hx hb hts in_X5 hown hK.1 hX (rf_some e12) g13 (by decide) rfl 0 (Nat.le_of_ble_eq_true rfl) (hG.nw hK nq344) (fun _ h9 => h9) (hv_ref rfl) dX0_promise_30 ?_
      refine lv_iload_n hx hb dX0_promise_33 rfl (lv_at hl 3 rfl) ?_
      refine lv_iconst (v := 1) hx hb dX0_promise_34 (by decide) ?_
      refine lv_iand hx hb dX0_promise_35 ?_
      obtain ⟨a14, e15, hf⟩ := bd_e hf
      obtain ⟨g16, hf⟩ := gd_e hf
      obtain ⟨g17, hf⟩ := gd_e hf
      refine x_aald hx hb hK.1 hX (rf_some e15) 6 g16 (by decide) rfl rfl rfl g17 dX0_promise_36 ?_
      refine lx_astore (r := (hR h a14 (Int32.toNatClampNeg (p2 &&& 1)))) (lv' := [(4, va_rf (hR h a14 (Int32.toNatClampNeg (p2 &&& 1)))), (3, va_rf (hR h a7 (Int32.toNatClampNeg p1))), (0, .ref o), (1, .int p1), (2, .int p2)]) hx hb dX0_promise_37 hl (by decide) (by generalize hq9 : va_rf (hR h a7 (Int32.toNatClampNeg p1)) = w9; have hc9 : w9.category = 1 := (by rw [← hq9]; exact rf_cat _); cases w9 <;> first | rfl | cases hc9) (fun ls hl => ?_)
      refine lv_iload_n hx hb dX0_promise_39 rfl (lv_at hl 4 rfl) ?_
      refine lv_iconst (v := 2) hx hb dX0_promise_40 (by decide) ?_
      refine lv_idiv hx hb dX0_promise_41 (by decide) ?_
      by_cases c18 : (p2 / 2) = 0
      · rw [if_pos c18] at hf
        refine lv_tableIn (off := 30) (tgt := 72) hx hb dX0_promise_42 (by rw [c18]; decide) (by rw [c18]; decide) (by rw [c18]; decide) (by decide) ?_
        refine lv_iload_n hx hb dX0_promise_72 rfl (lv_at hl 4 rfl) ?_
        refine lv_if_ne (tgt := 83) hx hb dX0_promise_73 (by decide) (fun c22 => ?_) (fun c22 => ?_)
        · rw [if_neg c22] at hf
          refine lx_aload_n hx hb dX0_promise_83 rfl (lv_at hl 1 rfl) ?_
          refine x_getN (ci := 5) (C := RX5) (T := TX5) (N := 3) hx hb hts in_X5 hown hK.1 hX (rf_some e12) g13 (by decide) rfl 2 (Nat.le_of_ble_eq_true rfl) (hG.nw hK nq349) (fun _ h9 => h9) (hv_ref rfl) dX0_promise_84 ?_
          refine lx_ifnonnull (r := (hR h a11 2)) (tgt := 94) hx hb dX0_promise_87 (by decide) (fun c23 => ?_) (fun c23 => ?_)
          · rw [if_neg c23] at hf
            refine lv_iconst (v := 1) hx hb dX0_promise_94 (by decide) ?_
            obtain rfl := Option.some.inj hf
            exact hret _ _ rfl dX0_promise_95
          · rw [if_pos c23] at hf
            refine lv_iconst (v := 0) hx hb dX0_promise_90 (by decide) ?_
            refine lv_goto (tgt := 95) hx hb dX0_promise_91 (by decide) ?_
            obtain rfl := Option.some.inj hf
            exact hret _ _ rfl dX0_promise_95
        · rw [if_pos c22] at hf
          refine lx_aload_n hx hb dX0_promise_76 rfl (lv_at hl 1 rfl) ?_
          refine x_getN (ci := 5) (C := RX5) (T := TX5) (N := 3) hx hb hts in_X5 hown hK.1 hX (rf_some e12) g13 (by decide) rfl 1 (Nat.le_of_ble_eq_true rfl) (hG.nw hK nq348) (fun _ h9 => h9) (hv_int rfl) dX0_promise_77 ?_
          refine lv_goto (tgt := 95) hx hb dX0_promise_80 (by decide) ?_
          obtain rfl := Option.some.inj hf
          exact hret _ _ rfl dX0_promise_95
      · rw [if_neg c18] at hf
        by_cases c19 : (p2 / 2) = 1
        · rw [if_pos c19] at hf
          refine lv_tableIn (off := 54) (tgt := 96) hx hb dX0_promise_42 (by rw [c19]; decide) (by rw [c19]; decide) (by rw [c19]; decide) (by decide) ?_
          refine lx_aload hx hb dX0_promise_96 (lv_at hl 0 rfl) ?_
          obtain ⟨a24, e25, hf⟩ := bd_e hf
          obtain ⟨g26, hf⟩ := gd_e hf
          refine x_getN (ci := 6) (C := RX6) (T := TX6) (N := 5) hx hb hts in_X6 hown hK.1 hX (rf_some e25) g26 (by decide) rfl 1 (Nat.le_of_ble_eq_true rfl) (hG.nw hK nq324) (fun _ h9 => h9) (hv_int rfl) dX0_promise_98 ?_
          obtain rfl := Option.some.inj hf
          exact hret _ _ rfl dX0_promise_101
        · rw [if_neg c19] at hf
          by_cases c20 : (p2 / 2) = 2
          · rw [if_pos c20] at hf
            refine lv_tableIn (off := 60) (tgt := 102) hx hb dX0_promise_42 (by rw [c20]; decide) (by rw [c20]; decide) (by rw [c20]; decide) (by decide) ?_
            refine lx_aload hx hb dX0_promise_102 (lv_at hl 0 rfl) ?_
            obtain ⟨a27, e28, hf⟩ := bd_e hf
            obtain ⟨g29, hf⟩ := gd_e hf
            refine x_getN (ci := 6) (C := RX6) (T := TX6) (N := 5) hx hb hts in_X6 hown hK.1 hX (rf_some e28) g29 (by decide) rfl 2 (Nat.le_of_ble_eq_true rfl) (hG.nw hK nq326) (fun _ h9 => h9) (hv_ref rfl) dX0_promise_104 ?_
            obtain ⟨a30, e31, hf⟩ := bd_e hf
            obtain ⟨r33, e32, hf⟩ := bd_e hf
            refine x_weight hG hx hb hml hts hown hK hX (rf_some e31) (weight_ok l G hG 208 _ _ _ e32) q747 hl.1 (Nat.le_of_ble_eq_true rfl) (Nat.le_of_ble_eq_true rfl) (Nat.le_of_ble_eq_true rfl) ⟨(by simp only [rmm]; omega), (by simp only [rmm]; omega)⟩ dX0_promise_107 ?_
            clear e32
            obtain rfl := Option.some.inj hf
            exact hret _ _ rfl dX0_promise_110
          · rw [if_neg c20] at hf
            by_cases c21 : (p2 / 2) = 3
            · rw [if_pos c21] at hf
              refine lv_tableIn (off := 69) (tgt := 111) hx hb dX0_promise_42 (by rw [c21]; decide) (by rw [c21]; decide) (by rw [c21]; decide) (by decide) ?_
              refine lx_aload hx hb dX0_promise_111 (lv_at hl 0 rfl) ?_
              obtain ⟨a34, e35, hf⟩ := bd_e hf
              obtain ⟨g36, hf⟩ := gd_e hf
              refine x_getN (ci := 6) (C := RX6) (T := TX6) (N := 5) hx hb hts in_X6 hown hK.1 hX (rf_some e35) g36 (by decide) rfl 2 (Nat.le_of_ble_eq_true rfl) (hG.nw hK nq326) (fun _ h9 => h9) (hv_ref rfl) dX0_promise_113 ?_
              obtain ⟨a37, e38, hf⟩ := bd_e hf
              obtain ⟨r40, e39, hf⟩ := bd_e hf
              refine x_least hG hx hb hml hts hown hK hX (rf_some e38) (least_ok l G hG 208 _ _ _ e39) q748 hl.1 (Nat.le_of_ble_eq_true rfl) (Nat.le_of_ble_eq_true rfl) (Nat.le_of_ble_eq_true rfl) ⟨(by simp only [rmm]; omega), (by simp only [rmm]; omega)⟩ dX0_promise_116 ?_
              clear e39
              obtain rfl := Option.some.inj hf
              exact hret _ _ rfl dX0_promise_119
            · rw [if_neg c21] at hf
              have hlo : (p2 / 2).toInt < 0 ∨ 3 < (p2 / 2).toInt := by
                have := lv_neT c18 (a := 0) (by decide)
                have := lv_neT c19 (a := 1) (by decide)
                have := lv_neT c20 (a := 2) (by decide)
                have := lv_neT c21 (a := 3) (by decide)
                omega
              refine lv_tableOut (tgt := 120) hx hb dX0_promise_42 hlo (by decide) ?_
              refine lx_aload hx hb dX0_promise_120 (lv_at hl 0 rfl) ?_
              obtain ⟨a41, e42, hf⟩ := bd_e hf
              obtain ⟨g43, hf⟩ := gd_e hf
              refine x_getN (ci := 6) (C := RX6) (T := TX6) (N := 5) hx hb hts in_X6 hown hK.1 hX (rf_some e42) g43 (by decide) rfl 2 (Nat.le_of_ble_eq_true rfl) (hG.nw hK nq326) (fun _ h9 => h9) (hv_ref rfl) dX0_promise_122 ?_
              obtain ⟨a44, e45, hf⟩ := bd_e hf
              obtain ⟨r47, e46, hf⟩ := bd_e hf
              refine x_most hG hx hb hml hts hown hK hX (rf_some e45) (most_ok l G hG 208 _ _ _ e46) q749 hl.1 (Nat.le_of_ble_eq_true rfl) (Nat.le_of_ble_eq_true rfl) (Nat.le_of_ble_eq_true rfl) ⟨(by simp only [rmm]; omega), (by simp only [rmm]; omega)⟩ dX0_promise_125 ?_
              clear e46
              obtain rfl := Option.some.inj hf
              exact hret _ _ rfl dX0_promise_128
    · rw [if_pos c6] at hf
      exact B20 _ (lv_sub hl [0] rfl) hf
theorem cdX0_conditionOf : yX0_conditionOf.cls ≠ "java/lang/invoke/MethodHandle" ∧ yX0_conditionOf.cls ≠ "java/lang/invoke/VarHandle" ∧ (parseMethodDescriptor yX0_conditionOf.desc).map (fun d => d.parameters.length) = some 3 := by decide +kernel
set_option maxHeartbeats 4000000 in
set_option maxRecDepth 100000 in
theorem wx_conditionOf (l : Launch) (G : Gt) (hG : XG G) (h : Hp) (n : Nat) (o : Nat) (p1 : Int32) (p2 : Int32) (p3 : Int32) (r : Option Nat) (hf : X_conditionOf n o p1 p2 p3 h = some r) : Met l yX0_conditionOf (ws_ yX0_conditionOf cX0_conditionOf 5 (some (.object "PromiseTries$Holds"))) (rmm (2) 0 0 (46)) (XP G [.ref o, .int p1, .int p2, .int p3] h) (XQp (some (va_rf r))) 0 0 (fun _ => False) := by
  rw [X_conditionOf] at hf
  obtain ⟨g0, hf⟩ := gd_e hf
  refine metPr l (by decide) (Nat.le_of_ble_eq_true rfl) (Or.inl ⟨_, rfl⟩) ?_
  intro p e s m args below meth c Q hx hb hts hown hnmd hml hinit hK hW hret ls hl
  have hown : s.vm.findClass RX0 = some m.cls := hown
  have hX := XX.start hW
  have hl : lv_has ls 5 [(0, .ref o), (1, .int p1), (2, .int p2), (3, .int p3)] := hl
  have B20 : ∀ (ls : Array Slot), lv_has ls 5 [(0, .ref o)] → X_conditionOf_b20 n o h = some r → W p l e (rmm (2) 0 0 (46)) s m args below meth c s.heap [] 0 0 Q (F0 m 20 ls []) := by
    intro ls hl hf
    rw [X_conditionOf_b20] at hf
    refine lx_null hx hb dX0_conditionOf_20 ?_
    obtain rfl := Option.some.inj hf
    exact hret _ _ dX0_conditionOf_21
  refine lv_aload_n hx hb dX0_conditionOf_0 rfl (lv_at hl 0 rfl) ?_
  refine lv_iload_n hx hb dX0_conditionOf_1 rfl (lv_at hl 1 rfl) ?_
  obtain ⟨r2, e1, hf⟩ := bd_e hf
  refine x_doneP (va_runV (b := o) (As := [.int p1]) (rest := []) ⟨hx, hb, hml, hown, hts⟩ (wx_isPromise l G hG h n o p1 r2 e1) (cwV 1 hts (lw_V q742 q744 qs33 q94 q745) rfl rfl rfl ⟨rfl, cdX0_isPromise⟩ ⟨(Nat.le_of_ble_eq_true rfl), (Nat.le_of_ble_eq_true rfl)⟩) (x_preV (ci := 0) (T := TX0) (N := 16) hK hX _ g0 (by decide) rfl) rfl rfl hl.1 rfl (lv_room (Nat.le_of_ble_eq_true rfl)) dX0_conditionOf_2 ⟨(Nat.le_of_ble_eq_true rfl), (Nat.le_of_ble_eq_true rfl)⟩) rfl ?_
  clear e1
  refine lv_if_eq (tgt := 20) hx hb dX0_conditionOf_5 (by decide) (fun c3 => ?_) (fun c3 => ?_)
  · rw [if_pos c3] at hf
    exact B20 _ (lv_sub hl [0] rfl) hf
  · rw [if_neg c3] at hf
    refine lv_iload_n hx hb dX0_conditionOf_8 rfl (lv_at hl 2 rfl) ?_
    refine lv_i2l hx hb dX0_conditionOf_9 rfl ?_
    refine lv_lconst (v := 0) hx hb dX0_conditionOf_10 (by decide) ?_
    refine lv_ldc2 (v := 2) hx hb hown (hts _ q776) dX0_conditionOf_11 ?_
    obtain ⟨r5, e4, hf⟩ := bd_e hf
    refine x_doneP (va_runS (As := [.long (Int32.toInt64 p2), .long 0, .long 2]) (rest := []) ⟨hx, hb, hml, hown, hts⟩ (wx_isIn l G hG h n (Int32.toInt64 p2) 0 2 r5 e4) (va_cwS 3 hts (lw_S q127 q128 q94 q129) rfl rfl rfl cdX0_isIn ⟨(Nat.le_of_ble_eq_true rfl), (Nat.le_of_ble_eq_true rfl)⟩) (x_preS hK hX _) rfl rfl hl.1 rfl (lv_room (Nat.le_of_ble_eq_true rfl)) dX0_conditionOf_14 ⟨(Nat.le_of_ble_eq_true rfl), (Nat.le_of_ble_eq_true rfl)⟩) rfl ?_
    clear e4
    refine lv_if_ne (tgt := 22) hx hb dX0_conditionOf_17 (by decide) (fun c6 => ?_) (fun c6 => ?_)
    · rw [if_neg c6] at hf
      refine lv_iload_n hx hb dX0_conditionOf_22 rfl (lv_at hl 2 rfl) ?_
      refine lv_iconst (v := 2) hx hb dX0_conditionOf_23 (by decide) ?_
      refine lv_icmp_ne (tgt := 37) hx hb dX0_conditionOf_24 (by decide) (fun c7 => ?_) (fun c7 => ?_)
      · rw [if_neg c7] at hf
        refine lv_aload_n hx hb dX0_conditionOf_37 rfl (lv_at hl 0 rfl) ?_
        refine x_get (ci := 0) (C := RX0) (T := TX0) (N := 16) hx hb hts in_X0 hown hK.1 hX rfl g0 (by decide) rfl 3 (Nat.le_of_ble_eq_true rfl) (hts _ q911) (fun _ h9 => h9) (hv_ref rfl) dX0_conditionOf_38 ?_
        refine lv_iload_n hx hb dX0_conditionOf_41 rfl (lv_at hl 1 rfl) ?_
        obtain ⟨a8, e9, hf⟩ := bd_e hf
        obtain ⟨g10, hf⟩ := gd_e hf
        obtain ⟨g11, hf⟩ := gd_e hf
        refine x_aald hx hb hK.1 hX (rf_some e9) 7 g10 (by decide) rfl rfl rfl g11 dX0_conditionOf_42 ?_
        obtain ⟨a12, e13, hf⟩ := bd_e hf
        obtain ⟨g14, hf⟩ := gd_e hf
        refine x_getN (ci := 5) (C := RX5) (T := TX5) (N := 3) hx hb hts in_X5 hown hK.1 hX (rf_some e13) g14 (by decide) rfl 0 (Nat.le_of_ble_eq_true rfl) (hG.nw hK nq344) (fun _ h9 => h9) (hv_ref rfl) dX0_conditionOf_43 ?_
        refine lv_iload_n hx hb dX0_conditionOf_46 rfl (lv_at hl 2 rfl) ?_
        obtain ⟨a15, e16, hf⟩ := bd_e hf
        obtain ⟨g17, hf⟩ := gd_e hf
        obtain ⟨g18, hf⟩ := gd_e hf
        refine x_aald hx hb hK.1 hX (rf_some e16) 6 g17 (by decide) rfl rfl rfl g18 dX0_conditionOf_47 ?_
        refine lx_astore (r := (hR h a15 (Int32.toNatClampNeg p2))) (lv' := [(4, va_rf (hR h a15 (Int32.toNatClampNeg p2))), (0, .ref o), (1, .int p1), (2, .int p2), (3, .int p3)]) hx hb dX0_conditionOf_48 hl (by decide) rfl (fun ls hl => ?_)
        refine lv_iload_n hx hb dX0_conditionOf_50 rfl (lv_at hl 4 rfl) ?_
        refine lv_i2l hx hb dX0_conditionOf_51 rfl ?_
        refine lv_lconst (v := 0) hx hb dX0_conditionOf_52 (by decide) ?_
        refine lx_aload hx hb dX0_conditionOf_53 (lv_at hl 0 rfl) ?_
        obtain ⟨a19, e20, hf⟩ := bd_e hf
        obtain ⟨g21, hf⟩ := gd_e hf
        refine x_getN (ci := 6) (C := RX6) (T := TX6) (N := 5) hx hb hts in_X6 hown hK.1 hX (rf_some e20) g21 (by decide) rfl 1 (Nat.le_of_ble_eq_true rfl) (hG.nw hK nq324) (fun _ h9 => h9) (hv_int rfl) dX0_conditionOf_55 ?_
        refine lv_iconst (v := 1) hx hb dX0_conditionOf_58 (by decide) ?_
        refine lv_isub hx hb dX0_conditionOf_59 ?_
        refine lv_i2l hx hb dX0_conditionOf_60 rfl ?_
        obtain ⟨r23, e22, hf⟩ := bd_e hf
        refine x_doneP (va_runS (As := [.long (Int32.toInt64 p3), .long 0, .long (Int32.toInt64 ((hI h a19 1) - 1))]) (rest := []) ⟨hx, hb, hml, hown, hts⟩ (wx_isIn l G hG h n (Int32.toInt64 p3) 0 (Int32.toInt64 ((hI h a19 1) - 1)) r23 e22) (va_cwS 3 hts (lw_S q127 q128 q94 q129) rfl rfl rfl cdX0_isIn ⟨(Nat.le_of_ble_eq_true rfl), (Nat.le_of_ble_eq_true rfl)⟩) (x_preS hK hX _) rfl rfl hl.1 rfl (lv_room (Nat.le_of_ble_eq_true rfl)) dX0_conditionOf_61 ⟨(Nat.le_of_ble_eq_true rfl), (Nat.le_of_ble_eq_true rfl)⟩) rfl ?_
        clear e22
        refine lv_if_eq (tgt := 77) hx hb dX0_conditionOf_64 (by decide) (fun c24 => ?_) (fun c24 => ?_)
        · rw [if_pos c24] at hf
          refine lx_null hx hb dX0_conditionOf_77 ?_
          obtain rfl := Option.some.inj hf
          exact hret _ _ dX0_conditionOf_78
        · rw [if_neg c24] at hf
          refine lx_aload hx hb dX0_conditionOf_67 (lv_at hl 0 rfl) ?_
          refine x_getN (ci := 6) (C := RX6) (T := TX6) (N := 5) hx hb hts in_X6 hown hK.1 hX (rf_some e20) g21 (by decide) rfl 0 (Nat.le_of_ble_eq_true rfl) (hG.nw hK nq322) (fun _ h9 => h9) (hv_ref rfl) dX0_conditionOf_69 ?_
          refine lv_iload_n hx hb dX0_conditionOf_72 rfl (lv_at hl 4 rfl) ?_
          obtain ⟨a25, e26, hf⟩ := bd_e hf
          obtain ⟨g27, hf⟩ := gd_e hf
          obtain ⟨g28, hf⟩ := gd_e hf
          refine x_aald hx hb hK.1 hX (rf_some e26) 5 g27 (by decide) rfl rfl rfl g28 dX0_conditionOf_73 ?_
          refine lv_goto (tgt := 78) hx hb dX0_conditionOf_74 (by decide) ?_
          obtain rfl := Option.some.inj hf
          exact hret _ _ dX0_conditionOf_78
      · rw [if_pos c7] at hf
        refine lv_aload_n hx hb dX0_conditionOf_27 rfl (lv_at hl 0 rfl) ?_
        refine x_get (ci := 0) (C := RX0) (T := TX0) (N := 16) hx hb hts in_X0 hown hK.1 hX rfl g0 (by decide) rfl 3 (Nat.le_of_ble_eq_true rfl) (hts _ q911) (fun _ h9 => h9) (hv_ref rfl) dX0_conditionOf_28 ?_
        refine lv_iload_n hx hb dX0_conditionOf_31 rfl (lv_at hl 1 rfl) ?_
        obtain ⟨a29, e30, hf⟩ := bd_e hf
        obtain ⟨g31, hf⟩ := gd_e hf
        obtain ⟨g32, hf⟩ := gd_e hf
        refine x_aald hx hb hK.1 hX (rf_some e30) 7 g31 (by decide) rfl rfl rfl g32 dX0_conditionOf_32 ?_
        obtain ⟨a33, e34, hf⟩ := bd_e hf
        obtain ⟨g35, hf⟩ := gd_e hf
        refine x_getN (ci := 5) (C := RX5) (T := TX5) (N := 3) hx hb hts in_X5 hown hK.1 hX (rf_some e34) g35 (by decide) rfl 2 (Nat.le_of_ble_eq_true rfl) (hG.nw hK nq349) (fun _ h9 => h9) (hv_ref rfl) dX0_conditionOf_33 ?_
        obtain rfl := Option.some.inj hf
        exact hret _ _ dX0_conditionOf_36
    · rw [if_pos c6] at hf
      exact B20 _ (lv_sub hl [0] rfl) hf
theorem cdX0_fulfils : yX0_fulfils.cls ≠ "java/lang/invoke/MethodHandle" ∧ yX0_fulfils.cls ≠ "java/lang/invoke/VarHandle" ∧ (parseMethodDescriptor yX0_fulfils.desc).map (fun d => d.parameters.length) = some 4 := by decide +kernel
set_option maxHeartbeats 4000000 in
set_option maxRecDepth 100000 in
theorem wx_fulfils (l : Launch) (G : Gt) (hG : XG G) (h : Hp) (n : Nat) (o : Nat) (p1 : Int32) (p2 : Int32) (p3 : Int32) (p4 : Int32) (r : Int32) (hf : X_fulfils n o p1 p2 p3 p4 h = some r) : Met l yX0_fulfils (ws_ yX0_fulfils cX0_fulfils 6 (some .int)) (rmm (420) 0 0 (13440)) (XP G [.ref o, .int p1, .int p2, .int p3, .int p4] h) (XQp (some (.int r))) 0 0 (fun _ => False) := by
  rw [X_fulfils] at hf
  obtain ⟨g0, hf⟩ := gd_e hf
  refine metPi l (by decide) (Nat.le_of_ble_eq_true rfl) ?_
  intro p e s m args below meth c Q hx hb hts hown hnmd hml hinit hK hW hret ls hl
  have hown : s.vm.findClass RX0 = some m.cls := hown
  have hX := XX.start hW
  have hl : lv_has ls 6 [(0, .ref o), (1, .int p1), (2, .int p2), (3, .int p3), (4, .int p4)] := hl
  have B27 : ∀ (ls : Array Slot), lv_has ls 6 [(0, .ref o)] → X_fulfils_b27 n o h = some r → W p l e (rmm (420) 0 0 (13440)) s m args below meth c s.heap [] 0 0 Q (F0 m 27 ls []) := by
    intro ls hl hf
    rw [X_fulfils_b27] at hf
    refine lv_iconst (v := (-1)) hx hb dX0_fulfils_27 (by decide) ?_
    refine lv_goto (tgt := 48) hx hb dX0_fulfils_28 (by decide) ?_
    obtain rfl := Option.some.inj hf
    exact hret _ _ rfl dX0_fulfils_48
  refine lv_aload_n hx hb dX0_fulfils_0 rfl (lv_at hl 0 rfl) ?_
  refine lv_iload_n hx hb dX0_fulfils_1 rfl (lv_at hl 1 rfl) ?_
  refine lv_iload_n hx hb dX0_fulfils_2 rfl (lv_at hl 2 rfl) ?_
  refine lv_iload_n hx hb dX0_fulfils_3 rfl (lv_at hl 3 rfl) ?_
  obtain ⟨r2, e1, hf⟩ := bd_e hf
  refine x_doneP (va_runV (b := o) (As := [.int p1, .int p2, .int p3]) (rest := []) ⟨hx, hb, hml, hown, hts⟩ (wx_conditionOf l G hG h n o p1 p2 p3 r2 e1) (cwV 3 hts (lw_V q772 q774 qs34 q94 q775) rfl rfl rfl ⟨rfl, cdX0_conditionOf⟩ ⟨(Nat.le_of_ble_eq_true rfl), (Nat.le_of_ble_eq_true rfl)⟩) (x_preV (ci := 0) (T := TX0) (N := 16) hK hX _ g0 (by decide) rfl) rfl rfl hl.1 rfl (lv_room (Nat.le_of_ble_eq_true rfl)) dX0_fulfils_4 ⟨(Nat.le_of_ble_eq_true rfl), (Nat.le_of_ble_eq_true rfl)⟩) rfl ?_
  clear e1
  refine lx_astore (r := r2) (lv' := [(5, va_rf r2), (0, .ref o), (1, .int p1), (2, .int p2), (3, .int p3), (4, .int p4)]) hx hb dX0_fulfils_7 hl (by decide) rfl (fun ls hl => ?_)
  refine lx_aload hx hb dX0_fulfils_9 (lv_at hl 0 rfl) ?_
  refine lx_ifnull (r := r2) (tgt := 27) hx hb dX0_fulfils_11 (by decide) (fun c3 => ?_) (fun c3 => ?_)
  · rw [if_pos c3] at hf
    exact B27 _ (lv_sub hl [1] rfl) hf
  · rw [if_neg c3] at hf
    refine lv_iload hx hb dX0_fulfils_14 (lv_at hl 5 rfl) ?_
    refine lv_i2l hx hb dX0_fulfils_16 rfl ?_
    refine lv_lconst (v := 0) hx hb dX0_fulfils_17 (by decide) ?_
    refine lv_ldc2 (v := 255) hx hb hown (hts _ q777) dX0_fulfils_18 ?_
    obtain ⟨r5, e4, hf⟩ := bd_e hf
    refine x_doneP (va_runS (As := [.long (Int32.toInt64 p4), .long 0, .long 255]) (rest := []) ⟨hx, hb, hml, hown, hts⟩ (wx_isIn l G hG h n (Int32.toInt64 p4) 0 255 r5 e4) (va_cwS 3 hts (lw_S q127 q128 q94 q129) rfl rfl rfl cdX0_isIn ⟨(Nat.le_of_ble_eq_true rfl), (Nat.le_of_ble_eq_true rfl)⟩) (x_preS hK hX _) rfl rfl hl.1 rfl (lv_room (Nat.le_of_ble_eq_true rfl)) dX0_fulfils_21 ⟨(Nat.le_of_ble_eq_true rfl), (Nat.le_of_ble_eq_true rfl)⟩) rfl ?_
    clear e4
    refine lv_if_ne (tgt := 31) hx hb dX0_fulfils_24 (by decide) (fun c6 => ?_) (fun c6 => ?_)
    · rw [if_neg c6] at hf
      refine lx_aload hx hb dX0_fulfils_31 (lv_at hl 0 rfl) ?_
      refine lv_iload hx hb dX0_fulfils_33 (lv_at hl 5 rfl) ?_
      obtain ⟨a7, e8, hf⟩ := bd_e hf
      obtain ⟨r9, e10, hf⟩ := bd_e hf
      refine x_at hG hx hb hml hts hown hK hX (rf_some e8) (at_ok l G hG 209 _ _ _ _ e10) q633 hl.1 (Nat.le_of_ble_eq_true rfl) (Nat.le_of_ble_eq_true rfl) (Nat.le_of_ble_eq_true rfl) ⟨(by simp only [rmm]; omega), (by simp only [rmm]; omega)⟩ dX0_fulfils_35 ?_
      clear e10
      refine lv_if_eq (tgt := 47) hx hb dX0_fulfils_40 (by decide) (fun c11 => ?_) (fun c11 => ?_)
      · rw [if_pos c11] at hf
        refine lv_iconst (v := 0) hx hb dX0_fulfils_47 (by decide) ?_
        obtain rfl := Option.some.inj hf
        exact hret _ _ rfl dX0_fulfils_48
      · rw [if_neg c11] at hf
        refine lv_iconst (v := 1) hx hb dX0_fulfils_43 (by decide) ?_
        refine lv_goto (tgt := 48) hx hb dX0_fulfils_44 (by decide) ?_
        obtain rfl := Option.some.inj hf
        exact hret _ _ rfl dX0_fulfils_48
    · rw [if_pos c6] at hf
      exact B27 _ (lv_sub hl [1] rfl) hf
theorem cdX0_fulfilled : yX0_fulfilled.cls ≠ "java/lang/invoke/MethodHandle" ∧ yX0_fulfilled.cls ≠ "java/lang/invoke/VarHandle" ∧ (parseMethodDescriptor yX0_fulfilled.desc).map (fun d => d.parameters.length) = some 3 := by decide +kernel
set_option maxHeartbeats 4000000 in
set_option maxRecDepth 100000 in
theorem wx_fulfilled (l : Launch) (G : Gt) (hG : XG G) (h : Hp) (n : Nat) (o : Nat) (p1 : Int32) (p2 : Int32) (p3 : Int32) (r : Int32) (hf : X_fulfilled n o p1 p2 p3 h = some r) : Met l yX0_fulfilled (ws_ yX0_fulfilled cX0_fulfilled 5 (some .int)) (rmm (421) 0 0 (13462)) (XP G [.ref o, .int p1, .int p2, .int p3] h) (XQp (some (.int r))) 0 0 (fun _ => False) := by
  rw [X_fulfilled] at hf
  obtain ⟨g0, hf⟩ := gd_e hf
  refine metPi l (by decide) (Nat.le_of_ble_eq_true rfl) ?_
  intro p e s m args below meth c Q hx hb hts hown hnmd hml hinit hK hW hret ls hl
  have hown : s.vm.findClass RX0 = some m.cls := hown
  have hX := XX.start hW
  have hl : lv_has ls 5 [(0, .ref o), (1, .int p1), (2, .int p2), (3, .int p3)] := hl
  refine lv_aload_n hx hb dX0_fulfilled_0 rfl (lv_at hl 0 rfl) ?_
  refine lv_iload_n hx hb dX0_fulfilled_1 rfl (lv_at hl 1 rfl) ?_
  refine lv_iload_n hx hb dX0_fulfilled_2 rfl (lv_at hl 2 rfl) ?_
  refine lv_iload_n hx hb dX0_fulfilled_3 rfl (lv_at hl 3 rfl) ?_
  obtain ⟨r2, e1, hf⟩ := bd_e hf
  refine x_doneP (va_runV (b := o) (As := [.int p1, .int p2, .int p3]) (rest := []) ⟨hx, hb, hml, hown, hts⟩ (wx_conditionOf l G hG h n o p1 p2 p3 r2 e1) (cwV 3 hts (lw_V q772 q774 qs34 q94 q775) rfl rfl rfl ⟨rfl, cdX0_conditionOf⟩ ⟨(Nat.le_of_ble_eq_true rfl), (Nat.le_of_ble_eq_true rfl)⟩) (x_preV (ci := 0) (T := TX0) (N := 16) hK hX _ g0 (by decide) rfl) rfl rfl hl.1 rfl (lv_room (Nat.le_of_ble_eq_true rfl)) dX0_fulfilled_4 ⟨(Nat.le_of_ble_eq_true rfl), (Nat.le_of_ble_eq_true rfl)⟩) rfl ?_
  clear e1
  refine lx_astore (r := r2) (lv' := [(4, va_rf r2), (0, .ref o), (1, .int p1), (2, .int p2), (3, .int p3)]) hx hb dX0_fulfilled_7 hl (by decide) rfl (fun ls hl => ?_)
  refine lx_aload hx hb dX0_fulfilled_9 (lv_at hl 0 rfl) ?_
  refine lx_ifnonnull (r := r2) (tgt := 18) hx hb dX0_fulfilled_11 (by decide) (fun c3 => ?_) (fun c3 => ?_)
  · rw [if_neg c3] at hf
    refine lx_aload hx hb dX0_fulfilled_18 (lv_at hl 0 rfl) ?_
    obtain ⟨r5, e4, hf⟩ := bd_e hf
    refine x_doneP (va_runS (As := [va_rf r2]) (rest := []) ⟨hx, hb, hml, hown, hts⟩ (wx_fulfilling l G hG h n r2 r5 e4) (va_cwS 1 hts (lw_S q782 q630 q94 q631) rfl rfl rfl cdX0_fulfilling ⟨(Nat.le_of_ble_eq_true rfl), (Nat.le_of_ble_eq_true rfl)⟩) (x_preS hK hX _) rfl rfl hl.1 rfl (lv_room (Nat.le_of_ble_eq_true rfl)) dX0_fulfilled_20 ⟨(Nat.le_of_ble_eq_true rfl), (Nat.le_of_ble_eq_true rfl)⟩) rfl ?_
    clear e4
    obtain rfl := Option.some.inj hf
    exact hret _ _ rfl dX0_fulfilled_23
  · rw [if_pos c3] at hf
    refine lv_iconst (v := (-1)) hx hb dX0_fulfilled_14 (by decide) ?_
    refine lv_goto (tgt := 23) hx hb dX0_fulfilled_15 (by decide) ?_
    obtain rfl := Option.some.inj hf
    exact hret _ _ rfl dX0_fulfilled_23
theorem cdX0_isSide : yX0_isSide.cls ≠ "java/lang/invoke/MethodHandle" ∧ yX0_isSide.cls ≠ "java/lang/invoke/VarHandle" ∧ (parseMethodDescriptor yX0_isSide.desc).map (fun d => d.parameters.length) = some 3 := by decide +kernel
set_option maxHeartbeats 4000000 in
set_option maxRecDepth 100000 in
theorem wx_isSide (l : Launch) (G : Gt) (hG : XG G) (h : Hp) (n : Nat) (o : Nat) (p1 : Int32) (p2 : Int32) (p3 : Int32) (r : Int32) (hf : X_isSide n o p1 p2 p3 h = some r) : Met l yX0_isSide (ws_ yX0_isSide cX0_isSide 4 (some .boolean)) (rmm (2) 0 0 (46)) (XP G [.ref o, .int p1, .int p2, .int p3] h) (XQp (some (.int r))) 0 0 (fun _ => False) := by
  rw [X_isSide] at hf
  obtain ⟨g0, hf⟩ := gd_e hf
  refine metPi l (by decide) (Nat.le_of_ble_eq_true rfl) ?_
  intro p e s m args below meth c Q hx hb hts hown hnmd hml hinit hK hW hret ls hl
  have hown : s.vm.findClass RX0 = some m.cls := hown
  have hX := XX.start hW
  have hl : lv_has ls 4 [(0, .ref o), (1, .int p1), (2, .int p2), (3, .int p3)] := hl
  have B36 : ∀ (ls : Array Slot), lv_has ls 4 [(0, .ref o)] → X_isSide_b36 n o h = some r → W p l e (rmm (2) 0 0 (46)) s m args below meth c s.heap [] 0 0 Q (F0 m 36 ls []) := by
    intro ls hl hf
    rw [X_isSide_b36] at hf
    refine lv_iconst (v := 0) hx hb dX0_isSide_36 (by decide) ?_
    obtain rfl := Option.some.inj hf
    exact hret _ _ rfl dX0_isSide_37
  refine lv_aload_n hx hb dX0_isSide_0 rfl (lv_at hl 0 rfl) ?_
  refine lv_iload_n hx hb dX0_isSide_1 rfl (lv_at hl 1 rfl) ?_
  obtain ⟨r2, e1, hf⟩ := bd_e hf
  refine x_doneP (va_runV (b := o) (As := [.int p1]) (rest := []) ⟨hx, hb, hml, hown, hts⟩ (wx_isPromise l G hG h n o p1 r2 e1) (cwV 1 hts (lw_V q742 q744 qs33 q94 q745) rfl rfl rfl ⟨rfl, cdX0_isPromise⟩ ⟨(Nat.le_of_ble_eq_true rfl), (Nat.le_of_ble_eq_true rfl)⟩) (x_preV (ci := 0) (T := TX0) (N := 16) hK hX _ g0 (by decide) rfl) rfl rfl hl.1 rfl (lv_room (Nat.le_of_ble_eq_true rfl)) dX0_isSide_2 ⟨(Nat.le_of_ble_eq_true rfl), (Nat.le_of_ble_eq_true rfl)⟩) rfl ?_
  clear e1
  refine lv_if_eq (tgt := 36) hx hb dX0_isSide_5 (by decide) (fun c3 => ?_) (fun c3 => ?_)
  · rw [if_pos c3] at hf
    exact B36 _ (lv_sub hl [0] rfl) hf
  · rw [if_neg c3] at hf
    refine lv_iload_n hx hb dX0_isSide_8 rfl (lv_at hl 2 rfl) ?_
    refine lv_i2l hx hb dX0_isSide_9 rfl ?_
    refine lv_lconst (v := 0) hx hb dX0_isSide_10 (by decide) ?_
    refine lv_lconst (v := 1) hx hb dX0_isSide_11 (by decide) ?_
    obtain ⟨r5, e4, hf⟩ := bd_e hf
    refine x_doneP (va_runS (As := [.long (Int32.toInt64 p2), .long 0, .long 1]) (rest := []) ⟨hx, hb, hml, hown, hts⟩ (wx_isIn l G hG h n (Int32.toInt64 p2) 0 1 r5 e4) (va_cwS 3 hts (lw_S q127 q128 q94 q129) rfl rfl rfl cdX0_isIn ⟨(Nat.le_of_ble_eq_true rfl), (Nat.le_of_ble_eq_true rfl)⟩) (x_preS hK hX _) rfl rfl hl.1 rfl (lv_room (Nat.le_of_ble_eq_true rfl)) dX0_isSide_12 ⟨(Nat.le_of_ble_eq_true rfl), (Nat.le_of_ble_eq_true rfl)⟩) rfl ?_
    clear e4
    refine lv_if_eq (tgt := 36) hx hb dX0_isSide_15 (by decide) (fun c6 => ?_) (fun c6 => ?_)
    · rw [if_pos c6] at hf
      exact B36 _ (lv_sub hl [0] rfl) hf
    · rw [if_neg c6] at hf
      refine lv_iload_n hx hb dX0_isSide_18 rfl (lv_at hl 3 rfl) ?_
      refine lv_i2l hx hb dX0_isSide_19 rfl ?_
      refine lv_lconst (v := 0) hx hb dX0_isSide_20 (by decide) ?_
      refine lv_aload_n hx hb dX0_isSide_21 rfl (lv_at hl 0 rfl) ?_
      refine x_get (ci := 0) (C := RX0) (T := TX0) (N := 16) hx hb hts in_X0 hown hK.1 hX rfl g0 (by decide) rfl 6 (Nat.le_of_ble_eq_true rfl) (hts _ q914) (fun _ h9 => h9) (hv_int rfl) dX0_isSide_22 ?_
      refine lv_i2l hx hb dX0_isSide_25 rfl ?_
      obtain ⟨r8, e7, hf⟩ := bd_e hf
      refine x_doneP (va_runS (As := [.long (Int32.toInt64 p3), .long 0, .long (Int32.toInt64 (hI h o 6))]) (rest := []) ⟨hx, hb, hml, hown, hts⟩ (wx_isIn l G hG h n (Int32.toInt64 p3) 0 (Int32.toInt64 (hI h o 6)) r8 e7) (va_cwS 3 hts (lw_S q127 q128 q94 q129) rfl rfl rfl cdX0_isIn ⟨(Nat.le_of_ble_eq_true rfl), (Nat.le_of_ble_eq_true rfl)⟩) (x_preS hK hX _) rfl rfl hl.1 rfl (lv_room (Nat.le_of_ble_eq_true rfl)) dX0_isSide_26 ⟨(Nat.le_of_ble_eq_true rfl), (Nat.le_of_ble_eq_true rfl)⟩) rfl ?_
      clear e7
      refine lv_if_eq (tgt := 36) hx hb dX0_isSide_29 (by decide) (fun c9 => ?_) (fun c9 => ?_)
      · rw [if_pos c9] at hf
        exact B36 _ (lv_sub hl [0] rfl) hf
      · rw [if_neg c9] at hf
        refine lv_iconst (v := 1) hx hb dX0_isSide_32 (by decide) ?_
        refine lv_goto (tgt := 37) hx hb dX0_isSide_33 (by decide) ?_
        obtain rfl := Option.some.inj hf
        exact hret _ _ rfl dX0_isSide_37
theorem cdX0_matches : yX0_matches.cls ≠ "java/lang/invoke/MethodHandle" ∧ yX0_matches.cls ≠ "java/lang/invoke/VarHandle" ∧ (parseMethodDescriptor yX0_matches.desc).map (fun d => d.parameters.length) = some 4 := by decide +kernel
set_option maxHeartbeats 4000000 in
set_option maxRecDepth 100000 in
theorem wx_matches (l : Launch) (G : Gt) (hG : XG G) (h : Hp) (n : Nat) (o : Nat) (p1 : Int32) (p2 : Int32) (p3 : Int32) (p4 : Int32) (r : Int32) (h1 : Hp) (hf : X_matches n o p1 p2 p3 p4 h = some (r, h1)) : Met l yX0_matches (ws_ yX0_matches cX0_matches 6 (some .int)) (rmm (423) 0 0 (13514)) (XP G [.ref o, .int p1, .int p2, .int p3, .int p4] h) (XQ G (some (.int r)) h h1) 0 0 (fre h) := by
  rw [X_matches] at hf
  obtain ⟨g0, hf⟩ := gd_e hf
  refine metSi l (by decide) (Nat.le_of_ble_eq_true rfl) ?_
  intro p e s m args below meth c Q hx hb hts hown hnmd hml hinit hK hW hret ls hl
  have hown : s.vm.findClass RX0 = some m.cls := hown
  have hX := XX.start hW
  have hl : lv_has ls 6 [(0, .ref o), (1, .int p1), (2, .int p2), (3, .int p3), (4, .int p4)] := hl
  have B34 : ∀ (h_4 : Hp) (H : Heap) (locs : List Loc) (ls : Array Slot), XX G h s.heap h_4 H locs → lv_has ls 6 [(0, .ref o)] → X_matches_b34 n o h_4 = some (r, h1) → W p l e (rmm (423) 0 0 (13514)) s m args below meth c H locs 0 0 Q (F0 m 34 ls []) := by
    intro h_4 H locs ls hX hl hf
    rw [X_matches_b34] at hf
    refine lv_iconst (v := (-1)) hx hb dX0_matches_34 (by decide) ?_
    obtain ⟨rfl, rfl⟩ := Prod.mk.inj (Option.some.inj hf)
    exact hret _ _ _ _ hX rfl dX0_matches_35
  have B84 : ∀ (h_22 : Hp) (H : Heap) (locs : List Loc) (ls : Array Slot), XX G h s.heap h_22 H locs → lv_has ls 6 [(0, .ref o)] → X_matches_b84 n o h_22 = some (r, h1) → W p l e (rmm (423) 0 0 (13514)) s m args below meth c H locs 0 0 Q (F0 m 84 ls []) := by
    intro h_22 H locs ls hX hl hf
    rw [X_matches_b84] at hf
    refine lv_iconst (v := 0) hx hb dX0_matches_84 (by decide) ?_
    obtain ⟨rfl, rfl⟩ := Prod.mk.inj (Option.some.inj hf)
    exact hret _ _ _ _ hX rfl dX0_matches_85
  refine lv_aload_n hx hb dX0_matches_0 rfl (lv_at hl 0 rfl) ?_
  refine lv_iload_n hx hb dX0_matches_1 rfl (lv_at hl 1 rfl) ?_
  refine lv_iload_n hx hb dX0_matches_2 rfl (lv_at hl 2 rfl) ?_
  refine lv_iload_n hx hb dX0_matches_3 rfl (lv_at hl 3 rfl) ?_
  obtain ⟨r2, e1, hf⟩ := bd_e hf
  refine x_doneP (va_runV (b := o) (As := [.int p1, .int p2, .int p3]) (rest := []) ⟨hx, hb, hml, hown, hts⟩ (wx_isSide l G hG h n o p1 p2 p3 r2 e1) (cwV 3 hts (lw_V q787 q789 qs35 q94 q790) rfl rfl rfl ⟨rfl, cdX0_isSide⟩ ⟨(Nat.le_of_ble_eq_true rfl), (Nat.le_of_ble_eq_true rfl)⟩) (x_preV (ci := 0) (T := TX0) (N := 16) hK hX _ (hX.tg g0 (by decide)) (by decide) rfl) rfl rfl hl.1 rfl (lv_room (Nat.le_of_ble_eq_true rfl)) dX0_matches_4 ⟨(Nat.le_of_ble_eq_true rfl), (Nat.le_of_ble_eq_true rfl)⟩) rfl ?_
  clear e1
  refine lv_if_eq (tgt := 34) hx hb dX0_matches_7 (by decide) (fun c3 => ?_) (fun c3 => ?_)
  · rw [if_pos c3] at hf
    exact B34 h _ _ _ hX (lv_sub hl [0] rfl) hf
  · rw [if_neg c3] at hf
    refine lv_iload hx hb dX0_matches_10 (lv_at hl 4 rfl) ?_
    refine lv_i2l hx hb dX0_matches_12 rfl ?_
    refine lv_iload_n hx hb dX0_matches_13 rfl (lv_at hl 3 rfl) ?_
    refine lv_iconst (v := 1) hx hb dX0_matches_14 (by decide) ?_
    refine lv_isub hx hb dX0_matches_15 ?_
    refine lv_i2l hx hb dX0_matches_16 rfl ?_
    refine lv_iload_n hx hb dX0_matches_17 rfl (lv_at hl 3 rfl) ?_
    refine lv_aload_n hx hb dX0_matches_18 rfl (lv_at hl 0 rfl) ?_
    refine x_get (ci := 0) (C := RX0) (T := TX0) (N := 16) hx hb hts in_X0 hown hK.1 hX rfl (hX.tg g0 (by decide)) (by decide) rfl 6 (Nat.le_of_ble_eq_true rfl) (hts _ q914) (fun _ h9 => h9) (hv_int rfl) dX0_matches_19 ?_
    refine va_mmax hx hb (hml.trans hl.1.symm) hown (hts _ q791) (hts _ q441) (hts _ q108) (hts _ q442) (Nat.le_of_ble_eq_true rfl) (by show _ ≤ _; first | decide | (simp [rf_cat, cat_i, cat_l, cat_r, rmm]; done) | (simp [rf_cat, cat_i, cat_l, cat_r, rmm]; omega)) (by simp only [rmm]; omega) (by simp only [rmm]; omega) dX0_matches_22 ?_
    refine lv_iconst (v := 1) hx hb dX0_matches_25 (by decide) ?_
    refine lv_isub hx hb dX0_matches_26 ?_
    refine lv_i2l hx hb dX0_matches_27 rfl ?_
    obtain ⟨r6, e5, hf⟩ := bd_e hf
    refine x_doneP (va_runS (As := [.long (Int32.toInt64 p4), .long (Int32.toInt64 (p3 - 1)), .long (Int32.toInt64 ((if p3 < (hI h o 6) then (hI h o 6) else p3) - 1))]) (rest := []) ⟨hx, hb, hml, hown, hts⟩ (wx_isIn l G hG h n (Int32.toInt64 p4) (Int32.toInt64 (p3 - 1)) (Int32.toInt64 ((if p3 < (hI h o 6) then (hI h o 6) else p3) - 1)) r6 e5) (va_cwS 3 hts (lw_S q127 q128 q94 q129) rfl rfl rfl cdX0_isIn ⟨(Nat.le_of_ble_eq_true rfl), (Nat.le_of_ble_eq_true rfl)⟩) (x_preS hK hX _) rfl rfl hl.1 rfl (lv_room (Nat.le_of_ble_eq_true rfl)) dX0_matches_28 ⟨(Nat.le_of_ble_eq_true rfl), (Nat.le_of_ble_eq_true rfl)⟩) rfl ?_
    clear e5
    refine lv_if_ne (tgt := 36) hx hb dX0_matches_31 (by decide) (fun c7 => ?_) (fun c7 => ?_)
    · rw [if_neg c7] at hf
      refine lv_aload_n hx hb dX0_matches_36 rfl (lv_at hl 0 rfl) ?_
      obtain ⟨h9, e8, hf⟩ := bd_e hf
      refine x_done (mc := 0) (ms := 0) (va_runV (b := o) (As := []) (rest := []) ⟨hx, hb, hml, hown, hts⟩ (wx_runsAll l G hG h n o h9 e8) (cwV 0 hts (lw_V q656 q658 qs23 q94 q659) rfl rfl rfl ⟨rfl, cdX0_runsAll⟩ ⟨(Nat.le_of_ble_eq_true rfl), (Nat.le_of_ble_eq_true rfl)⟩) (x_preV (ci := 0) (T := TX0) (N := 16) hK hX _ (hX.tg g0 (by decide)) (by decide) rfl) rfl rfl hl.1 rfl (lv_room (Nat.le_of_ble_eq_true rfl)) dX0_matches_37 ⟨(Nat.le_of_ble_eq_true rfl), (Nat.le_of_ble_eq_true rfl)⟩) hX rfl (fun H locs hX => ?_)
      clear e8
      refine lv_aload_n hx hb dX0_matches_40 rfl (lv_at hl 0 rfl) ?_
      refine x_get (ci := 0) (C := RX0) (T := TX0) (N := 16) hx hb hts in_X0 hown hK.1 hX rfl (hX.tg g0 (by decide)) (by decide) rfl 3 (Nat.le_of_ble_eq_true rfl) (hts _ q911) (fun _ h9 => h9) (hv_ref rfl) dX0_matches_41 ?_
      refine lv_iload_n hx hb dX0_matches_44 rfl (lv_at hl 1 rfl) ?_
      obtain ⟨a10, e11, hf⟩ := bd_e hf
      obtain ⟨g12, hf⟩ := gd_e hf
      obtain ⟨g13, hf⟩ := gd_e hf
      refine x_aald hx hb hK.1 hX (rf_some e11) 7 g12 (by decide) rfl rfl rfl g13 dX0_matches_45 ?_
      obtain ⟨a14, e15, hf⟩ := bd_e hf
      obtain ⟨g16, hf⟩ := gd_e hf
      refine x_getN (ci := 5) (C := RX5) (T := TX5) (N := 3) hx hb hts in_X5 hown hK.1 hX (rf_some e15) g16 (by decide) rfl 0 (Nat.le_of_ble_eq_true rfl) (hG.nw hK nq344) (fun _ h9 => h9) (hv_ref rfl) dX0_matches_46 ?_
      refine lv_iload_n hx hb dX0_matches_49 rfl (lv_at hl 2 rfl) ?_
      obtain ⟨a17, e18, hf⟩ := bd_e hf
      obtain ⟨g19, hf⟩ := gd_e hf
      obtain ⟨g20, hf⟩ := gd_e hf
      refine x_aald hx hb hK.1 hX (rf_some e18) 6 g19 (by decide) rfl rfl rfl g20 dX0_matches_50 ?_
      refine lx_astore (r := (hR h9 a17 (Int32.toNatClampNeg p2))) (lv' := [(5, va_rf (hR h9 a17 (Int32.toNatClampNeg p2))), (0, .ref o), (1, .int p1), (2, .int p2), (3, .int p3), (4, .int p4)]) hx hb dX0_matches_51 hl (by decide) rfl (fun ls hl => ?_)
      refine lv_iload hx hb dX0_matches_53 (lv_at hl 5 rfl) ?_
      refine lv_iload_n hx hb dX0_matches_55 rfl (lv_at hl 4 rfl) ?_
      refine lv_icmp_lt (tgt := 84) hx hb dX0_matches_56 (by decide) (fun c21 => ?_) (fun c21 => ?_)
      · rw [if_pos c21] at hf
        exact B84 h9 _ _ _ hX (lv_sub hl [1] rfl) hf
      · rw [if_neg c21] at hf
        refine lx_aload hx hb dX0_matches_59 (lv_at hl 0 rfl) ?_
        obtain ⟨a23, e24, hf⟩ := bd_e hf
        obtain ⟨g25, hf⟩ := gd_e hf
        refine x_getN (ci := 6) (C := RX6) (T := TX6) (N := 5) hx hb hts in_X6 hown hK.1 hX (rf_some e24) g25 (by decide) rfl 3 (Nat.le_of_ble_eq_true rfl) (hG.nw hK nq327) (fun _ h9 => h9) (hv_ref rfl) dX0_matches_61 ?_
        refine lx_aload hx hb dX0_matches_64 (lv_at hl 0 rfl) ?_
        refine x_getN (ci := 6) (C := RX6) (T := TX6) (N := 5) hx hb hts in_X6 hown hK.1 hX (rf_some e24) g25 (by decide) rfl 4 (Nat.le_of_ble_eq_true rfl) (hG.nw hK nq330) (fun _ h9 => h9) (hv_ref rfl) dX0_matches_66 ?_
        refine lv_iload_n hx hb dX0_matches_69 rfl (lv_at hl 4 rfl) ?_
        obtain ⟨a26, e27, hf⟩ := bd_e hf
        obtain ⟨g28, hf⟩ := gd_e hf
        obtain ⟨g29, hf⟩ := gd_e hf
        refine x_aald hx hb hK.1 hX (rf_some e27) 11 g28 (by decide) rfl rfl rfl g29 dX0_matches_70 ?_
        refine lv_iload hx hb dX0_matches_71 (lv_at hl 5 rfl) ?_
        obtain ⟨a30, e31, hf⟩ := bd_e hf
        obtain ⟨g32, hf⟩ := gd_e hf
        obtain ⟨g33, hf⟩ := gd_e hf
        refine x_lald hx hb hK.1 hX (rf_some e31) g32 g33 dX0_matches_73 ?_
        obtain ⟨a34, e35, hf⟩ := bd_e hf
        obtain ⟨g37, hf⟩ := gd_e hf
        obtain ⟨r38, e36, hf⟩ := bd_e hf
        refine x_doneP (va_runV (b := a34) (As := [.long (hL h9 a30 (Int32.toNatClampNeg p4))]) (rest := []) ⟨hx, hb, hml, hown, hts⟩ (wx_Machine_ends l G hG h9 n a34 (hL h9 a30 (Int32.toNatClampNeg p4)) r38 e36) (cwV 1 hts (lw_V q703 q704 q705 q112 q706) rfl rfl rfl ⟨rfl, cdX13_ends⟩ ⟨(Nat.le_of_ble_eq_true rfl), (Nat.le_of_ble_eq_true rfl)⟩) (x_preV (ci := 11) (T := TX13) (N := 6) hK hX _ g37 (by decide) rfl) rfl rfl hl.1 (stk_eq (rf_some e35) rfl) (lv_room (Nat.le_of_ble_eq_true rfl)) dX0_matches_74 ⟨(Nat.le_of_ble_eq_true rfl), (Nat.le_of_ble_eq_true rfl)⟩) rfl ?_
        clear e36
        refine lv_if_eq (tgt := 84) hx hb dX0_matches_77 (by decide) (fun c39 => ?_) (fun c39 => ?_)
        · rw [if_pos c39] at hf
          exact B84 h9 _ _ _ hX (lv_sub hl [1] rfl) hf
        · rw [if_neg c39] at hf
          refine lv_iconst (v := 1) hx hb dX0_matches_80 (by decide) ?_
          refine lv_goto (tgt := 85) hx hb dX0_matches_81 (by decide) ?_
          obtain ⟨rfl, rfl⟩ := Prod.mk.inj (Option.some.inj hf)
          exact hret _ _ _ _ hX rfl dX0_matches_85
    · rw [if_pos c7] at hf
      exact B34 h _ _ _ hX (lv_sub hl [0] rfl) hf
