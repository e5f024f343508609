/-! walks of the system (by program) -/
theorem cdX0_runs : yX0_runs.cls ≠ "java/lang/invoke/MethodHandle" ∧ yX0_runs.cls ≠ "java/lang/invoke/VarHandle" ∧ (parseMethodDescriptor yX0_runs.desc).map (fun d => d.parameters.length) = some 1 := by decide +kernel
set_option maxHeartbeats 4000000 in
set_option maxRecDepth 100000 in
theorem wx_runs (l : Launch) (G : Gt) (hG : XG G) (h : Hp) (n : Nat) (o : Nat) (p1 : Option Nat) (h1 : Hp) (hf : X_runs n o p1 h = some h1) : Met l yX0_runs (ws_ yX0_runs cX0_runs 6 none) (rmm (421) 0 0 (13466)) (XP G [.ref o, va_rf p1] h) (XQ G none h h1) 0 0 (fre h) := by
  rw [X_runs] at hf
  obtain ⟨g0, hf⟩ := gd_e hf
  refine metSv l (by decide) (by cases p1 <;> exact Nat.le_of_ble_eq_true rfl) ?_
  intro p e s m args below meth c Q hx hb hts hown hnmd hml hinit hK hW hret ls hl
  have hown : s.vm.findClass RX0 = some m.cls := hown
  have hX := XX.start hW
  have hl : lv_has ls 6 [(0, .ref o), (1, va_rf p1)] := Eq.mp (congrArg (lv_has ls 6) (show lv_args 0 [.ref o, va_rf p1] = [(0, .ref o), (1, va_rf p1)] from by clear hf; cases p1 <;> rfl)) hl
  have B21 : ∀ (K2 : Option Nat → Int32 → Hp → Option (Hp)) (hK2 : ∀ (v1 : Option Nat) (v2 : Int32) (h2 : Hp) (H : Heap) (locs : List Loc) (ls : Array Slot), XX G h s.heap h2 H locs → lv_has ls 6 [(0, .ref o), (1, va_rf v1), (2, .int v2)] → K2 v1 v2 h2 = some h1 → W p l e (rmm (421) 0 0 (13466)) s m args below meth c H locs 0 0 Q (F0 m 2 ls [])) (f : Nat) (v1 : Option Nat) (v2 : Int32) (v3 : Int64) (v5 : Int32) (h_9 : Hp) (H : Heap) (locs : List Loc) (ls : Array Slot), XX G h s.heap h_9 H locs → lv_has ls 6 [(0, .ref o), (1, va_rf v1), (2, .int v2), (3, .long v3), (5, .int v5)] → X_runs_b21 n o K2 f v1 v2 v3 v5 h_9 = some h1 → W p l e (rmm (421) 0 0 (13466)) s m args below meth c H locs 0 0 Q (F0 m 21 ls []) := by
    intro K2 hK2
    intro f
    induction f with
    | zero =>
      intro v1 v2 v3 v5 h_9 H locs ls hX hl hf
      rw [X_runs_b21] at hf
      cases hf
    | succ f hK21 =>
      intro v1 v2 v3 v5 h_9 H locs ls hX hl hf
      rw [X_runs_b21] at hf
      refine lv_iload hx hb dX0_runs_21 (lv_at hl 4 rfl) ?_
      refine lv_aload_n hx hb dX0_runs_23 rfl (lv_at hl 0 rfl) ?_
      refine x_get (ci := 0) (C := RX0) (T := TX0) (N := 16) hx hb hts in_X0 hown hK.1 hX rfl (hX.tg g0 (by decide)) (by decide) rfl 6 (Nat.le_of_ble_eq_true rfl) (hts _ q914) (fun _ h9 => h9) (hv_int rfl) dX0_runs_24 ?_
      refine lv_icmp_ge (tgt := 71) hx hb dX0_runs_27 (by decide) (fun c10 => ?_) (fun c10 => ?_)
      · rw [if_pos c10] at hf
        refine lv_iinc (v := (v2 + 1)) (lv' := [(2, .int (v2 + 1)), (0, .ref o), (1, va_rf v1), (3, .long v3), (5, .int v5)]) hx hb dX0_runs_71 hl (k := 2) rfl rfl (by decide) (by generalize hq9 : va_rf v1 = w9; have hc9 : w9.category = 1 := (by rw [← hq9]; exact rf_cat _); cases w9 <;> first | rfl | cases hc9) (fun ls hl => ?_)
        refine lv_goto (tgt := 2) hx hb dX0_runs_74 (by decide) ?_
        exact hK2 v1 (v2 + 1) h_9 _ _ _ hX (lv_sub hl [1, 2, 0] rfl) hf
      · rw [if_neg c10] at hf
        refine lx_aload_n hx hb dX0_runs_30 rfl (lv_at hl 1 rfl) ?_
        obtain ⟨a11, e12, hf⟩ := bd_e hf
        obtain ⟨g13, hf⟩ := gd_e hf
        refine x_getN (ci := 6) (C := RX6) (T := TX6) (N := 5) hx hb hts in_X6 hown hK.1 hX (rf_some e12) g13 (by decide) rfl 3 (Nat.le_of_ble_eq_true rfl) (hG.nw hK nq327) (fun _ h9 => h9) (hv_ref rfl) dX0_runs_31 ?_
        refine lv_lload_n hx hb dX0_runs_34 rfl (lv_at hl 3 rfl) ?_
        refine lv_aload_n hx hb dX0_runs_35 rfl (lv_at hl 0 rfl) ?_
        refine x_get (ci := 0) (C := RX0) (T := TX0) (N := 16) hx hb hts in_X0 hown hK.1 hX rfl (hX.tg g0 (by decide)) (by decide) rfl 5 (Nat.le_of_ble_eq_true rfl) (hts _ q913) (fun _ h9 => h9) (hv_ref rfl) dX0_runs_36 ?_
        refine lv_iload hx hb dX0_runs_39 (lv_at hl 4 rfl) ?_
        obtain ⟨a14, e15, hf⟩ := bd_e hf
        obtain ⟨g16, hf⟩ := gd_e hf
        obtain ⟨g17, hf⟩ := gd_e hf
        refine x_iald hx hb hK.1 hX (rf_some e15) g16 g17 dX0_runs_41 ?_
        obtain ⟨a18, e19, hf⟩ := bd_e hf
        obtain ⟨g21, hf⟩ := gd_e hf
        obtain ⟨r22, e20, hf⟩ := bd_e hf
        refine x_doneP (va_runV (b := a18) (As := [.long v3, .int (hI h_9 a14 (Int32.toNatClampNeg v5))]) (rest := []) ⟨hx, hb, hml, hown, hts⟩ (wx_Machine_taking l G hG h_9 n a18 v3 (hI h_9 a14 (Int32.toNatClampNeg v5)) r22 e20) (cwV 2 hts (lw_V q664 q665 q666 q112 q667) rfl rfl rfl ⟨rfl, cdX13_taking⟩ ⟨(Nat.le_of_ble_eq_true rfl), (Nat.le_of_ble_eq_true rfl)⟩) (x_preV (ci := 11) (T := TX13) (N := 6) hK hX _ g21 (by decide) rfl) rfl rfl hl.1 (stk_eq (rf_some e19) rfl) (lv_room (Nat.le_of_ble_eq_true rfl)) dX0_runs_42 ⟨(Nat.le_of_ble_eq_true rfl), (Nat.le_of_ble_eq_true rfl)⟩) rfl ?_
        clear e20
        refine lv_lstore_n (lv' := [(3, .long r22), (0, .ref o), (1, va_rf v1), (2, .int v2), (5, .int v5)]) hx hb dX0_runs_45 rfl hl (by decide) rfl (fun ls hl => ?_)
        refine lx_aload_n hx hb dX0_runs_46 rfl (lv_at hl 2 rfl) ?_
        refine x_getN (ci := 6) (C := RX6) (T := TX6) (N := 5) hx hb hts in_X6 hown hK.1 hX (rf_some e12) g13 (by decide) rfl 4 (Nat.le_of_ble_eq_true rfl) (hG.nw hK nq330) (fun _ h9 => h9) (hv_ref rfl) dX0_runs_47 ?_
        refine lv_iload_n hx hb dX0_runs_50 rfl (lv_at hl 3 rfl) ?_
        obtain ⟨a23, e24, hf⟩ := bd_e hf
        obtain ⟨g25, hf⟩ := gd_e hf
        obtain ⟨g26, hf⟩ := gd_e hf
        refine x_aald hx hb hK.1 hX (rf_some e24) 11 g25 (by decide) rfl rfl rfl g26 dX0_runs_51 ?_
        refine lv_iload hx hb dX0_runs_52 (lv_at hl 4 rfl) ?_
        refine lv_lload_n hx hb dX0_runs_54 rfl (lv_at hl 0 rfl) ?_
        obtain ⟨a27, e28, hf⟩ := bd_e hf
        obtain ⟨g29, hf⟩ := gd_e hf
        obtain ⟨g30, hf⟩ := gd_e hf
        obtain ⟨h31, eh31, hf⟩ := st_e hf
        refine x_last hx hb hK.1 hX (rf_some e28) g29 g30 dX0_runs_55 (fun H locs hX => ?_)
        replace hX := hX.re eh31
        clear eh31
        refine lx_aload_n hx hb dX0_runs_56 rfl (lv_at hl 2 rfl) ?_
        obtain ⟨g32, hf⟩ := gd_e hf
        refine x_getN (ci := 6) (C := RX6) (T := TX6) (N := 5) hx hb hts in_X6 hown hK.1 hX (rf_some e12) g32 (by decide) rfl 3 (Nat.le_of_ble_eq_true rfl) (hG.nw hK nq327) (fun _ h9 => h9) (hv_ref rfl) dX0_runs_57 ?_
        refine lv_lload_n hx hb dX0_runs_60 rfl (lv_at hl 0 rfl) ?_
        obtain ⟨a33, e34, hf⟩ := bd_e hf
        obtain ⟨g36, hf⟩ := gd_e hf
        obtain ⟨r37, e35, hf⟩ := bd_e hf
        refine x_doneP (va_runV (b := a33) (As := [.long r22]) (rest := []) ⟨hx, hb, hml, hown, hts⟩ (wx_Machine_behindAll l G hG h31 n a33 r22 r37 e35) (cwV 1 hts (lw_V q670 q671 q672 q112 q673) rfl rfl rfl ⟨rfl, cdX13_behindAll⟩ ⟨(Nat.le_of_ble_eq_true rfl), (Nat.le_of_ble_eq_true rfl)⟩) (x_preV (ci := 11) (T := TX13) (N := 6) hK hX _ g36 (by decide) rfl) rfl rfl hl.1 (stk_eq (rf_some e34) rfl) (lv_room (Nat.le_of_ble_eq_true rfl)) dX0_runs_61 ⟨(Nat.le_of_ble_eq_true rfl), (Nat.le_of_ble_eq_true rfl)⟩) rfl ?_
        clear e35
        refine lv_lstore_n (lv' := [(3, .long r37), (0, .ref o), (1, va_rf v1), (2, .int v2), (5, .int v5)]) hx hb dX0_runs_64 rfl hl (by decide) rfl (fun ls hl => ?_)
        refine lv_iinc (v := (v5 + 1)) (lv' := [(5, .int (v5 + 1)), (3, .long r37), (0, .ref o), (1, va_rf v1), (2, .int v2)]) hx hb dX0_runs_65 hl (k := 4) rfl rfl (by decide) rfl (fun ls hl => ?_)
        refine lv_goto (tgt := 21) hx hb dX0_runs_68 (by decide) ?_
        exact hK21 v1 v2 r37 (v5 + 1) h31 _ _ _ hX (lv_sub hl [2, 3, 4, 1, 0] rfl) hf
  have B2 : ∀ (f : Nat) (v1 : Option Nat) (v2 : Int32) (h_1 : Hp) (H : Heap) (locs : List Loc) (ls : Array Slot), XX G h s.heap h_1 H locs → lv_has ls 6 [(0, .ref o), (1, va_rf v1), (2, .int v2)] → X_runs_b2 n o f v1 v2 h_1 = some h1 → W p l e (rmm (421) 0 0 (13466)) s m args below meth c H locs 0 0 Q (F0 m 2 ls []) := by
    intro f
    induction f with
    | zero =>
      intro v1 v2 h_1 H locs ls hX hl hf
      rw [X_runs_b2] at hf
      cases hf
    | succ f hK2 =>
      intro v1 v2 h_1 H locs ls hX hl hf
      rw [X_runs_b2] at hf
      refine lv_iload_n hx hb dX0_runs_2 rfl (lv_at hl 2 rfl) ?_
      refine lv_aload_n hx hb dX0_runs_3 rfl (lv_at hl 0 rfl) ?_
      refine x_get (ci := 0) (C := RX0) (T := TX0) (N := 16) hx hb hts in_X0 hown hK.1 hX rfl (hX.tg g0 (by decide)) (by decide) rfl 6 (Nat.le_of_ble_eq_true rfl) (hts _ q914) (fun _ h9 => h9) (hv_int rfl) dX0_runs_4 ?_
      refine lv_icmp_ge (tgt := 77) hx hb dX0_runs_7 (by decide) (fun c2 => ?_) (fun c2 => ?_)
      · rw [if_pos c2] at hf
        obtain rfl := Option.some.inj hf
        exact hret _ _ _ _ hX dX0_runs_77
      · rw [if_neg c2] at hf
        refine lx_aload_n hx hb dX0_runs_10 rfl (lv_at hl 1 rfl) ?_
        obtain ⟨a3, e4, hf⟩ := bd_e hf
        obtain ⟨g5, hf⟩ := gd_e hf
        refine x_getN (ci := 6) (C := RX6) (T := TX6) (N := 5) hx hb hts in_X6 hown hK.1 hX (rf_some e4) g5 (by decide) rfl 3 (Nat.le_of_ble_eq_true rfl) (hG.nw hK nq327) (fun _ h9 => h9) (hv_ref rfl) dX0_runs_11 ?_
        obtain ⟨a6, e7, hf⟩ := bd_e hf
        obtain ⟨g8, hf⟩ := gd_e hf
        refine x_getN (ci := 11) (C := RX13) (T := TX13) (N := 6) hx hb hts in_X13 hown hK.1 hX (rf_some e7) g8 (by decide) rfl 3 (Nat.le_of_ble_eq_true rfl) (hG.nw hK nq552) (fun _ h9 => h9) (hv_long rfl) dX0_runs_14 ?_
        refine lv_lstore_n (lv' := [(3, .long (hL h_1 a6 3)), (0, .ref o), (1, va_rf v1), (2, .int v2)]) hx hb dX0_runs_17 rfl hl (by decide) rfl (fun ls hl => ?_)
        refine lv_iload_n hx hb dX0_runs_18 rfl (lv_at hl 3 rfl) ?_
        refine lv_istore (lv' := [(5, .int v2), (3, .long (hL h_1 a6 3)), (0, .ref o), (1, va_rf v1), (2, .int v2)]) hx hb dX0_runs_19 hl (by decide) rfl (fun ls hl => ?_)
        exact B21 (X_runs_b2 n o f) hK2 n v1 v2 (hL h_1 a6 3) v2 h_1 _ _ _ hX (lv_sub hl [2, 3, 4, 1, 0] rfl) hf
  refine lv_iconst (v := 0) hx hb dX0_runs_0 (by decide) ?_
  refine lv_istore_n (lv' := [(2, .int 0), (0, .ref o), (1, va_rf p1)]) hx hb dX0_runs_1 rfl hl (by decide) (by generalize hq9 : va_rf p1 = w9; have hc9 : w9.category = 1 := (by rw [← hq9]; exact rf_cat _); cases w9 <;> first | rfl | cases hc9) (fun ls hl => ?_)
  exact B2 n p1 0 h _ _ _ hX (lv_sub hl [1, 2, 0] rfl) hf
theorem cdX5_kind : yX5_kind.cls ≠ "java/lang/invoke/MethodHandle" ∧ yX5_kind.cls ≠ "java/lang/invoke/VarHandle" ∧ (parseMethodDescriptor yX5_kind.desc).map (fun d => d.parameters.length) = some 0 := by decide +kernel
set_option maxHeartbeats 4000000 in
set_option maxRecDepth 100000 in
theorem wx_Promise_kind (l : Launch) (G : Gt) (hG : XG G) (h : Hp) (n : Nat) (o : Nat) (r : Option Nat) (hf : X_Promise_kind n o h = some r) : Met l yX5_kind (ws_ yX5_kind cX5_kind 1 (some (.object "PromiseTries$Kind"))) (rmm (0) 0 0 (0)) (XP G [.ref o] h) (XQp (some (va_rf r))) 0 0 (fun _ => False) := by
  rw [X_Promise_kind] at hf
  obtain ⟨g0, hf⟩ := gd_e hf
  refine metPr l (by decide) (Nat.le_of_ble_eq_true rfl) (Or.inl ⟨_, rfl⟩) ?_
  intro p e s m args below meth c Q hx hb hts hown hnmd hml hinit hK hW hret ls hl
  have hown : s.vm.findClass RX5 = some m.cls := hown
  have hX := XX.start hW
  have hl : lv_has ls 1 [(0, .ref o)] := hl
  refine lv_aload_n hx hb dX5_kind_0 rfl (lv_at hl 0 rfl) ?_
  refine x_get (ci := 5) (C := RX5) (T := TX5) (N := 3) hx hb hts in_X5 hown hK.1 hX rfl g0 (by decide) rfl 1 (Nat.le_of_ble_eq_true rfl) (hts _ q346) (fun _ h9 => h9) (hv_int rfl) dX5_kind_1 ?_
  refine lv_if_ne (tgt := 13) hx hb dX5_kind_4 (by decide) (fun c1 => ?_) (fun c1 => ?_)
  · rw [if_neg c1] at hf
    obtain ⟨g2, hf⟩ := gd_e hf
    refine x_gets hx hb hK hX (k := 1) (by decide) (hG.k hK).2.2.1.2.1 g2 hown (hts _ q688) (fun _ h9 => h9) dX5_kind_13 ?_
    obtain rfl := Option.some.inj hf
    exact hret _ _ dX5_kind_16
  · rw [if_pos c1] at hf
    obtain ⟨g3, hf⟩ := gd_e hf
    refine x_gets hx hb hK hX (k := 0) (by decide) (hG.k hK).2.2.1.1 g3 hown (hts _ q686) (fun _ h9 => h9) dX5_kind_7 ?_
    refine lv_goto (tgt := 16) hx hb dX5_kind_10 (by decide) ?_
    obtain rfl := Option.some.inj hf
    exact hret _ _ dX5_kind_16
theorem cdX13_ends : yX13_ends.cls ≠ "java/lang/invoke/MethodHandle" ∧ yX13_ends.cls ≠ "java/lang/invoke/VarHandle" ∧ (parseMethodDescriptor yX13_ends.desc).map (fun d => d.parameters.length) = some 1 := by decide +kernel
set_option maxHeartbeats 4000000 in
set_option maxRecDepth 100000 in
theorem wx_Machine_ends (l : Launch) (G : Gt) (hG : XG G) (h : Hp) (n : Nat) (o : Nat) (p1 : Int64) (r : Int32) (hf : X_Machine_ends n o p1 h = some r) : Met l yX13_ends (ws_ yX13_ends cX13_ends 3 (some .boolean)) (rmm (0) 0 0 (0)) (XP G [.ref o, .long p1] h) (XQp (some (.int r))) 0 0 (fun _ => False) := by
  rw [X_Machine_ends] at hf
  obtain ⟨g0, hf⟩ := gd_e hf
  refine metPi l (by decide) (Nat.le_of_ble_eq_true rfl) ?_
  intro p e s m args below meth c Q hx hb hts hown hnmd hml hinit hK hW hret ls hl
  have hown : s.vm.findClass RX13 = some m.cls := hown
  have hX := XX.start hW
  have hl : lv_has ls 3 [(0, .ref o), (1, .long p1)] := hl
  refine lv_lload_n hx hb dX13_ends_0 rfl (lv_at hl 1 rfl) ?_
  refine lv_aload_n hx hb dX13_ends_1 rfl (lv_at hl 0 rfl) ?_
  refine x_get (ci := 11) (C := RX13) (T := TX13) (N := 6) hx hb hts in_X13 hown hK.1 hX rfl g0 (by decide) rfl 4 (Nat.le_of_ble_eq_true rfl) (hts _ q553) (fun _ h9 => h9) (hv_long rfl) dX13_ends_2 ?_
  refine lv_land hx hb dX13_ends_5 ?_
  refine lv_lconst (v := 0) hx hb dX13_ends_6 (by decide) ?_
  refine W.lcmp hx hb dX13_ends_7 ?_
  refine lv_if_eq (tgt := 15) hx hb dX13_ends_8 (by decide) (fun c1 => ?_) (fun c1 => ?_)
  · rw [if_pos c1] at hf
    refine lv_iconst (v := 0) hx hb dX13_ends_15 (by decide) ?_
    obtain rfl := Option.some.inj hf
    exact hret _ _ rfl dX13_ends_16
  · rw [if_neg c1] at hf
    refine lv_iconst (v := 1) hx hb dX13_ends_11 (by decide) ?_
    refine lv_goto (tgt := 16) hx hb dX13_ends_12 (by decide) ?_
    obtain rfl := Option.some.inj hf
    exact hret _ _ rfl dX13_ends_16
theorem cdX0_firstEnd : yX0_firstEnd.cls ≠ "java/lang/invoke/MethodHandle" ∧ yX0_firstEnd.cls ≠ "java/lang/invoke/VarHandle" ∧ (parseMethodDescriptor yX0_firstEnd.desc).map (fun d => d.parameters.length) = some 2 := by decide +kernel
set_option maxHeartbeats 4000000 in
set_option maxRecDepth 100000 in
theorem wx_firstEnd (l : Launch) (G : Gt) (hG : XG G) (h : Hp) (n : Nat) (o : Nat) (p1 : Option Nat) (p2 : Int32) (r : Int32) (hf : X_firstEnd n o p1 p2 h = some r) : Met l yX0_firstEnd (ws_ yX0_firstEnd cX0_firstEnd 4 (some .int)) (rmm (1) 0 0 (22)) (XP G [.ref o, va_rf p1, .int p2] h) (XQp (some (.int r))) 0 0 (fun _ => False) := by
  rw [X_firstEnd] at hf
  obtain ⟨g0, hf⟩ := gd_e hf
  refine metPi l (by decide) (by cases p1 <;> exact Nat.le_of_ble_eq_true rfl) ?_
  intro p e s m args below meth c Q hx hb hts hown hnmd hml hinit hK hW hret ls hl
  have hown : s.vm.findClass RX0 = some m.cls := hown
  have hX := XX.start hW
  have hl : lv_has ls 4 [(0, .ref o), (1, va_rf p1), (2, .int p2)] := Eq.mp (congrArg (lv_has ls 4) (show lv_args 0 [.ref o, va_rf p1, .int p2] = [(0, .ref o), (1, va_rf p1), (2, .int p2)] from by clear hf; cases p1 <;> rfl)) hl
  have B2 : ∀ (f : Nat) (v1 : Option Nat) (v2 : Int32) (v3 : Int32) (ls : Array Slot), lv_has ls 4 [(0, .ref o), (1, va_rf v1), (2, .int v2), (3, .int v3)] → X_firstEnd_b2 n o h f v1 v2 v3 = some r → W p l e (rmm (1) 0 0 (22)) s m args below meth c s.heap [] 0 0 Q (F0 m 2 ls []) := by
    intro f
    induction f with
    | zero =>
      intro v1 v2 v3 ls hl hf
      rw [X_firstEnd_b2] at hf
      cases hf
    | succ f hK2 =>
      intro v1 v2 v3 ls hl hf
      rw [X_firstEnd_b2] at hf
      refine lv_iload_n hx hb dX0_firstEnd_2 rfl (lv_at hl 3 rfl) ?_
      refine lv_aload_n hx hb dX0_firstEnd_3 rfl (lv_at hl 0 rfl) ?_
      refine x_get (ci := 0) (C := RX0) (T := TX0) (N := 16) hx hb hts in_X0 hown hK.1 hX rfl g0 (by decide) rfl 6 (Nat.le_of_ble_eq_true rfl) (hts _ q914) (fun _ h9 => h9) (hv_int rfl) dX0_firstEnd_4 ?_
      refine lv_icmp_ge (tgt := 36) hx hb dX0_firstEnd_7 (by decide) (fun c1 => ?_) (fun c1 => ?_)
      · rw [if_pos c1] at hf
        refine lv_bipush (v := (-4)) hx hb dX0_firstEnd_36 (by decide) ?_
        obtain rfl := Option.some.inj hf
        exact hret _ _ rfl dX0_firstEnd_38
      · rw [if_neg c1] at hf
        refine lx_aload_n hx hb dX0_firstEnd_10 rfl (lv_at hl 1 rfl) ?_
        obtain ⟨a2, e3, hf⟩ := bd_e hf
        obtain ⟨g4, hf⟩ := gd_e hf
        refine x_getN (ci := 6) (C := RX6) (T := TX6) (N := 5) hx hb hts in_X6 hown hK.1 hX (rf_some e3) g4 (by decide) rfl 3 (Nat.le_of_ble_eq_true rfl) (hG.nw hK nq327) (fun _ h9 => h9) (hv_ref rfl) dX0_firstEnd_11 ?_
        refine lx_aload_n hx hb dX0_firstEnd_14 rfl (lv_at hl 1 rfl) ?_
        refine x_getN (ci := 6) (C := RX6) (T := TX6) (N := 5) hx hb hts in_X6 hown hK.1 hX (rf_some e3) g4 (by decide) rfl 4 (Nat.le_of_ble_eq_true rfl) (hG.nw hK nq330) (fun _ h9 => h9) (hv_ref rfl) dX0_firstEnd_15 ?_
        refine lv_iload_n hx hb dX0_firstEnd_18 rfl (lv_at hl 2 rfl) ?_
        obtain ⟨a5, e6, hf⟩ := bd_e hf
        obtain ⟨g7, hf⟩ := gd_e hf
        obtain ⟨g8, hf⟩ := gd_e hf
        refine x_aald hx hb hK.1 hX (rf_some e6) 11 g7 (by decide) rfl rfl rfl g8 dX0_firstEnd_19 ?_
        refine lv_iload_n hx hb dX0_firstEnd_20 rfl (lv_at hl 3 rfl) ?_
        obtain ⟨a9, e10, hf⟩ := bd_e hf
        obtain ⟨g11, hf⟩ := gd_e hf
        obtain ⟨g12, hf⟩ := gd_e hf
        refine x_lald hx hb hK.1 hX (rf_some e10) g11 g12 dX0_firstEnd_21 ?_
        obtain ⟨a13, e14, hf⟩ := bd_e hf
        obtain ⟨g16, hf⟩ := gd_e hf
        obtain ⟨r17, e15, hf⟩ := bd_e hf
        refine x_doneP (va_runV (b := a13) (As := [.long (hL h a9 (Int32.toNatClampNeg v3))]) (rest := []) ⟨hx, hb, hml, hown, hts⟩ (wx_Machine_ends l G hG h n a13 (hL h a9 (Int32.toNatClampNeg v3)) r17 e15) (cwV 1 hts (lw_V q703 q704 q705 q112 q706) rfl rfl rfl ⟨rfl, cdX13_ends⟩ ⟨(Nat.le_of_ble_eq_true rfl), (Nat.le_of_ble_eq_true rfl)⟩) (x_preV (ci := 11) (T := TX13) (N := 6) hK hX _ g16 (by decide) rfl) rfl rfl hl.1 (stk_eq (rf_some e14) rfl) (lv_room (Nat.le_of_ble_eq_true rfl)) dX0_firstEnd_22 ⟨(Nat.le_of_ble_eq_true rfl), (Nat.le_of_ble_eq_true rfl)⟩) rfl ?_
        clear e15
        refine lv_if_eq (tgt := 30) hx hb dX0_firstEnd_25 (by decide) (fun c18 => ?_) (fun c18 => ?_)
        · rw [if_pos c18] at hf
          refine lv_iinc (v := (v3 + 1)) (lv' := [(3, .int (v3 + 1)), (0, .ref o), (1, va_rf v1), (2, .int v2)]) hx hb dX0_firstEnd_30 hl (k := 3) rfl rfl (by decide) rfl (fun ls hl => ?_)
          refine lv_goto (tgt := 2) hx hb dX0_firstEnd_33 (by decide) ?_
          exact hK2 v1 v2 (v3 + 1) _ (lv_sub hl [1, 2, 3, 0] rfl) hf
        · rw [if_neg c18] at hf
          refine lv_iload_n hx hb dX0_firstEnd_28 rfl (lv_at hl 3 rfl) ?_
          obtain rfl := Option.some.inj hf
          exact hret _ _ rfl dX0_firstEnd_29
  refine lv_iload_n hx hb dX0_firstEnd_0 rfl (lv_at hl 2 rfl) ?_
  refine lv_istore_n (lv' := [(3, .int p2), (0, .ref o), (1, va_rf p1), (2, .int p2)]) hx hb dX0_firstEnd_1 rfl hl (by decide) rfl (fun ls hl => ?_)
  exact B2 n p1 p2 p2 _ (lv_sub hl [1, 2, 3, 0] rfl) hf
theorem cdX13_mightBegin : yX13_mightBegin.cls ≠ "java/lang/invoke/MethodHandle" ∧ yX13_mightBegin.cls ≠ "java/lang/invoke/VarHandle" ∧ (parseMethodDescriptor yX13_mightBegin.desc).map (fun d => d.parameters.length) = some 0 := by decide +kernel
set_option maxHeartbeats 4000000 in
set_option maxRecDepth 100000 in
theorem wx_Machine_mightBegin (l : Launch) (G : Gt) (hG : XG G) (h : Hp) (n : Nat) (o : Nat) (r : Int32) (hf : X_Machine_mightBegin n o h = some r) : Met l yX13_mightBegin (ws_ yX13_mightBegin cX13_mightBegin 1 (some .boolean)) (rmm (1) 0 0 (22)) (XP G [.ref o] h) (XQp (some (.int r))) 0 0 (fun _ => False) := by
  rw [X_Machine_mightBegin] at hf
  obtain ⟨g0, hf⟩ := gd_e hf
  refine metPi l (by decide) (Nat.le_of_ble_eq_true rfl) ?_
  intro p e s m args below meth c Q hx hb hts hown hnmd hml hinit hK hW hret ls hl
  have hown : s.vm.findClass RX13 = some m.cls := hown
  have hX := XX.start hW
  have hl : lv_has ls 1 [(0, .ref o)] := hl
  refine lv_aload_n hx hb dX13_mightBegin_0 rfl (lv_at hl 0 rfl) ?_
  refine lv_aload_n hx hb dX13_mightBegin_1 rfl (lv_at hl 0 rfl) ?_
  refine x_get (ci := 11) (C := RX13) (T := TX13) (N := 6) hx hb hts in_X13 hown hK.1 hX rfl g0 (by decide) rfl 3 (Nat.le_of_ble_eq_true rfl) (hts _ q551) (fun _ h9 => h9) (hv_long rfl) dX13_mightBegin_2 ?_
  obtain ⟨r2, e1, hf⟩ := bd_e hf
  refine x_doneP (va_runV (b := o) (As := [.long (hL h o 3)]) (rest := []) ⟨hx, hb, hml, hown, hts⟩ (wx_Machine_isLeading l G hG h n o (hL h o 3) r2 e1) (cwV 1 hts (lw_V q639 q641 qs21 q112 q642) rfl rfl rfl ⟨rfl, cdX13_isLeading⟩ ⟨(Nat.le_of_ble_eq_true rfl), (Nat.le_of_ble_eq_true rfl)⟩) (x_preV (ci := 11) (T := TX13) (N := 6) hK hX _ g0 (by decide) rfl) rfl rfl hl.1 rfl (lv_room (Nat.le_of_ble_eq_true rfl)) dX13_mightBegin_5 ⟨(Nat.le_of_ble_eq_true rfl), (Nat.le_of_ble_eq_true rfl)⟩) rfl ?_
  clear e1
  obtain ⟨g3, hf⟩ := gd_e hf
  obtain rfl := Option.some.inj hf
  exact hret _ _ (nb01 g3) dX13_mightBegin_8
theorem cdX13_mightGoOn : yX13_mightGoOn.cls ≠ "java/lang/invoke/MethodHandle" ∧ yX13_mightGoOn.cls ≠ "java/lang/invoke/VarHandle" ∧ (parseMethodDescriptor yX13_mightGoOn.desc).map (fun d => d.parameters.length) = some 1 := by decide +kernel
set_option maxHeartbeats 4000000 in
set_option maxRecDepth 100000 in
theorem wx_Machine_mightGoOn (l : Launch) (G : Gt) (hG : XG G) (h : Hp) (n : Nat) (o : Nat) (p1 : Int64) (r : Int32) (hf : X_Machine_mightGoOn n o p1 h = some r) : Met l yX13_mightGoOn (ws_ yX13_mightGoOn cX13_mightGoOn 3 (some .boolean)) (rmm (0) 0 0 (0)) (XP G [.ref o, .long p1] h) (XQp (some (.int r))) 0 0 (fun _ => False) := by
  rw [X_Machine_mightGoOn] at hf
  obtain ⟨g0, hf⟩ := gd_e hf
  refine metPi l (by decide) (Nat.le_of_ble_eq_true rfl) ?_
  intro p e s m args below meth c Q hx hb hts hown hnmd hml hinit hK hW hret ls hl
  have hown : s.vm.findClass RX13 = some m.cls := hown
  have hX := XX.start hW
  have hl : lv_has ls 3 [(0, .ref o), (1, .long p1)] := hl
  refine lv_lload_n hx hb dX13_mightGoOn_0 rfl (lv_at hl 1 rfl) ?_
  refine lv_aload_n hx hb dX13_mightGoOn_1 rfl (lv_at hl 0 rfl) ?_
  refine x_get (ci := 11) (C := RX13) (T := TX13) (N := 6) hx hb hts in_X13 hown hK.1 hX rfl g0 (by decide) rfl 5 (Nat.le_of_ble_eq_true rfl) (hts _ q554) (fun _ h9 => h9) (hv_long rfl) dX13_mightGoOn_2 ?_
  refine lv_land hx hb dX13_mightGoOn_5 ?_
  refine lv_lconst (v := 0) hx hb dX13_mightGoOn_6 (by decide) ?_
  refine W.lcmp hx hb dX13_mightGoOn_7 ?_
  refine lv_if_eq (tgt := 15) hx hb dX13_mightGoOn_8 (by decide) (fun c1 => ?_) (fun c1 => ?_)
  · rw [if_pos c1] at hf
    refine lv_iconst (v := 0) hx hb dX13_mightGoOn_15 (by decide) ?_
    obtain rfl := Option.some.inj hf
    exact hret _ _ rfl dX13_mightGoOn_16
  · rw [if_neg c1] at hf
    refine lv_iconst (v := 1) hx hb dX13_mightGoOn_11 (by decide) ?_
    refine lv_goto (tgt := 16) hx hb dX13_mightGoOn_12 (by decide) ?_
    obtain rfl := Option.some.inj hf
    exact hret _ _ rfl dX13_mightGoOn_16
theorem cdX0_firstLost : yX0_firstLost.cls ≠ "java/lang/invoke/MethodHandle" ∧ yX0_firstLost.cls ≠ "java/lang/invoke/VarHandle" ∧ (parseMethodDescriptor yX0_firstLost.desc).map (fun d => d.parameters.length) = some 3 := by decide +kernel
set_option maxHeartbeats 4000000 in
set_option maxRecDepth 100000 in
theorem wx_firstLost (l : Launch) (G : Gt) (hG : XG G) (h : Hp) (n : Nat) (o : Nat) (p1 : Option Nat) (p2 : Int32) (p3 : Int32) (r : Int32) (hf : X_firstLost n o p1 p2 p3 h = some r) : Met l yX0_firstLost (ws_ yX0_firstLost cX0_firstLost 6 (some .int)) (rmm (2) 0 0 (42)) (XP G [.ref o, va_rf p1, .int p2, .int p3] h) (XQp (some (.int r))) 0 0 (fun _ => False) := by
  rw [X_firstLost] at hf
  obtain ⟨g0, hf⟩ := gd_e hf
  refine metPi l (by decide) (by cases p1 <;> exact Nat.le_of_ble_eq_true rfl) ?_
  intro p e s m args below meth c Q hx hb hts hown hnmd hml hinit hK hW hret ls hl
  have hown : s.vm.findClass RX0 = some m.cls := hown
  have hX := XX.start hW
  have hl : lv_has ls 6 [(0, .ref o), (1, va_rf p1), (2, .int p2), (3, .int p3)] := Eq.mp (congrArg (lv_has ls 6) (show lv_args 0 [.ref o, va_rf p1, .int p2, .int p3] = [(0, .ref o), (1, va_rf p1), (2, .int p2), (3, .int p3)] from by clear hf; cases p1 <;> rfl)) hl
  have B44 : ∀ (K3 : Option Nat → Int32 → Int32 → Option (Int32)) (hK3 : ∀ (v1 : Option Nat) (v2 : Int32) (v4 : Int32) (ls : Array Slot), lv_has ls 6 [(0, .ref o), (1, va_rf v1), (2, .int v2), (4, .int v4)] → K3 v1 v2 v4 = some r → W p l e (rmm (2) 0 0 (42)) s m args below meth c s.heap [] 0 0 Q (F0 m 3 ls [])) (v1 : Option Nat) (v2 : Int32) (v4 : Int32) (t0 : Int32) (ls : Array Slot), lv_has ls 6 [(0, .ref o), (1, va_rf v1), (2, .int v2), (4, .int v4)] → X_firstLost_b44 n o K3 h v1 v2 v4 t0 = some r → W p l e (rmm (2) 0 0 (42)) s m args below meth c s.heap [] 0 0 Q (F0 m 44 ls [.int t0]) := by
    intro K3 hK3 v1 v2 v4 t0 ls hl hf
    rw [X_firstLost_b44] at hf
    refine lv_istore (lv' := [(5, .int t0), (0, .ref o), (1, va_rf v1), (2, .int v2), (4, .int v4)]) hx hb dX0_firstLost_44 hl (by decide) rfl (fun ls hl => ?_)
    refine lv_iload hx hb dX0_firstLost_46 (lv_at hl 0 rfl) ?_
    refine lv_if_ne (tgt := 54) hx hb dX0_firstLost_48 (by decide) (fun c19 => ?_) (fun c19 => ?_)
    · rw [if_neg c19] at hf
      refine lv_iinc (v := (v4 + 1)) (lv' := [(4, .int (v4 + 1)), (5, .int t0), (0, .ref o), (1, va_rf v1), (2, .int v2)]) hx hb dX0_firstLost_54 hl (k := 4) rfl rfl (by decide) rfl (fun ls hl => ?_)
      refine lv_goto (tgt := 3) hx hb dX0_firstLost_57 (by decide) ?_
      exact hK3 v1 v2 (v4 + 1) _ (lv_sub hl [2, 3, 4, 0] rfl) hf
    · rw [if_pos c19] at hf
      refine lv_iload hx hb dX0_firstLost_51 (lv_at hl 4 rfl) ?_
      obtain rfl := Option.some.inj hf
      exact hret _ _ rfl dX0_firstLost_53
  have B3 : ∀ (f : Nat) (v1 : Option Nat) (v2 : Int32) (v4 : Int32) (ls : Array Slot), lv_has ls 6 [(0, .ref o), (1, va_rf v1), (2, .int v2), (4, .int v4)] → X_firstLost_b3 n o h f v1 v2 v4 = some r → W p l e (rmm (2) 0 0 (42)) s m args below meth c s.heap [] 0 0 Q (F0 m 3 ls []) := by
    intro f
    induction f with
    | zero =>
      intro v1 v2 v4 ls hl hf
      rw [X_firstLost_b3] at hf
      cases hf
    | succ f hK3 =>
      intro v1 v2 v4 ls hl hf
      rw [X_firstLost_b3] at hf
      refine lv_iload hx hb dX0_firstLost_3 (lv_at hl 3 rfl) ?_
      refine lv_aload_n hx hb dX0_firstLost_5 rfl (lv_at hl 0 rfl) ?_
      refine x_get (ci := 0) (C := RX0) (T := TX0) (N := 16) hx hb hts in_X0 hown hK.1 hX rfl g0 (by decide) rfl 6 (Nat.le_of_ble_eq_true rfl) (hts _ q914) (fun _ h9 => h9) (hv_int rfl) dX0_firstLost_6 ?_
      refine lv_icmp_ge (tgt := 60) hx hb dX0_firstLost_9 (by decide) (fun c1 => ?_) (fun c1 => ?_)
      · rw [if_pos c1] at hf
        refine lv_bipush (v := (-4)) hx hb dX0_firstLost_60 (by decide) ?_
        obtain rfl := Option.some.inj hf
        exact hret _ _ rfl dX0_firstLost_62
      · rw [if_neg c1] at hf
        refine lv_iload hx hb dX0_firstLost_12 (lv_at hl 3 rfl) ?_
        refine lv_iload_n hx hb dX0_firstLost_14 rfl (lv_at hl 2 rfl) ?_
        refine lv_icmp_ge (tgt := 28) hx hb dX0_firstLost_15 (by decide) (fun c2 => ?_) (fun c2 => ?_)
        · rw [if_pos c2] at hf
          refine lx_aload_n hx hb dX0_firstLost_28 rfl (lv_at hl 1 rfl) ?_
          obtain ⟨a3, e4, hf⟩ := bd_e hf
          obtain ⟨g5, hf⟩ := gd_e hf
          refine x_getN (ci := 6) (C := RX6) (T := TX6) (N := 5) hx hb hts in_X6 hown hK.1 hX (rf_some e4) g5 (by decide) rfl 3 (Nat.le_of_ble_eq_true rfl) (hG.nw hK nq327) (fun _ h9 => h9) (hv_ref rfl) dX0_firstLost_29 ?_
          refine lx_aload_n hx hb dX0_firstLost_32 rfl (lv_at hl 1 rfl) ?_
          refine x_getN (ci := 6) (C := RX6) (T := TX6) (N := 5) hx hb hts in_X6 hown hK.1 hX (rf_some e4) g5 (by decide) rfl 4 (Nat.le_of_ble_eq_true rfl) (hG.nw hK nq330) (fun _ h9 => h9) (hv_ref rfl) dX0_firstLost_33 ?_
          refine lv_iload_n hx hb dX0_firstLost_36 rfl (lv_at hl 2 rfl) ?_
          obtain ⟨a6, e7, hf⟩ := bd_e hf
          obtain ⟨g8, hf⟩ := gd_e hf
          obtain ⟨g9, hf⟩ := gd_e hf
          refine x_aald hx hb hK.1 hX (rf_some e7) 11 g8 (by decide) rfl rfl rfl g9 dX0_firstLost_37 ?_
          refine lv_iload hx hb dX0_firstLost_38 (lv_at hl 3 rfl) ?_
          obtain ⟨a10, e11, hf⟩ := bd_e hf
          obtain ⟨g12, hf⟩ := gd_e hf
          obtain ⟨g13, hf⟩ := gd_e hf
          refine x_lald hx hb hK.1 hX (rf_some e11) g12 g13 dX0_firstLost_40 ?_
          obtain ⟨a14, e15, hf⟩ := bd_e hf
          obtain ⟨g17, hf⟩ := gd_e hf
          obtain ⟨r18, e16, hf⟩ := bd_e hf
          refine x_doneP (va_runV (b := a14) (As := [.long (hL h a10 (Int32.toNatClampNeg v4))]) (rest := []) ⟨hx, hb, hml, hown, hts⟩ (wx_Machine_mightGoOn l G hG h n a14 (hL h a10 (Int32.toNatClampNeg v4)) r18 e16) (cwV 1 hts (lw_V q715 q716 q717 q112 q718) rfl rfl rfl ⟨rfl, cdX13_mightGoOn⟩ ⟨(Nat.le_of_ble_eq_true rfl), (Nat.le_of_ble_eq_true rfl)⟩) (x_preV (ci := 11) (T := TX13) (N := 6) hK hX _ g17 (by decide) rfl) rfl rfl hl.1 (stk_eq (rf_some e15) rfl) (lv_room (Nat.le_of_ble_eq_true rfl)) dX0_firstLost_41 ⟨(Nat.le_of_ble_eq_true rfl), (Nat.le_of_ble_eq_true rfl)⟩) rfl ?_
          clear e16
          exact B44 (X_firstLost_b3 n o h f) hK3 v1 v2 v4 r18 _ (lv_sub hl [0, 1, 2, 3] rfl) hf
        · rw [if_neg c2] at hf
          refine lx_aload_n hx hb dX0_firstLost_18 rfl (lv_at hl 1 rfl) ?_
          obtain ⟨a20, e21, hf⟩ := bd_e hf
          obtain ⟨g22, hf⟩ := gd_e hf
          refine x_getN (ci := 6) (C := RX6) (T := TX6) (N := 5) hx hb hts in_X6 hown hK.1 hX (rf_some e21) g22 (by decide) rfl 3 (Nat.le_of_ble_eq_true rfl) (hG.nw hK nq327) (fun _ h9 => h9) (hv_ref rfl) dX0_firstLost_19 ?_
          obtain ⟨a23, e24, hf⟩ := bd_e hf
          obtain ⟨g26, hf⟩ := gd_e hf
          obtain ⟨r27, e25, hf⟩ := bd_e hf
          refine x_doneP (va_runV (b := a23) (As := []) (rest := []) ⟨hx, hb, hml, hown, hts⟩ (wx_Machine_mightBegin l G hG h n a23 r27 e25) (cwV 0 hts (lw_V q711 q712 q713 q112 q714) rfl rfl rfl ⟨rfl, cdX13_mightBegin⟩ ⟨(Nat.le_of_ble_eq_true rfl), (Nat.le_of_ble_eq_true rfl)⟩) (x_preV (ci := 11) (T := TX13) (N := 6) hK hX _ g26 (by decide) rfl) rfl rfl hl.1 (stk_eq (rf_some e24) rfl) (lv_room (Nat.le_of_ble_eq_true rfl)) dX0_firstLost_22 ⟨(Nat.le_of_ble_eq_true rfl), (Nat.le_of_ble_eq_true rfl)⟩) rfl ?_
          clear e25
          refine lv_goto (tgt := 44) hx hb dX0_firstLost_25 (by decide) ?_
          exact B44 (X_firstLost_b3 n o h f) hK3 v1 v2 v4 r27 _ (lv_sub hl [0, 1, 2, 3] rfl) hf
  refine lv_iload_n hx hb dX0_firstLost_0 rfl (lv_at hl 3 rfl) ?_
  refine lv_istore (lv' := [(4, .int p3), (0, .ref o), (1, va_rf p1), (2, .int p2), (3, .int p3)]) hx hb dX0_firstLost_1 hl (by decide) rfl (fun ls hl => ?_)
  exact B3 n p1 p2 p3 _ (lv_sub hl [1, 2, 3, 0] rfl) hf
theorem cdX0_dutyOf : yX0_dutyOf.cls ≠ "java/lang/invoke/MethodHandle" ∧ yX0_dutyOf.cls ≠ "java/lang/invoke/VarHandle" ∧ (parseMethodDescriptor yX0_dutyOf.desc).map (fun d => d.parameters.length) = some 2 := by decide +kernel
set_option maxHeartbeats 4000000 in
set_option maxRecDepth 100000 in
theorem wx_dutyOf (l : Launch) (G : Gt) (hG : XG G) (h : Hp) (n : Nat) (o : Nat) (p1 : Option Nat) (p2 : Int32) (r : Int32) (hf : X_dutyOf n o p1 p2 h = some r) : Met l yX0_dutyOf (ws_ yX0_dutyOf cX0_dutyOf 6 (some .int)) (rmm (3) 0 0 (67)) (XP G [.ref o, va_rf p1, .int p2] h) (XQp (some (.int r))) 0 0 (fun _ => False) := by
  rw [X_dutyOf] at hf
  obtain ⟨g0, hf⟩ := gd_e hf
  refine metPi l (by decide) (by cases p1 <;> exact Nat.le_of_ble_eq_true rfl) ?_
  intro p e s m args below meth c Q hx hb hts hown hnmd hml hinit hK hW hret ls hl
  have hown : s.vm.findClass RX0 = some m.cls := hown
  have hX := XX.start hW
  have hl : lv_has ls 6 [(0, .ref o), (1, va_rf p1), (2, .int p2)] := Eq.mp (congrArg (lv_has ls 6) (show lv_args 0 [.ref o, va_rf p1, .int p2] = [(0, .ref o), (1, va_rf p1), (2, .int p2)] from by clear hf; cases p1 <;> rfl)) hl
  have B33 : ∀ (v1 : Option Nat) (v2 : Int32) (v3 : Int32) (t0 : Int32) (ls : Array Slot), lv_has ls 6 [(0, .ref o), (1, va_rf v1), (2, .int v2), (3, .int v3)] → X_dutyOf_b33 n o h v1 v2 v3 t0 = some r → W p l e (rmm (3) 0 0 (67)) s m args below meth c s.heap [] 0 0 Q (F0 m 33 ls [.int t0]) := by
    intro v1 v2 v3 t0 ls hl hf
    rw [X_dutyOf_b33] at hf
    refine lv_istore (lv' := [(4, .int t0), (0, .ref o), (1, va_rf v1), (2, .int v2), (3, .int v3)]) hx hb dX0_dutyOf_33 hl (by decide) rfl (fun ls hl => ?_)
    refine lv_iload hx hb dX0_dutyOf_35 (lv_at hl 0 rfl) ?_
    refine lv_bipush (v := (-4)) hx hb dX0_dutyOf_37 (by decide) ?_
    refine lv_icmp_eq (tgt := 49) hx hb dX0_dutyOf_39 (by decide) (fun c11 => ?_) (fun c11 => ?_)
    · rw [if_pos c11] at hf
      refine lv_aload_n hx hb dX0_dutyOf_49 rfl (lv_at hl 1 rfl) ?_
      refine lx_aload_n hx hb dX0_dutyOf_50 rfl (lv_at hl 2 rfl) ?_
      obtain ⟨a12, e13, hf⟩ := bd_e hf
      obtain ⟨g14, hf⟩ := gd_e hf
      refine x_getN (ci := 5) (C := RX5) (T := TX5) (N := 3) hx hb hts in_X5 hown hK.1 hX (rf_some e13) g14 (by decide) rfl 0 (Nat.le_of_ble_eq_true rfl) (hG.nw hK nq344) (fun _ h9 => h9) (hv_ref rfl) dX0_dutyOf_51 ?_
      refine lv_iconst (v := 1) hx hb dX0_dutyOf_54 (by decide) ?_
      obtain ⟨a15, e16, hf⟩ := bd_e hf
      obtain ⟨g17, hf⟩ := gd_e hf
      obtain ⟨g18, hf⟩ := gd_e hf
      refine x_aald hx hb hK.1 hX (rf_some e16) 6 g17 (by decide) rfl rfl rfl g18 dX0_dutyOf_55 ?_
      refine lv_iload_n hx hb dX0_dutyOf_56 rfl (lv_at hl 4 rfl) ?_
      refine lv_iload_n hx hb dX0_dutyOf_57 rfl (lv_at hl 3 rfl) ?_
      obtain ⟨r20, e19, hf⟩ := bd_e hf
      refine x_doneP (va_runV (b := o) (As := [va_rf (hR h a15 (Int32.toNatClampNeg 1)), .int v3, .int v2]) (rest := []) ⟨hx, hb, hml, hown, hts⟩ (wx_firstLost l G hG h n o (hR h a15 (Int32.toNatClampNeg 1)) v3 v2 r20 e19) (cwV 3 hts (lw_V q707 q709 qs28 q94 q710) rfl rfl rfl ⟨rfl, cdX0_firstLost⟩ ⟨(Nat.le_of_ble_eq_true rfl), (Nat.le_of_ble_eq_true rfl)⟩) (x_preV (ci := 0) (T := TX0) (N := 16) hK hX _ g0 (by decide) rfl) rfl rfl hl.1 rfl (lv_room (Nat.le_of_ble_eq_true rfl)) dX0_dutyOf_58 ⟨(Nat.le_of_ble_eq_true rfl), (Nat.le_of_ble_eq_true rfl)⟩) rfl ?_
      clear e19
      refine lv_istore (lv' := [(5, .int r20), (4, .int t0), (0, .ref o), (1, va_rf v1), (2, .int v2), (3, .int v3)]) hx hb dX0_dutyOf_61 hl (by decide) rfl (fun ls hl => ?_)
      refine lv_iload hx hb dX0_dutyOf_63 (lv_at hl 0 rfl) ?_
      refine lv_bipush (v := (-4)) hx hb dX0_dutyOf_65 (by decide) ?_
      refine lv_icmp_ne (tgt := 74) hx hb dX0_dutyOf_67 (by decide) (fun c21 => ?_) (fun c21 => ?_)
      · rw [if_neg c21] at hf
        refine lv_iconst (v := 4) hx hb dX0_dutyOf_74 (by decide) ?_
        refine lv_iload hx hb dX0_dutyOf_75 (lv_at hl 0 rfl) ?_
        refine lv_imul hx hb dX0_dutyOf_77 ?_
        refine lv_iconst (v := 2) hx hb dX0_dutyOf_78 (by decide) ?_
        refine lv_iadd hx hb dX0_dutyOf_79 ?_
        obtain rfl := Option.some.inj hf
        exact hret _ _ rfl dX0_dutyOf_80
      · rw [if_pos c21] at hf
        refine lv_iconst (v := 0) hx hb dX0_dutyOf_70 (by decide) ?_
        refine lv_goto (tgt := 80) hx hb dX0_dutyOf_71 (by decide) ?_
        obtain rfl := Option.some.inj hf
        exact hret _ _ rfl dX0_dutyOf_80
    · rw [if_neg c11] at hf
      refine lv_iconst (v := 4) hx hb dX0_dutyOf_42 (by decide) ?_
      refine lv_iload hx hb dX0_dutyOf_43 (lv_at hl 0 rfl) ?_
      refine lv_imul hx hb dX0_dutyOf_45 ?_
      refine lv_iconst (v := 1) hx hb dX0_dutyOf_46 (by decide) ?_
      refine lv_iadd hx hb dX0_dutyOf_47 ?_
      obtain rfl := Option.some.inj hf
      exact hret _ _ rfl dX0_dutyOf_48
  refine lx_aload_n hx hb dX0_dutyOf_0 rfl (lv_at hl 1 rfl) ?_
  obtain ⟨a1, e2, hf⟩ := bd_e hf
  obtain ⟨g4, hf⟩ := gd_e hf
  obtain ⟨r5, e3, hf⟩ := bd_e hf
  refine x_doneP (va_runV (b := a1) (As := []) (rest := []) ⟨hx, hb, hml, hown, hts⟩ (wx_Promise_kind l G hG h n a1 r5 e3) (cwV 0 hts (lw_V q682 q683 q684 q103 q685) rfl rfl rfl ⟨rfl, cdX5_kind⟩ ⟨(Nat.le_of_ble_eq_true rfl), (Nat.le_of_ble_eq_true rfl)⟩) (x_preV (ci := 5) (T := TX5) (N := 3) hK hX _ g4 (by decide) rfl) rfl rfl hl.1 (stk_eq (rf_some e2) rfl) (lv_room (Nat.le_of_ble_eq_true rfl)) dX0_dutyOf_1 ⟨(Nat.le_of_ble_eq_true rfl), (Nat.le_of_ble_eq_true rfl)⟩) rfl ?_
  clear e3
  refine lv_iload_n hx hb dX0_dutyOf_4 rfl (lv_at hl 2 rfl) ?_
  obtain ⟨a6, e7, hf⟩ := bd_e hf
  obtain ⟨r9, e8, hf⟩ := bd_e hf
  refine x_begin hG hx hb hml hts hown hK hX (rf_some e7) (begin_ok e8) q690 hl.1 (Nat.le_of_ble_eq_true rfl) (Nat.le_of_ble_eq_true rfl) (Nat.le_of_ble_eq_true rfl) ⟨(by simp only [rmm]; omega), (by simp only [rmm]; omega)⟩ dX0_dutyOf_5 ?_
  clear e8
  refine lv_istore_n (lv' := [(3, .int r9), (0, .ref o), (1, va_rf p1), (2, .int p2)]) hx hb dX0_dutyOf_8 rfl hl (by decide) rfl (fun ls hl => ?_)
  refine lv_iload_n hx hb dX0_dutyOf_9 rfl (lv_at hl 0 rfl) ?_
  refine lv_aload_n hx hb dX0_dutyOf_10 rfl (lv_at hl 1 rfl) ?_
  refine x_get (ci := 0) (C := RX0) (T := TX0) (N := 16) hx hb hts in_X0 hown hK.1 hX rfl g0 (by decide) rfl 6 (Nat.le_of_ble_eq_true rfl) (hts _ q914) (fun _ h9 => h9) (hv_int rfl) dX0_dutyOf_11 ?_
  refine lv_icmp_ge (tgt := 31) hx hb dX0_dutyOf_14 (by decide) (fun c10 => ?_) (fun c10 => ?_)
  · rw [if_pos c10] at hf
    refine lv_bipush (v := (-4)) hx hb dX0_dutyOf_31 (by decide) ?_
    exact B33 p1 p2 r9 (-4) _ (lv_sub hl [1, 2, 3, 0] rfl) hf
  · rw [if_neg c10] at hf
    refine lv_aload_n hx hb dX0_dutyOf_17 rfl (lv_at hl 1 rfl) ?_
    refine lx_aload_n hx hb dX0_dutyOf_18 rfl (lv_at hl 2 rfl) ?_
    refine x_getN (ci := 5) (C := RX5) (T := TX5) (N := 3) hx hb hts in_X5 hown hK.1 hX (rf_some e2) g4 (by decide) rfl 0 (Nat.le_of_ble_eq_true rfl) (hG.nw hK nq344) (fun _ h9 => h9) (hv_ref rfl) dX0_dutyOf_19 ?_
    refine lv_iconst (v := 1) hx hb dX0_dutyOf_22 (by decide) ?_
    obtain ⟨a22, e23, hf⟩ := bd_e hf
    obtain ⟨g24, hf⟩ := gd_e hf
    obtain ⟨g25, hf⟩ := gd_e hf
    refine x_aald hx hb hK.1 hX (rf_some e23) 6 g24 (by decide) rfl rfl rfl g25 dX0_dutyOf_23 ?_
    refine lv_iload_n hx hb dX0_dutyOf_24 rfl (lv_at hl 0 rfl) ?_
    obtain ⟨r27, e26, hf⟩ := bd_e hf
    refine x_doneP (va_runV (b := o) (As := [va_rf (hR h a22 (Int32.toNatClampNeg 1)), .int r9]) (rest := []) ⟨hx, hb, hml, hown, hts⟩ (wx_firstEnd l G hG h n o (hR h a22 (Int32.toNatClampNeg 1)) r9 r27 e26) (cwV 2 hts (lw_V q699 q701 qs27 q94 q702) rfl rfl rfl ⟨rfl, cdX0_firstEnd⟩ ⟨(Nat.le_of_ble_eq_true rfl), (Nat.le_of_ble_eq_true rfl)⟩) (x_preV (ci := 0) (T := TX0) (N := 16) hK hX _ g0 (by decide) rfl) rfl rfl hl.1 rfl (lv_room (Nat.le_of_ble_eq_true rfl)) dX0_dutyOf_25 ⟨(Nat.le_of_ble_eq_true rfl), (Nat.le_of_ble_eq_true rfl)⟩) rfl ?_
    clear e26
    refine lv_goto (tgt := 33) hx hb dX0_dutyOf_28 (by decide) ?_
    exact B33 p1 p2 r9 r27 _ (lv_sub hl [1, 2, 3, 0] rfl) hf
theorem cdX0_isDuty : yX0_isDuty.cls ≠ "java/lang/invoke/MethodHandle" ∧ yX0_isDuty.cls ≠ "java/lang/invoke/VarHandle" ∧ (parseMethodDescriptor yX0_isDuty.desc).map (fun d => d.parameters.length) = some 3 := by decide +kernel
set_option maxHeartbeats 4000000 in
set_option maxRecDepth 100000 in
theorem wx_isDuty (l : Launch) (G : Gt) (hG : XG G) (h : Hp) (n : Nat) (o : Nat) (p1 : Option Nat) (p2 : Int32) (p3 : Int32) (r : Int32) (hf : X_isDuty n o p1 p2 p3 h = some r) : Met l yX0_isDuty (ws_ yX0_isDuty cX0_isDuty 5 (some .boolean)) (rmm (1) 0 0 (22)) (XP G [.ref o, va_rf p1, .int p2, .int p3] h) (XQp (some (.int r))) 0 0 (fun _ => False) := by
  rw [X_isDuty] at hf
  refine metPi l (by decide) (by cases p1 <;> exact Nat.le_of_ble_eq_true rfl) ?_
  intro p e s m args below meth c Q hx hb hts hown hnmd hml hinit hK hW hret ls hl
  have hown : s.vm.findClass RX0 = some m.cls := hown
  have hX := XX.start hW
  have hl : lv_has ls 5 [(0, .ref o), (1, va_rf p1), (2, .int p2), (3, .int p3)] := Eq.mp (congrArg (lv_has ls 5) (show lv_args 0 [.ref o, va_rf p1, .int p2, .int p3] = [(0, .ref o), (1, va_rf p1), (2, .int p2), (3, .int p3)] from by clear hf; cases p1 <;> rfl)) hl
  refine lx_aload_n hx hb dX0_isDuty_0 rfl (lv_at hl 1 rfl) ?_
  obtain ⟨a1, e2, hf⟩ := bd_e hf
  obtain ⟨g3, hf⟩ := gd_e hf
  refine x_getN (ci := 5) (C := RX5) (T := TX5) (N := 3) hx hb hts in_X5 hown hK.1 hX (rf_some e2) g3 (by decide) rfl 0 (Nat.le_of_ble_eq_true rfl) (hG.nw hK nq344) (fun _ h9 => h9) (hv_ref rfl) dX0_isDuty_1 ?_
  refine lv_iconst (v := 0) hx hb dX0_isDuty_4 (by decide) ?_
  obtain ⟨a4, e5, hf⟩ := bd_e hf
  obtain ⟨g6, hf⟩ := gd_e hf
  obtain ⟨g7, hf⟩ := gd_e hf
  refine x_aald hx hb hK.1 hX (rf_some e5) 6 g6 (by decide) rfl rfl rfl g7 dX0_isDuty_5 ?_
  refine lx_astore (r := (hR h a4 (Int32.toNatClampNeg 0))) (lv' := [(4, va_rf (hR h a4 (Int32.toNatClampNeg 0))), (0, .ref o), (1, va_rf p1), (2, .int p2), (3, .int p3)]) hx hb dX0_isDuty_6 hl (by decide) rfl (fun ls hl => ?_)
  refine lx_aload hx hb dX0_isDuty_8 (lv_at hl 0 rfl) ?_
  obtain ⟨a8, e9, hf⟩ := bd_e hf
  obtain ⟨g10, hf⟩ := gd_e hf
  refine x_getN (ci := 6) (C := RX6) (T := TX6) (N := 5) hx hb hts in_X6 hown hK.1 hX (rf_some e9) g10 (by decide) rfl 3 (Nat.le_of_ble_eq_true rfl) (hG.nw hK nq327) (fun _ h9 => h9) (hv_ref rfl) dX0_isDuty_10 ?_
  refine lx_aload hx hb dX0_isDuty_13 (lv_at hl 0 rfl) ?_
  refine x_getN (ci := 6) (C := RX6) (T := TX6) (N := 5) hx hb hts in_X6 hown hK.1 hX (rf_some e9) g10 (by decide) rfl 4 (Nat.le_of_ble_eq_true rfl) (hG.nw hK nq330) (fun _ h9 => h9) (hv_ref rfl) dX0_isDuty_15 ?_
  refine lv_iload_n hx hb dX0_isDuty_18 rfl (lv_at hl 3 rfl) ?_
  obtain ⟨a11, e12, hf⟩ := bd_e hf
  obtain ⟨g13, hf⟩ := gd_e hf
  obtain ⟨g14, hf⟩ := gd_e hf
  refine x_aald hx hb hK.1 hX (rf_some e12) 11 g13 (by decide) rfl rfl rfl g14 dX0_isDuty_19 ?_
  refine lv_iload_n hx hb dX0_isDuty_20 rfl (lv_at hl 4 rfl) ?_
  obtain ⟨a15, e16, hf⟩ := bd_e hf
  obtain ⟨g17, hf⟩ := gd_e hf
  obtain ⟨g18, hf⟩ := gd_e hf
  refine x_lald hx hb hK.1 hX (rf_some e16) g17 g18 dX0_isDuty_21 ?_
  obtain ⟨a19, e20, hf⟩ := bd_e hf
  obtain ⟨g22, hf⟩ := gd_e hf
  obtain ⟨r23, e21, hf⟩ := bd_e hf
  refine x_doneP (va_runV (b := a19) (As := [.long (hL h a15 (Int32.toNatClampNeg p3))]) (rest := []) ⟨hx, hb, hml, hown, hts⟩ (wx_Machine_ends l G hG h n a19 (hL h a15 (Int32.toNatClampNeg p3)) r23 e21) (cwV 1 hts (lw_V q703 q704 q705 q112 q706) rfl rfl rfl ⟨rfl, cdX13_ends⟩ ⟨(Nat.le_of_ble_eq_true rfl), (Nat.le_of_ble_eq_true rfl)⟩) (x_preV (ci := 11) (T := TX13) (N := 6) hK hX _ g22 (by decide) rfl) rfl rfl hl.1 (stk_eq (rf_some e20) rfl) (lv_room (Nat.le_of_ble_eq_true rfl)) dX0_isDuty_22 ⟨(Nat.le_of_ble_eq_true rfl), (Nat.le_of_ble_eq_true rfl)⟩) rfl ?_
  clear e21
  obtain ⟨g24, hf⟩ := gd_e hf
  obtain rfl := Option.some.inj hf
  exact hret _ _ (nb01 g24) dX0_isDuty_25
theorem cdX0_dutyBy : yX0_dutyBy.cls ≠ "java/lang/invoke/MethodHandle" ∧ yX0_dutyBy.cls ≠ "java/lang/invoke/VarHandle" ∧ (parseMethodDescriptor yX0_dutyBy.desc).map (fun d => d.parameters.length) = some 2 := by decide +kernel
set_option maxHeartbeats 4000000 in
set_option maxRecDepth 100000 in
theorem wx_dutyBy (l : Launch) (G : Gt) (hG : XG G) (h : Hp) (n : Nat) (p0 : Int32) (p1 : Int32) (r : Int32) (hf : X_dutyBy n p0 p1 = some r) : Met l yX0_dutyBy (ws_ yX0_dutyBy cX0_dutyBy 2 (some .int)) (rmm (0) 0 0 (0)) (XP G [.int p0, .int p1] h) (XQp (some (.int r))) 0 0 (fun _ => False) := by
  rw [X_dutyBy] at hf
  refine metPi l (by decide) (Nat.le_of_ble_eq_true rfl) ?_
  intro p e s m args below meth c Q hx hb hts hown hnmd hml hinit hK hW hret ls hl
  have hown : s.vm.findClass RX0 = some m.cls := hown
  have hX := XX.start hW
  have hl : lv_has ls 2 [(0, .int p0), (1, .int p1)] := hl
  refine lv_iload_n hx hb dX0_dutyBy_0 rfl (lv_at hl 0 rfl) ?_
  refine lv_iconst (v := 2) hx hb dX0_dutyBy_1 (by decide) ?_
  refine lv_ishr hx hb dX0_dutyBy_2 ?_
  refine lv_iload_n hx hb dX0_dutyBy_3 rfl (lv_at hl 1 rfl) ?_
  refine lv_icmp_gt (tgt := 13) hx hb dX0_dutyBy_4 (by decide) (fun c1 => ?_) (fun c1 => ?_)
  · rw [if_pos c1] at hf
    refine lv_iconst (v := 0) hx hb dX0_dutyBy_13 (by decide) ?_
    obtain rfl := Option.some.inj hf
    exact hret _ _ rfl dX0_dutyBy_14
  · rw [if_neg c1] at hf
    refine lv_iload_n hx hb dX0_dutyBy_7 rfl (lv_at hl 0 rfl) ?_
    refine lv_iconst (v := 3) hx hb dX0_dutyBy_8 (by decide) ?_
    refine lv_iand hx hb dX0_dutyBy_9 ?_
    refine lv_goto (tgt := 14) hx hb dX0_dutyBy_10 (by decide) ?_
    obtain rfl := Option.some.inj hf
    exact hret _ _ rfl dX0_dutyBy_14
theorem cdX0_judged : yX0_judged.cls ≠ "java/lang/invoke/MethodHandle" ∧ yX0_judged.cls ≠ "java/lang/invoke/VarHandle" ∧ (parseMethodDescriptor yX0_judged.desc).map (fun d => d.parameters.length) = some 4 := by decide +kernel
set_option maxHeartbeats 4000000 in
set_option maxRecDepth 100000 in
theorem wx_judged (l : Launch) (G : Gt) (hG : XG G) (h : Hp) (n : Nat) (o : Nat) (p1 : Option Nat) (p2 : Int32) (p3 : Int32) (p4 : Option Nat) (r : Int32) (hf : X_judged n o p1 p2 p3 p4 h = some r) : Met l yX0_judged (ws_ yX0_judged cX0_judged 10 (some .int)) (rmm (420) 0 0 (13440)) (XP G [.ref o, va_rf p1, .int p2, .int p3, va_rf p4] h) (XQp (some (.int r))) 0 0 (fun _ => False) := by
  rw [X_judged] at hf
  obtain ⟨g0, hf⟩ := gd_e hf
  refine metPi l (by decide) (by cases p1 <;> cases p4 <;> exact Nat.le_of_ble_eq_true rfl) ?_
  intro p e s m args below meth c Q hx hb hts hown hnmd hml hinit hK hW hret ls hl
  have hown : s.vm.findClass RX0 = some m.cls := hown
  have hX := XX.start hW
  have hl : lv_has ls 10 [(0, .ref o), (1, va_rf p1), (2, .int p2), (3, .int p3), (4, va_rf p4)] := Eq.mp (congrArg (lv_has ls 10) (show lv_args 0 [.ref o, va_rf p1, .int p2, .int p3, va_rf p4] = [(0, .ref o), (1, va_rf p1), (2, .int p2), (3, .int p3), (4, va_rf p4)] from by clear hf; cases p1 <;> cases p4 <;> rfl)) hl
  have B129 : ∀ (K63 : Option Nat → Int32 → Int32 → Option Nat → Int32 → Int32 → Int32 → Int32 → Option (Int32)) (hK63 : ∀ (v1 : Option Nat) (v2 : Int32) (v3 : Int32) (v4 : Option Nat) (v5 : Int32) (v6 : Int32) (v7 : Int32) (v8 : Int32) (ls : Array Slot), lv_has ls 10 [(0, .ref o), (1, va_rf v1), (2, .int v2), (3, .int v3), (4, va_rf v4), (5, .int v5), (6, .int v6), (7, .int v7), (8, .int v8)] → K63 v1 v2 v3 v4 v5 v6 v7 v8 = some r → W p l e (rmm (420) 0 0 (13440)) s m args below meth c s.heap [] 0 0 Q (F0 m 63 ls [])) (v1 : Option Nat) (v2 : Int32) (v3 : Int32) (v4 : Option Nat) (v5 : Int32) (v6 : Int32) (v7 : Int32) (v8 : Int32) (ls : Array Slot), lv_has ls 10 [(0, .ref o), (1, va_rf v1), (2, .int v2), (3, .int v3), (4, va_rf v4), (5, .int v5), (6, .int v6), (7, .int v7), (8, .int v8)] → X_judged_b129 n o K63 h v1 v2 v3 v4 v5 v6 v7 v8 = some r → W p l e (rmm (420) 0 0 (13440)) s m args below meth c s.heap [] 0 0 Q (F0 m 129 ls []) := by
    intro K63 hK63 v1 v2 v3 v4 v5 v6 v7 v8 ls hl hf
    rw [X_judged_b129] at hf
    refine lv_iinc (v := (v8 + 1)) (lv' := [(8, .int (v8 + 1)), (0, .ref o), (1, va_rf v1), (2, .int v2), (3, .int v3), (4, va_rf v4), (5, .int v5), (6, .int v6), (7, .int v7)]) hx hb dX0_judged_129 hl (k := 8) rfl rfl (by decide) rfl (fun ls hl => ?_)
    refine lv_goto (tgt := 63) hx hb dX0_judged_132 (by decide) ?_
    exact hK63 v1 v2 v3 v4 v5 v6 v7 (v8 + 1) _ (lv_sub hl [1, 2, 3, 4, 5, 6, 7, 8, 0] rfl) hf
  have B127 : ∀ (K63 : Option Nat → Int32 → Int32 → Option Nat → Int32 → Int32 → Int32 → Int32 → Option (Int32)) (hK63 : ∀ (v1 : Option Nat) (v2 : Int32) (v3 : Int32) (v4 : Option Nat) (v5 : Int32) (v6 : Int32) (v7 : Int32) (v8 : Int32) (ls : Array Slot), lv_has ls 10 [(0, .ref o), (1, va_rf v1), (2, .int v2), (3, .int v3), (4, va_rf v4), (5, .int v5), (6, .int v6), (7, .int v7), (8, .int v8)] → K63 v1 v2 v3 v4 v5 v6 v7 v8 = some r → W p l e (rmm (420) 0 0 (13440)) s m args below meth c s.heap [] 0 0 Q (F0 m 63 ls [])) (v1 : Option Nat) (v2 : Int32) (v3 : Int32) (v4 : Option Nat) (v6 : Int32) (v7 : Int32) (v8 : Int32) (t0 : Int32) (ls : Array Slot), lv_has ls 10 [(0, .ref o), (1, va_rf v1), (2, .int v2), (3, .int v3), (4, va_rf v4), (6, .int v6), (7, .int v7), (8, .int v8)] → X_judged_b127 n o K63 h v1 v2 v3 v4 v6 v7 v8 t0 = some r → W p l e (rmm (420) 0 0 (13440)) s m args below meth c s.heap [] 0 0 Q (F0 m 127 ls [.int t0]) := by
    intro K63 hK63 v1 v2 v3 v4 v6 v7 v8 t0 ls hl hf
    rw [X_judged_b127] at hf
    refine lv_istore (lv' := [(5, .int t0), (0, .ref o), (1, va_rf v1), (2, .int v2), (3, .int v3), (4, va_rf v4), (6, .int v6), (7, .int v7), (8, .int v8)]) hx hb dX0_judged_127 hl (by decide) (by generalize hq9 : va_rf v4 = w9; have hc9 : w9.category = 1 := (by rw [← hq9]; exact rf_cat _); cases w9 <;> first | rfl | cases hc9) (fun ls hl => ?_)
    exact B129 K63 hK63 v1 v2 v3 v4 t0 v6 v7 v8 _ (lv_sub hl [1, 2, 3, 4, 5, 0, 6, 7, 8] rfl) hf
  have B122 : ∀ (K63 : Option Nat → Int32 → Int32 → Option Nat → Int32 → Int32 → Int32 → Int32 → Option (Int32)) (hK63 : ∀ (v1 : Option Nat) (v2 : Int32) (v3 : Int32) (v4 : Option Nat) (v5 : Int32) (v6 : Int32) (v7 : Int32) (v8 : Int32) (ls : Array Slot), lv_has ls 10 [(0, .ref o), (1, va_rf v1), (2, .int v2), (3, .int v3), (4, va_rf v4), (5, .int v5), (6, .int v6), (7, .int v7), (8, .int v8)] → K63 v1 v2 v3 v4 v5 v6 v7 v8 = some r → W p l e (rmm (420) 0 0 (13440)) s m args below meth c s.heap [] 0 0 Q (F0 m 63 ls [])) (v1 : Option Nat) (v2 : Int32) (v3 : Int32) (v4 : Option Nat) (v6 : Int32) (v7 : Int32) (v8 : Int32) (ls : Array Slot), lv_has ls 10 [(0, .ref o), (1, va_rf v1), (2, .int v2), (3, .int v3), (4, va_rf v4), (6, .int v6), (7, .int v7), (8, .int v8)] → X_judged_b122 n o K63 h v1 v2 v3 v4 v6 v7 v8 = some r → W p l e (rmm (420) 0 0 (13440)) s m args below meth c s.heap [] 0 0 Q (F0 m 122 ls []) := by
    intro K63 hK63 v1 v2 v3 v4 v6 v7 v8 ls hl hf
    rw [X_judged_b122] at hf
    refine lv_iconst (v := 1) hx hb dX0_judged_122 (by decide) ?_
    refine lv_goto (tgt := 127) hx hb dX0_judged_123 (by decide) ?_
    exact B127 K63 hK63 v1 v2 v3 v4 v6 v7 v8 1 _ (lv_sub hl [0, 1, 2, 3, 4, 5, 6, 7] rfl) hf
  have B110 : ∀ (K63 : Option Nat → Int32 → Int32 → Option Nat → Int32 → Int32 → Int32 → Int32 → Option (Int32)) (hK63 : ∀ (v1 : Option Nat) (v2 : Int32) (v3 : Int32) (v4 : Option Nat) (v5 : Int32) (v6 : Int32) (v7 : Int32) (v8 : Int32) (ls : Array Slot), lv_has ls 10 [(0, .ref o), (1, va_rf v1), (2, .int v2), (3, .int v3), (4, va_rf v4), (5, .int v5), (6, .int v6), (7, .int v7), (8, .int v8)] → K63 v1 v2 v3 v4 v5 v6 v7 v8 = some r → W p l e (rmm (420) 0 0 (13440)) s m args below meth c s.heap [] 0 0 Q (F0 m 63 ls [])) (v1 : Option Nat) (v2 : Int32) (v3 : Int32) (v4 : Option Nat) (v5 : Int32) (v7 : Int32) (v8 : Int32) (v9 : Int32) (t0 : Int32) (ls : Array Slot), lv_has ls 10 [(0, .ref o), (1, va_rf v1), (2, .int v2), (3, .int v3), (4, va_rf v4), (5, .int v5), (7, .int v7), (8, .int v8), (9, .int v9)] → X_judged_b110 n o K63 h v1 v2 v3 v4 v5 v7 v8 v9 t0 = some r → W p l e (rmm (420) 0 0 (13440)) s m args below meth c s.heap [] 0 0 Q (F0 m 110 ls [.int t0]) := by
    intro K63 hK63 v1 v2 v3 v4 v5 v7 v8 v9 t0 ls hl hf
    rw [X_judged_b110] at hf
    refine lv_istore (lv' := [(6, .int t0), (0, .ref o), (1, va_rf v1), (2, .int v2), (3, .int v3), (4, va_rf v4), (5, .int v5), (7, .int v7), (8, .int v8), (9, .int v9)]) hx hb dX0_judged_110 hl (by decide) rfl (fun ls hl => ?_)
    refine lv_iload hx hb dX0_judged_112 (lv_at hl 6 rfl) ?_
    refine lv_if_ne (tgt := 122) hx hb dX0_judged_114 (by decide) (fun c43 => ?_) (fun c43 => ?_)
    · rw [if_neg c43] at hf
      exact B122 K63 hK63 v1 v2 v3 v4 t0 v7 v8 _ (lv_sub hl [1, 2, 3, 4, 5, 0, 7, 8] rfl) hf
    · rw [if_pos c43] at hf
      refine lv_iload hx hb dX0_judged_117 (lv_at hl 9 rfl) ?_
      refine lv_if_ne (tgt := 126) hx hb dX0_judged_119 (by decide) (fun c44 => ?_) (fun c44 => ?_)
      · rw [if_neg c44] at hf
        refine lv_iconst (v := 0) hx hb dX0_judged_126 (by decide) ?_
        exact B127 K63 hK63 v1 v2 v3 v4 t0 v7 v8 0 _ (lv_sub hl [1, 2, 3, 4, 5, 0, 7, 8] rfl) hf
      · rw [if_pos c44] at hf
        exact B122 K63 hK63 v1 v2 v3 v4 t0 v7 v8 _ (lv_sub hl [1, 2, 3, 4, 5, 0, 7, 8] rfl) hf
  have B105 : ∀ (K63 : Option Nat → Int32 → Int32 → Option Nat → Int32 → Int32 → Int32 → Int32 → Option (Int32)) (hK63 : ∀ (v1 : Option Nat) (v2 : Int32) (v3 : Int32) (v4 : Option Nat) (v5 : Int32) (v6 : Int32) (v7 : Int32) (v8 : Int32) (ls : Array Slot), lv_has ls 10 [(0, .ref o), (1, va_rf v1), (2, .int v2), (3, .int v3), (4, va_rf v4), (5, .int v5), (6, .int v6), (7, .int v7), (8, .int v8)] → K63 v1 v2 v3 v4 v5 v6 v7 v8 = some r → W p l e (rmm (420) 0 0 (13440)) s m args below meth c s.heap [] 0 0 Q (F0 m 63 ls [])) (v1 : Option Nat) (v2 : Int32) (v3 : Int32) (v4 : Option Nat) (v5 : Int32) (v7 : Int32) (v8 : Int32) (v9 : Int32) (ls : Array Slot), lv_has ls 10 [(0, .ref o), (1, va_rf v1), (2, .int v2), (3, .int v3), (4, va_rf v4), (5, .int v5), (7, .int v7), (8, .int v8), (9, .int v9)] → X_judged_b105 n o K63 h v1 v2 v3 v4 v5 v7 v8 v9 = some r → W p l e (rmm (420) 0 0 (13440)) s m args below meth c s.heap [] 0 0 Q (F0 m 105 ls []) := by
    intro K63 hK63 v1 v2 v3 v4 v5 v7 v8 v9 ls hl hf
    rw [X_judged_b105] at hf
    refine lv_iconst (v := 1) hx hb dX0_judged_105 (by decide) ?_
    refine lv_goto (tgt := 110) hx hb dX0_judged_106 (by decide) ?_
    exact B110 K63 hK63 v1 v2 v3 v4 v5 v7 v8 v9 1 _ (lv_sub hl [0, 1, 2, 3, 4, 5, 6, 7, 8] rfl) hf
  have B63 : ∀ (f : Nat) (v1 : Option Nat) (v2 : Int32) (v3 : Int32) (v4 : Option Nat) (v5 : Int32) (v6 : Int32) (v7 : Int32) (v8 : Int32) (ls : Array Slot), lv_has ls 10 [(0, .ref o), (1, va_rf v1), (2, .int v2), (3, .int v3), (4, va_rf v4), (5, .int v5), (6, .int v6), (7, .int v7), (8, .int v8)] → X_judged_b63 n o h f v1 v2 v3 v4 v5 v6 v7 v8 = some r → W p l e (rmm (420) 0 0 (13440)) s m args below meth c s.heap [] 0 0 Q (F0 m 63 ls []) := by
    intro f
    induction f with
    | zero =>
      intro v1 v2 v3 v4 v5 v6 v7 v8 ls hl hf
      rw [X_judged_b63] at hf
      cases hf
    | succ f hK63 =>
      intro v1 v2 v3 v4 v5 v6 v7 v8 ls hl hf
      rw [X_judged_b63] at hf
      refine lv_iload hx hb dX0_judged_63 (lv_at hl 8 rfl) ?_
      refine lv_iload_n hx hb dX0_judged_65 rfl (lv_at hl 3 rfl) ?_
      refine lv_icmp_gt (tgt := 135) hx hb dX0_judged_66 (by decide) (fun c29 => ?_) (fun c29 => ?_)
      · rw [if_pos c29] at hf
        refine lv_iload hx hb dX0_judged_135 (lv_at hl 6 rfl) ?_
        refine lv_if_eq (tgt := 144) hx hb dX0_judged_137 (by decide) (fun c30 => ?_) (fun c30 => ?_)
        · rw [if_pos c30] at hf
          refine lv_iload hx hb dX0_judged_144 (lv_at hl 5 rfl) ?_
          refine lv_if_eq (tgt := 153) hx hb dX0_judged_146 (by decide) (fun c31 => ?_) (fun c31 => ?_)
          · rw [if_pos c31] at hf
            refine lv_iload hx hb dX0_judged_153 (lv_at hl 7 rfl) ?_
            refine lv_if_eq (tgt := 162) hx hb dX0_judged_155 (by decide) (fun c32 => ?_) (fun c32 => ?_)
            · rw [if_pos c32] at hf
              refine lv_iconst (v := 3) hx hb dX0_judged_162 (by decide) ?_
              obtain rfl := Option.some.inj hf
              exact hret _ _ rfl dX0_judged_163
            · rw [if_neg c32] at hf
              refine lv_iconst (v := 1) hx hb dX0_judged_158 (by decide) ?_
              refine lv_goto (tgt := 163) hx hb dX0_judged_159 (by decide) ?_
              obtain rfl := Option.some.inj hf
              exact hret _ _ rfl dX0_judged_163
          · rw [if_neg c31] at hf
            refine lv_iconst (v := 0) hx hb dX0_judged_149 (by decide) ?_
            refine lv_goto (tgt := 163) hx hb dX0_judged_150 (by decide) ?_
            obtain rfl := Option.some.inj hf
            exact hret _ _ rfl dX0_judged_163
        · rw [if_neg c30] at hf
          refine lv_iconst (v := 2) hx hb dX0_judged_140 (by decide) ?_
          refine lv_goto (tgt := 163) hx hb dX0_judged_141 (by decide) ?_
          obtain rfl := Option.some.inj hf
          exact hret _ _ rfl dX0_judged_163
      · rw [if_neg c29] at hf
        refine lv_aload_n hx hb dX0_judged_69 rfl (lv_at hl 0 rfl) ?_
        refine lx_aload_n hx hb dX0_judged_70 rfl (lv_at hl 1 rfl) ?_
        refine lv_iload_n hx hb dX0_judged_71 rfl (lv_at hl 2 rfl) ?_
        refine lv_iload hx hb dX0_judged_72 (lv_at hl 8 rfl) ?_
        obtain ⟨r34, e33, hf⟩ := bd_e hf
        refine x_doneP (va_runV (b := o) (As := [va_rf v1, .int v2, .int v8]) (rest := []) ⟨hx, hb, hml, hown, hts⟩ (wx_isDuty l G hG h n o v1 v2 v8 r34 e33) (cwV 3 hts (lw_V q723 q725 qs30 q94 q726) rfl rfl rfl ⟨rfl, cdX0_isDuty⟩ ⟨(Nat.le_of_ble_eq_true rfl), (Nat.le_of_ble_eq_true rfl)⟩) (x_preV (ci := 0) (T := TX0) (N := 16) hK hX _ g0 (by decide) rfl) rfl rfl hl.1 rfl (lv_room (Nat.le_of_ble_eq_true rfl)) dX0_judged_74 ⟨(Nat.le_of_ble_eq_true rfl), (Nat.le_of_ble_eq_true rfl)⟩) rfl ?_
        clear e33
        refine lv_if_eq (tgt := 129) hx hb dX0_judged_77 (by decide) (fun c35 => ?_) (fun c35 => ?_)
        · rw [if_pos c35] at hf
          exact B129 (X_judged_b63 n o h f) hK63 v1 v2 v3 v4 v5 v6 v7 v8 _ (lv_sub hl [0, 1, 2, 3, 4, 5, 6, 7, 8] rfl) hf
        · rw [if_neg c35] at hf
          refine lx_aload hx hb dX0_judged_80 (lv_at hl 4 rfl) ?_
          refine lv_iload hx hb dX0_judged_82 (lv_at hl 8 rfl) ?_
          obtain ⟨a36, e37, hf⟩ := bd_e hf
          obtain ⟨g38, hf⟩ := gd_e hf
          obtain ⟨g39, hf⟩ := gd_e hf
          refine x_iald hx hb hK.1 hX (rf_some e37) g38 g39 dX0_judged_84 ?_
          refine lv_iload_n hx hb dX0_judged_85 rfl (lv_at hl 3 rfl) ?_
          obtain ⟨r41, e40, hf⟩ := bd_e hf
          refine x_doneP (va_runS (As := [.int (hI h a36 (Int32.toNatClampNeg v8)), .int v3]) (rest := []) ⟨hx, hb, hml, hown, hts⟩ (wx_dutyBy l G hG h n (hI h a36 (Int32.toNatClampNeg v8)) v3 r41 e40) (va_cwS 2 hts (lw_S q727 q728 q94 q729) rfl rfl rfl cdX0_dutyBy ⟨(Nat.le_of_ble_eq_true rfl), (Nat.le_of_ble_eq_true rfl)⟩) (x_preS hK hX _) rfl rfl hl.1 rfl (lv_room (Nat.le_of_ble_eq_true rfl)) dX0_judged_86 ⟨(Nat.le_of_ble_eq_true rfl), (Nat.le_of_ble_eq_true rfl)⟩) rfl ?_
          clear e40
          refine lv_istore (lv' := [(9, .int r41), (0, .ref o), (1, va_rf v1), (2, .int v2), (3, .int v3), (4, va_rf v4), (5, .int v5), (6, .int v6), (7, .int v7), (8, .int v8)]) hx hb dX0_judged_89 hl (by decide) rfl (fun ls hl => ?_)
          refine lv_iconst (v := 1) hx hb dX0_judged_91 (by decide) ?_
          refine lv_istore (lv' := [(7, .int 1), (9, .int r41), (0, .ref o), (1, va_rf v1), (2, .int v2), (3, .int v3), (4, va_rf v4), (5, .int v5), (6, .int v6), (8, .int v8)]) hx hb dX0_judged_92 hl (by decide) rfl (fun ls hl => ?_)
          refine lv_iload hx hb dX0_judged_94 (lv_at hl 8 rfl) ?_
          refine lv_if_ne (tgt := 105) hx hb dX0_judged_96 (by decide) (fun c42 => ?_) (fun c42 => ?_)
          · rw [if_neg c42] at hf
            exact B105 (X_judged_b63 n o h f) hK63 v1 v2 v3 v4 v5 1 v8 r41 _ (lv_sub hl [2, 3, 4, 5, 6, 7, 0, 9, 1] rfl) hf
          · rw [if_pos c42] at hf
            refine lv_iload hx hb dX0_judged_99 (lv_at hl 1 rfl) ?_
            refine lv_iconst (v := 2) hx hb dX0_judged_101 (by decide) ?_
            refine lv_icmp_ne (tgt := 109) hx hb dX0_judged_102 (by decide) (fun c45 => ?_) (fun c45 => ?_)
            · rw [if_neg c45] at hf
              refine lv_iconst (v := 0) hx hb dX0_judged_109 (by decide) ?_
              exact B110 (X_judged_b63 n o h f) hK63 v1 v2 v3 v4 v5 1 v8 r41 0 _ (lv_sub hl [2, 3, 4, 5, 6, 7, 0, 9, 1] rfl) hf
            · rw [if_pos c45] at hf
              exact B105 (X_judged_b63 n o h f) hK63 v1 v2 v3 v4 v5 1 v8 r41 _ (lv_sub hl [2, 3, 4, 5, 6, 7, 0, 9, 1] rfl) hf
  have B27 : ∀ (v1 : Option Nat) (v2 : Int32) (v3 : Int32) (v4 : Option Nat) (ls : Array Slot), lv_has ls 10 [(0, .ref o), (1, va_rf v1), (2, .int v2), (3, .int v3), (4, va_rf v4)] → X_judged_b27 n o h v1 v2 v3 v4 = some r → W p l e (rmm (420) 0 0 (13440)) s m args below meth c s.heap [] 0 0 Q (F0 m 27 ls []) := by
    intro v1 v2 v3 v4 ls hl hf
    rw [X_judged_b27] at hf
    refine lx_aload_n hx hb dX0_judged_27 rfl (lv_at hl 1 rfl) ?_
    obtain ⟨a5, e6, hf⟩ := bd_e hf
    obtain ⟨g7, hf⟩ := gd_e hf
    refine x_getN (ci := 5) (C := RX5) (T := TX5) (N := 3) hx hb hts in_X5 hown hK.1 hX (rf_some e6) g7 (by decide) rfl 0 (Nat.le_of_ble_eq_true rfl) (hG.nw hK nq344) (fun _ h9 => h9) (hv_ref rfl) dX0_judged_28 ?_
    refine lv_iconst (v := 0) hx hb dX0_judged_31 (by decide) ?_
    obtain ⟨a8, e9, hf⟩ := bd_e hf
    obtain ⟨g10, hf⟩ := gd_e hf
    obtain ⟨g11, hf⟩ := gd_e hf
    refine x_aald hx hb hK.1 hX (rf_some e9) 6 g10 (by decide) rfl rfl rfl g11 dX0_judged_32 ?_
    obtain ⟨a12, e13, hf⟩ := bd_e hf
    obtain ⟨g14, hf⟩ := gd_e hf
    refine x_getN (ci := 6) (C := RX6) (T := TX6) (N := 5) hx hb hts in_X6 hown hK.1 hX (rf_some e13) g14 (by decide) rfl 3 (Nat.le_of_ble_eq_true rfl) (hG.nw hK nq327) (fun _ h9 => h9) (hv_ref rfl) dX0_judged_33 ?_
    refine lx_aload_n hx hb dX0_judged_36 rfl (lv_at hl 1 rfl) ?_
    refine x_getN (ci := 5) (C := RX5) (T := TX5) (N := 3) hx hb hts in_X5 hown hK.1 hX (rf_some e6) g7 (by decide) rfl 0 (Nat.le_of_ble_eq_true rfl) (hG.nw hK nq344) (fun _ h9 => h9) (hv_ref rfl) dX0_judged_37 ?_
    refine lv_iconst (v := 0) hx hb dX0_judged_40 (by decide) ?_
    obtain ⟨g15, hf⟩ := gd_e hf
    refine x_aald hx hb hK.1 hX (rf_some e9) 6 g10 (by decide) rfl rfl rfl g15 dX0_judged_41 ?_
    refine x_getN (ci := 6) (C := RX6) (T := TX6) (N := 5) hx hb hts in_X6 hown hK.1 hX (rf_some e13) g14 (by decide) rfl 4 (Nat.le_of_ble_eq_true rfl) (hG.nw hK nq330) (fun _ h9 => h9) (hv_ref rfl) dX0_judged_42 ?_
    refine lv_iload_n hx hb dX0_judged_45 rfl (lv_at hl 2 rfl) ?_
    obtain ⟨a16, e17, hf⟩ := bd_e hf
    obtain ⟨g18, hf⟩ := gd_e hf
    obtain ⟨g19, hf⟩ := gd_e hf
    refine x_aald hx hb hK.1 hX (rf_some e17) 11 g18 (by decide) rfl rfl rfl g19 dX0_judged_46 ?_
    refine lv_iload_n hx hb dX0_judged_47 rfl (lv_at hl 3 rfl) ?_
    obtain ⟨a20, e21, hf⟩ := bd_e hf
    obtain ⟨g22, hf⟩ := gd_e hf
    obtain ⟨g23, hf⟩ := gd_e hf
    refine x_lald hx hb hK.1 hX (rf_some e21) g22 g23 dX0_judged_48 ?_
    obtain ⟨a24, e25, hf⟩ := bd_e hf
    obtain ⟨g27, hf⟩ := gd_e hf
    obtain ⟨r28, e26, hf⟩ := bd_e hf
    refine x_doneP (va_runV (b := a24) (As := [.long (hL h a20 (Int32.toNatClampNeg v3))]) (rest := []) ⟨hx, hb, hml, hown, hts⟩ (wx_Machine_mightGoOn l G hG h n a24 (hL h a20 (Int32.toNatClampNeg v3)) r28 e26) (cwV 1 hts (lw_V q715 q716 q717 q112 q718) rfl rfl rfl ⟨rfl, cdX13_mightGoOn⟩ ⟨(Nat.le_of_ble_eq_true rfl), (Nat.le_of_ble_eq_true rfl)⟩) (x_preV (ci := 11) (T := TX13) (N := 6) hK hX _ g27 (by decide) rfl) rfl rfl hl.1 (stk_eq (rf_some e25) rfl) (lv_room (Nat.le_of_ble_eq_true rfl)) dX0_judged_49 ⟨(Nat.le_of_ble_eq_true rfl), (Nat.le_of_ble_eq_true rfl)⟩) rfl ?_
    clear e26
    refine lv_istore (lv' := [(5, .int r28), (0, .ref o), (1, va_rf v1), (2, .int v2), (3, .int v3), (4, va_rf v4)]) hx hb dX0_judged_52 hl (by decide) (by generalize hq9 : va_rf v4 = w9; have hc9 : w9.category = 1 := (by rw [← hq9]; exact rf_cat _); cases w9 <;> first | rfl | cases hc9) (fun ls hl => ?_)
    refine lv_iconst (v := 0) hx hb dX0_judged_54 (by decide) ?_
    refine lv_istore (lv' := [(6, .int 0), (5, .int r28), (0, .ref o), (1, va_rf v1), (2, .int v2), (3, .int v3), (4, va_rf v4)]) hx hb dX0_judged_55 hl (by decide) rfl (fun ls hl => ?_)
    refine lv_iconst (v := 0) hx hb dX0_judged_57 (by decide) ?_
    refine lv_istore (lv' := [(7, .int 0), (6, .int 0), (5, .int r28), (0, .ref o), (1, va_rf v1), (2, .int v2), (3, .int v3), (4, va_rf v4)]) hx hb dX0_judged_58 hl (by decide) rfl (fun ls hl => ?_)
    refine lv_iload_n hx hb dX0_judged_60 rfl (lv_at hl 5 rfl) ?_
    refine lv_istore (lv' := [(8, .int v2), (7, .int 0), (6, .int 0), (5, .int r28), (0, .ref o), (1, va_rf v1), (2, .int v2), (3, .int v3), (4, va_rf v4)]) hx hb dX0_judged_61 hl (by decide) rfl (fun ls hl => ?_)
    exact B63 n v1 v2 v3 v4 r28 0 0 v2 _ (lv_sub hl [4, 5, 6, 7, 8, 3, 2, 1, 0] rfl) hf
  refine lx_aload_n hx hb dX0_judged_0 rfl (lv_at hl 1 rfl) ?_
  obtain ⟨a1, e2, hf⟩ := bd_e hf
  obtain ⟨g3, hf⟩ := gd_e hf
  refine x_getN (ci := 5) (C := RX5) (T := TX5) (N := 3) hx hb hts in_X5 hown hK.1 hX (rf_some e2) g3 (by decide) rfl 2 (Nat.le_of_ble_eq_true rfl) (hG.nw hK nq349) (fun _ h9 => h9) (hv_ref rfl) dX0_judged_1 ?_
  refine lx_ifnull (r := (hR h a1 2)) (tgt := 27) hx hb dX0_judged_4 (by decide) (fun c4 => ?_) (fun c4 => ?_)
  · rw [if_pos c4] at hf
    exact B27 p1 p2 p3 p4 _ (lv_sub hl [0, 1, 2, 3, 4] rfl) hf
  · rw [if_neg c4] at hf
    refine lx_aload_n hx hb dX0_judged_7 rfl (lv_at hl 1 rfl) ?_
    refine x_getN (ci := 5) (C := RX5) (T := TX5) (N := 3) hx hb hts in_X5 hown hK.1 hX (rf_some e2) g3 (by decide) rfl 2 (Nat.le_of_ble_eq_true rfl) (hG.nw hK nq349) (fun _ h9 => h9) (hv_ref rfl) dX0_judged_8 ?_
    refine lv_aload_n hx hb dX0_judged_11 rfl (lv_at hl 0 rfl) ?_
    refine x_get (ci := 0) (C := RX0) (T := TX0) (N := 16) hx hb hts in_X0 hown hK.1 hX rfl g0 (by decide) rfl 5 (Nat.le_of_ble_eq_true rfl) (hts _ q913) (fun _ h9 => h9) (hv_ref rfl) dX0_judged_12 ?_
    refine lv_iload_n hx hb dX0_judged_15 rfl (lv_at hl 3 rfl) ?_
    obtain ⟨a46, e47, hf⟩ := bd_e hf
    obtain ⟨g48, hf⟩ := gd_e hf
    obtain ⟨g49, hf⟩ := gd_e hf
    refine x_iald hx hb hK.1 hX (rf_some e47) g48 g49 dX0_judged_16 ?_
    obtain ⟨a50, e51, hf⟩ := bd_e hf
    obtain ⟨r52, e53, hf⟩ := bd_e hf
    refine x_at hG hx hb hml hts hown hK hX (rf_some e51) (at_ok l G hG 209 _ _ _ _ e53) q633 hl.1 (Nat.le_of_ble_eq_true rfl) (Nat.le_of_ble_eq_true rfl) (Nat.le_of_ble_eq_true rfl) ⟨(by simp only [rmm]; omega), (by simp only [rmm]; omega)⟩ dX0_judged_17 ?_
    clear e53
    refine lv_if_eq (tgt := 27) hx hb dX0_judged_22 (by decide) (fun c54 => ?_) (fun c54 => ?_)
    · rw [if_pos c54] at hf
      exact B27 p1 p2 p3 p4 _ (lv_sub hl [0, 1, 2, 3, 4] rfl) hf
    · rw [if_neg c54] at hf
      refine lv_iconst (v := 4) hx hb dX0_judged_25 (by decide) ?_
      obtain rfl := Option.some.inj hf
      exact hret _ _ rfl dX0_judged_26
theorem cdX0_judges : yX0_judges.cls ≠ "java/lang/invoke/MethodHandle" ∧ yX0_judges.cls ≠ "java/lang/invoke/VarHandle" ∧ (parseMethodDescriptor yX0_judges.desc).map (fun d => d.parameters.length) = some 1 := by decide +kernel
set_option maxHeartbeats 4000000 in
set_option maxRecDepth 100000 in
theorem wx_judges (l : Launch) (G : Gt) (hG : XG G) (h : Hp) (n : Nat) (o : Nat) (p1 : Int32) (h1 : Hp) (hf : X_judges n o p1 h = some h1) : Met l yX0_judges (ws_ yX0_judges cX0_judges 5 none) (rmm (421) 0 0 (13469)) (XP G [.ref o, .int p1] h) (XQ G none h h1) 0 0 (fre h) := by
  rw [X_judges] at hf
  obtain ⟨g0, hf⟩ := gd_e hf
  refine metSv l (by decide) (Nat.le_of_ble_eq_true rfl) ?_
  intro p e s m args below meth c Q hx hb hts hown hnmd hml hinit hK hW hret ls hl
  have hown : s.vm.findClass RX0 = some m.cls := hown
  have hX := XX.start hW
  have hl : lv_has ls 5 [(0, .ref o), (1, .int p1)] := hl
  have B141 : ∀ (K37 : Int32 → Option Nat → Int32 → Hp → Option (Hp)) (hK37 : ∀ (v1 : Int32) (v2 : Option Nat) (v3 : Int32) (h2 : Hp) (H : Heap) (locs : List Loc) (ls : Array Slot), XX G h s.heap h2 H locs → lv_has ls 5 [(0, .ref o), (1, .int v1), (2, va_rf v2), (3, .int v3)] → K37 v1 v2 v3 h2 = some h1 → W p l e (rmm (421) 0 0 (13469)) s m args below meth c H locs 0 0 Q (F0 m 37 ls [])) (v1 : Int32) (v2 : Option Nat) (v3 : Int32) (t0 : Int32) (t1 : Int32) (t2 : Option Nat) (h_44 : Hp) (H : Heap) (locs : List Loc) (ls : Array Slot), XX G h s.heap h_44 H locs → lv_has ls 5 [(0, .ref o), (1, .int v1), (2, va_rf v2), (3, .int v3)] → X_judges_b141 n o K37 v1 v2 v3 t0 t1 t2 h_44 = some h1 → W p l e (rmm (421) 0 0 (13469)) s m args below meth c H locs 0 0 Q (F0 m 141 ls [.int t0, .int t1, va_rf t2]) := by
    intro K37 hK37 v1 v2 v3 t0 t1 t2 h_44 H locs ls hX hl hf
    rw [X_judges_b141] at hf
    obtain ⟨a45, e46, hf⟩ := bd_e hf
    obtain ⟨g47, hf⟩ := gd_e hf
    obtain ⟨g48, hf⟩ := gd_e hf
    obtain ⟨h49, eh49, hf⟩ := st_e hf
    refine x_iast hx hb hK.1 hX (rf_some e46) g47 g48 dX0_judges_141 (fun H locs hX => ?_)
    replace hX := hX.re eh49
    clear eh49
    refine lv_iinc (v := (v3 + 1)) (lv' := [(3, .int (v3 + 1)), (0, .ref o), (1, .int v1), (2, va_rf v2)]) hx hb dX0_judges_142 hl (k := 3) rfl rfl (by decide) (by generalize hq9 : va_rf v2 = w9; have hc9 : w9.category = 1 := (by rw [← hq9]; exact rf_cat _); cases w9 <;> first | rfl | cases hc9) (fun ls hl => ?_)
    refine lv_goto (tgt := 37) hx hb dX0_judges_145 (by decide) ?_
    exact hK37 v1 v2 (v3 + 1) h49 _ _ _ hX (lv_sub hl [1, 2, 3, 0] rfl) hf
  have B116 : ∀ (K37 : Int32 → Option Nat → Int32 → Hp → Option (Hp)) (hK37 : ∀ (v1 : Int32) (v2 : Option Nat) (v3 : Int32) (h2 : Hp) (H : Heap) (locs : List Loc) (ls : Array Slot), XX G h s.heap h2 H locs → lv_has ls 5 [(0, .ref o), (1, .int v1), (2, va_rf v2), (3, .int v3)] → K37 v1 v2 v3 h2 = some h1 → W p l e (rmm (421) 0 0 (13469)) s m args below meth c H locs 0 0 Q (F0 m 37 ls [])) (v1 : Int32) (v2 : Option Nat) (v3 : Int32) (v4 : Int32) (h_30 : Hp) (H : Heap) (locs : List Loc) (ls : Array Slot), XX G h s.heap h_30 H locs → lv_has ls 5 [(0, .ref o), (1, .int v1), (2, va_rf v2), (3, .int v3), (4, .int v4)] → X_judges_b116 n o K37 v1 v2 v3 v4 h_30 = some h1 → W p l e (rmm (421) 0 0 (13469)) s m args below meth c H locs 0 0 Q (F0 m 116 ls []) := by
    intro K37 hK37 v1 v2 v3 v4 h_30 H locs ls hX hl hf
    rw [X_judges_b116] at hf
    refine lv_aload_n hx hb dX0_judges_116 rfl (lv_at hl 0 rfl) ?_
    refine x_get (ci := 0) (C := RX0) (T := TX0) (N := 16) hx hb hts in_X0 hown hK.1 hX rfl (hX.tg g0 (by decide)) (by decide) rfl 9 (Nat.le_of_ble_eq_true rfl) (hts _ q917) (fun _ h9 => h9) (hv_ref rfl) dX0_judges_117 ?_
    refine lv_iload_n hx hb dX0_judges_120 rfl (lv_at hl 1 rfl) ?_
    obtain ⟨a31, e32, hf⟩ := bd_e hf
    obtain ⟨g33, hf⟩ := gd_e hf
    obtain ⟨g34, hf⟩ := gd_e hf
    refine x_aald hx hb hK.1 hX (rf_some e32) 10 g33 (by decide) rfl rfl rfl g34 dX0_judges_121 ?_
    refine lv_iload_n hx hb dX0_judges_122 rfl (lv_at hl 3 rfl) ?_
    refine lv_aload_n hx hb dX0_judges_123 rfl (lv_at hl 0 rfl) ?_
    refine x_get (ci := 0) (C := RX0) (T := TX0) (N := 16) hx hb hts in_X0 hown hK.1 hX rfl (hX.tg g0 (by decide)) (by decide) rfl 8 (Nat.le_of_ble_eq_true rfl) (hts _ q916) (fun _ h9 => h9) (hv_ref rfl) dX0_judges_124 ?_
    refine lv_iload_n hx hb dX0_judges_127 rfl (lv_at hl 1 rfl) ?_
    obtain ⟨a35, e36, hf⟩ := bd_e hf
    obtain ⟨g37, hf⟩ := gd_e hf
    obtain ⟨g38, hf⟩ := gd_e hf
    refine x_aald hx hb hK.1 hX (rf_some e36) 10 g37 (by decide) rfl rfl rfl g38 dX0_judges_128 ?_
    refine lv_iload_n hx hb dX0_judges_129 rfl (lv_at hl 3 rfl) ?_
    obtain ⟨a39, e40, hf⟩ := bd_e hf
    obtain ⟨g41, hf⟩ := gd_e hf
    obtain ⟨g42, hf⟩ := gd_e hf
    refine x_iald hx hb hK.1 hX (rf_some e40) g41 g42 dX0_judges_130 ?_
    refine lv_if_ne (tgt := 139) hx hb dX0_judges_131 (by decide) (fun c43 => ?_) (fun c43 => ?_)
    · rw [if_neg c43] at hf
      refine lv_iload hx hb dX0_judges_139 (lv_at hl 4 rfl) ?_
      exact B141 K37 hK37 v1 v2 v3 v4 v3 (hR h_30 a31 (Int32.toNatClampNeg v1)) h_30 _ _ _ hX (lv_sub hl [0, 1, 2, 3] rfl) hf
    · rw [if_pos c43] at hf
      refine lv_bipush (v := (-4)) hx hb dX0_judges_134 (by decide) ?_
      refine lv_goto (tgt := 141) hx hb dX0_judges_136 (by decide) ?_
      exact B141 K37 hK37 v1 v2 v3 (-4) v3 (hR h_30 a31 (Int32.toNatClampNeg v1)) h_30 _ _ _ hX (lv_sub hl [0, 1, 2, 3] rfl) hf
  have B68 : ∀ (K37 : Int32 → Option Nat → Int32 → Hp → Option (Hp)) (hK37 : ∀ (v1 : Int32) (v2 : Option Nat) (v3 : Int32) (h2 : Hp) (H : Heap) (locs : List Loc) (ls : Array Slot), XX G h s.heap h2 H locs → lv_has ls 5 [(0, .ref o), (1, .int v1), (2, va_rf v2), (3, .int v3)] → K37 v1 v2 v3 h2 = some h1 → W p l e (rmm (421) 0 0 (13469)) s m args below meth c H locs 0 0 Q (F0 m 37 ls [])) (f : Nat) (v1 : Int32) (v2 : Option Nat) (v3 : Int32) (v4 : Int32) (h_20 : Hp) (H : Heap) (locs : List Loc) (ls : Array Slot), XX G h s.heap h_20 H locs → lv_has ls 5 [(0, .ref o), (1, .int v1), (2, va_rf v2), (3, .int v3), (4, .int v4)] → X_judges_b68 n o K37 f v1 v2 v3 v4 h_20 = some h1 → W p l e (rmm (421) 0 0 (13469)) s m args below meth c H locs 0 0 Q (F0 m 68 ls []) := by
    intro K37 hK37
    intro f
    induction f with
    | zero =>
      intro v1 v2 v3 v4 h_20 H locs ls hX hl hf
      rw [X_judges_b68] at hf
      cases hf
    | succ f hK68 =>
      intro v1 v2 v3 v4 h_20 H locs ls hX hl hf
      rw [X_judges_b68] at hf
      refine lv_aload_n hx hb dX0_judges_68 rfl (lv_at hl 0 rfl) ?_
      refine x_get (ci := 0) (C := RX0) (T := TX0) (N := 16) hx hb hts in_X0 hown hK.1 hX rfl (hX.tg g0 (by decide)) (by decide) rfl 8 (Nat.le_of_ble_eq_true rfl) (hts _ q916) (fun _ h9 => h9) (hv_ref rfl) dX0_judges_69 ?_
      refine lv_iload_n hx hb dX0_judges_72 rfl (lv_at hl 1 rfl) ?_
      obtain ⟨a21, e22, hf⟩ := bd_e hf
      obtain ⟨g23, hf⟩ := gd_e hf
      obtain ⟨g24, hf⟩ := gd_e hf
      refine x_aald hx hb hK.1 hX (rf_some e22) 10 g23 (by decide) rfl rfl rfl g24 dX0_judges_73 ?_
      refine lv_iload_n hx hb dX0_judges_74 rfl (lv_at hl 3 rfl) ?_
      obtain ⟨a25, e26, hf⟩ := bd_e hf
      obtain ⟨g27, hf⟩ := gd_e hf
      obtain ⟨g28, hf⟩ := gd_e hf
      refine x_iald hx hb hK.1 hX (rf_some e26) g27 g28 dX0_judges_75 ?_
      refine lv_if_ne (tgt := 116) hx hb dX0_judges_76 (by decide) (fun c29 => ?_) (fun c29 => ?_)
      · rw [if_neg c29] at hf
        exact B116 K37 hK37 v1 v2 v3 v4 h_20 _ _ _ hX (lv_sub hl [0, 1, 2, 3, 4] rfl) hf
      · rw [if_pos c29] at hf
        refine lv_iload hx hb dX0_judges_79 (lv_at hl 4 rfl) ?_
        refine lv_iconst (v := 1) hx hb dX0_judges_81 (by decide) ?_
        refine lv_iadd hx hb dX0_judges_82 ?_
        refine lv_aload_n hx hb dX0_judges_83 rfl (lv_at hl 0 rfl) ?_
        refine x_get (ci := 0) (C := RX0) (T := TX0) (N := 16) hx hb hts in_X0 hown hK.1 hX rfl (hX.tg g0 (by decide)) (by decide) rfl 6 (Nat.le_of_ble_eq_true rfl) (hts _ q914) (fun _ h9 => h9) (hv_int rfl) dX0_judges_84 ?_
        refine lv_icmp_ge (tgt := 116) hx hb dX0_judges_87 (by decide) (fun c50 => ?_) (fun c50 => ?_)
        · rw [if_pos c50] at hf
          exact B116 K37 hK37 v1 v2 v3 v4 h_20 _ _ _ hX (lv_sub hl [0, 1, 2, 3, 4] rfl) hf
        · rw [if_neg c50] at hf
          refine lv_iinc (v := (v4 + 1)) (lv' := [(4, .int (v4 + 1)), (0, .ref o), (1, .int v1), (2, va_rf v2), (3, .int v3)]) hx hb dX0_judges_90 hl (k := 4) rfl rfl (by decide) rfl (fun ls hl => ?_)
          refine lv_aload_n hx hb dX0_judges_93 rfl (lv_at hl 1 rfl) ?_
          refine x_get (ci := 0) (C := RX0) (T := TX0) (N := 16) hx hb hts in_X0 hown hK.1 hX rfl (hX.tg g0 (by decide)) (by decide) rfl 8 (Nat.le_of_ble_eq_true rfl) (hts _ q916) (fun _ h9 => h9) (hv_ref rfl) dX0_judges_94 ?_
          refine lv_iload_n hx hb dX0_judges_97 rfl (lv_at hl 2 rfl) ?_
          obtain ⟨g51, hf⟩ := gd_e hf
          refine x_aald hx hb hK.1 hX (rf_some e22) 10 g23 (by decide) rfl rfl rfl g51 dX0_judges_98 ?_
          refine lv_iload_n hx hb dX0_judges_99 rfl (lv_at hl 4 rfl) ?_
          refine lv_aload_n hx hb dX0_judges_100 rfl (lv_at hl 1 rfl) ?_
          refine lx_aload_n hx hb dX0_judges_101 rfl (lv_at hl 3 rfl) ?_
          refine lv_iload_n hx hb dX0_judges_102 rfl (lv_at hl 4 rfl) ?_
          refine lv_iload hx hb dX0_judges_103 (lv_at hl 0 rfl) ?_
          refine lv_aload_n hx hb dX0_judges_105 rfl (lv_at hl 1 rfl) ?_
          refine x_get (ci := 0) (C := RX0) (T := TX0) (N := 16) hx hb hts in_X0 hown hK.1 hX rfl (hX.tg g0 (by decide)) (by decide) rfl 10 (Nat.le_of_ble_eq_true rfl) (hts _ q918) (fun _ h9 => h9) (hv_ref rfl) dX0_judges_106 ?_
          obtain ⟨r53, e52, hf⟩ := bd_e hf
          refine x_doneP (va_runV (b := o) (As := [va_rf v2, .int v3, .int (v4 + 1), va_rf (hR h_20 o 10)]) (rest := [.int v3, va_rf (hR h_20 a21 (Int32.toNatClampNeg v1))]) ⟨hx, hb, hml, hown, hts⟩ (wx_judged l G hG h_20 n o v2 v3 (v4 + 1) (hR h_20 o 10) r53 e52) (cwV 4 hts (lw_V q719 q721 qs29 q94 q722) rfl rfl rfl ⟨rfl, cdX0_judged⟩ ⟨(Nat.le_of_ble_eq_true rfl), (Nat.le_of_ble_eq_true rfl)⟩) (x_preV (ci := 0) (T := TX0) (N := 16) hK hX _ (hX.tg g0 (by decide)) (by decide) rfl) rfl rfl hl.1 rfl (lv_room (by simp only [List.map, List.sum_cons, List.sum_nil, rf_cat, cat_i, cat_l, cat_r] <;> decide)) dX0_judges_109 ⟨(Nat.le_of_ble_eq_true rfl), (Nat.le_of_ble_eq_true rfl)⟩) rfl ?_
          clear e52
          obtain ⟨g54, hf⟩ := gd_e hf
          obtain ⟨h55, eh55, hf⟩ := st_e hf
          refine x_iast hx hb hK.1 hX (rf_some e26) g27 g54 dX0_judges_112 (fun H locs hX => ?_)
          replace hX := hX.re eh55
          clear eh55
          refine lv_goto (tgt := 68) hx hb dX0_judges_113 (by decide) ?_
          exact hK68 v1 v2 v3 (v4 + 1) h55 _ _ _ hX (lv_sub hl [1, 2, 3, 4, 0] rfl) hf
  have B37 : ∀ (f : Nat) (v1 : Int32) (v2 : Option Nat) (v3 : Int32) (h_7 : Hp) (H : Heap) (locs : List Loc) (ls : Array Slot), XX G h s.heap h_7 H locs → lv_has ls 5 [(0, .ref o), (1, .int v1), (2, va_rf v2), (3, .int v3)] → X_judges_b37 n o f v1 v2 v3 h_7 = some h1 → W p l e (rmm (421) 0 0 (13469)) s m args below meth c H locs 0 0 Q (F0 m 37 ls []) := by
    intro f
    induction f with
    | zero =>
      intro v1 v2 v3 h_7 H locs ls hX hl hf
      rw [X_judges_b37] at hf
      cases hf
    | succ f hK37 =>
      intro v1 v2 v3 h_7 H locs ls hX hl hf
      rw [X_judges_b37] at hf
      refine lv_iload_n hx hb dX0_judges_37 rfl (lv_at hl 3 rfl) ?_
      refine lv_aload_n hx hb dX0_judges_38 rfl (lv_at hl 0 rfl) ?_
      refine x_get (ci := 0) (C := RX0) (T := TX0) (N := 16) hx hb hts in_X0 hown hK.1 hX rfl (hX.tg g0 (by decide)) (by decide) rfl 6 (Nat.le_of_ble_eq_true rfl) (hts _ q914) (fun _ h9 => h9) (hv_int rfl) dX0_judges_39 ?_
      refine lv_icmp_ge (tgt := 148) hx hb dX0_judges_42 (by decide) (fun c8 => ?_) (fun c8 => ?_)
      · rw [if_pos c8] at hf
        obtain rfl := Option.some.inj hf
        exact hret _ _ _ _ hX dX0_judges_148
      · rw [if_neg c8] at hf
        refine lv_iload_n hx hb dX0_judges_45 rfl (lv_at hl 3 rfl) ?_
        refine lv_istore (lv' := [(4, .int v3), (0, .ref o), (1, .int v1), (2, va_rf v2), (3, .int v3)]) hx hb dX0_judges_46 hl (by decide) rfl (fun ls hl => ?_)
        refine lv_aload_n hx hb dX0_judges_48 rfl (lv_at hl 1 rfl) ?_
        refine x_get (ci := 0) (C := RX0) (T := TX0) (N := 16) hx hb hts in_X0 hown hK.1 hX rfl (hX.tg g0 (by decide)) (by decide) rfl 8 (Nat.le_of_ble_eq_true rfl) (hts _ q916) (fun _ h9 => h9) (hv_ref rfl) dX0_judges_49 ?_
        refine lv_iload_n hx hb dX0_judges_52 rfl (lv_at hl 2 rfl) ?_
        obtain ⟨a9, e10, hf⟩ := bd_e hf
        obtain ⟨g11, hf⟩ := gd_e hf
        obtain ⟨g12, hf⟩ := gd_e hf
        refine x_aald hx hb hK.1 hX (rf_some e10) 10 g11 (by decide) rfl rfl rfl g12 dX0_judges_53 ?_
        refine lv_iload_n hx hb dX0_judges_54 rfl (lv_at hl 4 rfl) ?_
        refine lv_aload_n hx hb dX0_judges_55 rfl (lv_at hl 1 rfl) ?_
        refine lx_aload_n hx hb dX0_judges_56 rfl (lv_at hl 3 rfl) ?_
        refine lv_iload_n hx hb dX0_judges_57 rfl (lv_at hl 4 rfl) ?_
        refine lv_iload hx hb dX0_judges_58 (lv_at hl 0 rfl) ?_
        refine lv_aload_n hx hb dX0_judges_60 rfl (lv_at hl 1 rfl) ?_
        refine x_get (ci := 0) (C := RX0) (T := TX0) (N := 16) hx hb hts in_X0 hown hK.1 hX rfl (hX.tg g0 (by decide)) (by decide) rfl 10 (Nat.le_of_ble_eq_true rfl) (hts _ q918) (fun _ h9 => h9) (hv_ref rfl) dX0_judges_61 ?_
        obtain ⟨r14, e13, hf⟩ := bd_e hf
        refine x_doneP (va_runV (b := o) (As := [va_rf v2, .int v3, .int v3, va_rf (hR h_7 o 10)]) (rest := [.int v3, va_rf (hR h_7 a9 (Int32.toNatClampNeg v1))]) ⟨hx, hb, hml, hown, hts⟩ (wx_judged l G hG h_7 n o v2 v3 v3 (hR h_7 o 10) r14 e13) (cwV 4 hts (lw_V q719 q721 qs29 q94 q722) rfl rfl rfl ⟨rfl, cdX0_judged⟩ ⟨(Nat.le_of_ble_eq_true rfl), (Nat.le_of_ble_eq_true rfl)⟩) (x_preV (ci := 0) (T := TX0) (N := 16) hK hX _ (hX.tg g0 (by decide)) (by decide) rfl) rfl rfl hl.1 rfl (lv_room (by simp only [List.map, List.sum_cons, List.sum_nil, rf_cat, cat_i, cat_l, cat_r] <;> decide)) dX0_judges_64 ⟨(Nat.le_of_ble_eq_true rfl), (Nat.le_of_ble_eq_true rfl)⟩) rfl ?_
        clear e13
        obtain ⟨a15, e16, hf⟩ := bd_e hf
        obtain ⟨g17, hf⟩ := gd_e hf
        obtain ⟨g18, hf⟩ := gd_e hf
        obtain ⟨h19, eh19, hf⟩ := st_e hf
        refine x_iast hx hb hK.1 hX (rf_some e16) g17 g18 dX0_judges_67 (fun H locs hX => ?_)
        replace hX := hX.re eh19
        clear eh19
        exact B68 (X_judges_b37 n o f) hK37 n v1 v2 v3 v3 h19 _ _ _ hX (lv_sub hl [1, 2, 3, 4, 0] rfl) hf
  have B9 : ∀ (f : Nat) (v1 : Int32) (v2 : Option Nat) (v3 : Int32) (h_5 : Hp) (H : Heap) (locs : List Loc) (ls : Array Slot), XX G h s.heap h_5 H locs → lv_has ls 5 [(0, .ref o), (1, .int v1), (2, va_rf v2), (3, .int v3)] → X_judges_b9 n o f v1 v2 v3 h_5 = some h1 → W p l e (rmm (421) 0 0 (13469)) s m args below meth c H locs 0 0 Q (F0 m 9 ls []) := by
    intro f
    induction f with
    | zero =>
      intro v1 v2 v3 h_5 H locs ls hX hl hf
      rw [X_judges_b9] at hf
      cases hf
    | succ f hK9 =>
      intro v1 v2 v3 h_5 H locs ls hX hl hf
      rw [X_judges_b9] at hf
      refine lv_iload_n hx hb dX0_judges_9 rfl (lv_at hl 3 rfl) ?_
      refine lv_aload_n hx hb dX0_judges_10 rfl (lv_at hl 0 rfl) ?_
      refine x_get (ci := 0) (C := RX0) (T := TX0) (N := 16) hx hb hts in_X0 hown hK.1 hX rfl (hX.tg g0 (by decide)) (by decide) rfl 6 (Nat.le_of_ble_eq_true rfl) (hts _ q914) (fun _ h9 => h9) (hv_int rfl) dX0_judges_11 ?_
      refine lv_icmp_ge (tgt := 35) hx hb dX0_judges_14 (by decide) (fun c6 => ?_) (fun c6 => ?_)
      · rw [if_pos c6] at hf
        refine lv_iconst (v := 0) hx hb dX0_judges_35 (by decide) ?_
        refine lv_istore_n (lv' := [(3, .int 0), (0, .ref o), (1, .int v1), (2, va_rf v2)]) hx hb dX0_judges_36 rfl hl (by decide) (by generalize hq9 : va_rf v2 = w9; have hc9 : w9.category = 1 := (by rw [← hq9]; exact rf_cat _); cases w9 <;> first | rfl | cases hc9) (fun ls hl => ?_)
        exact B37 n v1 v2 0 h_5 _ _ _ hX (lv_sub hl [1, 2, 3, 0] rfl) hf
      · rw [if_neg c6] at hf
        refine lv_aload_n hx hb dX0_judges_17 rfl (lv_at hl 0 rfl) ?_
        refine x_get (ci := 0) (C := RX0) (T := TX0) (N := 16) hx hb hts in_X0 hown hK.1 hX rfl (hX.tg g0 (by decide)) (by decide) rfl 10 (Nat.le_of_ble_eq_true rfl) (hts _ q918) (fun _ h9 => h9) (hv_ref rfl) dX0_judges_18 ?_
        refine lv_iload_n hx hb dX0_judges_21 rfl (lv_at hl 3 rfl) ?_
        refine lv_aload_n hx hb dX0_judges_22 rfl (lv_at hl 0 rfl) ?_
        refine lx_aload_n hx hb dX0_judges_23 rfl (lv_at hl 2 rfl) ?_
        refine lv_iload_n hx hb dX0_judges_24 rfl (lv_at hl 3 rfl) ?_
        obtain ⟨r57, e56, hf⟩ := bd_e hf
        refine x_doneP (va_runV (b := o) (As := [va_rf v2, .int v3]) (rest := [.int v3, va_rf (hR h_5 o 10)]) ⟨hx, hb, hml, hown, hts⟩ (wx_dutyOf l G hG h_5 n o v2 v3 r57 e56) (cwV 2 hts (lw_V q678 q680 qs26 q94 q681) rfl rfl rfl ⟨rfl, cdX0_dutyOf⟩ ⟨(Nat.le_of_ble_eq_true rfl), (Nat.le_of_ble_eq_true rfl)⟩) (x_preV (ci := 0) (T := TX0) (N := 16) hK hX _ (hX.tg g0 (by decide)) (by decide) rfl) rfl rfl hl.1 rfl (lv_room (by simp only [List.map, List.sum_cons, List.sum_nil, rf_cat, cat_i, cat_l, cat_r] <;> decide)) dX0_judges_25 ⟨(Nat.le_of_ble_eq_true rfl), (Nat.le_of_ble_eq_true rfl)⟩) rfl ?_
        clear e56
        obtain ⟨a58, e59, hf⟩ := bd_e hf
        obtain ⟨g60, hf⟩ := gd_e hf
        obtain ⟨g61, hf⟩ := gd_e hf
        obtain ⟨h62, eh62, hf⟩ := st_e hf
        refine x_iast hx hb hK.1 hX (rf_some e59) g60 g61 dX0_judges_28 (fun H locs hX => ?_)
        replace hX := hX.re eh62
        clear eh62
        refine lv_iinc (v := (v3 + 1)) (lv' := [(3, .int (v3 + 1)), (0, .ref o), (1, .int v1), (2, va_rf v2)]) hx hb dX0_judges_29 hl (k := 3) rfl rfl (by decide) (by generalize hq9 : va_rf v2 = w9; have hc9 : w9.category = 1 := (by rw [← hq9]; exact rf_cat _); cases w9 <;> first | rfl | cases hc9) (fun ls hl => ?_)
        refine lv_goto (tgt := 9) hx hb dX0_judges_32 (by decide) ?_
        exact hK9 v1 v2 (v3 + 1) h62 _ _ _ hX (lv_sub hl [1, 2, 3, 0] rfl) hf
  refine lv_aload_n hx hb dX0_judges_0 rfl (lv_at hl 0 rfl) ?_
  refine x_get (ci := 0) (C := RX0) (T := TX0) (N := 16) hx hb hts in_X0 hown hK.1 hX rfl (hX.tg g0 (by decide)) (by decide) rfl 3 (Nat.le_of_ble_eq_true rfl) (hts _ q911) (fun _ h9 => h9) (hv_ref rfl) dX0_judges_1 ?_
  refine lv_iload_n hx hb dX0_judges_4 rfl (lv_at hl 1 rfl) ?_
  obtain ⟨a1, e2, hf⟩ := bd_e hf
  obtain ⟨g3, hf⟩ := gd_e hf
  obtain ⟨g4, hf⟩ := gd_e hf
  refine x_aald hx hb hK.1 hX (rf_some e2) 7 g3 (by decide) rfl rfl rfl g4 dX0_judges_5 ?_
  refine lx_astore_n (r := (hR h a1 (Int32.toNatClampNeg p1))) (lv' := [(2, va_rf (hR h a1 (Int32.toNatClampNeg p1))), (0, .ref o), (1, .int p1)]) hx hb dX0_judges_6 rfl hl (by decide) rfl (fun ls hl => ?_)
  refine lv_iconst (v := 0) hx hb dX0_judges_7 (by decide) ?_
  refine lv_istore_n (lv' := [(3, .int 0), (2, va_rf (hR h a1 (Int32.toNatClampNeg p1))), (0, .ref o), (1, .int p1)]) hx hb dX0_judges_8 rfl hl (by decide) (by generalize hq9 : va_rf (hR h a1 (Int32.toNatClampNeg p1)) = w9; have hc9 : w9.category = 1 := (by rw [← hq9]; exact rf_cat _); cases w9 <;> first | rfl | cases hc9) (fun ls hl => ?_)
  exact B9 n p1 (hR h a1 (Int32.toNatClampNeg p1)) 0 h _ _ _ hX (lv_sub hl [2, 3, 1, 0] rfl) hf
