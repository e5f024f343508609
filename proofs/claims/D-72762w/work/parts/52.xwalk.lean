/-! walks of the system (by program) -/
theorem cdX3_thens : yX3_thens.cls ≠ "java/lang/invoke/MethodHandle" ∧ yX3_thens.cls ≠ "java/lang/invoke/VarHandle" ∧ (parseMethodDescriptor yX3_thens.desc).map (fun d => d.parameters.length) = some 0 := by decide +kernel
set_option maxHeartbeats 4000000 in
set_option maxRecDepth 100000 in
theorem wx_Reader_thens (l : Launch) (G : Gt) (hG : XG G) (D : Nat) (fo : Nat → Hp → Option ((Sum (Option Nat) Nat × Hp) × Nat × Nat)) (hrec : ∀ o h res h1 c s, fo o h = some ((res, h1), c, s) → vx_Met l yX3_sequence (ws_ yX3_sequence cX3_sequence 2 (some (.object "PromiseTries$Node"))) (rmm (4 * D + 80) c s (160 * D + 8000)) (XP G [.ref o] h) (XQn G (fun r9 : Option Nat => some (va_rf r9)) res h h1) (XCn G res h h1) c s (fre h)) (h : Hp) (n : Nat) (o : Nat) (res : Sum (Option Nat) Nat) (h1 : Hp) (MC MS : Nat) (hf : X_Reader_thens n fo o h = some ((res, h1), MC, MS)) : vx_Met l yX3_thens (ws_ yX3_thens cX3_thens 2 (some (.object "PromiseTries$Node"))) (rmm (4 * D + 83) MC MS (160 * D + 8120)) (XP G [.ref o] h) (XQn G (fun r9 : Option Nat => some (va_rf r9)) res h h1) (XCn G res h h1) MC MS (fre h) := by
  rw [X_Reader_thens] at hf
  obtain ⟨g0, hf⟩ := gd_e hf
  refine metXr l (by decide) (Nat.le_of_ble_eq_true rfl) (Or.inl ⟨_, rfl⟩) ?_
  intro p e s m args below meth c Q hx hb hts hown hnmd hml hinit hK hW hret hth ls hl
  have hown : s.vm.findClass RX3 = some m.cls := hown
  have hX := XX.start hW
  have kc : 0 + MC = MC := Nat.zero_add _
  have ks : 0 + MS = MS := Nat.zero_add _
  have hl : lv_has ls 2 [(0, .ref o)] := hl
  have B5 : ∀ (f : Nat) (v1 : Option Nat) (h_14 : Hp) (ck cs qc qs : Nat) (kc : ck + qc = MC) (ks : cs + qs = MS) (H : Heap) (locs : List Loc) (ls : Array Slot), XX G h s.heap h_14 H locs → lv_has ls 2 [(0, .ref o), (1, va_rf v1)] → X_Reader_thens_b5 n fo o f v1 h_14 = some ((res, h1), qc, qs) → W p l e (rmm (4 * D + 83) MC MS (160 * D + 8120)) s m args below meth c H locs ck cs Q (F0 m 5 ls []) := by
    intro f
    induction f with
    | zero =>
      intro v1 h_14 ck cs qc qs kc ks H locs ls hX hl hf
      rw [X_Reader_thens_b5] at hf
      cases hf
    | succ f hK5 =>
      intro v1 h_14 ck cs qc qs kc ks H locs ls hX hl hf
      rw [X_Reader_thens_b5] at hf
      refine lv_aload_n hx hb dX3_thens_5 rfl (lv_at hl 0 rfl) ?_
      refine lv_bipush (v := 44) hx hb dX3_thens_6 (by decide) ?_
      obtain ⟨r16, e15, hf⟩ := bd_e hf
      refine x_doneP (va_runV (b := o) (As := [.int 44]) (rest := []) ⟨hx, hb, hml, hown, hts⟩ (wx_Reader_isSign l G hG h_14 n o 44 r16 e15) (cwV 1 hts (lw_V q300 q302 qs6 q98 q303) rfl rfl rfl ⟨rfl, cdX3_isSign⟩ ⟨(by simp only [rmm]; omega), (by simp only [rmm]; omega)⟩) (x_preV (ci := 3) (T := TX3) (N := 9) hK hX _ (hX.tg g0 (by decide)) (by decide) rfl) rfl rfl hl.1 rfl (lv_room (Nat.le_of_ble_eq_true rfl)) dX3_thens_8 ⟨(by simp only [rmm]; omega), (by simp only [rmm]; omega)⟩) rfl ?_
      clear e15
      refine lv_if_eq (tgt := 34) hx hb dX3_thens_11 (by decide) (fun c17 => ?_) (fun c17 => ?_)
      · rw [if_pos c17] at hf
        refine lx_aload_n hx hb dX3_thens_34 rfl (lv_at hl 1 rfl) ?_
        obtain ⟨q1, q2⟩ := Prod.mk.inj (Option.some.inj hf)
        obtain ⟨q2, q3⟩ := Prod.mk.inj q2
        obtain ⟨q0, rfl⟩ := Prod.mk.inj q1
        refine W.cs (cells' := MC) (slots' := MS) (by omega) (by omega) ?_
        exact hret _ _ _ _ _ q0.symm hX dX3_thens_35
      · rw [if_neg c17] at hf
        refine lv_aload_n hx hb dX3_thens_14 rfl (lv_at hl 0 rfl) ?_
        obtain ⟨r26, h19, c20, s21, e18, l29, l30, e28⟩ := bdX_e hf
        refine x_doneX (val := (fun _ : Unit => none)) (vx_runV (b := o) (As := []) (rest := []) ⟨hx, hb, hml, hown, hts⟩ (wx_Reader_next l G hG h_14 n o r26 h19 c20 s21 e18) (cwV 0 hts (lw_V q152 q154 qs0 q98 q155) rfl rfl rfl ⟨rfl, cdX3_next⟩ ⟨(by simp only [rmm]; omega), (by simp only [rmm]; omega)⟩) (x_preV (ci := 3) (T := TX3) (N := 9) hK hX _ (hX.tg g0 (by decide)) (by decide) rfl) rfl rfl hl.1 rfl (lv_room (Nat.le_of_ble_eq_true rfl)) dX3_thens_15 ⟨(by simp only [rmm]; omega), (by simp only [rmm]; omega)⟩) hX e28 hth kc ks (fun r27 c22 s23 hf e24 e25 H locs hX => ?_)
        clear e18 l29 l30 e28
        replace kc : (ck + c20) + c22 = MC := by omega
        replace ks : (cs + s21) + s23 = MS := by omega
        clear e24 e25
        obtain ⟨c31, s32, hf, e33, e34⟩ := ad_e hf
        obtain ⟨h35, eh35, hf⟩ := st_e hf
        refine x_new (ci := 9) (C := RX11) (T := TX11) (N := 2) hx hb hts in_X11 hown q457 q458 q110 hK hX (by decide) rfl tyX11_ok (fun k hk => dfl _ (dfC9 k hk)) (by simp only [rmm]; omega) (by simp only [rmm]; omega) dX3_thens_18 (fun H hX => ?_)
        replace hX := hX.re eh35
        have g36 : hT h35 (hZ h19) = 10 := by rw [eh35]; exact nw_T _ _ _
        clear eh35
        replace kc : ((ck + c20) + 1) + c31 = MC := by omega
        replace ks : ((cs + s21) + 2) + s32 = MS := by omega
        clear e33 e34
        refine lv_dup hx hb dX3_thens_21 rfl ?_
        refine lx_aload_n hx hb dX3_thens_22 rfl (lv_at hl 1 rfl) ?_
        refine lv_aload_n hx hb dX3_thens_23 rfl (lv_at hl 0 rfl) ?_
        obtain ⟨r45, h38, c39, s40, e37, l48, l49, e47⟩ := bdX_e hf
        refine x_doneX (val := (fun r9 : Option Nat => some (va_rf r9))) (vx_runV (b := o) (As := []) (rest := [va_rf v1, .ref (hZ h19), .ref (hZ h19)]) ⟨hx, hb, hml, hown, hts⟩ (wx_Reader_repeated l G hG D fo hrec h35 n o r45 h38 c39 s40 e37) (cwV 0 hts (lw_V q370 q372 qs10 q98 q373) rfl rfl rfl ⟨rfl, cdX3_repeated⟩ ⟨(by simp only [rmm]; omega), (by simp only [rmm]; omega)⟩) (x_preV (ci := 3) (T := TX3) (N := 9) hK hX _ (hX.tg g0 (by decide)) (by decide) rfl) rfl rfl hl.1 rfl (lv_room (by simp only [List.map, List.sum_cons, List.sum_nil, rf_cat, cat_i, cat_l, cat_r] <;> decide)) dX3_thens_24 ⟨(by simp only [rmm]; omega), (by simp only [rmm]; omega)⟩) hX e47 hth kc ks (fun r46 c41 s42 hf e43 e44 H locs hX => ?_)
        clear e37 l48 l49 e47
        replace kc : (((ck + c20) + 1) + c39) + c41 = MC := by omega
        replace ks : (((cs + s21) + 2) + s40) + s42 = MS := by omega
        clear e43 e44
        obtain ⟨h51, e50, hf⟩ := bd_e hf
        refine x_done (mc := 0) (ms := 0) (va_runI (As := [va_rf v1, va_rf r46]) (rest := [.ref (hZ h19)]) ⟨hx, hb, hml, hown, hts⟩ (wx_Then_init l G hG h38 n (hZ h19) v1 r46 h51 e50) (cwI 2 hts (lw_meth q461) rfl rfl rfl (hts _ q110) (hts _ q459) (hts _ q460) rfl cdX11_init ⟨(by simp only [rmm]; omega), (by simp only [rmm]; omega)⟩) (x_preS hK hX _) rfl rfl hl.1 rfl (lv_room (Nat.le_of_ble_eq_true rfl)) dX3_thens_27 ⟨(by simp only [rmm]; omega), (by simp only [rmm]; omega)⟩) hX rfl (fun H locs hX => ?_)
        clear e50
        refine lv_astore_n (lv' := [(1, .ref (hZ h19)), (0, .ref o)]) hx hb dX3_thens_30 rfl hl (by decide) rfl (fun ls hl => ?_)
        refine lv_goto (tgt := 5) hx hb dX3_thens_31 (by decide) ?_
        exact hK5 (some (hZ h19)) h51 _ _ _ _ kc ks _ _ _ hX (lv_sub hl [1, 0] rfl) hf
  refine lv_aload_n hx hb dX3_thens_0 rfl (lv_at hl 0 rfl) ?_
  obtain ⟨r9, h2, c3, s4, e1, l12, l13, e11⟩ := bdX_e hf
  refine x_doneX (val := (fun r9 : Option Nat => some (va_rf r9))) (vx_runV (b := o) (As := []) (rest := []) ⟨hx, hb, hml, hown, hts⟩ (wx_Reader_repeated l G hG D fo hrec h n o r9 h2 c3 s4 e1) (cwV 0 hts (lw_V q370 q372 qs10 q98 q373) rfl rfl rfl ⟨rfl, cdX3_repeated⟩ ⟨(by simp only [rmm]; omega), (by simp only [rmm]; omega)⟩) (x_preV (ci := 3) (T := TX3) (N := 9) hK hX _ (hX.tg g0 (by decide)) (by decide) rfl) rfl rfl hl.1 rfl (lv_room (Nat.le_of_ble_eq_true rfl)) dX3_thens_1 ⟨(by simp only [rmm]; omega), (by simp only [rmm]; omega)⟩) hX e11 hth kc ks (fun r10 c5 s6 hf e7 e8 H locs hX => ?_)
  clear e1 l12 l13 e11
  replace kc : (0 + c3) + c5 = MC := by omega
  replace ks : (0 + s4) + s6 = MS := by omega
  clear e7 e8
  refine lx_astore_n (r := r10) (lv' := [(1, va_rf r10), (0, .ref o)]) hx hb dX3_thens_4 rfl hl (by decide) rfl (fun ls hl => ?_)
  exact B5 n r10 h2 _ _ _ _ kc ks _ _ _ hX (lv_sub hl [1, 0] rfl) hf
set_option maxHeartbeats 4000000 in
set_option maxRecDepth 100000 in
theorem wx_Two_init_Either (l : Launch) (G : Gt) (hG : XG G) (h : Hp) (n : Nat) (o : Nat) (p1 : Option Nat) (p2 : Option Nat) (h1 : Hp) (hf : X_Two_init_Either n o p1 p2 h = some h1) : Met l yX10_init (ws_ yX10_init cX10_init 3 none) (rmm (2) 0 0 (84)) (XP G [.ref o, va_rf p1, va_rf p2] h) (XQ G none h h1) 0 0 (fre h) := by
  rw [X_Two_init_Either] at hf
  obtain ⟨g0, hf⟩ := gd_e hf
  refine metSv l (by decide) (by cases p1 <;> cases p2 <;> exact Nat.le_of_ble_eq_true rfl) ?_
  intro p e s m args below meth c Q hx hb hts hown hnmd hml hinit hK hW hret ls hl
  have hinit : meth.name = "<init>" := hinit rfl
  have hown : s.vm.findClass RX10 = some m.cls := hown
  have hX := XX.start hW
  have hl : lv_has ls 3 [(0, .ref o), (1, va_rf p1), (2, va_rf p2)] := Eq.mp (congrArg (lv_has ls 3) (show lv_args 0 [.ref o, va_rf p1, va_rf p2] = [(0, .ref o), (1, va_rf p1), (2, va_rf p2)] from by clear hf; cases p1 <;> cases p2 <;> rfl)) hl
  refine lv_aload_n hx hb dX10_init_0 rfl (lv_at hl 0 rfl) ?_
  obtain ⟨_, e1, hf⟩ := bd_e hf
  refine x_doneP (va_runIN (As := []) (rest := []) ⟨hx, hb, hml, hown, hts⟩ (wx_Node_init l G hG h n o e1) ⟨va_cnB 0 hts (lw_meth q425) rfl rfl rfl (hG.nw hK nq465) (hts _ q105) cdX7_init ⟨(Nat.le_of_ble_eq_true rfl), (Nat.le_of_ble_eq_true rfl)⟩, rfl, hts _ q424⟩ (x_preS hK hX _) rfl rfl hl.1 rfl (lv_room (Nat.le_of_ble_eq_true rfl)) dX10_init_1 ⟨(Nat.le_of_ble_eq_true rfl), (Nat.le_of_ble_eq_true rfl)⟩) rfl ?_
  clear e1
  refine lv_aload_n hx hb dX10_init_4 rfl (lv_at hl 0 rfl) ?_
  refine lx_aload_n hx hb dX10_init_5 rfl (lv_at hl 1 rfl) ?_
  obtain ⟨h2, eh2, hf⟩ := st_e hf
  refine x_putF (ci := 10) (C := RX12) (T := TX12) (N := 2) hx hb hts in_X12 tyX12 tyX12_ok nmX12 hown hK.1 hX rfl (hX.tg g0 (by decide)) (by decide) rfl 0 (Nat.le_of_ble_eq_true rfl) (hts _ q466) (fun _ h9 => h9) rfl hinit rfl (narrow_rfO _ p1) (fits_rfO _ p1) (Put1.fR (x := p1) rfl) dX10_init_6 (fun H locs hX => ?_)
  replace hX := hX.re eh2
  clear eh2
  refine lv_aload_n hx hb dX10_init_9 rfl (lv_at hl 0 rfl) ?_
  refine lx_aload_n hx hb dX10_init_10 rfl (lv_at hl 2 rfl) ?_
  obtain ⟨h3, eh3, hf⟩ := st_e hf
  refine x_putF (ci := 10) (C := RX12) (T := TX12) (N := 2) hx hb hts in_X12 tyX12 tyX12_ok nmX12 hown hK.1 hX rfl (hX.tg g0 (by decide)) (by decide) rfl 1 (Nat.le_of_ble_eq_true rfl) (hts _ q471) (fun _ h9 => h9) rfl hinit rfl (narrow_rfO _ p2) (fits_rfO _ p2) (Put1.fR (x := p2) rfl) dX10_init_11 (fun H locs hX => ?_)
  replace hX := hX.re eh3
  clear eh3
  obtain rfl := Option.some.inj hf
  exact hret _ _ _ _ hX dX10_init_14
theorem cdX12_init : yX12_init.cls ≠ "java/lang/invoke/MethodHandle" ∧ yX12_init.cls ≠ "java/lang/invoke/VarHandle" ∧ (parseMethodDescriptor yX12_init.desc).map (fun d => d.parameters.length) = some 2 := by decide +kernel
set_option maxHeartbeats 4000000 in
set_option maxRecDepth 100000 in
theorem wx_Either_init (l : Launch) (G : Gt) (hG : XG G) (h : Hp) (n : Nat) (o : Nat) (p1 : Option Nat) (p2 : Option Nat) (h1 : Hp) (hf : X_Either_init n o p1 p2 h = some h1) : Met l yX12_init (ws_ yX12_init cX12_init 3 none) (rmm (3) 0 0 (106)) (XP G [.ref o, va_rf p1, va_rf p2] h) (XQ G none h h1) 0 0 (fre h) := by
  rw [X_Either_init] at hf
  refine metSv l (by decide) (by cases p1 <;> cases p2 <;> exact Nat.le_of_ble_eq_true rfl) ?_
  intro p e s m args below meth c Q hx hb hts hown hnmd hml hinit hK hW hret ls hl
  have hinit : meth.name = "<init>" := hinit rfl
  have hown : s.vm.findClass RX12 = some m.cls := hown
  have hX := XX.start hW
  have hl : lv_has ls 3 [(0, .ref o), (1, va_rf p1), (2, va_rf p2)] := Eq.mp (congrArg (lv_has ls 3) (show lv_args 0 [.ref o, va_rf p1, va_rf p2] = [(0, .ref o), (1, va_rf p1), (2, va_rf p2)] from by clear hf; cases p1 <;> cases p2 <;> rfl)) hl
  refine lv_aload_n hx hb dX12_init_0 rfl (lv_at hl 0 rfl) ?_
  refine lx_aload_n hx hb dX12_init_1 rfl (lv_at hl 1 rfl) ?_
  refine lx_aload_n hx hb dX12_init_2 rfl (lv_at hl 2 rfl) ?_
  obtain ⟨h2, e1, hf⟩ := bd_e hf
  refine x_done (mc := 0) (ms := 0) (va_runI (As := [va_rf p1, va_rf p2]) (rest := []) ⟨hx, hb, hml, hown, hts⟩ (wx_Two_init_Either l G hG h n o p1 p2 h2 e1) (cwI 2 hts (lw_meth q464) rfl rfl rfl (hts _ q109) (hts _ q486) (hts _ q463) rfl cdX10_init ⟨(Nat.le_of_ble_eq_true rfl), (Nat.le_of_ble_eq_true rfl)⟩) (x_preS hK hX _) rfl rfl hl.1 rfl (lv_room (Nat.le_of_ble_eq_true rfl)) dX12_init_3 ⟨(Nat.le_of_ble_eq_true rfl), (Nat.le_of_ble_eq_true rfl)⟩) hX rfl (fun H locs hX => ?_)
  clear e1
  obtain rfl := Option.some.inj hf
  exact hret _ _ _ _ hX dX12_init_6
set_option maxHeartbeats 4000000 in
set_option maxRecDepth 100000 in
theorem wx_Reader_sequence (l : Launch) (G : Gt) (hG : XG G) (D : Nat) (fo : Nat → Hp → Option ((Sum (Option Nat) Nat × Hp) × Nat × Nat)) (hrec : ∀ o h res h1 c s, fo o h = some ((res, h1), c, s) → vx_Met l yX3_sequence (ws_ yX3_sequence cX3_sequence 2 (some (.object "PromiseTries$Node"))) (rmm (4 * D + 80) c s (160 * D + 8000)) (XP G [.ref o] h) (XQn G (fun r9 : Option Nat => some (va_rf r9)) res h h1) (XCn G res h h1) c s (fre h)) (h : Hp) (n : Nat) (o : Nat) (res : Sum (Option Nat) Nat) (h1 : Hp) (MC MS : Nat) (hf : X_Reader_sequence n fo o h = some ((res, h1), MC, MS)) : vx_Met l yX3_sequence (ws_ yX3_sequence cX3_sequence 2 (some (.object "PromiseTries$Node"))) (rmm (4 * D + 84) MC MS (160 * D + 8160)) (XP G [.ref o] h) (XQn G (fun r9 : Option Nat => some (va_rf r9)) res h h1) (XCn G res h h1) MC MS (fre h) := by
  rw [X_Reader_sequence] at hf
  obtain ⟨g0, hf⟩ := gd_e hf
  refine metXr l (by decide) (Nat.le_of_ble_eq_true rfl) (Or.inl ⟨_, rfl⟩) ?_
  intro p e s m args below meth c Q hx hb hts hown hnmd hml hinit hK hW hret hth ls hl
  have hown : s.vm.findClass RX3 = some m.cls := hown
  have hX := XX.start hW
  have kc : 0 + MC = MC := Nat.zero_add _
  have ks : 0 + MS = MS := Nat.zero_add _
  have hl : lv_has ls 2 [(0, .ref o)] := hl
  have B5 : ∀ (f : Nat) (v1 : Option Nat) (h_14 : Hp) (ck cs qc qs : Nat) (kc : ck + qc = MC) (ks : cs + qs = MS) (H : Heap) (locs : List Loc) (ls : Array Slot), XX G h s.heap h_14 H locs → lv_has ls 2 [(0, .ref o), (1, va_rf v1)] → X_Reader_sequence_b5 n fo o f v1 h_14 = some ((res, h1), qc, qs) → W p l e (rmm (4 * D + 84) MC MS (160 * D + 8160)) s m args below meth c H locs ck cs Q (F0 m 5 ls []) := by
    intro f
    induction f with
    | zero =>
      intro v1 h_14 ck cs qc qs kc ks H locs ls hX hl hf
      rw [X_Reader_sequence_b5] at hf
      cases hf
    | succ f hK5 =>
      intro v1 h_14 ck cs qc qs kc ks H locs ls hX hl hf
      rw [X_Reader_sequence_b5] at hf
      refine lv_aload_n hx hb dX3_sequence_5 rfl (lv_at hl 0 rfl) ?_
      refine lv_bipush (v := 47) hx hb dX3_sequence_6 (by decide) ?_
      obtain ⟨r16, e15, hf⟩ := bd_e hf
      refine x_doneP (va_runV (b := o) (As := [.int 47]) (rest := []) ⟨hx, hb, hml, hown, hts⟩ (wx_Reader_isSign l G hG h_14 n o 47 r16 e15) (cwV 1 hts (lw_V q300 q302 qs6 q98 q303) rfl rfl rfl ⟨rfl, cdX3_isSign⟩ ⟨(by simp only [rmm]; omega), (by simp only [rmm]; omega)⟩) (x_preV (ci := 3) (T := TX3) (N := 9) hK hX _ (hX.tg g0 (by decide)) (by decide) rfl) rfl rfl hl.1 rfl (lv_room (Nat.le_of_ble_eq_true rfl)) dX3_sequence_8 ⟨(by simp only [rmm]; omega), (by simp only [rmm]; omega)⟩) rfl ?_
      clear e15
      refine lv_if_eq (tgt := 34) hx hb dX3_sequence_11 (by decide) (fun c17 => ?_) (fun c17 => ?_)
      · rw [if_pos c17] at hf
        refine lx_aload_n hx hb dX3_sequence_34 rfl (lv_at hl 1 rfl) ?_
        obtain ⟨q1, q2⟩ := Prod.mk.inj (Option.some.inj hf)
        obtain ⟨q2, q3⟩ := Prod.mk.inj q2
        obtain ⟨q0, rfl⟩ := Prod.mk.inj q1
        refine W.cs (cells' := MC) (slots' := MS) (by omega) (by omega) ?_
        exact hret _ _ _ _ _ q0.symm hX dX3_sequence_35
      · rw [if_neg c17] at hf
        refine lv_aload_n hx hb dX3_sequence_14 rfl (lv_at hl 0 rfl) ?_
        obtain ⟨r26, h19, c20, s21, e18, l29, l30, e28⟩ := bdX_e hf
        refine x_doneX (val := (fun _ : Unit => none)) (vx_runV (b := o) (As := []) (rest := []) ⟨hx, hb, hml, hown, hts⟩ (wx_Reader_next l G hG h_14 n o r26 h19 c20 s21 e18) (cwV 0 hts (lw_V q152 q154 qs0 q98 q155) rfl rfl rfl ⟨rfl, cdX3_next⟩ ⟨(by simp only [rmm]; omega), (by simp only [rmm]; omega)⟩) (x_preV (ci := 3) (T := TX3) (N := 9) hK hX _ (hX.tg g0 (by decide)) (by decide) rfl) rfl rfl hl.1 rfl (lv_room (Nat.le_of_ble_eq_true rfl)) dX3_sequence_15 ⟨(by simp only [rmm]; omega), (by simp only [rmm]; omega)⟩) hX e28 hth kc ks (fun r27 c22 s23 hf e24 e25 H locs hX => ?_)
        clear e18 l29 l30 e28
        replace kc : (ck + c20) + c22 = MC := by omega
        replace ks : (cs + s21) + s23 = MS := by omega
        clear e24 e25
        obtain ⟨c31, s32, hf, e33, e34⟩ := ad_e hf
        obtain ⟨h35, eh35, hf⟩ := st_e hf
        refine x_new (ci := 10) (C := RX12) (T := TX12) (N := 2) hx hb hts in_X12 hown q481 q482 q111 hK hX (by decide) rfl tyX12_ok (fun k hk => dfl _ (dfC10 k hk)) (by simp only [rmm]; omega) (by simp only [rmm]; omega) dX3_sequence_18 (fun H hX => ?_)
        replace hX := hX.re eh35
        have g36 : hT h35 (hZ h19) = 11 := by rw [eh35]; exact nw_T _ _ _
        clear eh35
        replace kc : ((ck + c20) + 1) + c31 = MC := by omega
        replace ks : ((cs + s21) + 2) + s32 = MS := by omega
        clear e33 e34
        refine lv_dup hx hb dX3_sequence_21 rfl ?_
        refine lx_aload_n hx hb dX3_sequence_22 rfl (lv_at hl 1 rfl) ?_
        refine lv_aload_n hx hb dX3_sequence_23 rfl (lv_at hl 0 rfl) ?_
        obtain ⟨r45, h38, c39, s40, e37, l48, l49, e47⟩ := bdX_e hf
        refine x_doneX (val := (fun r9 : Option Nat => some (va_rf r9))) (vx_runV (b := o) (As := []) (rest := [va_rf v1, .ref (hZ h19), .ref (hZ h19)]) ⟨hx, hb, hml, hown, hts⟩ (wx_Reader_thens l G hG D fo hrec h35 n o r45 h38 c39 s40 e37) (cwV 0 hts (lw_V q366 q368 qs9 q98 q369) rfl rfl rfl ⟨rfl, cdX3_thens⟩ ⟨(by simp only [rmm]; omega), (by simp only [rmm]; omega)⟩) (x_preV (ci := 3) (T := TX3) (N := 9) hK hX _ (hX.tg g0 (by decide)) (by decide) rfl) rfl rfl hl.1 rfl (lv_room (by simp only [List.map, List.sum_cons, List.sum_nil, rf_cat, cat_i, cat_l, cat_r] <;> decide)) dX3_sequence_24 ⟨(by simp only [rmm]; omega), (by simp only [rmm]; omega)⟩) hX e47 hth kc ks (fun r46 c41 s42 hf e43 e44 H locs hX => ?_)
        clear e37 l48 l49 e47
        replace kc : (((ck + c20) + 1) + c39) + c41 = MC := by omega
        replace ks : (((cs + s21) + 2) + s40) + s42 = MS := by omega
        clear e43 e44
        obtain ⟨h51, e50, hf⟩ := bd_e hf
        refine x_done (mc := 0) (ms := 0) (va_runI (As := [va_rf v1, va_rf r46]) (rest := [.ref (hZ h19)]) ⟨hx, hb, hml, hown, hts⟩ (wx_Either_init l G hG h38 n (hZ h19) v1 r46 h51 e50) (cwI 2 hts (lw_meth q485) rfl rfl rfl (hts _ q111) (hts _ q483) (hts _ q484) rfl cdX12_init ⟨(by simp only [rmm]; omega), (by simp only [rmm]; omega)⟩) (x_preS hK hX _) rfl rfl hl.1 rfl (lv_room (Nat.le_of_ble_eq_true rfl)) dX3_sequence_27 ⟨(by simp only [rmm]; omega), (by simp only [rmm]; omega)⟩) hX rfl (fun H locs hX => ?_)
        clear e50
        refine lv_astore_n (lv' := [(1, .ref (hZ h19)), (0, .ref o)]) hx hb dX3_sequence_30 rfl hl (by decide) rfl (fun ls hl => ?_)
        refine lv_goto (tgt := 5) hx hb dX3_sequence_31 (by decide) ?_
        exact hK5 (some (hZ h19)) h51 _ _ _ _ kc ks _ _ _ hX (lv_sub hl [1, 0] rfl) hf
  refine lv_aload_n hx hb dX3_sequence_0 rfl (lv_at hl 0 rfl) ?_
  obtain ⟨r9, h2, c3, s4, e1, l12, l13, e11⟩ := bdX_e hf
  refine x_doneX (val := (fun r9 : Option Nat => some (va_rf r9))) (vx_runV (b := o) (As := []) (rest := []) ⟨hx, hb, hml, hown, hts⟩ (wx_Reader_thens l G hG D fo hrec h n o r9 h2 c3 s4 e1) (cwV 0 hts (lw_V q366 q368 qs9 q98 q369) rfl rfl rfl ⟨rfl, cdX3_thens⟩ ⟨(by simp only [rmm]; omega), (by simp only [rmm]; omega)⟩) (x_preV (ci := 3) (T := TX3) (N := 9) hK hX _ (hX.tg g0 (by decide)) (by decide) rfl) rfl rfl hl.1 rfl (lv_room (Nat.le_of_ble_eq_true rfl)) dX3_sequence_1 ⟨(by simp only [rmm]; omega), (by simp only [rmm]; omega)⟩) hX e11 hth kc ks (fun r10 c5 s6 hf e7 e8 H locs hX => ?_)
  clear e1 l12 l13 e11
  replace kc : (0 + c3) + c5 = MC := by omega
  replace ks : (0 + s4) + s6 = MS := by omega
  clear e7 e8
  refine lx_astore_n (r := r10) (lv' := [(1, va_rf r10), (0, .ref o)]) hx hb dX3_sequence_4 rfl hl (by decide) rfl (fun ls hl => ?_)
  exact B5 n r10 h2 _ _ _ _ kc ks _ _ _ hX (lv_sub hl [1, 0] rfl) hf
theorem seq_ok (l : Launch) (G : Gt) (hG : XG G) (n d o : Nat) (h : Hp) (res : Sum (Option Nat) Nat) (h1 : Hp) (c s : Nat) (e : X_seq n d o h = some ((res, h1), c, s)) : vx_Met l yX3_sequence (ws_ yX3_sequence cX3_sequence 2 (some (.object "PromiseTries$Node"))) (rmm (4 * d + 80) c s (160 * d + 8000)) (XP G [.ref o] h) (XQn G (fun r9 : Option Nat => some (va_rf r9)) res h h1) (XCn G res h h1) c s (fre h) := by
  induction d generalizing o h res h1 c s with
  | zero => rw [X_seq] at e; cases e
  | succ d ih =>
    rw [X_seq] at e
    rw [show 4 * (d + 1) + 80 = 4 * d + 84 from by omega, show 160 * (d + 1) + 8000 = 160 * d + 8160 from by omega]
    exact wx_Reader_sequence l G hG d (X_seq n d) (fun o h res h1 c s e => ih o h res h1 c s e) h n o res h1 c s e
theorem cdX3_side : yX3_side.cls ≠ "java/lang/invoke/MethodHandle" ∧ yX3_side.cls ≠ "java/lang/invoke/VarHandle" ∧ (parseMethodDescriptor yX3_side.desc).map (fun d => d.parameters.length) = some 1 := by decide +kernel
set_option maxHeartbeats 4000000 in
set_option maxRecDepth 100000 in
theorem wx_Reader_side (l : Launch) (G : Gt) (hG : XG G) (h : Hp) (n : Nat) (o : Nat) (p1 : Option Nat) (res : Sum (Unit) Nat) (h1 : Hp) (MC MS : Nat) (hf : X_Reader_side n o p1 h = some ((res, h1), MC, MS)) : vx_Met l yX3_side (ws_ yX3_side cX3_side 2 none) (rmm (133) MC MS (10101)) (XP G [.ref o, va_rf p1] h) (XQn G (fun _ : Unit => none) res h h1) (XCn G res h h1) MC MS (fre h) := by
  rw [X_Reader_side] at hf
  obtain ⟨g0, hf⟩ := gd_e hf
  refine metXv l (by decide) (by cases p1 <;> exact Nat.le_of_ble_eq_true rfl) ?_
  intro p e s m args below meth c Q hx hb hts hown hnmd hml hinit hK hW hret hth ls hl
  have hown : s.vm.findClass RX3 = some m.cls := hown
  have hX := XX.start hW
  have kc : 0 + MC = MC := Nat.zero_add _
  have ks : 0 + MS = MS := Nat.zero_add _
  have hl : lv_has ls 2 [(0, .ref o), (1, va_rf p1)] := Eq.mp (congrArg (lv_has ls 2) (show lv_args 0 [.ref o, va_rf p1] = [(0, .ref o), (1, va_rf p1)] from by clear hf; cases p1 <;> rfl)) hl
  refine lv_aload_n hx hb dX3_side_0 rfl (lv_at hl 0 rfl) ?_
  refine lx_aload_n hx hb dX3_side_1 rfl (lv_at hl 1 rfl) ?_
  obtain ⟨h1, eh1, hf⟩ := st_e hf
  refine x_put (ci := 3) (C := RX3) (T := TX3) (N := 9) hx hb hts in_X3 tyX3 tyX3_ok nmX3 hown hK.1 hX rfl (hX.tg g0 (by decide)) (by decide) rfl 3 (Nat.le_of_ble_eq_true rfl) (hts _ q267) (fun _ h9 => h9) rfl (narrow_rfO _ p1) (fits_rfO _ p1) (Put1.fR (x := p1) rfl) dX3_side_2 (fun H locs hX => ?_)
  replace hX := hX.re eh1
  clear eh1
  refine lx_aload_n hx hb dX3_side_5 rfl (lv_at hl 1 rfl) ?_
  refine lv_aload_n hx hb dX3_side_6 rfl (lv_at hl 0 rfl) ?_
  obtain ⟨r10, h3, c4, s5, e2, l13, l14, e12⟩ := bdX_e hf
  refine x_doneX (val := (fun r9 : Option Nat => some (va_rf r9))) (vx_runV (b := o) (As := []) (rest := [va_rf p1]) ⟨hx, hb, hml, hown, hts⟩ (wx_Reader_sequence l G hG 12 (X_seq n 12) (fun o h res h1 c s e => seq_ok l G hG n 12 o h res h1 c s e) h1 n o r10 h3 c4 s5 e2) (cwV 0 hts (lw_V q362 q364 qs8 q98 q365) rfl rfl rfl ⟨rfl, cdX3_sequence⟩ ⟨(by simp only [rmm]; omega), (by simp only [rmm]; omega)⟩) (x_preV (ci := 3) (T := TX3) (N := 9) hK hX _ (hX.tg g0 (by decide)) (by decide) rfl) rfl rfl hl.1 rfl (lv_room (by simp only [List.map, List.sum_cons, List.sum_nil, rf_cat, cat_i, cat_l, cat_r] <;> decide)) dX3_side_7 ⟨(by simp only [rmm]; omega), (by simp only [rmm]; omega)⟩) hX e12 hth kc ks (fun r11 c6 s7 hf e8 e9 H locs hX => ?_)
  clear e2 l13 l14 e12
  replace kc : (0 + c4) + c6 = MC := by omega
  replace ks : (0 + s5) + s7 = MS := by omega
  clear e8 e9
  obtain ⟨a15, e16, hf⟩ := bd_e hf
  obtain ⟨g17, hf⟩ := gd_e hf
  obtain ⟨h18, eh18, hf⟩ := st_e hf
  refine x_putN (ci := 6) (C := RX6) (T := TX6) (N := 5) hx hb hts in_X6 tyX6 tyX6_ok nmX6 hown hK.1 hX (rf_some e16) g17 (by decide) rfl 2 (Nat.le_of_ble_eq_true rfl) (hG.nw hK nq325) (fun _ h9 => h9) rfl (narrow_rfO _ r11) (fits_rfO _ r11) (Put1.fR (x := r11) rfl) dX3_side_10 (fun H locs hX => ?_)
  replace hX := hX.re eh18
  clear eh18
  obtain ⟨q1, q2⟩ := Prod.mk.inj (Option.some.inj hf)
  obtain ⟨q2, q3⟩ := Prod.mk.inj q2
  obtain ⟨q0, rfl⟩ := Prod.mk.inj q1
  refine W.cs (cells' := MC) (slots' := MS) (by omega) (by omega) ?_
  exact hret _ _ _ _ _ q0.symm hX dX3_side_13
theorem cdX13_init : yX13_init.cls ≠ "java/lang/invoke/MethodHandle" ∧ yX13_init.cls ≠ "java/lang/invoke/VarHandle" ∧ (parseMethodDescriptor yX13_init.desc).map (fun d => d.parameters.length) = some 0 := by decide +kernel
set_option maxHeartbeats 4000000 in
set_option maxRecDepth 100000 in
theorem wx_Machine_init (l : Launch) (G : Gt) (hG : XG G) (h : Hp) (n : Nat) (o : Nat) (h1 : Hp) (MC MS : Nat) (hf : X_Machine_init n o h = some (h1, MC, MS)) : Met l yX13_init (ws_ yX13_init cX13_init 1 none) (rmm (1) MC MS (64)) (XP G [.ref o] h) (XQ G none h h1) MC MS (fre h) := by
  rw [X_Machine_init] at hf
  obtain ⟨g0, hf⟩ := gd_e hf
  refine metSv l (by decide) (Nat.le_of_ble_eq_true rfl) ?_
  intro p e s m args below meth c Q hx hb hts hown hnmd hml hinit hK hW hret ls hl
  have hinit : meth.name = "<init>" := hinit rfl
  have hown : s.vm.findClass RX13 = some m.cls := hown
  have hX := XX.start hW
  have kc : 0 + MC = MC := Nat.zero_add _
  have ks : 0 + MS = MS := Nat.zero_add _
  have hl : lv_has ls 1 [(0, .ref o)] := hl
  refine lv_aload_n hx hb dX13_init_0 rfl (lv_at hl 0 rfl) ?_
  refine W.objInit hx hb hown (hts _ q546) (hts _ q148) (hts _ q149) rfl (by rw [hml]; exact hl.1) rfl dX13_init_1 (by simp only [rmm]; omega) (by show 2 * 0 + _ + 12 ≤ _; first | exact Nat.le_of_ble_eq_true rfl | (simp only [List.map, List.sum_cons, List.sum_nil, rf_cat, cat_i, cat_l, cat_r, rmm] <;> decide)) ?_
  refine W.eq (g2 := F0 m 4 ls []) rfl ?_
  refine lv_aload_n hx hb dX13_init_4 rfl (lv_at hl 0 rfl) ?_
  refine lv_bipush (v := 40) hx hb dX13_init_5 (by decide) ?_
  obtain ⟨c1, s2, hf, e3, e4⟩ := ad_e hf
  obtain ⟨h5, eh5, hf⟩ := st_e hf
  refine x_newq (C := "PromiseTries$Holds") (t := 5) hx hb hown (hts _ q547) (hG.k hK).2.1.1.1 rfl (by decide) hK hX rfl (by decide) (by decide) (by simp only [rmm]; omega) (by simp only [rmm]; omega) dX13_init_7 (fun H hX => ?_)
  replace hX := hX.re eh5
  have g6 : hT h5 (hZ h) = 105 := by rw [eh5]; exact nw_T _ _ _
  clear eh5
  replace kc : (0 + 1) + c1 = MC := by omega
  replace ks : (0 + (Int32.toNatClampNeg 40)) + s2 = MS := by omega
  clear e3 e4
  obtain ⟨h7, eh7, hf⟩ := st_e hf
  refine x_putF (ci := 11) (C := RX13) (T := TX13) (N := 6) hx hb hts in_X13 tyX13 tyX13_ok nmX13 hown hK.1 hX rfl (hX.tg g0 (by decide)) (by decide) rfl 0 (Nat.le_of_ble_eq_true rfl) (hts _ q548) (fun _ h9 => h9) rfl hinit rfl (narrow_rfA _ (some (hZ h))) (fits_rfA _ (some (hZ h))) (Put1.fR (x := (some (hZ h))) rfl) dX13_init_10 (fun H locs hX => ?_)
  replace hX := hX.re eh7
  clear eh7
  refine lv_aload_n hx hb dX13_init_13 rfl (lv_at hl 0 rfl) ?_
  refine lv_bipush (v := 40) hx hb dX13_init_14 (by decide) ?_
  obtain ⟨c8, s9, hf, e10, e11⟩ := ad_e hf
  obtain ⟨h12, eh12, hf⟩ := st_e hf
  refine x_newa (atype := .long) (t := 1) hx hb (hts _ q342) rfl (by decide) hK hX rfl (fun q => q) (dfl _ ⟨by decide, by decide⟩) (by decide) (by show _ * _ ≤ _; first | decide | (have := True.intro; simp only [componentBytes, aTy]; omega)) (by simp only [rmm]; omega) (by simp only [rmm]; omega) dX13_init_16 (fun H hX => ?_)
  replace hX := hX.re eh12
  have g13 : hT h12 (hZ h7) = 101 := by rw [eh12]; exact nw_T _ _ _
  clear eh12
  replace kc : ((0 + 1) + 1) + c8 = MC := by omega
  replace ks : ((0 + (Int32.toNatClampNeg 40)) + (Int32.toNatClampNeg 40)) + s9 = MS := by omega
  clear e10 e11
  obtain ⟨h14, eh14, hf⟩ := st_e hf
  refine x_putF (ci := 11) (C := RX13) (T := TX13) (N := 6) hx hb hts in_X13 tyX13 tyX13_ok nmX13 hown hK.1 hX rfl (hX.tg g0 (by decide)) (by decide) rfl 1 (Nat.le_of_ble_eq_true rfl) (hts _ q549) (fun _ h9 => h9) rfl hinit rfl (narrow_rfA _ (some (hZ h7))) (fits_rfA _ (some (hZ h7))) (Put1.fR (x := (some (hZ h7))) rfl) dX13_init_18 (fun H locs hX => ?_)
  replace hX := hX.re eh14
  clear eh14
  obtain ⟨q1, q2⟩ := Prod.mk.inj (Option.some.inj hf)
  obtain ⟨q2, q3⟩ := Prod.mk.inj q2
  subst q1
  refine W.cs (cells' := MC) (slots' := MS) (by omega) (by omega) ?_
  exact hret _ _ _ _ hX dX13_init_21
theorem cdX3_lambda_wire_0 : yX3_lambda_wire_0.cls ≠ "java/lang/invoke/MethodHandle" ∧ yX3_lambda_wire_0.cls ≠ "java/lang/invoke/VarHandle" ∧ (parseMethodDescriptor yX3_lambda_wire_0.desc).map (fun d => d.parameters.length) = some 2 := by decide +kernel
set_option maxHeartbeats 4000000 in
set_option maxRecDepth 100000 in
theorem wx_Reader_lambda_wire_0 (l : Launch) (G : Gt) (hG : XG G) (h : Hp) (n : Nat) (p0 : Int32) (p1 : Int32) (r : Int32) (hf : X_Reader_lambda_wire_0 n p0 p1 = some r) : Met l yX3_lambda_wire_0 (ws_ yX3_lambda_wire_0 cX3_lambda_wire_0 2 (some .boolean)) (rmm (0) 0 0 (0)) (XP G [.int p0, .int p1] h) (XQp (some (.int r))) 0 0 (fun _ => False) := by
  rw [X_Reader_lambda_wire_0] at hf
  refine metPi l (by decide) (Nat.le_of_ble_eq_true rfl) ?_
  intro p e s m args below meth c Q hx hb hts hown hnmd hml hinit hK hW hret ls hl
  have hown : s.vm.findClass RX3 = some m.cls := hown
  have hX := XX.start hW
  have hl : lv_has ls 2 [(0, .int p0), (1, .int p1)] := hl
  refine lv_iload_n hx hb dX3_lambda_wire_0_0 rfl (lv_at hl 1 rfl) ?_
  refine lv_iload_n hx hb dX3_lambda_wire_0_1 rfl (lv_at hl 0 rfl) ?_
  refine lv_ishr hx hb dX3_lambda_wire_0_2 ?_
  refine lv_iconst (v := 1) hx hb dX3_lambda_wire_0_3 (by decide) ?_
  refine lv_iand hx hb dX3_lambda_wire_0_4 ?_
  refine lv_iconst (v := 1) hx hb dX3_lambda_wire_0_5 (by decide) ?_
  refine lv_icmp_ne (tgt := 13) hx hb dX3_lambda_wire_0_6 (by decide) (fun c1 => ?_) (fun c1 => ?_)
  · rw [if_neg c1] at hf
    refine lv_iconst (v := 0) hx hb dX3_lambda_wire_0_13 (by decide) ?_
    obtain rfl := Option.some.inj hf
    exact hret _ _ rfl dX3_lambda_wire_0_14
  · rw [if_pos c1] at hf
    refine lv_iconst (v := 1) hx hb dX3_lambda_wire_0_9 (by decide) ?_
    refine lv_goto (tgt := 14) hx hb dX3_lambda_wire_0_10 (by decide) ?_
    obtain rfl := Option.some.inj hf
    exact hret _ _ rfl dX3_lambda_wire_0_14
theorem cdX3_lambda_ands_3 : yX3_lambda_ands_3.cls ≠ "java/lang/invoke/MethodHandle" ∧ yX3_lambda_ands_3.cls ≠ "java/lang/invoke/VarHandle" ∧ (parseMethodDescriptor yX3_lambda_ands_3.desc).map (fun d => d.parameters.length) = some 3 := by decide +kernel
set_option maxHeartbeats 4000000 in
set_option maxRecDepth 100000 in
theorem wx_Reader_lambda_ands_3 (l : Launch) (G : Gt) (hG : XG G) (D : Nat) (hD : 1 ≤ D) (fat : Nat → Int32 → Option Int32) (h : Hp) (hrec : ∀ a b r, fat a b = some r → AtOK l G h a b r D) (n : Nat) (p0 : Option Nat) (p1 : Option Nat) (p2 : Int32) (r : Int32) (hf : X_Reader_lambda_ands_3 n fat p0 p1 p2 h = some r) : Met l yX3_lambda_ands_3 (ws_ yX3_lambda_ands_3 cX3_lambda_ands_3 3 (some .boolean)) (rmm (2 * D) 0 0 (64 * D)) (XP G [va_rf p0, va_rf p1, .int p2] h) (XQp (some (.int r))) 0 0 (fun _ => False) := by
  rw [X_Reader_lambda_ands_3] at hf
  refine metPi l (by decide) (by cases p0 <;> cases p1 <;> exact Nat.le_of_ble_eq_true rfl) ?_
  intro p e s m args below meth c Q hx hb hts hown hnmd hml hinit hK hW hret ls hl
  have hown : s.vm.findClass RX3 = some m.cls := hown
  have hX := XX.start hW
  have hl : lv_has ls 3 [(0, va_rf p0), (1, va_rf p1), (2, .int p2)] := Eq.mp (congrArg (lv_has ls 3) (show lv_args 0 [va_rf p0, va_rf p1, .int p2] = [(0, va_rf p0), (1, va_rf p1), (2, .int p2)] from by clear hf; cases p0 <;> cases p1 <;> rfl)) hl
  have B24 : ∀ (ls : Array Slot), lv_has ls 3 [] → X_Reader_lambda_ands_3_b24 n fat h = some r → W p l e (rmm (2 * D) 0 0 (64 * D)) s m args below meth c s.heap [] 0 0 Q (F0 m 24 ls []) := by
    intro ls hl hf
    rw [X_Reader_lambda_ands_3_b24] at hf
    refine lv_iconst (v := 0) hx hb dX3_lambda_ands_3_24 (by decide) ?_
    obtain rfl := Option.some.inj hf
    exact hret _ _ rfl dX3_lambda_ands_3_25
  refine lx_aload_n hx hb dX3_lambda_ands_3_0 rfl (lv_at hl 0 rfl) ?_
  refine lv_iload_n hx hb dX3_lambda_ands_3_1 rfl (lv_at hl 2 rfl) ?_
  obtain ⟨a1, e2, hf⟩ := bd_e hf
  obtain ⟨r3, e4, hf⟩ := bd_e hf
  refine x_at hG hx hb hml hts hown hK hX (rf_some e2) (hrec _ _ _ e4) q411 hl.1 (Nat.le_of_ble_eq_true rfl) (by simp only [rmm]; omega) (by simp only [rmm]; omega) ⟨(by simp only [rmm]; omega), (by simp only [rmm]; omega)⟩ dX3_lambda_ands_3_2 ?_
  clear e4
  refine lv_if_eq (tgt := 24) hx hb dX3_lambda_ands_3_7 (by decide) (fun c5 => ?_) (fun c5 => ?_)
  · rw [if_pos c5] at hf
    exact B24 _ (lv_sub hl [] rfl) hf
  · rw [if_neg c5] at hf
    refine lx_aload_n hx hb dX3_lambda_ands_3_10 rfl (lv_at hl 1 rfl) ?_
    refine lv_iload_n hx hb dX3_lambda_ands_3_11 rfl (lv_at hl 2 rfl) ?_
    obtain ⟨a6, e7, hf⟩ := bd_e hf
    obtain ⟨r8, e9, hf⟩ := bd_e hf
    refine x_at hG hx hb hml hts hown hK hX (rf_some e7) (hrec _ _ _ e9) q411 hl.1 (Nat.le_of_ble_eq_true rfl) (by simp only [rmm]; omega) (by simp only [rmm]; omega) ⟨(by simp only [rmm]; omega), (by simp only [rmm]; omega)⟩ dX3_lambda_ands_3_12 ?_
    clear e9
    refine lv_if_eq (tgt := 24) hx hb dX3_lambda_ands_3_17 (by decide) (fun c10 => ?_) (fun c10 => ?_)
    · rw [if_pos c10] at hf
      exact B24 _ (lv_sub hl [] rfl) hf
    · rw [if_neg c10] at hf
      refine lv_iconst (v := 1) hx hb dX3_lambda_ands_3_20 (by decide) ?_
      refine lv_goto (tgt := 25) hx hb dX3_lambda_ands_3_21 (by decide) ?_
      obtain rfl := Option.some.inj hf
      exact hret _ _ rfl dX3_lambda_ands_3_25
theorem cdX3_lambda_ors_2 : yX3_lambda_ors_2.cls ≠ "java/lang/invoke/MethodHandle" ∧ yX3_lambda_ors_2.cls ≠ "java/lang/invoke/VarHandle" ∧ (parseMethodDescriptor yX3_lambda_ors_2.desc).map (fun d => d.parameters.length) = some 3 := by decide +kernel
set_option maxHeartbeats 4000000 in
set_option maxRecDepth 100000 in
theorem wx_Reader_lambda_ors_2 (l : Launch) (G : Gt) (hG : XG G) (D : Nat) (hD : 1 ≤ D) (fat : Nat → Int32 → Option Int32) (h : Hp) (hrec : ∀ a b r, fat a b = some r → AtOK l G h a b r D) (n : Nat) (p0 : Option Nat) (p1 : Option Nat) (p2 : Int32) (r : Int32) (hf : X_Reader_lambda_ors_2 n fat p0 p1 p2 h = some r) : Met l yX3_lambda_ors_2 (ws_ yX3_lambda_ors_2 cX3_lambda_ors_2 3 (some .boolean)) (rmm (2 * D) 0 0 (64 * D)) (XP G [va_rf p0, va_rf p1, .int p2] h) (XQp (some (.int r))) 0 0 (fun _ => False) := by
  rw [X_Reader_lambda_ors_2] at hf
  refine metPi l (by decide) (by cases p0 <;> cases p1 <;> exact Nat.le_of_ble_eq_true rfl) ?_
  intro p e s m args below meth c Q hx hb hts hown hnmd hml hinit hK hW hret ls hl
  have hown : s.vm.findClass RX3 = some m.cls := hown
  have hX := XX.start hW
  have hl : lv_has ls 3 [(0, va_rf p0), (1, va_rf p1), (2, .int p2)] := Eq.mp (congrArg (lv_has ls 3) (show lv_args 0 [va_rf p0, va_rf p1, .int p2] = [(0, va_rf p0), (1, va_rf p1), (2, .int p2)] from by clear hf; cases p0 <;> cases p1 <;> rfl)) hl
  have B20 : ∀ (ls : Array Slot), lv_has ls 3 [] → X_Reader_lambda_ors_2_b20 n fat h = some r → W p l e (rmm (2 * D) 0 0 (64 * D)) s m args below meth c s.heap [] 0 0 Q (F0 m 20 ls []) := by
    intro ls hl hf
    rw [X_Reader_lambda_ors_2_b20] at hf
    refine lv_iconst (v := 1) hx hb dX3_lambda_ors_2_20 (by decide) ?_
    refine lv_goto (tgt := 25) hx hb dX3_lambda_ors_2_21 (by decide) ?_
    obtain rfl := Option.some.inj hf
    exact hret _ _ rfl dX3_lambda_ors_2_25
  refine lx_aload_n hx hb dX3_lambda_ors_2_0 rfl (lv_at hl 0 rfl) ?_
  refine lv_iload_n hx hb dX3_lambda_ors_2_1 rfl (lv_at hl 2 rfl) ?_
  obtain ⟨a1, e2, hf⟩ := bd_e hf
  obtain ⟨r3, e4, hf⟩ := bd_e hf
  refine x_at hG hx hb hml hts hown hK hX (rf_some e2) (hrec _ _ _ e4) q411 hl.1 (Nat.le_of_ble_eq_true rfl) (by simp only [rmm]; omega) (by simp only [rmm]; omega) ⟨(by simp only [rmm]; omega), (by simp only [rmm]; omega)⟩ dX3_lambda_ors_2_2 ?_
  clear e4
  refine lv_if_ne (tgt := 20) hx hb dX3_lambda_ors_2_7 (by decide) (fun c5 => ?_) (fun c5 => ?_)
  · rw [if_neg c5] at hf
    exact B20 _ (lv_sub hl [] rfl) hf
  · rw [if_pos c5] at hf
    refine lx_aload_n hx hb dX3_lambda_ors_2_10 rfl (lv_at hl 1 rfl) ?_
    refine lv_iload_n hx hb dX3_lambda_ors_2_11 rfl (lv_at hl 2 rfl) ?_
    obtain ⟨a6, e7, hf⟩ := bd_e hf
    obtain ⟨r8, e9, hf⟩ := bd_e hf
    refine x_at hG hx hb hml hts hown hK hX (rf_some e7) (hrec _ _ _ e9) q411 hl.1 (Nat.le_of_ble_eq_true rfl) (by simp only [rmm]; omega) (by simp only [rmm]; omega) ⟨(by simp only [rmm]; omega), (by simp only [rmm]; omega)⟩ dX3_lambda_ors_2_12 ?_
    clear e9
    refine lv_if_eq (tgt := 24) hx hb dX3_lambda_ors_2_17 (by decide) (fun c10 => ?_) (fun c10 => ?_)
    · rw [if_pos c10] at hf
      refine lv_iconst (v := 0) hx hb dX3_lambda_ors_2_24 (by decide) ?_
      obtain rfl := Option.some.inj hf
      exact hret _ _ rfl dX3_lambda_ors_2_25
    · rw [if_neg c10] at hf
      exact B20 _ (lv_sub hl [] rfl) hf
theorem cdX3_lambda_condition_1 : yX3_lambda_condition_1.cls ≠ "java/lang/invoke/MethodHandle" ∧ yX3_lambda_condition_1.cls ≠ "java/lang/invoke/VarHandle" ∧ (parseMethodDescriptor yX3_lambda_condition_1.desc).map (fun d => d.parameters.length) = some 2 := by decide +kernel
set_option maxHeartbeats 4000000 in
set_option maxRecDepth 100000 in
theorem wx_Reader_lambda_condition_1 (l : Launch) (G : Gt) (hG : XG G) (D : Nat) (hD : 1 ≤ D) (fat : Nat → Int32 → Option Int32) (h : Hp) (hrec : ∀ a b r, fat a b = some r → AtOK l G h a b r D) (n : Nat) (p0 : Option Nat) (p1 : Int32) (r : Int32) (hf : X_Reader_lambda_condition_1 n fat p0 p1 h = some r) : Met l yX3_lambda_condition_1 (ws_ yX3_lambda_condition_1 cX3_lambda_condition_1 2 (some .boolean)) (rmm (2 * D) 0 0 (64 * D)) (XP G [va_rf p0, .int p1] h) (XQp (some (.int r))) 0 0 (fun _ => False) := by
  rw [X_Reader_lambda_condition_1] at hf
  refine metPi l (by decide) (by cases p0 <;> exact Nat.le_of_ble_eq_true rfl) ?_
  intro p e s m args below meth c Q hx hb hts hown hnmd hml hinit hK hW hret ls hl
  have hown : s.vm.findClass RX3 = some m.cls := hown
  have hX := XX.start hW
  have hl : lv_has ls 2 [(0, va_rf p0), (1, .int p1)] := Eq.mp (congrArg (lv_has ls 2) (show lv_args 0 [va_rf p0, .int p1] = [(0, va_rf p0), (1, .int p1)] from by clear hf; cases p0 <;> rfl)) hl
  refine lx_aload_n hx hb dX3_lambda_condition_1_0 rfl (lv_at hl 0 rfl) ?_
  refine lv_iload_n hx hb dX3_lambda_condition_1_1 rfl (lv_at hl 1 rfl) ?_
  obtain ⟨a1, e2, hf⟩ := bd_e hf
  obtain ⟨r3, e4, hf⟩ := bd_e hf
  refine x_at hG hx hb hml hts hown hK hX (rf_some e2) (hrec _ _ _ e4) q411 hl.1 (Nat.le_of_ble_eq_true rfl) (by simp only [rmm]; omega) (by simp only [rmm]; omega) ⟨(by simp only [rmm]; omega), (by simp only [rmm]; omega)⟩ dX3_lambda_condition_1_2 ?_
  clear e4
  refine lv_if_ne (tgt := 14) hx hb dX3_lambda_condition_1_7 (by decide) (fun c5 => ?_) (fun c5 => ?_)
  · rw [if_neg c5] at hf
    refine lv_iconst (v := 0) hx hb dX3_lambda_condition_1_14 (by decide) ?_
    obtain rfl := Option.some.inj hf
    exact hret _ _ rfl dX3_lambda_condition_1_15
  · rw [if_pos c5] at hf
    refine lv_iconst (v := 1) hx hb dX3_lambda_condition_1_10 (by decide) ?_
    refine lv_goto (tgt := 15) hx hb dX3_lambda_condition_1_11 (by decide) ?_
    obtain rfl := Option.some.inj hf
    exact hret _ _ rfl dX3_lambda_condition_1_15
theorem at_ok (l : Launch) (G : Gt) (hG : XG G) (d a : Nat) (b : Int32) (h : Hp) (r : Int32) (e : X_at d a b h = some r) : AtOK l G h a b r (d + 1) := by
  induction d generalizing a b r with
  | zero => rw [X_at] at e; cases e
  | succ d ih =>
    rw [X_at] at e
    obtain ⟨r9, e, e9⟩ := bd_e e
    obtain ⟨h9, e9⟩ := gd_e e9
    cases e9
    refine ⟨h9, ?_⟩
    have ih' : ∀ a b r, (fun a b => X_at d a b h) a b = some r → AtOK l G h a b r (d + 1) := fun a b r e => ih a b r e
    by_cases t0 : hT h a = 200
    · rw [if_pos t0] at e; exact ⟨0, 0, by omega, by omega, Or.inl ⟨t0, wx_Reader_lambda_wire_0 l G hG h 0 _ _ _ e⟩⟩
    rw [if_neg t0] at e
    by_cases t1 : hT h a = 201
    · rw [if_pos t1] at e; exact ⟨2 * (d + 1), 64 * (d + 1), by omega, by omega, Or.inr (Or.inl ⟨t1, wx_Reader_lambda_condition_1 l G hG (d + 1) (by omega) _ h ih' 0 _ _ _ e⟩)⟩
    rw [if_neg t1] at e
    by_cases t2 : hT h a = 202
    · rw [if_pos t2] at e; exact ⟨2 * (d + 1), 64 * (d + 1), by omega, by omega, Or.inr (Or.inr (Or.inl ⟨t2, wx_Reader_lambda_ors_2 l G hG (d + 1) (by omega) _ h ih' 0 _ _ _ _ e⟩))⟩
    rw [if_neg t2] at e
    by_cases t3 : hT h a = 203
    · rw [if_pos t3] at e; exact ⟨2 * (d + 1), 64 * (d + 1), by omega, by omega, Or.inr (Or.inr (Or.inr ⟨t3, wx_Reader_lambda_ands_3 l G hG (d + 1) (by omega) _ h ih' 0 _ _ _ _ e⟩))⟩
    rw [if_neg t3] at e; cases e
theorem cdX0_fulfilling : yX0_fulfilling.cls ≠ "java/lang/invoke/MethodHandle" ∧ yX0_fulfilling.cls ≠ "java/lang/invoke/VarHandle" ∧ (parseMethodDescriptor yX0_fulfilling.desc).map (fun d => d.parameters.length) = some 1 := by decide +kernel
set_option maxHeartbeats 4000000 in
set_option maxRecDepth 100000 in
theorem wx_fulfilling (l : Launch) (G : Gt) (hG : XG G) (h : Hp) (n : Nat) (p0 : Option Nat) (r : Int32) (hf : X_fulfilling n p0 h = some r) : Met l yX0_fulfilling (ws_ yX0_fulfilling cX0_fulfilling 3 (some .int)) (rmm (420) 0 0 (13440)) (XP G [va_rf p0] h) (XQp (some (.int r))) 0 0 (fun _ => False) := by
  rw [X_fulfilling] at hf
  refine metPi l (by decide) (by cases p0 <;> exact Nat.le_of_ble_eq_true rfl) ?_
  intro p e s m args below meth c Q hx hb hts hown hnmd hml hinit hK hW hret ls hl
  have hown : s.vm.findClass RX0 = some m.cls := hown
  have hX := XX.start hW
  have hl : lv_has ls 3 [(0, va_rf p0)] := Eq.mp (congrArg (lv_has ls 3) (show lv_args 0 [va_rf p0] = [(0, va_rf p0)] from by clear hf; cases p0 <;> rfl)) hl
  have B27 : ∀ (K4 : Option Nat → Int32 → Int32 → Option (Int32)) (hK4 : ∀ (v0 : Option Nat) (v1 : Int32) (v2 : Int32) (ls : Array Slot), lv_has ls 3 [(0, va_rf v0), (1, .int v1), (2, .int v2)] → K4 v0 v1 v2 = some r → W p l e (rmm (420) 0 0 (13440)) s m args below meth c s.heap [] 0 0 Q (F0 m 4 ls [])) (v0 : Option Nat) (v2 : Int32) (t0 : Int32) (t1 : Int32) (ls : Array Slot), lv_has ls 3 [(0, va_rf v0), (2, .int v2)] → X_fulfilling_b27 n K4 h v0 v2 t0 t1 = some r → W p l e (rmm (420) 0 0 (13440)) s m args below meth c s.heap [] 0 0 Q (F0 m 27 ls [.int t0, .int t1]) := by
    intro K4 hK4 v0 v2 t0 t1 ls hl hf
    rw [X_fulfilling_b27] at hf
    refine lv_iadd hx hb dX0_fulfilling_27 ?_
    refine lv_istore_n (lv' := [(1, .int (t1 + t0)), (0, va_rf v0), (2, .int v2)]) hx hb dX0_fulfilling_28 rfl hl (by decide) (by generalize hq9 : va_rf v0 = w9; have hc9 : w9.category = 1 := (by rw [← hq9]; exact rf_cat _); cases w9 <;> first | rfl | cases hc9) (fun ls hl => ?_)
    refine lv_iinc (v := (v2 + 1)) (lv' := [(2, .int (v2 + 1)), (1, .int (t1 + t0)), (0, va_rf v0)]) hx hb dX0_fulfilling_29 hl (k := 2) rfl rfl (by decide) rfl (fun ls hl => ?_)
    refine lv_goto (tgt := 4) hx hb dX0_fulfilling_32 (by decide) ?_
    exact hK4 v0 (t1 + t0) (v2 + 1) _ (lv_sub hl [2, 1, 0] rfl) hf
  have B4 : ∀ (f : Nat) (v0 : Option Nat) (v1 : Int32) (v2 : Int32) (ls : Array Slot), lv_has ls 3 [(0, va_rf v0), (1, .int v1), (2, .int v2)] → X_fulfilling_b4 n h f v0 v1 v2 = some r → W p l e (rmm (420) 0 0 (13440)) s m args below meth c s.heap [] 0 0 Q (F0 m 4 ls []) := by
    intro f
    induction f with
    | zero =>
      intro v0 v1 v2 ls hl hf
      rw [X_fulfilling_b4] at hf
      cases hf
    | succ f hK4 =>
      intro v0 v1 v2 ls hl hf
      rw [X_fulfilling_b4] at hf
      refine lv_iload_n hx hb dX0_fulfilling_4 rfl (lv_at hl 2 rfl) ?_
      refine lv_sipush (v := 255) hx hb dX0_fulfilling_5 (by decide) ?_
      refine lv_icmp_gt (tgt := 35) hx hb dX0_fulfilling_8 (by decide) (fun c1 => ?_) (fun c1 => ?_)
      · rw [if_pos c1] at hf
        refine lv_iload_n hx hb dX0_fulfilling_35 rfl (lv_at hl 1 rfl) ?_
        obtain rfl := Option.some.inj hf
        exact hret _ _ rfl dX0_fulfilling_36
      · rw [if_neg c1] at hf
        refine lv_iload_n hx hb dX0_fulfilling_11 rfl (lv_at hl 1 rfl) ?_
        refine lx_aload_n hx hb dX0_fulfilling_12 rfl (lv_at hl 0 rfl) ?_
        refine lv_iload_n hx hb dX0_fulfilling_13 rfl (lv_at hl 2 rfl) ?_
        obtain ⟨a2, e3, hf⟩ := bd_e hf
        obtain ⟨r4, e5, hf⟩ := bd_e hf
        refine x_at hG hx hb hml hts hown hK hX (rf_some e3) (at_ok l G hG 209 _ _ _ _ e5) q633 hl.1 (Nat.le_of_ble_eq_true rfl) (Nat.le_of_ble_eq_true rfl) (Nat.le_of_ble_eq_true rfl) ⟨(by simp only [rmm]; omega), (by simp only [rmm]; omega)⟩ dX0_fulfilling_14 ?_
        clear e5
        refine lv_if_eq (tgt := 26) hx hb dX0_fulfilling_19 (by decide) (fun c6 => ?_) (fun c6 => ?_)
        · rw [if_pos c6] at hf
          refine lv_iconst (v := 0) hx hb dX0_fulfilling_26 (by decide) ?_
          exact B27 (X_fulfilling_b4 n h f) hK4 v0 v2 0 v1 _ (lv_sub hl [0, 2] rfl) hf
        · rw [if_neg c6] at hf
          refine lv_iconst (v := 1) hx hb dX0_fulfilling_22 (by decide) ?_
          refine lv_goto (tgt := 27) hx hb dX0_fulfilling_23 (by decide) ?_
          exact B27 (X_fulfilling_b4 n h f) hK4 v0 v2 1 v1 _ (lv_sub hl [0, 2] rfl) hf
  refine lv_iconst (v := 0) hx hb dX0_fulfilling_0 (by decide) ?_
  refine lv_istore_n (lv' := [(1, .int 0), (0, va_rf p0)]) hx hb dX0_fulfilling_1 rfl hl (by decide) (by generalize hq9 : va_rf p0 = w9; have hc9 : w9.category = 1 := (by rw [← hq9]; exact rf_cat _); cases w9 <;> first | rfl | cases hc9) (fun ls hl => ?_)
  refine lv_iconst (v := 0) hx hb dX0_fulfilling_2 (by decide) ?_
  refine lv_istore_n (lv' := [(2, .int 0), (1, .int 0), (0, va_rf p0)]) hx hb dX0_fulfilling_3 rfl hl (by decide) rfl (fun ls hl => ?_)
  exact B4 n p0 0 0 _ (lv_sub hl [2, 1, 0] rfl) hf
theorem cdX13_isLeading : yX13_isLeading.cls ≠ "java/lang/invoke/MethodHandle" ∧ yX13_isLeading.cls ≠ "java/lang/invoke/VarHandle" ∧ (parseMethodDescriptor yX13_isLeading.desc).map (fun d => d.parameters.length) = some 1 := by decide +kernel
set_option maxHeartbeats 4000000 in
set_option maxRecDepth 100000 in
theorem wx_Machine_isLeading (l : Launch) (G : Gt) (hG : XG G) (h : Hp) (n : Nat) (o : Nat) (p1 : Int64) (r : Int32) (hf : X_Machine_isLeading n o p1 h = some r) : Met l yX13_isLeading (ws_ yX13_isLeading cX13_isLeading 3 (some .boolean)) (rmm (0) 0 0 (0)) (XP G [.ref o, .long p1] h) (XQp (some (.int r))) 0 0 (fun _ => False) := by
  rw [X_Machine_isLeading] at hf
  obtain ⟨g0, hf⟩ := gd_e hf
  refine metPi l (by decide) (Nat.le_of_ble_eq_true rfl) ?_
  intro p e s m args below meth c Q hx hb hts hown hnmd hml hinit hK hW hret ls hl
  have hown : s.vm.findClass RX13 = some m.cls := hown
  have hX := XX.start hW
  have hl : lv_has ls 3 [(0, .ref o), (1, .long p1)] := hl
  refine lv_lload_n hx hb dX13_isLeading_0 rfl (lv_at hl 1 rfl) ?_
  refine lv_aload_n hx hb dX13_isLeading_1 rfl (lv_at hl 0 rfl) ?_
  refine x_get (ci := 11) (C := RX13) (T := TX13) (N := 6) hx hb hts in_X13 hown hK.1 hX rfl g0 (by decide) rfl 4 (Nat.le_of_ble_eq_true rfl) (hts _ q553) (fun _ h9 => h9) (hv_long rfl) dX13_isLeading_2 ?_
  refine lv_aload_n hx hb dX13_isLeading_5 rfl (lv_at hl 0 rfl) ?_
  refine x_get (ci := 11) (C := RX13) (T := TX13) (N := 6) hx hb hts in_X13 hown hK.1 hX rfl g0 (by decide) rfl 5 (Nat.le_of_ble_eq_true rfl) (hts _ q554) (fun _ h9 => h9) (hv_long rfl) dX13_isLeading_6 ?_
  refine lv_lor hx hb dX13_isLeading_9 ?_
  refine lv_land hx hb dX13_isLeading_10 ?_
  refine lv_lconst (v := 0) hx hb dX13_isLeading_11 (by decide) ?_
  refine W.lcmp hx hb dX13_isLeading_12 ?_
  refine lv_if_eq (tgt := 20) hx hb dX13_isLeading_13 (by decide) (fun c1 => ?_) (fun c1 => ?_)
  · rw [if_pos c1] at hf
    refine lv_iconst (v := 0) hx hb dX13_isLeading_20 (by decide) ?_
    obtain rfl := Option.some.inj hf
    exact hret _ _ rfl dX13_isLeading_21
  · rw [if_neg c1] at hf
    refine lv_iconst (v := 1) hx hb dX13_isLeading_16 (by decide) ?_
    refine lv_goto (tgt := 21) hx hb dX13_isLeading_17 (by decide) ?_
    obtain rfl := Option.some.inj hf
    exact hret _ _ rfl dX13_isLeading_21
theorem cdX13_findsMore : yX13_findsMore.cls ≠ "java/lang/invoke/MethodHandle" ∧ yX13_findsMore.cls ≠ "java/lang/invoke/VarHandle" ∧ (parseMethodDescriptor yX13_findsMore.desc).map (fun d => d.parameters.length) = some 0 := by decide +kernel
set_option maxHeartbeats 4000000 in
set_option maxRecDepth 100000 in
theorem wx_Machine_findsMore (l : Launch) (G : Gt) (hG : XG G) (h : Hp) (n : Nat) (o : Nat) (h1 : Hp) (hf : X_Machine_findsMore n o h = some h1) : Met l yX13_findsMore (ws_ yX13_findsMore cX13_findsMore 4 none) (rmm (1) 0 0 (22)) (XP G [.ref o] h) (XQ G none h h1) 0 0 (fre h) := by
  rw [X_Machine_findsMore] at hf
  obtain ⟨g0, hf⟩ := gd_e hf
  refine metSv l (by decide) (Nat.le_of_ble_eq_true rfl) ?_
  intro p e s m args below meth c Q hx hb hts hown hnmd hml hinit hK hW hret ls hl
  have hown : s.vm.findClass RX13 = some m.cls := hown
  have hX := XX.start hW
  have hl : lv_has ls 4 [(0, .ref o)] := hl
  have B53 : ∀ (K20 : Int64 → Int32 → Hp → Option (Hp)) (hK20 : ∀ (v1 : Int64) (v3 : Int32) (h2 : Hp) (H : Heap) (locs : List Loc) (ls : Array Slot), XX G h s.heap h2 H locs → lv_has ls 4 [(0, .ref o), (1, .long v1), (3, .int v3)] → K20 v1 v3 h2 = some h1 → W p l e (rmm (1) 0 0 (22)) s m args below meth c H locs 0 0 Q (F0 m 20 ls [])) (v1 : Int64) (v3 : Int32) (t0 : Int64) (t1 : Int64) (h_12 : Hp) (H : Heap) (locs : List Loc) (ls : Array Slot), XX G h s.heap h_12 H locs → lv_has ls 4 [(0, .ref o), (1, .long v1), (3, .int v3)] → X_Machine_findsMore_b53 n o K20 v1 v3 t0 t1 h_12 = some h1 → W p l e (rmm (1) 0 0 (22)) s m args below meth c H locs 0 0 Q (F0 m 53 ls [.long t0, .long t1, .ref o]) := by
    intro K20 hK20 v1 v3 t0 t1 h_12 H locs ls hX hl hf
    rw [X_Machine_findsMore_b53] at hf
    refine lv_lor hx hb dX13_findsMore_53 ?_
    obtain ⟨h13, eh13, hf⟩ := st_e hf
    refine x_put (ci := 11) (C := RX13) (T := TX13) (N := 6) hx hb hts in_X13 tyX13 tyX13_ok nmX13 hown hK.1 hX rfl (hX.tg g0 (by decide)) (by decide) rfl 5 (Nat.le_of_ble_eq_true rfl) (hts _ q554) (fun _ h9 => h9) rfl rfl rfl (Put1.fL (x := (t1 ||| t0)) rfl) dX13_findsMore_54 (fun H locs hX => ?_)
    replace hX := hX.re eh13
    clear eh13
    refine lv_iinc (v := (v3 + 1)) (lv' := [(3, .int (v3 + 1)), (0, .ref o), (1, .long v1)]) hx hb dX13_findsMore_57 hl (k := 2) rfl rfl (by decide) rfl (fun ls hl => ?_)
    refine lv_goto (tgt := 20) hx hb dX13_findsMore_60 (by decide) ?_
    exact hK20 v1 (v3 + 1) h13 _ _ _ hX (lv_sub hl [1, 2, 0] rfl) hf
  have B20 : ∀ (K4 : Int64 → Hp → Option (Hp)) (hK4 : ∀ (v1 : Int64) (h2 : Hp) (H : Heap) (locs : List Loc) (ls : Array Slot), XX G h s.heap h2 H locs → lv_has ls 4 [(0, .ref o), (1, .long v1)] → K4 v1 h2 = some h1 → W p l e (rmm (1) 0 0 (22)) s m args below meth c H locs 0 0 Q (F0 m 4 ls [])) (f : Nat) (v1 : Int64) (v3 : Int32) (h_3 : Hp) (H : Heap) (locs : List Loc) (ls : Array Slot), XX G h s.heap h_3 H locs → lv_has ls 4 [(0, .ref o), (1, .long v1), (3, .int v3)] → X_Machine_findsMore_b20 n o K4 f v1 v3 h_3 = some h1 → W p l e (rmm (1) 0 0 (22)) s m args below meth c H locs 0 0 Q (F0 m 20 ls []) := by
    intro K4 hK4
    intro f
    induction f with
    | zero =>
      intro v1 v3 h_3 H locs ls hX hl hf
      rw [X_Machine_findsMore_b20] at hf
      cases hf
    | succ f hK20 =>
      intro v1 v3 h_3 H locs ls hX hl hf
      rw [X_Machine_findsMore_b20] at hf
      refine lv_iload_n hx hb dX13_findsMore_20 rfl (lv_at hl 2 rfl) ?_
      refine lv_aload_n hx hb dX13_findsMore_21 rfl (lv_at hl 0 rfl) ?_
      refine x_get (ci := 11) (C := RX13) (T := TX13) (N := 6) hx hb hts in_X13 hown hK.1 hX rfl (hX.tg g0 (by decide)) (by decide) rfl 2 (Nat.le_of_ble_eq_true rfl) (hts _ q550) (fun _ h9 => h9) (hv_int rfl) dX13_findsMore_22 ?_
      refine lv_icmp_ge (tgt := 63) hx hb dX13_findsMore_25 (by decide) (fun c4 => ?_) (fun c4 => ?_)
      · rw [if_pos c4] at hf
        refine lv_goto (tgt := 4) hx hb dX13_findsMore_63 (by decide) ?_
        exact hK4 v1 h_3 _ _ _ hX (lv_sub hl [0, 1] rfl) hf
      · rw [if_neg c4] at hf
        refine lv_aload_n hx hb dX13_findsMore_28 rfl (lv_at hl 0 rfl) ?_
        refine lv_dup hx hb dX13_findsMore_29 rfl ?_
        refine x_get (ci := 11) (C := RX13) (T := TX13) (N := 6) hx hb hts in_X13 hown hK.1 hX rfl (hX.tg g0 (by decide)) (by decide) rfl 5 (Nat.le_of_ble_eq_true rfl) (hts _ q554) (fun _ h9 => h9) (hv_long rfl) dX13_findsMore_30 ?_
        refine lv_aload_n hx hb dX13_findsMore_33 rfl (lv_at hl 0 rfl) ?_
        refine lv_aload_n hx hb dX13_findsMore_34 rfl (lv_at hl 0 rfl) ?_
        refine x_get (ci := 11) (C := RX13) (T := TX13) (N := 6) hx hb hts in_X13 hown hK.1 hX rfl (hX.tg g0 (by decide)) (by decide) rfl 1 (Nat.le_of_ble_eq_true rfl) (hts _ q549) (fun _ h9 => h9) (hv_ref rfl) dX13_findsMore_35 ?_
        refine lv_iload_n hx hb dX13_findsMore_38 rfl (lv_at hl 2 rfl) ?_
        obtain ⟨a5, e6, hf⟩ := bd_e hf
        obtain ⟨g7, hf⟩ := gd_e hf
        obtain ⟨g8, hf⟩ := gd_e hf
        refine x_lald hx hb hK.1 hX (rf_some e6) g7 g8 dX13_findsMore_39 ?_
        obtain ⟨r10, e9, hf⟩ := bd_e hf
        refine x_doneP (va_runV (b := o) (As := [.long (hL h_3 a5 (Int32.toNatClampNeg v3))]) (rest := [.long (hL h_3 o 5), .ref o]) ⟨hx, hb, hml, hown, hts⟩ (wx_Machine_isLeading l G hG h_3 n o (hL h_3 a5 (Int32.toNatClampNeg v3)) r10 e9) (cwV 1 hts (lw_V q639 q641 qs21 q112 q642) rfl rfl rfl ⟨rfl, cdX13_isLeading⟩ ⟨(Nat.le_of_ble_eq_true rfl), (Nat.le_of_ble_eq_true rfl)⟩) (x_preV (ci := 11) (T := TX13) (N := 6) hK hX _ (hX.tg g0 (by decide)) (by decide) rfl) rfl rfl hl.1 rfl (lv_room (Nat.le_of_ble_eq_true rfl)) dX13_findsMore_40 ⟨(Nat.le_of_ble_eq_true rfl), (Nat.le_of_ble_eq_true rfl)⟩) rfl ?_
        clear e9
        refine lv_if_eq (tgt := 52) hx hb dX13_findsMore_43 (by decide) (fun c11 => ?_) (fun c11 => ?_)
        · rw [if_pos c11] at hf
          refine lv_lconst (v := 0) hx hb dX13_findsMore_52 (by decide) ?_
          exact B53 (X_Machine_findsMore_b20 n o K4 f) hK20 v1 v3 0 (hL h_3 o 5) h_3 _ _ _ hX (lv_sub hl [0, 1, 2] rfl) hf
        · rw [if_neg c11] at hf
          refine lv_lconst (v := 1) hx hb dX13_findsMore_46 (by decide) ?_
          refine lv_iload_n hx hb dX13_findsMore_47 rfl (lv_at hl 2 rfl) ?_
          refine lv_lshl hx hb dX13_findsMore_48 rfl ?_
          refine lv_goto (tgt := 53) hx hb dX13_findsMore_49 (by decide) ?_
          exact B53 (X_Machine_findsMore_b20 n o K4 f) hK20 v1 v3 (1 <<< (Int32.toInt64 v3 &&& 63)) (hL h_3 o 5) h_3 _ _ _ hX (lv_sub hl [0, 1, 2] rfl) hf
  have B4 : ∀ (f : Nat) (v1 : Int64) (h_1 : Hp) (H : Heap) (locs : List Loc) (ls : Array Slot), XX G h s.heap h_1 H locs → lv_has ls 4 [(0, .ref o), (1, .long v1)] → X_Machine_findsMore_b4 n o f v1 h_1 = some h1 → W p l e (rmm (1) 0 0 (22)) s m args below meth c H locs 0 0 Q (F0 m 4 ls []) := by
    intro f
    induction f with
    | zero =>
      intro v1 h_1 H locs ls hX hl hf
      rw [X_Machine_findsMore_b4] at hf
      cases hf
    | succ f hK4 =>
      intro v1 h_1 H locs ls hX hl hf
      rw [X_Machine_findsMore_b4] at hf
      refine lv_lload_n hx hb dX13_findsMore_4 rfl (lv_at hl 1 rfl) ?_
      refine lv_aload_n hx hb dX13_findsMore_5 rfl (lv_at hl 0 rfl) ?_
      refine x_get (ci := 11) (C := RX13) (T := TX13) (N := 6) hx hb hts in_X13 hown hK.1 hX rfl (hX.tg g0 (by decide)) (by decide) rfl 5 (Nat.le_of_ble_eq_true rfl) (hts _ q554) (fun _ h9 => h9) (hv_long rfl) dX13_findsMore_6 ?_
      refine W.lcmp hx hb dX13_findsMore_9 ?_
      refine lv_if_eq (tgt := 66) hx hb dX13_findsMore_10 (by decide) (fun c2 => ?_) (fun c2 => ?_)
      · rw [if_pos c2] at hf
        obtain rfl := Option.some.inj hf
        exact hret _ _ _ _ hX dX13_findsMore_66
      · rw [if_neg c2] at hf
        refine lv_aload_n hx hb dX13_findsMore_13 rfl (lv_at hl 0 rfl) ?_
        refine x_get (ci := 11) (C := RX13) (T := TX13) (N := 6) hx hb hts in_X13 hown hK.1 hX rfl (hX.tg g0 (by decide)) (by decide) rfl 5 (Nat.le_of_ble_eq_true rfl) (hts _ q554) (fun _ h9 => h9) (hv_long rfl) dX13_findsMore_14 ?_
        refine lv_lstore_n (lv' := [(1, .long (hL h_1 o 5)), (0, .ref o)]) hx hb dX13_findsMore_17 rfl hl (by decide) rfl (fun ls hl => ?_)
        refine lv_iconst (v := 0) hx hb dX13_findsMore_18 (by decide) ?_
        refine lv_istore_n (lv' := [(3, .int 0), (1, .long (hL h_1 o 5)), (0, .ref o)]) hx hb dX13_findsMore_19 rfl hl (by decide) rfl (fun ls hl => ?_)
        exact B20 (X_Machine_findsMore_b4 n o f) hK4 n (hL h_1 o 5) 0 h_1 _ _ _ hX (lv_sub hl [2, 1, 0] rfl) hf
  refine lv_ldc2 (v := (-1)) hx hb hown (hts _ q638) dX13_findsMore_0 ?_
  refine lv_lstore_n (lv' := [(1, .long (-1)), (0, .ref o)]) hx hb dX13_findsMore_3 rfl hl (by decide) rfl (fun ls hl => ?_)
  exact B4 n (-1) h _ _ _ hX (lv_sub hl [1, 0] rfl) hf
theorem cdX14_init : yX14_init.cls ≠ "java/lang/invoke/MethodHandle" ∧ yX14_init.cls ≠ "java/lang/invoke/VarHandle" ∧ (parseMethodDescriptor yX14_init.desc).map (fun d => d.parameters.length) = some 3 := by decide +kernel
set_option maxHeartbeats 4000000 in
set_option maxRecDepth 100000 in
theorem wx_Part_init (l : Launch) (G : Gt) (hG : XG G) (h : Hp) (n : Nat) (o : Nat) (p1 : Int32) (p2 : Int64) (p4 : Int64) (h1 : Hp) (hf : X_Part_init n o p1 p2 p4 h = some h1) : Met l yX14_init (ws_ yX14_init cX14_init 6 none) (rmm (1) 0 0 (64)) (XP G [.ref o, .int p1, .long p2, .long p4] h) (XQ G none h h1) 0 0 (fre h) := by
  rw [X_Part_init] at hf
  obtain ⟨g0, hf⟩ := gd_e hf
  refine metSv l (by decide) (Nat.le_of_ble_eq_true rfl) ?_
  intro p e s m args below meth c Q hx hb hts hown hnmd hml hinit hK hW hret ls hl
  have hinit : meth.name = "<init>" := hinit rfl
  have hown : s.vm.findClass RX14 = some m.cls := hown
  have hX := XX.start hW
  have hl : lv_has ls 6 [(0, .ref o), (1, .int p1), (2, .long p2), (4, .long p4)] := hl
  refine lv_aload_n hx hb dX14_init_0 rfl (lv_at hl 0 rfl) ?_
  refine W.objInit hx hb hown (hts _ q587) (hts _ q148) (hts _ q149) rfl (by rw [hml]; exact hl.1) rfl dX14_init_1 (Nat.le_of_ble_eq_true rfl) (by show 2 * 0 + _ + 12 ≤ _; first | exact Nat.le_of_ble_eq_true rfl | (simp only [List.map, List.sum_cons, List.sum_nil, rf_cat, cat_i, cat_l, cat_r, rmm] <;> decide)) ?_
  refine W.eq (g2 := F0 m 4 ls []) rfl ?_
  refine lv_aload_n hx hb dX14_init_4 rfl (lv_at hl 0 rfl) ?_
  refine lv_iload_n hx hb dX14_init_5 rfl (lv_at hl 1 rfl) ?_
  obtain ⟨g1, hf⟩ := gd_e hf
  obtain ⟨h2, eh2, hf⟩ := st_e hf
  refine x_putF (ci := 12) (C := RX14) (T := TX14) (N := 3) hx hb hts in_X14 tyX14 tyX14_ok nmX14 hown hK.1 hX rfl (hX.tg g0 (by decide)) (by decide) rfl 0 (Nat.le_of_ble_eq_true rfl) (hts _ q588) (fun _ h9 => h9) rfl hinit rfl (nb01 g1) (fb01 g1) (Put1.fI (x := p1) rfl) dX14_init_6 (fun H locs hX => ?_)
  replace hX := hX.re eh2
  clear eh2
  refine lv_aload_n hx hb dX14_init_9 rfl (lv_at hl 0 rfl) ?_
  refine lv_lload_n hx hb dX14_init_10 rfl (lv_at hl 2 rfl) ?_
  obtain ⟨h3, eh3, hf⟩ := st_e hf
  refine x_putF (ci := 12) (C := RX14) (T := TX14) (N := 3) hx hb hts in_X14 tyX14 tyX14_ok nmX14 hown hK.1 hX rfl (hX.tg g0 (by decide)) (by decide) rfl 1 (Nat.le_of_ble_eq_true rfl) (hts _ q591) (fun _ h9 => h9) rfl hinit rfl rfl rfl (Put1.fL (x := p2) rfl) dX14_init_11 (fun H locs hX => ?_)
  replace hX := hX.re eh3
  clear eh3
  refine lv_aload_n hx hb dX14_init_14 rfl (lv_at hl 0 rfl) ?_
  refine lv_lload hx hb dX14_init_15 (lv_at hl 3 rfl) ?_
  obtain ⟨h4, eh4, hf⟩ := st_e hf
  refine x_putF (ci := 12) (C := RX14) (T := TX14) (N := 3) hx hb hts in_X14 tyX14 tyX14_ok nmX14 hown hK.1 hX rfl (hX.tg g0 (by decide)) (by decide) rfl 2 (Nat.le_of_ble_eq_true rfl) (hts _ q594) (fun _ h9 => h9) rfl hinit rfl rfl rfl (Put1.fL (x := p4) rfl) dX14_init_17 (fun H locs hX => ?_)
  replace hX := hX.re eh4
  clear eh4
  obtain rfl := Option.some.inj hf
  exact hret _ _ _ _ hX dX14_init_20
theorem cdX13_joined : yX13_joined.cls ≠ "java/lang/invoke/MethodHandle" ∧ yX13_joined.cls ≠ "java/lang/invoke/VarHandle" ∧ (parseMethodDescriptor yX13_joined.desc).map (fun d => d.parameters.length) = some 2 := by decide +kernel
set_option maxHeartbeats 4000000 in
set_option maxRecDepth 100000 in
theorem wx_Machine_joined (l : Launch) (G : Gt) (hG : XG G) (h : Hp) (n : Nat) (o : Nat) (p1 : Option Nat) (p2 : Option Nat) (r : Option Nat) (h1 : Hp) (MC MS : Nat) (hf : X_Machine_joined n o p1 p2 h = some ((r, h1), MC, MS)) : Met l yX13_joined (ws_ yX13_joined cX13_joined 4 (some (.object "PromiseTries$Part"))) (rmm (2) MC MS (89)) (XP G [.ref o, va_rf p1, va_rf p2] h) (XQ G (some (va_rf r)) h h1) MC MS (fre h) := by
  rw [X_Machine_joined] at hf
  obtain ⟨g0, hf⟩ := gd_e hf
  refine metSr l (by decide) (by cases p1 <;> cases p2 <;> exact Nat.le_of_ble_eq_true rfl) (Or.inl ⟨_, rfl⟩) ?_
  intro p e s m args below meth c Q hx hb hts hown hnmd hml hinit hK hW hret ls hl
  have hown : s.vm.findClass RX13 = some m.cls := hown
  have hX := XX.start hW
  have kc : 0 + MC = MC := Nat.zero_add _
  have ks : 0 + MS = MS := Nat.zero_add _
  have hl : lv_has ls 4 [(0, .ref o), (1, va_rf p1), (2, va_rf p2)] := Eq.mp (congrArg (lv_has ls 4) (show lv_args 0 [.ref o, va_rf p1, va_rf p2] = [(0, .ref o), (1, va_rf p1), (2, va_rf p2)] from by clear hf; cases p1 <;> cases p2 <;> rfl)) hl
  have B115 : ∀ (t0 : Int64) (t1 : Int64) (t2 : Int32) (t3 : Option Nat) (t4 : Option Nat) (h_24 : Hp) (ck cs qc qs : Nat) (kc : ck + qc = MC) (ks : cs + qs = MS) (H : Heap) (locs : List Loc) (ls : Array Slot), XX G h s.heap h_24 H locs → lv_has ls 4 [(0, .ref o)] → X_Machine_joined_b115 n o t0 t1 t2 t3 t4 h_24 = some ((r, h1), qc, qs) → W p l e (rmm (2) MC MS (89)) s m args below meth c H locs ck cs Q (F0 m 115 ls [.long t0, .long t1, .int t2, va_rf t3, va_rf t4]) := by
    intro t0 t1 t2 t3 t4 h_24 ck cs qc qs kc ks H locs ls hX hl hf
    rw [X_Machine_joined_b115] at hf
    obtain ⟨a25, e26, hf⟩ := bd_e hf
    obtain ⟨h28, e27, hf⟩ := bd_e hf
    refine x_done (mc := 0) (ms := 0) (va_runI (As := [.int t2, .long t1, .long t0]) (rest := [va_rf t4]) ⟨hx, hb, hml, hown, hts⟩ (wx_Part_init l G hG h_24 n a25 t2 t1 t0 h28 e27) (cwI 3 hts (lw_meth q586) rfl rfl rfl (hts _ q113) (hts _ q584) (hts _ q585) rfl cdX14_init ⟨(by simp only [rmm]; omega), (by simp only [rmm]; omega)⟩) (x_preS hK hX _) rfl rfl hl.1 (stk_eq (rf_some e26) rfl) (lv_room (by simp only [List.map, List.sum_cons, List.sum_nil, rf_cat, cat_i, cat_l, cat_r] <;> decide)) dX13_joined_115 ⟨(by simp only [rmm]; omega), (by simp only [rmm]; omega)⟩) hX rfl (fun H locs hX => ?_)
    clear e27
    obtain ⟨q1, q2⟩ := Prod.mk.inj (Option.some.inj hf)
    obtain ⟨q2, q3⟩ := Prod.mk.inj q2
    obtain ⟨rfl, rfl⟩ := Prod.mk.inj q1
    refine W.cs (cells' := MC) (slots' := MS) (by omega) (by omega) ?_
    exact hret _ _ _ _ hX dX13_joined_118
  have B92 : ∀ (v1 : Option Nat) (v2 : Option Nat) (t0 : Int64) (t1 : Int32) (t2 : Option Nat) (t3 : Option Nat) (h_19 : Hp) (ck cs qc qs : Nat) (kc : ck + qc = MC) (ks : cs + qs = MS) (H : Heap) (locs : List Loc) (ls : Array Slot), XX G h s.heap h_19 H locs → lv_has ls 4 [(0, .ref o), (1, va_rf v1), (2, va_rf v2)] → X_Machine_joined_b92 n o v1 v2 t0 t1 t2 t3 h_19 = some ((r, h1), qc, qs) → W p l e (rmm (2) MC MS (89)) s m args below meth c H locs ck cs Q (F0 m 92 ls [.long t0, .int t1, va_rf t2, va_rf t3]) := by
    intro v1 v2 t0 t1 t2 t3 h_19 ck cs qc qs kc ks H locs ls hX hl hf
    rw [X_Machine_joined_b92] at hf
    refine lx_aload_n hx hb dX13_joined_92 rfl (lv_at hl 2 rfl) ?_
    obtain ⟨a20, e21, hf⟩ := bd_e hf
    obtain ⟨g22, hf⟩ := gd_e hf
    refine x_getN (ci := 12) (C := RX14) (T := TX14) (N := 3) hx hb hts in_X14 hown hK.1 hX (rf_some e21) g22 (by decide) rfl 0 (Nat.le_of_ble_eq_true rfl) (hG.nw hK nq589) (fun _ h9 => h9) (hv_int rfl) dX13_joined_93 ?_
    refine lv_if_eq (tgt := 111) hx hb dX13_joined_96 (by decide) (fun c23 => ?_) (fun c23 => ?_)
    · rw [if_pos c23] at hf
      refine lx_aload_n hx hb dX13_joined_111 rfl (lv_at hl 2 rfl) ?_
      refine x_getN (ci := 12) (C := RX14) (T := TX14) (N := 3) hx hb hts in_X14 hown hK.1 hX (rf_some e21) g22 (by decide) rfl 2 (Nat.le_of_ble_eq_true rfl) (hG.nw hK nq595) (fun _ h9 => h9) (hv_long rfl) dX13_joined_112 ?_
      exact B115 (hL h_19 a20 2) t0 t1 t2 t3 h_19 _ _ _ _ kc ks _ _ _ hX (lv_sub hl [0] rfl) hf
    · rw [if_neg c23] at hf
      refine lx_aload_n hx hb dX13_joined_99 rfl (lv_at hl 1 rfl) ?_
      obtain ⟨a29, e30, hf⟩ := bd_e hf
      obtain ⟨g31, hf⟩ := gd_e hf
      refine x_getN (ci := 12) (C := RX14) (T := TX14) (N := 3) hx hb hts in_X14 hown hK.1 hX (rf_some e30) g31 (by decide) rfl 2 (Nat.le_of_ble_eq_true rfl) (hG.nw hK nq595) (fun _ h9 => h9) (hv_long rfl) dX13_joined_100 ?_
      refine lx_aload_n hx hb dX13_joined_103 rfl (lv_at hl 2 rfl) ?_
      refine x_getN (ci := 12) (C := RX14) (T := TX14) (N := 3) hx hb hts in_X14 hown hK.1 hX (rf_some e21) g22 (by decide) rfl 2 (Nat.le_of_ble_eq_true rfl) (hG.nw hK nq595) (fun _ h9 => h9) (hv_long rfl) dX13_joined_104 ?_
      refine lv_lor hx hb dX13_joined_107 ?_
      refine lv_goto (tgt := 115) hx hb dX13_joined_108 (by decide) ?_
      exact B115 ((hL h_19 a29 2) ||| (hL h_19 a20 2)) t0 t1 t2 t3 h_19 _ _ _ _ kc ks _ _ _ hX (lv_sub hl [0] rfl) hf
  have B69 : ∀ (v1 : Option Nat) (v2 : Option Nat) (t0 : Int32) (t1 : Option Nat) (t2 : Option Nat) (h_14 : Hp) (ck cs qc qs : Nat) (kc : ck + qc = MC) (ks : cs + qs = MS) (H : Heap) (locs : List Loc) (ls : Array Slot), XX G h s.heap h_14 H locs → lv_has ls 4 [(0, .ref o), (1, va_rf v1), (2, va_rf v2)] → X_Machine_joined_b69 n o v1 v2 t0 t1 t2 h_14 = some ((r, h1), qc, qs) → W p l e (rmm (2) MC MS (89)) s m args below meth c H locs ck cs Q (F0 m 69 ls [.int t0, va_rf t1, va_rf t2]) := by
    intro v1 v2 t0 t1 t2 h_14 ck cs qc qs kc ks H locs ls hX hl hf
    rw [X_Machine_joined_b69] at hf
    refine lx_aload_n hx hb dX13_joined_69 rfl (lv_at hl 1 rfl) ?_
    obtain ⟨a15, e16, hf⟩ := bd_e hf
    obtain ⟨g17, hf⟩ := gd_e hf
    refine x_getN (ci := 12) (C := RX14) (T := TX14) (N := 3) hx hb hts in_X14 hown hK.1 hX (rf_some e16) g17 (by decide) rfl 0 (Nat.le_of_ble_eq_true rfl) (hG.nw hK nq589) (fun _ h9 => h9) (hv_int rfl) dX13_joined_70 ?_
    refine lv_if_eq (tgt := 88) hx hb dX13_joined_73 (by decide) (fun c18 => ?_) (fun c18 => ?_)
    · rw [if_pos c18] at hf
      refine lx_aload_n hx hb dX13_joined_88 rfl (lv_at hl 1 rfl) ?_
      refine x_getN (ci := 12) (C := RX14) (T := TX14) (N := 3) hx hb hts in_X14 hown hK.1 hX (rf_some e16) g17 (by decide) rfl 1 (Nat.le_of_ble_eq_true rfl) (hG.nw hK nq592) (fun _ h9 => h9) (hv_long rfl) dX13_joined_89 ?_
      exact B92 v1 v2 (hL h_14 a15 1) t0 t1 t2 h_14 _ _ _ _ kc ks _ _ _ hX (lv_sub hl [0, 1, 2] rfl) hf
    · rw [if_neg c18] at hf
      refine lx_aload_n hx hb dX13_joined_76 rfl (lv_at hl 1 rfl) ?_
      refine x_getN (ci := 12) (C := RX14) (T := TX14) (N := 3) hx hb hts in_X14 hown hK.1 hX (rf_some e16) g17 (by decide) rfl 1 (Nat.le_of_ble_eq_true rfl) (hG.nw hK nq592) (fun _ h9 => h9) (hv_long rfl) dX13_joined_77 ?_
      refine lx_aload_n hx hb dX13_joined_80 rfl (lv_at hl 2 rfl) ?_
      obtain ⟨a32, e33, hf⟩ := bd_e hf
      obtain ⟨g34, hf⟩ := gd_e hf
      refine x_getN (ci := 12) (C := RX14) (T := TX14) (N := 3) hx hb hts in_X14 hown hK.1 hX (rf_some e33) g34 (by decide) rfl 1 (Nat.le_of_ble_eq_true rfl) (hG.nw hK nq592) (fun _ h9 => h9) (hv_long rfl) dX13_joined_81 ?_
      refine lv_lor hx hb dX13_joined_84 ?_
      refine lv_goto (tgt := 92) hx hb dX13_joined_85 (by decide) ?_
      exact B92 v1 v2 ((hL h_14 a15 1) ||| (hL h_14 a32 1)) t0 t1 t2 h_14 _ _ _ _ kc ks _ _ _ hX (lv_sub hl [0, 1, 2] rfl) hf
  have B68 : ∀ (v1 : Option Nat) (v2 : Option Nat) (t0 : Option Nat) (t1 : Option Nat) (h_13 : Hp) (ck cs qc qs : Nat) (kc : ck + qc = MC) (ks : cs + qs = MS) (H : Heap) (locs : List Loc) (ls : Array Slot), XX G h s.heap h_13 H locs → lv_has ls 4 [(0, .ref o), (1, va_rf v1), (2, va_rf v2)] → X_Machine_joined_b68 n o v1 v2 t0 t1 h_13 = some ((r, h1), qc, qs) → W p l e (rmm (2) MC MS (89)) s m args below meth c H locs ck cs Q (F0 m 68 ls [va_rf t0, va_rf t1]) := by
    intro v1 v2 t0 t1 h_13 ck cs qc qs kc ks H locs ls hX hl hf
    rw [X_Machine_joined_b68] at hf
    refine lv_iconst (v := 0) hx hb dX13_joined_68 (by decide) ?_
    exact B69 v1 v2 0 t0 t1 h_13 _ _ _ _ kc ks _ _ _ hX (lv_sub hl [0, 1, 2] rfl) hf
  have B38 : ∀ (K2 : Option Nat → Option Nat → Int32 → Hp → Option ((Option Nat × Hp) × Nat × Nat)) (hK2 : ∀ (v1 : Option Nat) (v2 : Option Nat) (v3 : Int32) (h2 : Hp) (ck cs qc qs : Nat) (_ : ck + qc = MC) (_ : cs + qs = MS) (H : Heap) (locs : List Loc) (ls : Array Slot), XX G h s.heap h2 H locs → lv_has ls 4 [(0, .ref o), (1, va_rf v1), (2, va_rf v2), (3, .int v3)] → K2 v1 v2 v3 h2 = some ((r, h1), qc, qs) → W p l e (rmm (2) MC MS (89)) s m args below meth c H locs ck cs Q (F0 m 2 ls [])) (v1 : Option Nat) (v2 : Option Nat) (v3 : Int32) (t0 : Int64) (t1 : Int64) (t2 : Int32) (t3 : Option Nat) (h_47 : Hp) (ck cs qc qs : Nat) (kc : ck + qc = MC) (ks : cs + qs = MS) (H : Heap) (locs : List Loc) (ls : Array Slot), XX G h s.heap h_47 H locs → lv_has ls 4 [(0, .ref o), (1, va_rf v1), (2, va_rf v2), (3, .int v3)] → X_Machine_joined_b38 n o K2 v1 v2 v3 t0 t1 t2 t3 h_47 = some ((r, h1), qc, qs) → W p l e (rmm (2) MC MS (89)) s m args below meth c H locs ck cs Q (F0 m 38 ls [.long t0, .long t1, .int t2, va_rf t3]) := by
    intro K2 hK2 v1 v2 v3 t0 t1 t2 t3 h_47 ck cs qc qs kc ks H locs ls hX hl hf
    rw [X_Machine_joined_b38] at hf
    refine lv_lor hx hb dX13_joined_38 ?_
    obtain ⟨a48, e49, hf⟩ := bd_e hf
    obtain ⟨g50, hf⟩ := gd_e hf
    obtain ⟨g51, hf⟩ := gd_e hf
    obtain ⟨h52, eh52, hf⟩ := st_e hf
    refine x_last hx hb hK.1 hX (rf_some e49) g50 g51 dX13_joined_39 (fun H locs hX => ?_)
    replace hX := hX.re eh52
    clear eh52
    refine lv_iinc (v := (v3 + 1)) (lv' := [(3, .int (v3 + 1)), (0, .ref o), (1, va_rf v1), (2, va_rf v2)]) hx hb dX13_joined_40 hl (k := 3) rfl rfl (by decide) (by generalize hq9 : va_rf v2 = w9; have hc9 : w9.category = 1 := (by rw [← hq9]; exact rf_cat _); cases w9 <;> first | rfl | cases hc9) (fun ls hl => ?_)
    refine lv_goto (tgt := 2) hx hb dX13_joined_43 (by decide) ?_
    exact hK2 v1 v2 (v3 + 1) h52 _ _ _ _ kc ks _ _ _ hX (lv_sub hl [1, 2, 3, 0] rfl) hf
  have B2 : ∀ (f : Nat) (v1 : Option Nat) (v2 : Option Nat) (v3 : Int32) (h_1 : Hp) (ck cs qc qs : Nat) (kc : ck + qc = MC) (ks : cs + qs = MS) (H : Heap) (locs : List Loc) (ls : Array Slot), XX G h s.heap h_1 H locs → lv_has ls 4 [(0, .ref o), (1, va_rf v1), (2, va_rf v2), (3, .int v3)] → X_Machine_joined_b2 n o f v1 v2 v3 h_1 = some ((r, h1), qc, qs) → W p l e (rmm (2) MC MS (89)) s m args below meth c H locs ck cs Q (F0 m 2 ls []) := by
    intro f
    induction f with
    | zero =>
      intro v1 v2 v3 h_1 ck cs qc qs kc ks H locs ls hX hl hf
      rw [X_Machine_joined_b2] at hf
      cases hf
    | succ f hK2 =>
      intro v1 v2 v3 h_1 ck cs qc qs kc ks H locs ls hX hl hf
      rw [X_Machine_joined_b2] at hf
      refine lv_iload_n hx hb dX13_joined_2 rfl (lv_at hl 3 rfl) ?_
      refine lv_aload_n hx hb dX13_joined_3 rfl (lv_at hl 0 rfl) ?_
      refine x_get (ci := 11) (C := RX13) (T := TX13) (N := 6) hx hb hts in_X13 hown hK.1 hX rfl (hX.tg g0 (by decide)) (by decide) rfl 2 (Nat.le_of_ble_eq_true rfl) (hts _ q550) (fun _ h9 => h9) (hv_int rfl) dX13_joined_4 ?_
      refine lv_icmp_ge (tgt := 46) hx hb dX13_joined_7 (by decide) (fun c2 => ?_) (fun c2 => ?_)
      · rw [if_pos c2] at hf
        obtain ⟨c3, s4, hf, e5, e6⟩ := ad_e hf
        obtain ⟨h7, eh7, hf⟩ := st_e hf
        refine x_new (ci := 12) (C := RX14) (T := TX14) (N := 3) hx hb hts in_X14 hown q582 q583 q113 hK hX (by decide) rfl tyX14_ok (fun k hk => dfl _ (dfC12 k hk)) (by simp only [rmm]; omega) (by simp only [rmm]; omega) dX13_joined_46 (fun H hX => ?_)
        replace hX := hX.re eh7
        have g8 : hT h7 (hZ h_1) = 13 := by rw [eh7]; exact nw_T _ _ _
        clear eh7
        replace kc : (ck + 1) + c3 = MC := by omega
        replace ks : (cs + 3) + s4 = MS := by omega
        clear e5 e6
        refine lv_dup hx hb dX13_joined_49 rfl ?_
        refine lx_aload_n hx hb dX13_joined_50 rfl (lv_at hl 1 rfl) ?_
        obtain ⟨a9, e10, hf⟩ := bd_e hf
        obtain ⟨g11, hf⟩ := gd_e hf
        refine x_getN (ci := 12) (C := RX14) (T := TX14) (N := 3) hx hb hts in_X14 hown hK.1 hX (rf_some e10) g11 (by decide) rfl 0 (Nat.le_of_ble_eq_true rfl) (hG.nw hK nq589) (fun _ h9 => h9) (hv_int rfl) dX13_joined_51 ?_
        refine lv_if_eq (tgt := 68) hx hb dX13_joined_54 (by decide) (fun c12 => ?_) (fun c12 => ?_)
        · rw [if_pos c12] at hf
          exact B68 v1 v2 (some (hZ h_1)) (some (hZ h_1)) h7 _ _ _ _ kc ks _ _ _ hX (lv_sub hl [0, 1, 2] rfl) hf
        · rw [if_neg c12] at hf
          refine lx_aload_n hx hb dX13_joined_57 rfl (lv_at hl 2 rfl) ?_
          obtain ⟨a35, e36, hf⟩ := bd_e hf
          obtain ⟨g37, hf⟩ := gd_e hf
          refine x_getN (ci := 12) (C := RX14) (T := TX14) (N := 3) hx hb hts in_X14 hown hK.1 hX (rf_some e36) g37 (by decide) rfl 0 (Nat.le_of_ble_eq_true rfl) (hG.nw hK nq589) (fun _ h9 => h9) (hv_int rfl) dX13_joined_58 ?_
          refine lv_if_eq (tgt := 68) hx hb dX13_joined_61 (by decide) (fun c38 => ?_) (fun c38 => ?_)
          · rw [if_pos c38] at hf
            exact B68 v1 v2 (some (hZ h_1)) (some (hZ h_1)) h7 _ _ _ _ kc ks _ _ _ hX (lv_sub hl [0, 1, 2] rfl) hf
          · rw [if_neg c38] at hf
            refine lv_iconst (v := 1) hx hb dX13_joined_64 (by decide) ?_
            refine lv_goto (tgt := 69) hx hb dX13_joined_65 (by decide) ?_
            exact B69 v1 v2 1 (some (hZ h_1)) (some (hZ h_1)) h7 _ _ _ _ kc ks _ _ _ hX (lv_sub hl [0, 1, 2] rfl) hf
      · rw [if_neg c2] at hf
        refine lv_aload_n hx hb dX13_joined_10 rfl (lv_at hl 0 rfl) ?_
        refine x_get (ci := 11) (C := RX13) (T := TX13) (N := 6) hx hb hts in_X13 hown hK.1 hX rfl (hX.tg g0 (by decide)) (by decide) rfl 1 (Nat.le_of_ble_eq_true rfl) (hts _ q549) (fun _ h9 => h9) (hv_ref rfl) dX13_joined_11 ?_
        refine lv_iload_n hx hb dX13_joined_14 rfl (lv_at hl 3 rfl) ?_
        refine lv_dup2_11 hx hb dX13_joined_15 rfl (rf_cat _) ?_
        obtain ⟨a39, e40, hf⟩ := bd_e hf
        obtain ⟨g41, hf⟩ := gd_e hf
        obtain ⟨g42, hf⟩ := gd_e hf
        refine x_lald hx hb hK.1 hX (rf_some e40) g41 g42 dX13_joined_16 ?_
        refine lx_aload_n hx hb dX13_joined_17 rfl (lv_at hl 1 rfl) ?_
        obtain ⟨a43, e44, hf⟩ := bd_e hf
        obtain ⟨g45, hf⟩ := gd_e hf
        refine x_getN (ci := 12) (C := RX14) (T := TX14) (N := 3) hx hb hts in_X14 hown hK.1 hX (rf_some e44) g45 (by decide) rfl 2 (Nat.le_of_ble_eq_true rfl) (hG.nw hK nq595) (fun _ h9 => h9) (hv_long rfl) dX13_joined_18 ?_
        refine lv_iload_n hx hb dX13_joined_21 rfl (lv_at hl 3 rfl) ?_
        refine lv_lshr hx hb dX13_joined_22 rfl ?_
        refine lv_lconst (v := 1) hx hb dX13_joined_23 (by decide) ?_
        refine lv_land hx hb dX13_joined_24 ?_
        refine lv_lconst (v := 1) hx hb dX13_joined_25 (by decide) ?_
        refine W.lcmp hx hb dX13_joined_26 ?_
        refine lv_if_ne (tgt := 37) hx hb dX13_joined_27 (by decide) (fun c46 => ?_) (fun c46 => ?_)
        · rw [if_neg c46] at hf
          refine lv_lconst (v := 0) hx hb dX13_joined_37 (by decide) ?_
          exact B38 (X_Machine_joined_b2 n o f) hK2 v1 v2 v3 0 (hL h_1 a39 (Int32.toNatClampNeg v3)) v3 (hR h_1 o 1) h_1 _ _ _ _ kc ks _ _ _ hX (lv_sub hl [0, 1, 2, 3] rfl) hf
        · rw [if_pos c46] at hf
          refine lx_aload_n hx hb dX13_joined_30 rfl (lv_at hl 2 rfl) ?_
          obtain ⟨a53, e54, hf⟩ := bd_e hf
          obtain ⟨g55, hf⟩ := gd_e hf
          refine x_getN (ci := 12) (C := RX14) (T := TX14) (N := 3) hx hb hts in_X14 hown hK.1 hX (rf_some e54) g55 (by decide) rfl 1 (Nat.le_of_ble_eq_true rfl) (hG.nw hK nq592) (fun _ h9 => h9) (hv_long rfl) dX13_joined_31 ?_
          refine lv_goto (tgt := 38) hx hb dX13_joined_34 (by decide) ?_
          exact B38 (X_Machine_joined_b2 n o f) hK2 v1 v2 v3 (hL h_1 a53 1) (hL h_1 a39 (Int32.toNatClampNeg v3)) v3 (hR h_1 o 1) h_1 _ _ _ _ kc ks _ _ _ hX (lv_sub hl [0, 1, 2, 3] rfl) hf
  refine lv_iconst (v := 0) hx hb dX13_joined_0 (by decide) ?_
  refine lv_istore_n (lv' := [(3, .int 0), (0, .ref o), (1, va_rf p1), (2, va_rf p2)]) hx hb dX13_joined_1 rfl hl (by decide) (by generalize hq9 : va_rf p2 = w9; have hc9 : w9.category = 1 := (by rw [← hq9]; exact rf_cat _); cases w9 <;> first | rfl | cases hc9) (fun ls hl => ?_)
  exact B2 n p1 p2 0 h _ _ _ _ kc ks _ _ _ hX (lv_sub hl [1, 2, 3, 0] rfl) hf
theorem cdX11_built : yX11_built.cls ≠ "java/lang/invoke/MethodHandle" ∧ yX11_built.cls ≠ "java/lang/invoke/VarHandle" ∧ (parseMethodDescriptor yX11_built.desc).map (fun d => d.parameters.length) = some 1 := by decide +kernel
set_option maxHeartbeats 4000000 in
set_option maxRecDepth 100000 in
theorem wx_Then_built (l : Launch) (G : Gt) (hG : XG G) (D : Nat) (hD : 2 ≤ D) (fb : Nat → Option Nat → Hp → Option ((Option Nat × Hp) × Nat × Nat)) (hrec : ∀ a mm h r h1 k n, fb a mm h = some ((r, h1), k, n) → BuiltOK l G h a mm r h1 k n D) (h : Hp) (n : Nat) (o : Nat) (p1 : Option Nat) (r : Option Nat) (h1 : Hp) (MC MS : Nat) (hf : X_Then_built n fb o p1 h = some ((r, h1), MC, MS)) : Met l yX11_built (ws_ yX11_built cX11_built 3 (some (.object "PromiseTries$Part"))) (rmm (D + 3) MC MS (64 * (D + 1))) (XP G [.ref o, va_rf p1] h) (XQ G (some (va_rf r)) h h1) MC MS (fre h) := by
  rw [X_Then_built] at hf
  obtain ⟨g0, hf⟩ := gd_e hf
  refine metSr l (by decide) (by cases p1 <;> exact Nat.le_of_ble_eq_true rfl) (Or.inl ⟨_, rfl⟩) ?_
  intro p e s m args below meth c Q hx hb hts hown hnmd hml hinit hK hW hret ls hl
  have hown : s.vm.findClass RX11 = some m.cls := hown
  have hX := XX.start hW
  have kc : 0 + MC = MC := Nat.zero_add _
  have ks : 0 + MS = MS := Nat.zero_add _
  have hl : lv_has ls 3 [(0, .ref o), (1, va_rf p1)] := Eq.mp (congrArg (lv_has ls 3) (show lv_args 0 [.ref o, va_rf p1] = [(0, .ref o), (1, va_rf p1)] from by clear hf; cases p1 <;> rfl)) hl
  refine lv_aload_n hx hb dX11_built_0 rfl (lv_at hl 0 rfl) ?_
  refine x_get (ci := 9) (C := RX11) (T := TX11) (N := 2) hx hb hts in_X11 hown hK.1 hX rfl (hX.tg g0 (by decide)) (by decide) rfl 0 (Nat.le_of_ble_eq_true rfl) (hts _ q469) (u_same (hts _ q470)) (hv_ref rfl) dX11_built_1 ?_
  refine lx_aload_n hx hb dX11_built_4 rfl (lv_at hl 1 rfl) ?_
  obtain ⟨a1, e2, hf⟩ := bd_e hf
  obtain ⟨r4, h5, c6, s7, c8, s9, e3, hf, e10, e11⟩ := bdA_e hf
  refine x_built hG hx hb hml hts hown hK hX (rf_some e2) (mm := p1) rfl (hrec _ _ _ _ _ _ _ e3) q610 hl.1 (Nat.le_of_ble_eq_true rfl) (by simp only [rmm]; omega) (by simp only [rmm]; omega) ⟨(by simp only [rmm]; omega), (by simp only [rmm]; omega)⟩ dX11_built_5 (fun H locs hX => ?_)
  clear e3
  replace kc : (0 + c6) + c8 = MC := by omega
  replace ks : (0 + s7) + s9 = MS := by omega
  clear e10 e11
  refine lx_astore_n (r := r4) (lv' := [(2, va_rf r4), (0, .ref o), (1, va_rf p1)]) hx hb dX11_built_8 rfl hl (by decide) (by generalize hq9 : va_rf p1 = w9; have hc9 : w9.category = 1 := (by rw [← hq9]; exact rf_cat _); cases w9 <;> first | rfl | cases hc9) (fun ls hl => ?_)
  refine lx_aload_n hx hb dX11_built_9 rfl (lv_at hl 2 rfl) ?_
  refine lx_aload_n hx hb dX11_built_10 rfl (lv_at hl 0 rfl) ?_
  refine lv_aload_n hx hb dX11_built_11 rfl (lv_at hl 1 rfl) ?_
  refine x_get (ci := 9) (C := RX11) (T := TX11) (N := 2) hx hb hts in_X11 hown hK.1 hX rfl (hX.tg g0 (by decide)) (by decide) rfl 1 (Nat.le_of_ble_eq_true rfl) (hts _ q472) (u_same (hts _ q473)) (hv_ref rfl) dX11_built_12 ?_
  refine lx_aload_n hx hb dX11_built_15 rfl (lv_at hl 2 rfl) ?_
  obtain ⟨a12, e13, hf⟩ := bd_e hf
  obtain ⟨r15, h16, c17, s18, c19, s20, e14, hf, e21, e22⟩ := bdA_e hf
  refine x_built hG hx hb hml hts hown hK hX (rf_some e13) (mm := p1) rfl (hrec _ _ _ _ _ _ _ e14) q610 hl.1 (by simp only [List.map, List.sum_cons, List.sum_nil, rf_cat, cat_i, cat_l, cat_r] <;> decide) (by simp only [rmm]; omega) (by simp only [rmm]; omega) ⟨(by simp only [rmm]; omega), (by simp only [rmm]; omega)⟩ dX11_built_16 (fun H locs hX => ?_)
  clear e14
  replace kc : ((0 + c6) + c17) + c19 = MC := by omega
  replace ks : ((0 + s7) + s18) + s20 = MS := by omega
  clear e21 e22
  obtain ⟨a23, e24, hf⟩ := bd_e hf
  obtain ⟨g26, hf⟩ := gd_e hf
  obtain ⟨r34, h27, c28, s29, c30, s31, e25, hf, e32, e33⟩ := bdA_e hf
  refine x_done (mc := c28) (ms := s29) (va_runV (b := a23) (As := [va_rf r4, va_rf r15]) (rest := []) ⟨hx, hb, hml, hown, hts⟩ (wx_Machine_joined l G hG h16 n a23 r4 r15 r34 h27 c28 s29 e25) (cwV 2 hts (lw_V q624 q621 q622 q112 q623) rfl rfl rfl ⟨rfl, cdX13_joined⟩ ⟨(by simp only [rmm]; omega), (by simp only [rmm]; omega)⟩) (x_preV (ci := 11) (T := TX13) (N := 6) hK hX _ g26 (by decide) rfl) rfl rfl hl.1 (stk_eq (rf_some e24) rfl) (lv_room (Nat.le_of_ble_eq_true rfl)) dX11_built_19 ⟨(by simp only [rmm]; omega), (by simp only [rmm]; omega)⟩) hX rfl (fun H locs hX => ?_)
  clear e25
  replace kc : (((0 + c6) + c17) + c28) + c30 = MC := by omega
  replace ks : (((0 + s7) + s18) + s29) + s31 = MS := by omega
  clear e32 e33
  obtain ⟨q1, q2⟩ := Prod.mk.inj (Option.some.inj hf)
  obtain ⟨q2, q3⟩ := Prod.mk.inj q2
  obtain ⟨rfl, rfl⟩ := Prod.mk.inj q1
  refine W.cs (cells' := MC) (slots' := MS) (by omega) (by omega) ?_
  exact hret _ _ _ _ hX dX11_built_22
