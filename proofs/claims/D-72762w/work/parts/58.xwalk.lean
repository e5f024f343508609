/-! walks of the system (by program) -/
theorem cdX0_first : yX0_first.cls ≠ "java/lang/invoke/MethodHandle" ∧ yX0_first.cls ≠ "java/lang/invoke/VarHandle" ∧ (parseMethodDescriptor yX0_first.desc).map (fun d => d.parameters.length) = some 2 := by decide +kernel
set_option maxHeartbeats 4000000 in
set_option maxRecDepth 100000 in
theorem wx_first (l : Launch) (G : Gt) (hG : XG G) (h : Hp) (n : Nat) (o : Nat) (p1 : Int32) (p2 : Int32) (r : Int32) (h1 : Hp) (hf : X_first n o p1 p2 h = some (r, h1)) : Met l yX0_first (ws_ yX0_first cX0_first 4 (some .int)) (rmm (423) 0 0 (13514)) (XP G [.ref o, .int p1, .int p2] h) (XQ G (some (.int r)) h h1) 0 0 (fre h) := by
  rw [X_first] at hf
  obtain ⟨g0, hf⟩ := gd_e hf
  refine metSi l (by decide) (Nat.le_of_ble_eq_true rfl) ?_
  intro p e s m args below meth c Q hx hb hts hown hnmd hml hinit hK hW hret ls hl
  have hown : s.vm.findClass RX0 = some m.cls := hown
  have hX := XX.start hW
  have hl : lv_has ls 4 [(0, .ref o), (1, .int p1), (2, .int p2)] := hl
  have B20 : ∀ (h_4 : Hp) (H : Heap) (locs : List Loc) (ls : Array Slot), XX G h s.heap h_4 H locs → lv_has ls 4 [(0, .ref o)] → X_first_b20 n o h_4 = some (r, h1) → W p l e (rmm (423) 0 0 (13514)) s m args below meth c H locs 0 0 Q (F0 m 20 ls []) := by
    intro h_4 H locs ls hX hl hf
    rw [X_first_b20] at hf
    refine lv_iconst (v := (-1)) hx hb dX0_first_20 (by decide) ?_
    obtain ⟨rfl, rfl⟩ := Prod.mk.inj (Option.some.inj hf)
    exact hret _ _ _ _ hX rfl dX0_first_21
  have B28 : ∀ (f : Nat) (v1 : Int32) (v2 : Int32) (v3 : Int32) (h_10 : Hp) (H : Heap) (locs : List Loc) (ls : Array Slot), XX G h s.heap h_10 H locs → lv_has ls 4 [(0, .ref o), (1, .int v1), (2, .int v2), (3, .int v3)] → X_first_b28 n o f v1 v2 v3 h_10 = some (r, h1) → W p l e (rmm (423) 0 0 (13514)) s m args below meth c H locs 0 0 Q (F0 m 28 ls []) := by
    intro f
    induction f with
    | zero =>
      intro v1 v2 v3 h_10 H locs ls hX hl hf
      rw [X_first_b28] at hf
      cases hf
    | succ f hK28 =>
      intro v1 v2 v3 h_10 H locs ls hX hl hf
      rw [X_first_b28] at hf
      refine lv_iload_n hx hb dX0_first_28 rfl (lv_at hl 3 rfl) ?_
      refine lv_aload_n hx hb dX0_first_29 rfl (lv_at hl 0 rfl) ?_
      refine x_get (ci := 0) (C := RX0) (T := TX0) (N := 16) hx hb hts in_X0 hown hK.1 hX rfl (hX.tg g0 (by decide)) (by decide) rfl 6 (Nat.le_of_ble_eq_true rfl) (hts _ q914) (fun _ h9 => h9) (hv_int rfl) dX0_first_30 ?_
      refine lv_icmp_ge (tgt := 56) hx hb dX0_first_33 (by decide) (fun c11 => ?_) (fun c11 => ?_)
      · rw [if_pos c11] at hf
        refine lv_bipush (v := (-4)) hx hb dX0_first_56 (by decide) ?_
        obtain ⟨rfl, rfl⟩ := Prod.mk.inj (Option.some.inj hf)
        exact hret _ _ _ _ hX rfl dX0_first_58
      · rw [if_neg c11] at hf
        refine lv_aload_n hx hb dX0_first_36 rfl (lv_at hl 0 rfl) ?_
        refine x_get (ci := 0) (C := RX0) (T := TX0) (N := 16) hx hb hts in_X0 hown hK.1 hX rfl (hX.tg g0 (by decide)) (by decide) rfl 8 (Nat.le_of_ble_eq_true rfl) (hts _ q916) (fun _ h9 => h9) (hv_ref rfl) dX0_first_37 ?_
        refine lv_iload_n hx hb dX0_first_40 rfl (lv_at hl 1 rfl) ?_
        obtain ⟨a12, e13, hf⟩ := bd_e hf
        obtain ⟨g14, hf⟩ := gd_e hf
        obtain ⟨g15, hf⟩ := gd_e hf
        refine x_aald hx hb hK.1 hX (rf_some e13) 10 g14 (by decide) rfl rfl rfl g15 dX0_first_41 ?_
        refine lv_iload_n hx hb dX0_first_42 rfl (lv_at hl 3 rfl) ?_
        obtain ⟨a16, e17, hf⟩ := bd_e hf
        obtain ⟨g18, hf⟩ := gd_e hf
        obtain ⟨g19, hf⟩ := gd_e hf
        refine x_iald hx hb hK.1 hX (rf_some e17) g18 g19 dX0_first_43 ?_
        refine lv_iload_n hx hb dX0_first_44 rfl (lv_at hl 2 rfl) ?_
        refine lv_icmp_ne (tgt := 50) hx hb dX0_first_45 (by decide) (fun c20 => ?_) (fun c20 => ?_)
        · rw [if_neg c20] at hf
          refine lv_iinc (v := (v3 + 1)) (lv' := [(3, .int (v3 + 1)), (0, .ref o), (1, .int v1), (2, .int v2)]) hx hb dX0_first_50 hl (k := 3) rfl rfl (by decide) rfl (fun ls hl => ?_)
          refine lv_goto (tgt := 28) hx hb dX0_first_53 (by decide) ?_
          exact hK28 v1 v2 (v3 + 1) h_10 _ _ _ hX (lv_sub hl [1, 2, 3, 0] rfl) hf
        · rw [if_pos c20] at hf
          refine lv_iload_n hx hb dX0_first_48 rfl (lv_at hl 3 rfl) ?_
          obtain ⟨rfl, rfl⟩ := Prod.mk.inj (Option.some.inj hf)
          exact hret _ _ _ _ hX rfl dX0_first_49
  refine lv_aload_n hx hb dX0_first_0 rfl (lv_at hl 0 rfl) ?_
  refine lv_iload_n hx hb dX0_first_1 rfl (lv_at hl 1 rfl) ?_
  obtain ⟨r2, e1, hf⟩ := bd_e hf
  refine x_doneP (va_runV (b := o) (As := [.int p1]) (rest := []) ⟨hx, hb, hml, hown, hts⟩ (wx_isPromise l G hG h n o p1 r2 e1) (cwV 1 hts (lw_V q742 q744 qs33 q94 q745) rfl rfl rfl ⟨rfl, cdX0_isPromise⟩ ⟨(Nat.le_of_ble_eq_true rfl), (Nat.le_of_ble_eq_true rfl)⟩) (x_preV (ci := 0) (T := TX0) (N := 16) hK hX _ (hX.tg g0 (by decide)) (by decide) rfl) rfl rfl hl.1 rfl (lv_room (Nat.le_of_ble_eq_true rfl)) dX0_first_2 ⟨(Nat.le_of_ble_eq_true rfl), (Nat.le_of_ble_eq_true rfl)⟩) rfl ?_
  clear e1
  refine lv_if_eq (tgt := 20) hx hb dX0_first_5 (by decide) (fun c3 => ?_) (fun c3 => ?_)
  · rw [if_pos c3] at hf
    exact B20 h _ _ _ hX (lv_sub hl [0] rfl) hf
  · rw [if_neg c3] at hf
    refine lv_iload_n hx hb dX0_first_8 rfl (lv_at hl 2 rfl) ?_
    refine lv_i2l hx hb dX0_first_9 rfl ?_
    refine lv_lconst (v := 0) hx hb dX0_first_10 (by decide) ?_
    refine lv_ldc2 (v := 4) hx hb hown (hts _ q858) dX0_first_11 ?_
    obtain ⟨r6, e5, hf⟩ := bd_e hf
    refine x_doneP (va_runS (As := [.long (Int32.toInt64 p2), .long 0, .long 4]) (rest := []) ⟨hx, hb, hml, hown, hts⟩ (wx_isIn l G hG h n (Int32.toInt64 p2) 0 4 r6 e5) (va_cwS 3 hts (lw_S q127 q128 q94 q129) rfl rfl rfl cdX0_isIn ⟨(Nat.le_of_ble_eq_true rfl), (Nat.le_of_ble_eq_true rfl)⟩) (x_preS hK hX _) rfl rfl hl.1 rfl (lv_room (Nat.le_of_ble_eq_true rfl)) dX0_first_14 ⟨(Nat.le_of_ble_eq_true rfl), (Nat.le_of_ble_eq_true rfl)⟩) rfl ?_
    clear e5
    refine lv_if_ne (tgt := 22) hx hb dX0_first_17 (by decide) (fun c7 => ?_) (fun c7 => ?_)
    · rw [if_neg c7] at hf
      refine lv_aload_n hx hb dX0_first_22 rfl (lv_at hl 0 rfl) ?_
      obtain ⟨h9, e8, hf⟩ := bd_e hf
      refine x_done (mc := 0) (ms := 0) (va_runV (b := o) (As := []) (rest := []) ⟨hx, hb, hml, hown, hts⟩ (wx_runsAll l G hG h n o h9 e8) (cwV 0 hts (lw_V q656 q658 qs23 q94 q659) rfl rfl rfl ⟨rfl, cdX0_runsAll⟩ ⟨(Nat.le_of_ble_eq_true rfl), (Nat.le_of_ble_eq_true rfl)⟩) (x_preV (ci := 0) (T := TX0) (N := 16) hK hX _ (hX.tg g0 (by decide)) (by decide) rfl) rfl rfl hl.1 rfl (lv_room (Nat.le_of_ble_eq_true rfl)) dX0_first_23 ⟨(Nat.le_of_ble_eq_true rfl), (Nat.le_of_ble_eq_true rfl)⟩) hX rfl (fun H locs hX => ?_)
      clear e8
      refine lv_iconst (v := 0) hx hb dX0_first_26 (by decide) ?_
      refine lv_istore_n (lv' := [(3, .int 0), (0, .ref o), (1, .int p1), (2, .int p2)]) hx hb dX0_first_27 rfl hl (by decide) rfl (fun ls hl => ?_)
      exact B28 n p1 p2 0 h9 _ _ _ hX (lv_sub hl [1, 2, 3, 0] rfl) hf
    · rw [if_pos c7] at hf
      exact B20 h _ _ _ hX (lv_sub hl [0] rfl) hf
theorem cdX0_isImage : yX0_isImage.cls ≠ "java/lang/invoke/MethodHandle" ∧ yX0_isImage.cls ≠ "java/lang/invoke/VarHandle" ∧ (parseMethodDescriptor yX0_isImage.desc).map (fun d => d.parameters.length) = some 1 := by decide +kernel
set_option maxHeartbeats 4000000 in
set_option maxRecDepth 100000 in
theorem wx_isImage (l : Launch) (G : Gt) (hG : XG G) (h : Hp) (n : Nat) (p0 : Int32) (r : Int32) (hf : X_isImage n p0 = some r) : Met l yX0_isImage (ws_ yX0_isImage cX0_isImage 1 (some .boolean)) (rmm (1) 0 0 (25)) (XP G [.int p0] h) (XQp (some (.int r))) 0 0 (fun _ => False) := by
  rw [X_isImage] at hf
  refine metPi l (by decide) (Nat.le_of_ble_eq_true rfl) ?_
  intro p e s m args below meth c Q hx hb hts hown hnmd hml hinit hK hW hret ls hl
  have hown : s.vm.findClass RX0 = some m.cls := hown
  have hX := XX.start hW
  have hl : lv_has ls 1 [(0, .int p0)] := hl
  refine lv_iload_n hx hb dX0_isImage_0 rfl (lv_at hl 0 rfl) ?_
  refine lv_i2l hx hb dX0_isImage_1 rfl ?_
  refine lv_lconst (v := 0) hx hb dX0_isImage_2 (by decide) ?_
  refine lv_lconst (v := 1) hx hb dX0_isImage_3 (by decide) ?_
  obtain ⟨r2, e1, hf⟩ := bd_e hf
  refine x_doneP (va_runS (As := [.long (Int32.toInt64 p0), .long 0, .long 1]) (rest := []) ⟨hx, hb, hml, hown, hts⟩ (wx_isIn l G hG h n (Int32.toInt64 p0) 0 1 r2 e1) (va_cwS 3 hts (lw_S q127 q128 q94 q129) rfl rfl rfl cdX0_isIn ⟨(Nat.le_of_ble_eq_true rfl), (Nat.le_of_ble_eq_true rfl)⟩) (x_preS hK hX _) rfl rfl hl.1 rfl (lv_room (Nat.le_of_ble_eq_true rfl)) dX0_isImage_4 ⟨(Nat.le_of_ble_eq_true rfl), (Nat.le_of_ble_eq_true rfl)⟩) rfl ?_
  clear e1
  obtain ⟨g3, hf⟩ := gd_e hf
  obtain rfl := Option.some.inj hf
  exact hret _ _ (nb01 g3) dX0_isImage_7
theorem cdX0_keep : yX0_keep.cls ≠ "java/lang/invoke/MethodHandle" ∧ yX0_keep.cls ≠ "java/lang/invoke/VarHandle" ∧ (parseMethodDescriptor yX0_keep.desc).map (fun d => d.parameters.length) = some 1 := by decide +kernel
set_option maxHeartbeats 4000000 in
set_option maxRecDepth 100000 in
theorem wx_keep (l : Launch) (G : Gt) (hG : XG G) (h : Hp) (n : Nat) (o : Nat) (p1 : Int32) (r : Int32) (h1 : Hp) (MC MS : Nat) (hf : X_keep n o p1 h = some ((r, h1), MC, MS)) : Met l yX0_keep (ws_ yX0_keep cX0_keep 3 (some .int)) (rmm (2) MC MS (64)) (XP G [.ref o, .int p1] h) (XQ G (some (.int r)) h h1) MC MS (fre h) := by
  rw [X_keep] at hf
  obtain ⟨g0, hf⟩ := gd_e hf
  refine metSi l (by decide) (Nat.le_of_ble_eq_true rfl) ?_
  intro p e s m args below meth c Q hx hb hts hown hnmd hml hinit hK hW hret ls hl
  have hown : s.vm.findClass RX0 = some m.cls := hown
  have hX := XX.start hW
  have kc : 0 + MC = MC := Nat.zero_add _
  have ks : 0 + MS = MS := Nat.zero_add _
  have hl : lv_has ls 3 [(0, .ref o), (1, .int p1)] := hl
  have B23 : ∀ (v1 : Int32) (t0 : Int32) (h_9 : Hp) (ck cs qc qs : Nat) (kc : ck + qc = MC) (ks : cs + qs = MS) (H : Heap) (locs : List Loc) (ls : Array Slot), XX G h s.heap h_9 H locs → lv_has ls 3 [(0, .ref o), (1, .int v1)] → X_keep_b23 n o v1 t0 h_9 = some ((r, h1), qc, qs) → W p l e (rmm (2) MC MS (64)) s m args below meth c H locs ck cs Q (F0 m 23 ls [.int t0]) := by
    intro v1 t0 h_9 ck cs qc qs kc ks H locs ls hX hl hf
    rw [X_keep_b23] at hf
    refine lv_istore_n (lv' := [(2, .int t0), (0, .ref o), (1, .int v1)]) hx hb dX0_keep_23 rfl hl (by decide) rfl (fun ls hl => ?_)
    refine lv_aload_n hx hb dX0_keep_24 rfl (lv_at hl 1 rfl) ?_
    refine x_get (ci := 0) (C := RX0) (T := TX0) (N := 16) hx hb hts in_X0 hown hK.1 hX rfl (hX.tg g0 (by decide)) (by decide) rfl 12 (Nat.le_of_ble_eq_true rfl) (hts _ q920) (fun _ h9 => h9) (hv_ref rfl) dX0_keep_25 ?_
    refine lv_iload_n hx hb dX0_keep_28 rfl (lv_at hl 2 rfl) ?_
    refine lv_aload_n hx hb dX0_keep_29 rfl (lv_at hl 1 rfl) ?_
    refine x_get (ci := 0) (C := RX0) (T := TX0) (N := 16) hx hb hts in_X0 hown hK.1 hX rfl (hX.tg g0 (by decide)) (by decide) rfl 6 (Nat.le_of_ble_eq_true rfl) (hts _ q914) (fun _ h9 => h9) (hv_int rfl) dX0_keep_30 ?_
    obtain ⟨g10, hf⟩ := gd_e hf
    obtain ⟨g11, hf⟩ := gd_e hf
    obtain ⟨c12, s13, hf, e14, e15⟩ := ad_e hf
    obtain ⟨h16, eh16, hf⟩ := st_e hf
    refine x_newa (atype := .int) (t := 0) hx hb (hts _ q870) rfl (by decide) hK hX rfl (fun q => q) (dfl _ ⟨by decide, by decide⟩) g10 (by show _ * _ ≤ _; first | decide | (have := g11; simp only [componentBytes, aTy]; omega)) (by simp only [rmm]; omega) (by simp only [rmm]; omega) dX0_keep_33 (fun H hX => ?_)
    replace hX := hX.re eh16
    have g17 : hT h16 (hZ h_9) = 100 := by rw [eh16]; exact nw_T _ _ _
    clear eh16
    replace kc : (ck + 1) + c12 = MC := by omega
    replace ks : (cs + (Int32.toNatClampNeg (hI h_9 o 6))) + s13 = MS := by omega
    clear e14 e15
    obtain ⟨a18, e19, hf⟩ := bd_e hf
    obtain ⟨g20, hf⟩ := gd_e hf
    obtain ⟨g21, hf⟩ := gd_e hf
    obtain ⟨h22, eh22, hf⟩ := st_e hf
    refine x_aastI hG hx hb hK hX (rf_some e19) g20 rfl g17 g21 dX0_keep_35 (fun H locs hX => ?_)
    replace hX := hX.re eh22
    clear eh22
    refine lv_aload_n hx hb dX0_keep_36 rfl (lv_at hl 1 rfl) ?_
    refine x_get (ci := 0) (C := RX0) (T := TX0) (N := 16) hx hb hts in_X0 hown hK.1 hX rfl (hX.tg g0 (by decide)) (by decide) rfl 5 (Nat.le_of_ble_eq_true rfl) (hts _ q913) (fun _ h9 => h9) (hv_ref rfl) dX0_keep_37 ?_
    refine lv_iconst (v := 0) hx hb dX0_keep_40 (by decide) ?_
    refine lv_aload_n hx hb dX0_keep_41 rfl (lv_at hl 1 rfl) ?_
    refine x_get (ci := 0) (C := RX0) (T := TX0) (N := 16) hx hb hts in_X0 hown hK.1 hX rfl (hX.tg g0 (by decide)) (by decide) rfl 12 (Nat.le_of_ble_eq_true rfl) (hts _ q920) (fun _ h9 => h9) (hv_ref rfl) dX0_keep_42 ?_
    refine lv_iload_n hx hb dX0_keep_45 rfl (lv_at hl 2 rfl) ?_
    obtain ⟨a23, e24, hf⟩ := bd_e hf
    obtain ⟨g25, hf⟩ := gd_e hf
    obtain ⟨g26, hf⟩ := gd_e hf
    refine x_aald hx hb hK.1 hX (rf_some e24) 10 g25 (by decide) rfl rfl rfl g26 dX0_keep_46 ?_
    refine lv_iconst (v := 0) hx hb dX0_keep_47 (by decide) ?_
    refine lv_aload_n hx hb dX0_keep_48 rfl (lv_at hl 1 rfl) ?_
    refine x_get (ci := 0) (C := RX0) (T := TX0) (N := 16) hx hb hts in_X0 hown hK.1 hX rfl (hX.tg g0 (by decide)) (by decide) rfl 6 (Nat.le_of_ble_eq_true rfl) (hts _ q914) (fun _ h9 => h9) (hv_int rfl) dX0_keep_49 ?_
    obtain ⟨a27, e28, hf⟩ := bd_e hf
    obtain ⟨a29, e30, hf⟩ := bd_e hf
    obtain ⟨g31, hf⟩ := gd_e hf
    obtain ⟨g32, hf⟩ := gd_e hf
    obtain ⟨g33, hf⟩ := gd_e hf
    obtain ⟨g34, hf⟩ := gd_e hf
    obtain ⟨g35, hf⟩ := gd_e hf
    obtain ⟨h36, eh36, hf⟩ := st_e hf
    refine x_copy hx hb (hml.trans hl.1.symm) hown (hts _ q139) (hts _ q141) (hts _ q140) (hts _ q97) hK hX (rf_some e30) (rf_some e28) 0 g31 g32 (by decide) rfl rfl rfl (by decide) (by decide) g33 g34 g35 (fun _ _ => rfl) (by simp only [rmm]; omega) (by show _ ≤ _; first | decide | (simp [rmm, nativeFrameWords]; done) | (simp only [rmm]; decide)) dX0_keep_52 (fun H locs hX => ?_)
    replace hX := hX.re eh36
    clear eh36
    refine lv_iload_n hx hb dX0_keep_55 rfl (lv_at hl 0 rfl) ?_
    obtain ⟨q1, q2⟩ := Prod.mk.inj (Option.some.inj hf)
    obtain ⟨q2, q3⟩ := Prod.mk.inj q2
    obtain ⟨rfl, rfl⟩ := Prod.mk.inj q1
    refine W.cs (cells' := MC) (slots' := MS) (by omega) (by omega) ?_
    exact hret _ _ _ _ hX rfl dX0_keep_56
  refine lv_iload_n hx hb dX0_keep_0 rfl (lv_at hl 1 rfl) ?_
  obtain ⟨r2, e1, hf⟩ := bd_e hf
  refine x_doneP (va_runS (As := [.int p1]) (rest := []) ⟨hx, hb, hml, hown, hts⟩ (wx_isImage l G hG h n p1 r2 e1) (va_cwS 1 hts (lw_S q867 q868 q94 q869) rfl rfl rfl cdX0_isImage ⟨(by simp only [rmm]; omega), (by simp only [rmm]; omega)⟩) (x_preS hK hX _) rfl rfl hl.1 rfl (lv_room (Nat.le_of_ble_eq_true rfl)) dX0_keep_1 ⟨(by simp only [rmm]; omega), (by simp only [rmm]; omega)⟩) rfl ?_
  clear e1
  refine lv_if_ne (tgt := 9) hx hb dX0_keep_4 (by decide) (fun c3 => ?_) (fun c3 => ?_)
  · rw [if_neg c3] at hf
    refine lv_aload_n hx hb dX0_keep_9 rfl (lv_at hl 0 rfl) ?_
    refine x_get (ci := 0) (C := RX0) (T := TX0) (N := 16) hx hb hts in_X0 hown hK.1 hX rfl (hX.tg g0 (by decide)) (by decide) rfl 12 (Nat.le_of_ble_eq_true rfl) (hts _ q920) (fun _ h9 => h9) (hv_ref rfl) dX0_keep_10 ?_
    refine lv_iload_n hx hb dX0_keep_13 rfl (lv_at hl 1 rfl) ?_
    obtain ⟨a4, e5, hf⟩ := bd_e hf
    obtain ⟨g6, hf⟩ := gd_e hf
    obtain ⟨g7, hf⟩ := gd_e hf
    refine x_aald hx hb hK.1 hX (rf_some e5) 10 g6 (by decide) rfl rfl rfl g7 dX0_keep_14 ?_
    refine lx_ifnonnull (r := (hR h a4 (Int32.toNatClampNeg p1))) (tgt := 22) hx hb dX0_keep_15 (by decide) (fun c8 => ?_) (fun c8 => ?_)
    · rw [if_neg c8] at hf
      refine lv_iconst (v := 1) hx hb dX0_keep_22 (by decide) ?_
      exact B23 p1 1 h _ _ _ _ kc ks _ _ _ hX (lv_sub hl [0, 1] rfl) hf
    · rw [if_pos c8] at hf
      refine lv_iconst (v := 0) hx hb dX0_keep_18 (by decide) ?_
      refine lv_goto (tgt := 23) hx hb dX0_keep_19 (by decide) ?_
      exact B23 p1 0 h _ _ _ _ kc ks _ _ _ hX (lv_sub hl [0, 1] rfl) hf
  · rw [if_pos c3] at hf
    refine lv_iconst (v := (-1)) hx hb dX0_keep_7 (by decide) ?_
    obtain ⟨q1, q2⟩ := Prod.mk.inj (Option.some.inj hf)
    obtain ⟨q2, q3⟩ := Prod.mk.inj q2
    obtain ⟨rfl, rfl⟩ := Prod.mk.inj q1
    refine W.cs (cells' := MC) (slots' := MS) (by omega) (by omega) ?_
    exact hret _ _ _ _ hX rfl dX0_keep_8
theorem cdX0_back : yX0_back.cls ≠ "java/lang/invoke/MethodHandle" ∧ yX0_back.cls ≠ "java/lang/invoke/VarHandle" ∧ (parseMethodDescriptor yX0_back.desc).map (fun d => d.parameters.length) = some 1 := by decide +kernel
set_option maxHeartbeats 4000000 in
set_option maxRecDepth 100000 in
theorem wx_back (l : Launch) (G : Gt) (hG : XG G) (h : Hp) (n : Nat) (o : Nat) (p1 : Int32) (r : Int32) (h1 : Hp) (hf : X_back n o p1 h = some (r, h1)) : Met l yX0_back (ws_ yX0_back cX0_back 2 (some .int)) (rmm (2) 0 0 (64)) (XP G [.ref o, .int p1] h) (XQ G (some (.int r)) h h1) 0 0 (fre h) := by
  rw [X_back] at hf
  obtain ⟨g0, hf⟩ := gd_e hf
  refine metSi l (by decide) (Nat.le_of_ble_eq_true rfl) ?_
  intro p e s m args below meth c Q hx hb hts hown hnmd hml hinit hK hW hret ls hl
  have hown : s.vm.findClass RX0 = some m.cls := hown
  have hX := XX.start hW
  have hl : lv_has ls 2 [(0, .ref o), (1, .int p1)] := hl
  refine lv_iload_n hx hb dX0_back_0 rfl (lv_at hl 1 rfl) ?_
  obtain ⟨r2, e1, hf⟩ := bd_e hf
  refine x_doneP (va_runS (As := [.int p1]) (rest := []) ⟨hx, hb, hml, hown, hts⟩ (wx_isImage l G hG h n p1 r2 e1) (va_cwS 1 hts (lw_S q867 q868 q94 q869) rfl rfl rfl cdX0_isImage ⟨(Nat.le_of_ble_eq_true rfl), (Nat.le_of_ble_eq_true rfl)⟩) (x_preS hK hX _) rfl rfl hl.1 rfl (lv_room (Nat.le_of_ble_eq_true rfl)) dX0_back_1 ⟨(Nat.le_of_ble_eq_true rfl), (Nat.le_of_ble_eq_true rfl)⟩) rfl ?_
  clear e1
  refine lv_if_ne (tgt := 9) hx hb dX0_back_4 (by decide) (fun c3 => ?_) (fun c3 => ?_)
  · rw [if_neg c3] at hf
    refine lv_aload_n hx hb dX0_back_9 rfl (lv_at hl 0 rfl) ?_
    refine x_get (ci := 0) (C := RX0) (T := TX0) (N := 16) hx hb hts in_X0 hown hK.1 hX rfl (hX.tg g0 (by decide)) (by decide) rfl 12 (Nat.le_of_ble_eq_true rfl) (hts _ q920) (fun _ h9 => h9) (hv_ref rfl) dX0_back_10 ?_
    refine lv_iload_n hx hb dX0_back_13 rfl (lv_at hl 1 rfl) ?_
    obtain ⟨a4, e5, hf⟩ := bd_e hf
    obtain ⟨g6, hf⟩ := gd_e hf
    obtain ⟨g7, hf⟩ := gd_e hf
    refine x_aald hx hb hK.1 hX (rf_some e5) 10 g6 (by decide) rfl rfl rfl g7 dX0_back_14 ?_
    refine lx_ifnonnull (r := (hR h a4 (Int32.toNatClampNeg p1))) (tgt := 21) hx hb dX0_back_15 (by decide) (fun c8 => ?_) (fun c8 => ?_)
    · rw [if_neg c8] at hf
      refine lv_aload_n hx hb dX0_back_21 rfl (lv_at hl 0 rfl) ?_
      refine lv_aload_n hx hb dX0_back_22 rfl (lv_at hl 0 rfl) ?_
      refine x_get (ci := 0) (C := RX0) (T := TX0) (N := 16) hx hb hts in_X0 hown hK.1 hX rfl (hX.tg g0 (by decide)) (by decide) rfl 12 (Nat.le_of_ble_eq_true rfl) (hts _ q920) (fun _ h9 => h9) (hv_ref rfl) dX0_back_23 ?_
      refine lv_iload_n hx hb dX0_back_26 rfl (lv_at hl 1 rfl) ?_
      obtain ⟨g9, hf⟩ := gd_e hf
      refine x_aald hx hb hK.1 hX (rf_some e5) 10 g6 (by decide) rfl rfl rfl g9 dX0_back_27 ?_
      obtain ⟨a10, e11, hf⟩ := bd_e hf
      obtain ⟨g12, hf⟩ := gd_e hf
      refine x_alen hx hb hK.1 hX (rf_some e11) 0 g12 (by decide) rfl dX0_back_28 ?_
      obtain ⟨h13, eh13, hf⟩ := st_e hf
      refine x_put (ci := 0) (C := RX0) (T := TX0) (N := 16) hx hb hts in_X0 tyX0 tyX0_ok nmX0 hown hK.1 hX rfl (hX.tg g0 (by decide)) (by decide) rfl 6 (Nat.le_of_ble_eq_true rfl) (hts _ q914) (fun _ h9 => h9) rfl rfl rfl (Put1.fI (x := (nI (hN h a10))) rfl) dX0_back_29 (fun H locs hX => ?_)
      replace hX := hX.re eh13
      clear eh13
      refine lv_aload_n hx hb dX0_back_32 rfl (lv_at hl 0 rfl) ?_
      refine x_get (ci := 0) (C := RX0) (T := TX0) (N := 16) hx hb hts in_X0 hown hK.1 hX rfl (hX.tg g0 (by decide)) (by decide) rfl 12 (Nat.le_of_ble_eq_true rfl) (hts _ q920) (fun _ h9 => h9) (hv_ref rfl) dX0_back_33 ?_
      refine lv_iload_n hx hb dX0_back_36 rfl (lv_at hl 1 rfl) ?_
      obtain ⟨a14, e15, hf⟩ := bd_e hf
      obtain ⟨g16, hf⟩ := gd_e hf
      obtain ⟨g17, hf⟩ := gd_e hf
      refine x_aald hx hb hK.1 hX (rf_some e15) 10 g16 (by decide) rfl rfl rfl g17 dX0_back_37 ?_
      refine lv_iconst (v := 0) hx hb dX0_back_38 (by decide) ?_
      refine lv_aload_n hx hb dX0_back_39 rfl (lv_at hl 0 rfl) ?_
      refine x_get (ci := 0) (C := RX0) (T := TX0) (N := 16) hx hb hts in_X0 hown hK.1 hX rfl (hX.tg g0 (by decide)) (by decide) rfl 5 (Nat.le_of_ble_eq_true rfl) (hts _ q913) (fun _ h9 => h9) (hv_ref rfl) dX0_back_40 ?_
      refine lv_iconst (v := 0) hx hb dX0_back_43 (by decide) ?_
      refine lv_aload_n hx hb dX0_back_44 rfl (lv_at hl 0 rfl) ?_
      refine x_get (ci := 0) (C := RX0) (T := TX0) (N := 16) hx hb hts in_X0 hown hK.1 hX rfl (hX.tg g0 (by decide)) (by decide) rfl 6 (Nat.le_of_ble_eq_true rfl) (hts _ q914) (fun _ h9 => h9) (hv_int rfl) dX0_back_45 ?_
      obtain ⟨a18, e19, hf⟩ := bd_e hf
      obtain ⟨a20, e21, hf⟩ := bd_e hf
      obtain ⟨g22, hf⟩ := gd_e hf
      obtain ⟨g23, hf⟩ := gd_e hf
      obtain ⟨g24, hf⟩ := gd_e hf
      obtain ⟨g25, hf⟩ := gd_e hf
      obtain ⟨g26, hf⟩ := gd_e hf
      obtain ⟨h27, eh27, hf⟩ := st_e hf
      refine x_copy hx hb (hml.trans hl.1.symm) hown (hts _ q139) (hts _ q141) (hts _ q140) (hts _ q97) hK hX (rf_some e21) (rf_some e19) 0 g22 g23 (by decide) rfl rfl rfl (by decide) (by decide) g24 g25 g26 (fun _ _ => rfl) (Nat.le_of_ble_eq_true rfl) (by show _ ≤ _; first | decide | (simp [rmm, nativeFrameWords]; done) | (simp only [rmm]; decide)) dX0_back_48 (fun H locs hX => ?_)
      replace hX := hX.re eh27
      clear eh27
      refine lv_aload_n hx hb dX0_back_51 rfl (lv_at hl 0 rfl) ?_
      refine lv_iconst (v := 0) hx hb dX0_back_52 (by decide) ?_
      obtain ⟨h28, eh28, hf⟩ := st_e hf
      refine x_put (ci := 0) (C := RX0) (T := TX0) (N := 16) hx hb hts in_X0 tyX0 tyX0_ok nmX0 hown hK.1 hX rfl (hX.tg g0 (by decide)) (by decide) rfl 7 (Nat.le_of_ble_eq_true rfl) (hts _ q915) (fun _ h9 => h9) rfl rfl rfl (Put1.fI (x := 0) rfl) dX0_back_53 (fun H locs hX => ?_)
      replace hX := hX.re eh28
      clear eh28
      refine lv_aload_n hx hb dX0_back_56 rfl (lv_at hl 0 rfl) ?_
      refine x_get (ci := 0) (C := RX0) (T := TX0) (N := 16) hx hb hts in_X0 hown hK.1 hX rfl (hX.tg g0 (by decide)) (by decide) rfl 6 (Nat.le_of_ble_eq_true rfl) (hts _ q914) (fun _ h9 => h9) (hv_int rfl) dX0_back_57 ?_
      obtain ⟨rfl, rfl⟩ := Prod.mk.inj (Option.some.inj hf)
      exact hret _ _ _ _ hX rfl dX0_back_60
    · rw [if_pos c8] at hf
      refine lv_bipush (v := (-2)) hx hb dX0_back_18 (by decide) ?_
      obtain ⟨rfl, rfl⟩ := Prod.mk.inj (Option.some.inj hf)
      exact hret _ _ _ _ hX rfl dX0_back_20
  · rw [if_pos c3] at hf
    refine lv_iconst (v := (-1)) hx hb dX0_back_7 (by decide) ?_
    obtain ⟨rfl, rfl⟩ := Prod.mk.inj (Option.some.inj hf)
    exact hret _ _ _ _ hX rfl dX0_back_8
theorem cdX1_init : yX1_init.cls ≠ "java/lang/invoke/MethodHandle" ∧ yX1_init.cls ≠ "java/lang/invoke/VarHandle" ∧ (parseMethodDescriptor yX1_init.desc).map (fun d => d.parameters.length) = some 0 := by decide +kernel
set_option maxHeartbeats 4000000 in
set_option maxRecDepth 100000 in
theorem wx_Sheet_init (l : Launch) (G : Gt) (hG : XG G) (h : Hp) (n : Nat) (o : Nat) (hf : X_Sheet_init n o h = some ()) : Met l yX1_init (ws_ yX1_init cX1_init 1 none) (rmm (1) 0 0 (64)) (XP G [.ref o] h) (XQp none) 0 0 (fun _ => False) := by
  rw [X_Sheet_init] at hf
  refine metPv l (by decide) (Nat.le_of_ble_eq_true rfl) ?_
  intro p e s m args below meth c Q hx hb hts hown hnmd hml hinit hK hW hret ls hl
  have hinit : meth.name = "<init>" := hinit rfl
  have hown : s.vm.findClass RX1 = some m.cls := hown
  have hX := XX.start hW
  have hl : lv_has ls 1 [(0, .ref o)] := hl
  refine lv_aload_n hx hb dX1_init_0 rfl (lv_at hl 0 rfl) ?_
  refine W.objInit hx hb hown (hts _ q890) (hts _ q148) (hts _ q149) rfl (by rw [hml]; exact hl.1) rfl dX1_init_1 (Nat.le_of_ble_eq_true rfl) (by show 2 * 0 + _ + 12 ≤ _; first | exact Nat.le_of_ble_eq_true rfl | (simp only [List.map, List.sum_cons, List.sum_nil, rf_cat, cat_i, cat_l, cat_r, rmm] <;> decide)) ?_
  refine W.eq (g2 := F0 m 4 ls []) rfl ?_
  exact hret _ _ dX1_init_4
theorem cdX0_init : yX0_init.cls ≠ "java/lang/invoke/MethodHandle" ∧ yX0_init.cls ≠ "java/lang/invoke/VarHandle" ∧ (parseMethodDescriptor yX0_init.desc).map (fun d => d.parameters.length) = some 0 := by decide +kernel
set_option maxHeartbeats 4000000 in
set_option maxRecDepth 100000 in
theorem wx_init (l : Launch) (G : Gt) (hG : XG G) (h : Hp) (n : Nat) (o : Nat) (h1 : Hp) (MC MS : Nat) (hf : X_init n o h = some (h1, MC, MS)) : Met l yX0_init (ws_ yX0_init cX0_init 1 none) (rmm (2) MC MS (3200)) (XP G [.ref o] h) (XQ G none h h1) MC MS (fre h) := by
  rw [X_init] at hf
  obtain ⟨g0, hf⟩ := gd_e hf
  refine metSv l (by decide) (Nat.le_of_ble_eq_true rfl) ?_
  intro p e s m args below meth c Q hx hb hts hown hnmd hml hinit hK hW hret ls hl
  have hinit : meth.name = "<init>" := hinit rfl
  have hown : s.vm.findClass RX0 = some m.cls := hown
  have hX := XX.start hW
  have kc : 0 + MC = MC := Nat.zero_add _
  have ks : 0 + MS = MS := Nat.zero_add _
  have hl : lv_has ls 1 [(0, .ref o)] := hl
  refine lv_aload_n hx hb dX0_init_0 rfl (lv_at hl 0 rfl) ?_
  refine W.objInit hx hb hown (hts _ q879) (hts _ q148) (hts _ q149) rfl (by rw [hml]; exact hl.1) rfl dX0_init_1 (by simp only [rmm]; omega) (by show 2 * 0 + _ + 12 ≤ _; first | exact Nat.le_of_ble_eq_true rfl | (simp only [List.map, List.sum_cons, List.sum_nil, rf_cat, cat_i, cat_l, cat_r, rmm] <;> decide)) ?_
  refine W.eq (g2 := F0 m 4 ls []) rfl ?_
  refine lv_aload_n hx hb dX0_init_4 rfl (lv_at hl 0 rfl) ?_
  refine lv_sipush (v := 200) hx hb dX0_init_5 (by decide) ?_
  obtain ⟨c1, s2, hf, e3, e4⟩ := ad_e hf
  obtain ⟨h5, eh5, hf⟩ := st_e hf
  refine x_newa (atype := .byte) (t := 2) hx hb (hts _ q258) rfl (by decide) hK hX rfl (fun q => q) (dfl _ ⟨by decide, by decide⟩) (by decide) (by show _ * _ ≤ _; first | decide | (have := True.intro; simp only [componentBytes, aTy]; omega)) (by simp only [rmm]; omega) (by simp only [rmm]; omega) dX0_init_8 (fun H hX => ?_)
  replace hX := hX.re eh5
  have g6 : hT h5 (hZ h) = 102 := by rw [eh5]; exact nw_T _ _ _
  clear eh5
  replace kc : (0 + 1) + c1 = MC := by omega
  replace ks : (0 + (Int32.toNatClampNeg 200)) + s2 = MS := by omega
  clear e3 e4
  obtain ⟨h7, eh7, hf⟩ := st_e hf
  refine x_putF (ci := 0) (C := RX0) (T := TX0) (N := 16) hx hb hts in_X0 tyX0 tyX0_ok nmX0 hown hK.1 hX rfl (hX.tg g0 (by decide)) (by decide) rfl 0 (Nat.le_of_ble_eq_true rfl) (hts _ q908) (fun _ h9 => h9) rfl hinit rfl (narrow_rfA _ (some (hZ h))) (fits_rfA _ (some (hZ h))) (Put1.fR (x := (some (hZ h))) rfl) dX0_init_10 (fun H locs hX => ?_)
  replace hX := hX.re eh7
  clear eh7
  refine lv_aload_n hx hb dX0_init_13 rfl (lv_at hl 0 rfl) ?_
  refine lv_iconst (v := 4) hx hb dX0_init_14 (by decide) ?_
  obtain ⟨c8, s9, hf, e10, e11⟩ := ad_e hf
  obtain ⟨h12, eh12, hf⟩ := st_e hf
  refine x_newq (C := "PromiseTries$Promise") (t := 7) hx hb hown (hts _ q880) (hG.k hK).2.1.1.2.2.1 rfl (by decide) hK hX rfl (by decide) (by decide) (by simp only [rmm]; omega) (by simp only [rmm]; omega) dX0_init_15 (fun H hX => ?_)
  replace hX := hX.re eh12
  have g13 : hT h12 (hZ h7) = 107 := by rw [eh12]; exact nw_T _ _ _
  clear eh12
  replace kc : ((0 + 1) + 1) + c8 = MC := by omega
  replace ks : ((0 + (Int32.toNatClampNeg 200)) + (Int32.toNatClampNeg 4)) + s9 = MS := by omega
  clear e10 e11
  obtain ⟨h14, eh14, hf⟩ := st_e hf
  refine x_put (ci := 0) (C := RX0) (T := TX0) (N := 16) hx hb hts in_X0 tyX0 tyX0_ok nmX0 hown hK.1 hX rfl (hX.tg g0 (by decide)) (by decide) rfl 3 (Nat.le_of_ble_eq_true rfl) (hts _ q911) (fun _ h9 => h9) rfl (narrow_rfA _ (some (hZ h7))) (fits_rfA _ (some (hZ h7))) (Put1.fR (x := (some (hZ h7))) rfl) dX0_init_18 (fun H locs hX => ?_)
  replace hX := hX.re eh14
  clear eh14
  refine lv_aload_n hx hb dX0_init_21 rfl (lv_at hl 0 rfl) ?_
  refine lv_bipush (v := 48) hx hb dX0_init_22 (by decide) ?_
  obtain ⟨c15, s16, hf, e17, e18⟩ := ad_e hf
  obtain ⟨h19, eh19, hf⟩ := st_e hf
  refine x_newa (atype := .int) (t := 0) hx hb (hts _ q870) rfl (by decide) hK hX rfl (fun q => q) (dfl _ ⟨by decide, by decide⟩) (by decide) (by show _ * _ ≤ _; first | decide | (have := True.intro; simp only [componentBytes, aTy]; omega)) (by simp only [rmm]; omega) (by simp only [rmm]; omega) dX0_init_24 (fun H hX => ?_)
  replace hX := hX.re eh19
  have g20 : hT h19 (hZ h14) = 100 := by rw [eh19]; exact nw_T _ _ _
  clear eh19
  replace kc : (((0 + 1) + 1) + 1) + c15 = MC := by omega
  replace ks : (((0 + (Int32.toNatClampNeg 200)) + (Int32.toNatClampNeg 4)) + (Int32.toNatClampNeg 48)) + s16 = MS := by omega
  clear e17 e18
  obtain ⟨h21, eh21, hf⟩ := st_e hf
  refine x_putF (ci := 0) (C := RX0) (T := TX0) (N := 16) hx hb hts in_X0 tyX0 tyX0_ok nmX0 hown hK.1 hX rfl (hX.tg g0 (by decide)) (by decide) rfl 5 (Nat.le_of_ble_eq_true rfl) (hts _ q913) (fun _ h9 => h9) rfl hinit rfl (narrow_rfA _ (some (hZ h14))) (fits_rfA _ (some (hZ h14))) (Put1.fR (x := (some (hZ h14))) rfl) dX0_init_26 (fun H locs hX => ?_)
  replace hX := hX.re eh21
  clear eh21
  refine lv_aload_n hx hb dX0_init_29 rfl (lv_at hl 0 rfl) ?_
  refine lv_iconst (v := 4) hx hb dX0_init_30 (by decide) ?_
  refine lv_bipush (v := 48) hx hb dX0_init_31 (by decide) ?_
  obtain ⟨c22, s23, hf, e24, e25⟩ := ad_e hf
  obtain ⟨h26, eh26, hf⟩ := st_e hf
  refine x_multi (ty := .int) (to := 10) (ti := 0) hx hb hown (hts _ q881) (hG.k hK).2.1.2.1 (hts _ q870) hK hX rfl rfl (by decide) (by decide) rfl rfl (Or.inl ⟨rfl, rfl⟩) (fun q => q) rfl dX0_init_33 (by decide) (by decide) (by decide) (by decide) (by decide) rfl rfl (by simp only [rmm]; omega) (by simp only [rmm]; omega) (fun H hX => ?_)
  replace hX := hX.re eh26
  clear eh26
  replace kc : ((((0 + 1) + 1) + 1) + 1 + (Int32.toNatClampNeg 4)) + c22 = MC := by omega
  replace ks : ((((0 + (Int32.toNatClampNeg 200)) + (Int32.toNatClampNeg 4)) + (Int32.toNatClampNeg 48)) + (Int32.toNatClampNeg 4) + (Int32.toNatClampNeg 4) * (Int32.toNatClampNeg 48)) + s23 = MS := by omega
  clear e24 e25
  obtain ⟨h27, eh27, hf⟩ := st_e hf
  refine x_putF (ci := 0) (C := RX0) (T := TX0) (N := 16) hx hb hts in_X0 tyX0 tyX0_ok nmX0 hown hK.1 hX rfl (hX.tg g0 (by decide)) (by decide) rfl 8 (Nat.le_of_ble_eq_true rfl) (hts _ q916) (fun _ h9 => h9) rfl hinit rfl (narrow_rfA _ (some (hZ h21))) (fits_rfA _ (some (hZ h21))) (Put1.fR (x := (some (hZ h21))) rfl) dX0_init_37 (fun H locs hX => ?_)
  replace hX := hX.re eh27
  clear eh27
  refine lv_aload_n hx hb dX0_init_40 rfl (lv_at hl 0 rfl) ?_
  refine lv_iconst (v := 4) hx hb dX0_init_41 (by decide) ?_
  refine lv_bipush (v := 48) hx hb dX0_init_42 (by decide) ?_
  obtain ⟨c28, s29, hf, e30, e31⟩ := ad_e hf
  obtain ⟨h32, eh32, hf⟩ := st_e hf
  refine x_multi (ty := .int) (to := 10) (ti := 0) hx hb hown (hts _ q881) (hG.k hK).2.1.2.1 (hts _ q870) hK hX rfl rfl (by decide) (by decide) rfl rfl (Or.inl ⟨rfl, rfl⟩) (fun q => q) rfl dX0_init_44 (by decide) (by decide) (by decide) (by decide) (by decide) rfl rfl (by simp only [rmm]; omega) (by simp only [rmm]; omega) (fun H hX => ?_)
  replace hX := hX.re eh32
  clear eh32
  replace kc : (((((0 + 1) + 1) + 1) + 1 + (Int32.toNatClampNeg 4)) + 1 + (Int32.toNatClampNeg 4)) + c28 = MC := by omega
  replace ks : (((((0 + (Int32.toNatClampNeg 200)) + (Int32.toNatClampNeg 4)) + (Int32.toNatClampNeg 48)) + (Int32.toNatClampNeg 4) + (Int32.toNatClampNeg 4) * (Int32.toNatClampNeg 48)) + (Int32.toNatClampNeg 4) + (Int32.toNatClampNeg 4) * (Int32.toNatClampNeg 48)) + s29 = MS := by omega
  clear e30 e31
  obtain ⟨h33, eh33, hf⟩ := st_e hf
  refine x_putF (ci := 0) (C := RX0) (T := TX0) (N := 16) hx hb hts in_X0 tyX0 tyX0_ok nmX0 hown hK.1 hX rfl (hX.tg g0 (by decide)) (by decide) rfl 9 (Nat.le_of_ble_eq_true rfl) (hts _ q917) (fun _ h9 => h9) rfl hinit rfl (narrow_rfA _ (some (hZ h27))) (fits_rfA _ (some (hZ h27))) (Put1.fR (x := (some (hZ h27))) rfl) dX0_init_48 (fun H locs hX => ?_)
  replace hX := hX.re eh33
  clear eh33
  refine lv_aload_n hx hb dX0_init_51 rfl (lv_at hl 0 rfl) ?_
  refine lv_bipush (v := 48) hx hb dX0_init_52 (by decide) ?_
  obtain ⟨c34, s35, hf, e36, e37⟩ := ad_e hf
  obtain ⟨h38, eh38, hf⟩ := st_e hf
  refine x_newa (atype := .int) (t := 0) hx hb (hts _ q870) rfl (by decide) hK hX rfl (fun q => q) (dfl _ ⟨by decide, by decide⟩) (by decide) (by show _ * _ ≤ _; first | decide | (have := True.intro; simp only [componentBytes, aTy]; omega)) (by simp only [rmm]; omega) (by simp only [rmm]; omega) dX0_init_54 (fun H hX => ?_)
  replace hX := hX.re eh38
  have g39 : hT h38 (hZ h33) = 100 := by rw [eh38]; exact nw_T _ _ _
  clear eh38
  replace kc : ((((((0 + 1) + 1) + 1) + 1 + (Int32.toNatClampNeg 4)) + 1 + (Int32.toNatClampNeg 4)) + 1) + c34 = MC := by omega
  replace ks : ((((((0 + (Int32.toNatClampNeg 200)) + (Int32.toNatClampNeg 4)) + (Int32.toNatClampNeg 48)) + (Int32.toNatClampNeg 4) + (Int32.toNatClampNeg 4) * (Int32.toNatClampNeg 48)) + (Int32.toNatClampNeg 4) + (Int32.toNatClampNeg 4) * (Int32.toNatClampNeg 48)) + (Int32.toNatClampNeg 48)) + s35 = MS := by omega
  clear e36 e37
  obtain ⟨h40, eh40, hf⟩ := st_e hf
  refine x_putF (ci := 0) (C := RX0) (T := TX0) (N := 16) hx hb hts in_X0 tyX0 tyX0_ok nmX0 hown hK.1 hX rfl (hX.tg g0 (by decide)) (by decide) rfl 10 (Nat.le_of_ble_eq_true rfl) (hts _ q918) (fun _ h9 => h9) rfl hinit rfl (narrow_rfA _ (some (hZ h33))) (fits_rfA _ (some (hZ h33))) (Put1.fR (x := (some (hZ h33))) rfl) dX0_init_56 (fun H locs hX => ?_)
  replace hX := hX.re eh40
  clear eh40
  refine lv_aload_n hx hb dX0_init_59 rfl (lv_at hl 0 rfl) ?_
  refine lv_iconst (v := 2) hx hb dX0_init_60 (by decide) ?_
  obtain ⟨c41, s42, hf, e43, e44⟩ := ad_e hf
  obtain ⟨h45, eh45, hf⟩ := st_e hf
  refine x_newqA (ty := .int) (t := 10) hx hb hown (hts _ q883) (hG.k hK).2.1.2.1 rfl (by decide) hK hX rfl (by decide) (by decide) (by simp only [rmm]; omega) (by simp only [rmm]; omega) dX0_init_61 (fun H hX => ?_)
  replace hX := hX.re eh45
  have g46 : hT h45 (hZ h40) = 110 := by rw [eh45]; exact nw_T _ _ _
  clear eh45
  replace kc : (((((((0 + 1) + 1) + 1) + 1 + (Int32.toNatClampNeg 4)) + 1 + (Int32.toNatClampNeg 4)) + 1) + 1) + c41 = MC := by omega
  replace ks : (((((((0 + (Int32.toNatClampNeg 200)) + (Int32.toNatClampNeg 4)) + (Int32.toNatClampNeg 48)) + (Int32.toNatClampNeg 4) + (Int32.toNatClampNeg 4) * (Int32.toNatClampNeg 48)) + (Int32.toNatClampNeg 4) + (Int32.toNatClampNeg 4) * (Int32.toNatClampNeg 48)) + (Int32.toNatClampNeg 48)) + (Int32.toNatClampNeg 2)) + s42 = MS := by omega
  clear e43 e44
  obtain ⟨h47, eh47, hf⟩ := st_e hf
  refine x_putF (ci := 0) (C := RX0) (T := TX0) (N := 16) hx hb hts in_X0 tyX0 tyX0_ok nmX0 hown hK.1 hX rfl (hX.tg g0 (by decide)) (by decide) rfl 12 (Nat.le_of_ble_eq_true rfl) (hts _ q920) (fun _ h9 => h9) rfl hinit rfl (narrow_rfA _ (some (hZ h40))) (fits_rfA _ (some (hZ h40))) (Put1.fR (x := (some (hZ h40))) rfl) dX0_init_64 (fun H locs hX => ?_)
  replace hX := hX.re eh47
  clear eh47
  refine lv_aload_n hx hb dX0_init_67 rfl (lv_at hl 0 rfl) ?_
  refine lv_iconst (v := 4) hx hb dX0_init_68 (by decide) ?_
  obtain ⟨c48, s49, hf, e50, e51⟩ := ad_e hf
  obtain ⟨h52, eh52, hf⟩ := st_e hf
  refine x_newq (C := "PromiseTries$Sheet") (t := 8) hx hb hown (hts _ q884) (hG.k hK).2.1.1.2.2.2.1 rfl (by decide) hK hX rfl (by decide) (by decide) (by simp only [rmm]; omega) (by simp only [rmm]; omega) dX0_init_69 (fun H hX => ?_)
  replace hX := hX.re eh52
  have g53 : hT h52 (hZ h47) = 108 := by rw [eh52]; exact nw_T _ _ _
  clear eh52
  replace kc : ((((((((0 + 1) + 1) + 1) + 1 + (Int32.toNatClampNeg 4)) + 1 + (Int32.toNatClampNeg 4)) + 1) + 1) + 1) + c48 = MC := by omega
  replace ks : ((((((((0 + (Int32.toNatClampNeg 200)) + (Int32.toNatClampNeg 4)) + (Int32.toNatClampNeg 48)) + (Int32.toNatClampNeg 4) + (Int32.toNatClampNeg 4) * (Int32.toNatClampNeg 48)) + (Int32.toNatClampNeg 4) + (Int32.toNatClampNeg 4) * (Int32.toNatClampNeg 48)) + (Int32.toNatClampNeg 48)) + (Int32.toNatClampNeg 2)) + (Int32.toNatClampNeg 4)) + s49 = MS := by omega
  clear e50 e51
  refine lv_dup hx hb dX0_init_72 rfl ?_
  refine lv_iconst (v := 0) hx hb dX0_init_73 (by decide) ?_
  obtain ⟨c54, s55, hf, e56, e57⟩ := ad_e hf
  obtain ⟨h58, eh58, hf⟩ := st_e hf
  refine x_new (ci := 1) (C := RX1) (T := TX1) (N := 2) hx hb hts in_X1 hown q884 q886 q95 hK hX (by decide) rfl tyX1_ok (fun k hk => dfl _ (dfC1 k hk)) (by simp only [rmm]; omega) (by simp only [rmm]; omega) dX0_init_74 (fun H hX => ?_)
  replace hX := hX.re eh58
  have g59 : hT h58 (hZ h52) = 2 := by rw [eh58]; exact nw_T _ _ _
  clear eh58
  replace kc : (((((((((0 + 1) + 1) + 1) + 1 + (Int32.toNatClampNeg 4)) + 1 + (Int32.toNatClampNeg 4)) + 1) + 1) + 1) + 1) + c54 = MC := by omega
  replace ks : (((((((((0 + (Int32.toNatClampNeg 200)) + (Int32.toNatClampNeg 4)) + (Int32.toNatClampNeg 48)) + (Int32.toNatClampNeg 4) + (Int32.toNatClampNeg 4) * (Int32.toNatClampNeg 48)) + (Int32.toNatClampNeg 4) + (Int32.toNatClampNeg 4) * (Int32.toNatClampNeg 48)) + (Int32.toNatClampNeg 48)) + (Int32.toNatClampNeg 2)) + (Int32.toNatClampNeg 4)) + 2) + s55 = MS := by omega
  clear e56 e57
  refine lv_dup hx hb dX0_init_77 rfl ?_
  obtain ⟨_, e60, hf⟩ := bd_e hf
  refine x_doneP (va_runIN (As := []) (rest := [.ref (hZ h52), .int 0, .ref (hZ h47), .ref (hZ h47), .ref o]) ⟨hx, hb, hml, hown, hts⟩ (wx_Sheet_init l G hG h58 n (hZ h52) e60) ⟨va_cnB 0 hts (lw_meth q889) rfl rfl rfl (hG.nw hK nq887) (hts _ q95) cdX1_init ⟨(by simp only [rmm]; omega), (by simp only [rmm]; omega)⟩, rfl, hts _ q888⟩ (x_preS hK hX _) rfl rfl hl.1 rfl (lv_room (Nat.le_of_ble_eq_true rfl)) dX0_init_78 ⟨(by simp only [rmm]; omega), (by simp only [rmm]; omega)⟩) rfl ?_
  clear e60
  obtain ⟨g61, hf⟩ := gd_e hf
  obtain ⟨g62, hf⟩ := gd_e hf
  obtain ⟨h63, eh63, hf⟩ := st_e hf
  refine x_aastO hx hb hK hX rfl 8 g61 (by decide) rfl rfl (ci := 1) (T := TX1) (N := 2) rfl (by decide) rfl g59 g62 dX0_init_81 (fun H locs hX => ?_)
  replace hX := hX.re eh63
  clear eh63
  refine lv_dup hx hb dX0_init_82 rfl ?_
  refine lv_iconst (v := 1) hx hb dX0_init_83 (by decide) ?_
  obtain ⟨c64, s65, hf, e66, e67⟩ := ad_e hf
  obtain ⟨h68, eh68, hf⟩ := st_e hf
  refine x_new (ci := 1) (C := RX1) (T := TX1) (N := 2) hx hb hts in_X1 hown q884 q886 q95 hK hX (by decide) rfl tyX1_ok (fun k hk => dfl _ (dfC1 k hk)) (by simp only [rmm]; omega) (by simp only [rmm]; omega) dX0_init_84 (fun H hX => ?_)
  replace hX := hX.re eh68
  have g69 : hT h68 (hZ h63) = 2 := by rw [eh68]; exact nw_T _ _ _
  clear eh68
  replace kc : ((((((((((0 + 1) + 1) + 1) + 1 + (Int32.toNatClampNeg 4)) + 1 + (Int32.toNatClampNeg 4)) + 1) + 1) + 1) + 1) + 1) + c64 = MC := by omega
  replace ks : ((((((((((0 + (Int32.toNatClampNeg 200)) + (Int32.toNatClampNeg 4)) + (Int32.toNatClampNeg 48)) + (Int32.toNatClampNeg 4) + (Int32.toNatClampNeg 4) * (Int32.toNatClampNeg 48)) + (Int32.toNatClampNeg 4) + (Int32.toNatClampNeg 4) * (Int32.toNatClampNeg 48)) + (Int32.toNatClampNeg 48)) + (Int32.toNatClampNeg 2)) + (Int32.toNatClampNeg 4)) + 2) + 2) + s65 = MS := by omega
  clear e66 e67
  refine lv_dup hx hb dX0_init_87 rfl ?_
  obtain ⟨_, e70, hf⟩ := bd_e hf
  refine x_doneP (va_runIN (As := []) (rest := [.ref (hZ h63), .int 1, .ref (hZ h47), .ref (hZ h47), .ref o]) ⟨hx, hb, hml, hown, hts⟩ (wx_Sheet_init l G hG h68 n (hZ h63) e70) ⟨va_cnB 0 hts (lw_meth q889) rfl rfl rfl (hG.nw hK nq887) (hts _ q95) cdX1_init ⟨(by simp only [rmm]; omega), (by simp only [rmm]; omega)⟩, rfl, hts _ q888⟩ (x_preS hK hX _) rfl rfl hl.1 rfl (lv_room (Nat.le_of_ble_eq_true rfl)) dX0_init_88 ⟨(by simp only [rmm]; omega), (by simp only [rmm]; omega)⟩) rfl ?_
  clear e70
  obtain ⟨g71, hf⟩ := gd_e hf
  obtain ⟨g72, hf⟩ := gd_e hf
  obtain ⟨h73, eh73, hf⟩ := st_e hf
  refine x_aastO hx hb hK hX rfl 8 g71 (by decide) rfl rfl (ci := 1) (T := TX1) (N := 2) rfl (by decide) rfl g69 g72 dX0_init_91 (fun H locs hX => ?_)
  replace hX := hX.re eh73
  clear eh73
  refine lv_dup hx hb dX0_init_92 rfl ?_
  refine lv_iconst (v := 2) hx hb dX0_init_93 (by decide) ?_
  obtain ⟨c74, s75, hf, e76, e77⟩ := ad_e hf
  obtain ⟨h78, eh78, hf⟩ := st_e hf
  refine x_new (ci := 1) (C := RX1) (T := TX1) (N := 2) hx hb hts in_X1 hown q884 q886 q95 hK hX (by decide) rfl tyX1_ok (fun k hk => dfl _ (dfC1 k hk)) (by simp only [rmm]; omega) (by simp only [rmm]; omega) dX0_init_94 (fun H hX => ?_)
  replace hX := hX.re eh78
  have g79 : hT h78 (hZ h73) = 2 := by rw [eh78]; exact nw_T _ _ _
  clear eh78
  replace kc : (((((((((((0 + 1) + 1) + 1) + 1 + (Int32.toNatClampNeg 4)) + 1 + (Int32.toNatClampNeg 4)) + 1) + 1) + 1) + 1) + 1) + 1) + c74 = MC := by omega
  replace ks : (((((((((((0 + (Int32.toNatClampNeg 200)) + (Int32.toNatClampNeg 4)) + (Int32.toNatClampNeg 48)) + (Int32.toNatClampNeg 4) + (Int32.toNatClampNeg 4) * (Int32.toNatClampNeg 48)) + (Int32.toNatClampNeg 4) + (Int32.toNatClampNeg 4) * (Int32.toNatClampNeg 48)) + (Int32.toNatClampNeg 48)) + (Int32.toNatClampNeg 2)) + (Int32.toNatClampNeg 4)) + 2) + 2) + 2) + s75 = MS := by omega
  clear e76 e77
  refine lv_dup hx hb dX0_init_97 rfl ?_
  obtain ⟨_, e80, hf⟩ := bd_e hf
  refine x_doneP (va_runIN (As := []) (rest := [.ref (hZ h73), .int 2, .ref (hZ h47), .ref (hZ h47), .ref o]) ⟨hx, hb, hml, hown, hts⟩ (wx_Sheet_init l G hG h78 n (hZ h73) e80) ⟨va_cnB 0 hts (lw_meth q889) rfl rfl rfl (hG.nw hK nq887) (hts _ q95) cdX1_init ⟨(by simp only [rmm]; omega), (by simp only [rmm]; omega)⟩, rfl, hts _ q888⟩ (x_preS hK hX _) rfl rfl hl.1 rfl (lv_room (Nat.le_of_ble_eq_true rfl)) dX0_init_98 ⟨(by simp only [rmm]; omega), (by simp only [rmm]; omega)⟩) rfl ?_
  clear e80
  obtain ⟨g81, hf⟩ := gd_e hf
  obtain ⟨g82, hf⟩ := gd_e hf
  obtain ⟨h83, eh83, hf⟩ := st_e hf
  refine x_aastO hx hb hK hX rfl 8 g81 (by decide) rfl rfl (ci := 1) (T := TX1) (N := 2) rfl (by decide) rfl g79 g82 dX0_init_101 (fun H locs hX => ?_)
  replace hX := hX.re eh83
  clear eh83
  refine lv_dup hx hb dX0_init_102 rfl ?_
  refine lv_iconst (v := 3) hx hb dX0_init_103 (by decide) ?_
  obtain ⟨c84, s85, hf, e86, e87⟩ := ad_e hf
  obtain ⟨h88, eh88, hf⟩ := st_e hf
  refine x_new (ci := 1) (C := RX1) (T := TX1) (N := 2) hx hb hts in_X1 hown q884 q886 q95 hK hX (by decide) rfl tyX1_ok (fun k hk => dfl _ (dfC1 k hk)) (by simp only [rmm]; omega) (by simp only [rmm]; omega) dX0_init_104 (fun H hX => ?_)
  replace hX := hX.re eh88
  have g89 : hT h88 (hZ h83) = 2 := by rw [eh88]; exact nw_T _ _ _
  clear eh88
  replace kc : ((((((((((((0 + 1) + 1) + 1) + 1 + (Int32.toNatClampNeg 4)) + 1 + (Int32.toNatClampNeg 4)) + 1) + 1) + 1) + 1) + 1) + 1) + 1) + c84 = MC := by omega
  replace ks : ((((((((((((0 + (Int32.toNatClampNeg 200)) + (Int32.toNatClampNeg 4)) + (Int32.toNatClampNeg 48)) + (Int32.toNatClampNeg 4) + (Int32.toNatClampNeg 4) * (Int32.toNatClampNeg 48)) + (Int32.toNatClampNeg 4) + (Int32.toNatClampNeg 4) * (Int32.toNatClampNeg 48)) + (Int32.toNatClampNeg 48)) + (Int32.toNatClampNeg 2)) + (Int32.toNatClampNeg 4)) + 2) + 2) + 2) + 2) + s85 = MS := by omega
  clear e86 e87
  refine lv_dup hx hb dX0_init_107 rfl ?_
  obtain ⟨_, e90, hf⟩ := bd_e hf
  refine x_doneP (va_runIN (As := []) (rest := [.ref (hZ h83), .int 3, .ref (hZ h47), .ref (hZ h47), .ref o]) ⟨hx, hb, hml, hown, hts⟩ (wx_Sheet_init l G hG h88 n (hZ h83) e90) ⟨va_cnB 0 hts (lw_meth q889) rfl rfl rfl (hG.nw hK nq887) (hts _ q95) cdX1_init ⟨(by simp only [rmm]; omega), (by simp only [rmm]; omega)⟩, rfl, hts _ q888⟩ (x_preS hK hX _) rfl rfl hl.1 rfl (lv_room (Nat.le_of_ble_eq_true rfl)) dX0_init_108 ⟨(by simp only [rmm]; omega), (by simp only [rmm]; omega)⟩) rfl ?_
  clear e90
  obtain ⟨g91, hf⟩ := gd_e hf
  obtain ⟨g92, hf⟩ := gd_e hf
  obtain ⟨h93, eh93, hf⟩ := st_e hf
  refine x_aastO hx hb hK hX rfl 8 g91 (by decide) rfl rfl (ci := 1) (T := TX1) (N := 2) rfl (by decide) rfl g89 g92 dX0_init_111 (fun H locs hX => ?_)
  replace hX := hX.re eh93
  clear eh93
  obtain ⟨h94, eh94, hf⟩ := st_e hf
  refine x_putF (ci := 0) (C := RX0) (T := TX0) (N := 16) hx hb hts in_X0 tyX0 tyX0_ok nmX0 hown hK.1 hX rfl (hX.tg g0 (by decide)) (by decide) rfl 13 (Nat.le_of_ble_eq_true rfl) (hts _ q921) (fun _ h9 => h9) rfl hinit rfl (narrow_rfA _ (some (hZ h47))) (fits_rfA _ (some (hZ h47))) (Put1.fR (x := (some (hZ h47))) rfl) dX0_init_112 (fun H locs hX => ?_)
  replace hX := hX.re eh94
  clear eh94
  refine lv_aload_n hx hb dX0_init_115 rfl (lv_at hl 0 rfl) ?_
  refine lv_iconst (v := 3) hx hb dX0_init_116 (by decide) ?_
  obtain ⟨c95, s96, hf, e97, e98⟩ := ad_e hf
  obtain ⟨h99, eh99, hf⟩ := st_e hf
  refine x_newq (C := "PromiseTries$Cells") (t := 9) hx hb hown (hts _ q898) (hG.k hK).2.1.1.2.2.2.2 rfl (by decide) hK hX rfl (by decide) (by decide) (by simp only [rmm]; omega) (by simp only [rmm]; omega) dX0_init_117 (fun H hX => ?_)
  replace hX := hX.re eh99
  have g100 : hT h99 (hZ h94) = 109 := by rw [eh99]; exact nw_T _ _ _
  clear eh99
  replace kc : (((((((((((((0 + 1) + 1) + 1) + 1 + (Int32.toNatClampNeg 4)) + 1 + (Int32.toNatClampNeg 4)) + 1) + 1) + 1) + 1) + 1) + 1) + 1) + 1) + c95 = MC := by omega
  replace ks : (((((((((((((0 + (Int32.toNatClampNeg 200)) + (Int32.toNatClampNeg 4)) + (Int32.toNatClampNeg 48)) + (Int32.toNatClampNeg 4) + (Int32.toNatClampNeg 4) * (Int32.toNatClampNeg 48)) + (Int32.toNatClampNeg 4) + (Int32.toNatClampNeg 4) * (Int32.toNatClampNeg 48)) + (Int32.toNatClampNeg 48)) + (Int32.toNatClampNeg 2)) + (Int32.toNatClampNeg 4)) + 2) + 2) + 2) + 2) + (Int32.toNatClampNeg 3)) + s96 = MS := by omega
  clear e97 e98
  refine lv_dup hx hb dX0_init_120 rfl ?_
  refine lv_iconst (v := 0) hx hb dX0_init_121 (by decide) ?_
  obtain ⟨g101, hf⟩ := gd_e hf
  refine x_lamC4 hG hx hb hml hnmd hK hX g101 hl.1 (Nat.le_of_ble_eq_true rfl) (by simp only [rmm]; omega) dX0_init_122 rfl ?_
  obtain ⟨a102, e103, hf⟩ := bd_e hf
  obtain ⟨g104, hf⟩ := gd_e hf
  obtain ⟨g105, hf⟩ := gd_e hf
  obtain ⟨h106, eh106, hf⟩ := st_e hf
  refine x_aastC hG hx hb hK hX rfl g100 (rf_some e103) g104 g105 dX0_init_127 (fun H locs hX => ?_)
  replace hX := hX.re eh106
  clear eh106
  refine lv_dup hx hb dX0_init_128 rfl ?_
  refine lv_iconst (v := 1) hx hb dX0_init_129 (by decide) ?_
  obtain ⟨g107, hf⟩ := gd_e hf
  refine x_lamC5 hG hx hb hml hnmd hK hX g107 hl.1 (Nat.le_of_ble_eq_true rfl) (by simp only [rmm]; omega) dX0_init_130 rfl ?_
  obtain ⟨g108, hf⟩ := gd_e hf
  obtain ⟨a109, e110, hf⟩ := bd_e hf
  obtain ⟨g111, hf⟩ := gd_e hf
  obtain ⟨g112, hf⟩ := gd_e hf
  obtain ⟨h113, eh113, hf⟩ := st_e hf
  refine x_aastC hG hx hb hK hX rfl g108 (rf_some e110) g111 g112 dX0_init_135 (fun H locs hX => ?_)
  replace hX := hX.re eh113
  clear eh113
  refine lv_dup hx hb dX0_init_136 rfl ?_
  refine lv_iconst (v := 2) hx hb dX0_init_137 (by decide) ?_
  obtain ⟨g114, hf⟩ := gd_e hf
  refine x_lamC6 hG hx hb hml hnmd hK hX g114 hl.1 (Nat.le_of_ble_eq_true rfl) (by simp only [rmm]; omega) dX0_init_138 rfl ?_
  obtain ⟨g115, hf⟩ := gd_e hf
  obtain ⟨a116, e117, hf⟩ := bd_e hf
  obtain ⟨g118, hf⟩ := gd_e hf
  obtain ⟨g119, hf⟩ := gd_e hf
  obtain ⟨h120, eh120, hf⟩ := st_e hf
  refine x_aastC hG hx hb hK hX rfl g115 (rf_some e117) g118 g119 dX0_init_143 (fun H locs hX => ?_)
  replace hX := hX.re eh120
  clear eh120
  obtain ⟨h121, eh121, hf⟩ := st_e hf
  refine x_putF (ci := 0) (C := RX0) (T := TX0) (N := 16) hx hb hts in_X0 tyX0 tyX0_ok nmX0 hown hK.1 hX rfl (hX.tg g0 (by decide)) (by decide) rfl 14 (Nat.le_of_ble_eq_true rfl) (hts _ q922) (fun _ h9 => h9) rfl hinit rfl (narrow_rfA _ (some (hZ h94))) (fits_rfA _ (some (hZ h94))) (Put1.fR (x := (some (hZ h94))) rfl) dX0_init_144 (fun H locs hX => ?_)
  replace hX := hX.re eh121
  clear eh121
  obtain ⟨q1, q2⟩ := Prod.mk.inj (Option.some.inj hf)
  obtain ⟨q2, q3⟩ := Prod.mk.inj q2
  subst q1
  refine W.cs (cells' := MC) (slots' := MS) (by omega) (by omega) ?_
  exact hret _ _ _ _ hX dX0_init_147
theorem cdX0_isSheet : yX0_isSheet.cls ≠ "java/lang/invoke/MethodHandle" ∧ yX0_isSheet.cls ≠ "java/lang/invoke/VarHandle" ∧ (parseMethodDescriptor yX0_isSheet.desc).map (fun d => d.parameters.length) = some 2 := by decide +kernel
set_option maxHeartbeats 4000000 in
set_option maxRecDepth 100000 in
theorem wx_isSheet (l : Launch) (G : Gt) (hG : XG G) (h : Hp) (n : Nat) (p0 : Int32) (p1 : Int32) (r : Int32) (hf : X_isSheet n p0 p1 = some r) : Met l yX0_isSheet (ws_ yX0_isSheet cX0_isSheet 2 (some .boolean)) (rmm (1) 0 0 (25)) (XP G [.int p0, .int p1] h) (XQp (some (.int r))) 0 0 (fun _ => False) := by
  rw [X_isSheet] at hf
  refine metPi l (by decide) (Nat.le_of_ble_eq_true rfl) ?_
  intro p e s m args below meth c Q hx hb hts hown hnmd hml hinit hK hW hret ls hl
  have hown : s.vm.findClass RX0 = some m.cls := hown
  have hX := XX.start hW
  have hl : lv_has ls 2 [(0, .int p0), (1, .int p1)] := hl
  have B28 : ∀ (ls : Array Slot), lv_has ls 2 [] → X_isSheet_b28 n = some r → W p l e (rmm (1) 0 0 (25)) s m args below meth c s.heap [] 0 0 Q (F0 m 28 ls []) := by
    intro ls hl hf
    rw [X_isSheet_b28] at hf
    refine lv_iconst (v := 0) hx hb dX0_isSheet_28 (by decide) ?_
    obtain rfl := Option.some.inj hf
    exact hret _ _ rfl dX0_isSheet_29
  refine lv_iload_n hx hb dX0_isSheet_0 rfl (lv_at hl 0 rfl) ?_
  refine lv_i2l hx hb dX0_isSheet_1 rfl ?_
  refine lv_lconst (v := 0) hx hb dX0_isSheet_2 (by decide) ?_
  refine lv_ldc2 (v := 3) hx hb hown (hts _ q991) dX0_isSheet_3 ?_
  obtain ⟨r2, e1, hf⟩ := bd_e hf
  refine x_doneP (va_runS (As := [.long (Int32.toInt64 p0), .long 0, .long 3]) (rest := []) ⟨hx, hb, hml, hown, hts⟩ (wx_isIn l G hG h n (Int32.toInt64 p0) 0 3 r2 e1) (va_cwS 3 hts (lw_S q127 q128 q94 q129) rfl rfl rfl cdX0_isIn ⟨(Nat.le_of_ble_eq_true rfl), (Nat.le_of_ble_eq_true rfl)⟩) (x_preS hK hX _) rfl rfl hl.1 rfl (lv_room (Nat.le_of_ble_eq_true rfl)) dX0_isSheet_6 ⟨(Nat.le_of_ble_eq_true rfl), (Nat.le_of_ble_eq_true rfl)⟩) rfl ?_
  clear e1
  refine lv_if_eq (tgt := 28) hx hb dX0_isSheet_9 (by decide) (fun c3 => ?_) (fun c3 => ?_)
  · rw [if_pos c3] at hf
    exact B28 _ (lv_sub hl [] rfl) hf
  · rw [if_neg c3] at hf
    refine lv_iload_n hx hb dX0_isSheet_12 rfl (lv_at hl 1 rfl) ?_
    refine lv_i2l hx hb dX0_isSheet_13 rfl ?_
    refine lv_lconst (v := 0) hx hb dX0_isSheet_14 (by decide) ?_
    refine lv_ldc2 (v := 2) hx hb hown (hts _ q776) dX0_isSheet_15 ?_
    obtain ⟨r5, e4, hf⟩ := bd_e hf
    refine x_doneP (va_runS (As := [.long (Int32.toInt64 p1), .long 0, .long 2]) (rest := []) ⟨hx, hb, hml, hown, hts⟩ (wx_isIn l G hG h n (Int32.toInt64 p1) 0 2 r5 e4) (va_cwS 3 hts (lw_S q127 q128 q94 q129) rfl rfl rfl cdX0_isIn ⟨(Nat.le_of_ble_eq_true rfl), (Nat.le_of_ble_eq_true rfl)⟩) (x_preS hK hX _) rfl rfl hl.1 rfl (lv_room (Nat.le_of_ble_eq_true rfl)) dX0_isSheet_18 ⟨(Nat.le_of_ble_eq_true rfl), (Nat.le_of_ble_eq_true rfl)⟩) rfl ?_
    clear e4
    refine lv_if_eq (tgt := 28) hx hb dX0_isSheet_21 (by decide) (fun c6 => ?_) (fun c6 => ?_)
    · rw [if_pos c6] at hf
      exact B28 _ (lv_sub hl [] rfl) hf
    · rw [if_neg c6] at hf
      refine lv_iconst (v := 1) hx hb dX0_isSheet_24 (by decide) ?_
      refine lv_goto (tgt := 29) hx hb dX0_isSheet_25 (by decide) ?_
      obtain rfl := Option.some.inj hf
      exact hret _ _ rfl dX0_isSheet_29
theorem cdX0_newRow : yX0_newRow.cls ≠ "java/lang/invoke/MethodHandle" ∧ yX0_newRow.cls ≠ "java/lang/invoke/VarHandle" ∧ (parseMethodDescriptor yX0_newRow.desc).map (fun d => d.parameters.length) = some 2 := by decide +kernel
set_option maxHeartbeats 4000000 in
set_option maxRecDepth 100000 in
theorem wx_newRow (l : Launch) (G : Gt) (hG : XG G) (h : Hp) (n : Nat) (p0 : Int32) (p1 : Int32) (r : Option Nat) (h1 : Hp) (MC MS : Nat) (hf : X_newRow n p0 p1 h = some ((r, h1), MC, MS)) : Met l yX0_newRow (ws_ yX0_newRow cX0_newRow 2 (some (.object "java/lang/Object"))) (rmm (0) MC MS (0)) (XP G [.int p0, .int p1] h) (XQ G (some (va_rf r)) h h1) MC MS (fre h) := by
  rw [X_newRow] at hf
  refine metSr l (by decide) (Nat.le_of_ble_eq_true rfl) (Or.inl ⟨_, rfl⟩) ?_
  intro p e s m args below meth c Q hx hb hts hown hnmd hml hinit hK hW hret ls hl
  have hown : s.vm.findClass RX0 = some m.cls := hown
  have hX := XX.start hW
  have kc : 0 + MC = MC := Nat.zero_add _
  have ks : 0 + MS = MS := Nat.zero_add _
  have hl : lv_has ls 2 [(0, .int p0), (1, .int p1)] := hl
  refine lv_iload_n hx hb dX0_newRow_0 rfl (lv_at hl 0 rfl) ?_
  by_cases c1 : p0 = 0
  · rw [if_pos c1] at hf
    refine lv_lookup (off := 27) (tgt := 28) hx hb dX0_newRow_1 (by decide) (by rw [c1]; decide) (by decide) ?_
    refine lv_iload_n hx hb dX0_newRow_28 rfl (lv_at hl 1 rfl) ?_
    obtain ⟨g3, hf⟩ := gd_e hf
    obtain ⟨g4, hf⟩ := gd_e hf
    obtain ⟨c5, s6, hf, e7, e8⟩ := ad_e hf
    obtain ⟨h9, eh9, hf⟩ := st_e hf
    refine x_newa (atype := .byte) (t := 2) hx hb (hts _ q258) rfl (by decide) hK hX rfl (fun q => q) (dfl _ ⟨by decide, by decide⟩) g3 (by show _ * _ ≤ _; first | decide | (have := g4; simp only [componentBytes, aTy]; omega)) (by simp only [rmm]; omega) (by simp only [rmm]; omega) dX0_newRow_29 (fun H hX => ?_)
    replace hX := hX.re eh9
    have g10 : hT h9 (hZ h) = 102 := by rw [eh9]; exact nw_T _ _ _
    clear eh9
    replace kc : (0 + 1) + c5 = MC := by omega
    replace ks : (0 + (Int32.toNatClampNeg p1)) + s6 = MS := by omega
    clear e7 e8
    obtain ⟨q1, q2⟩ := Prod.mk.inj (Option.some.inj hf)
    obtain ⟨q2, q3⟩ := Prod.mk.inj q2
    obtain ⟨rfl, rfl⟩ := Prod.mk.inj q1
    refine W.cs (cells' := MC) (slots' := MS) (by omega) (by omega) ?_
    exact hret _ _ _ _ hX dX0_newRow_31
  · rw [if_neg c1] at hf
    by_cases c2 : p0 = 1
    · rw [if_pos c2] at hf
      refine lv_lookup (off := 31) (tgt := 32) hx hb dX0_newRow_1 (by decide) (by rw [c2]; decide) (by decide) ?_
      refine lv_iload_n hx hb dX0_newRow_32 rfl (lv_at hl 1 rfl) ?_
      obtain ⟨g11, hf⟩ := gd_e hf
      obtain ⟨g12, hf⟩ := gd_e hf
      obtain ⟨c13, s14, hf, e15, e16⟩ := ad_e hf
      obtain ⟨h17, eh17, hf⟩ := st_e hf
      refine x_newa (atype := .char) (t := 3) hx hb (hts _ q995) rfl (by decide) hK hX rfl (fun q => q) (dfl _ ⟨by decide, by decide⟩) g11 (by show _ * _ ≤ _; first | decide | (have := g12; simp only [componentBytes, aTy]; omega)) (by simp only [rmm]; omega) (by simp only [rmm]; omega) dX0_newRow_33 (fun H hX => ?_)
      replace hX := hX.re eh17
      have g18 : hT h17 (hZ h) = 103 := by rw [eh17]; exact nw_T _ _ _
      clear eh17
      replace kc : (0 + 1) + c13 = MC := by omega
      replace ks : (0 + (Int32.toNatClampNeg p1)) + s14 = MS := by omega
      clear e15 e16
      obtain ⟨q1, q2⟩ := Prod.mk.inj (Option.some.inj hf)
      obtain ⟨q2, q3⟩ := Prod.mk.inj q2
      obtain ⟨rfl, rfl⟩ := Prod.mk.inj q1
      refine W.cs (cells' := MC) (slots' := MS) (by omega) (by omega) ?_
      exact hret _ _ _ _ hX dX0_newRow_35
    · rw [if_neg c2] at hf
      refine lv_lookup (off := 35) (tgt := 36) hx hb dX0_newRow_1 (by decide) ((lv_osw c1 (by decide)).trans <| (lv_osw c2 (by decide)).trans <| rfl) (by decide) ?_
      refine lv_iload_n hx hb dX0_newRow_36 rfl (lv_at hl 1 rfl) ?_
      obtain ⟨g19, hf⟩ := gd_e hf
      obtain ⟨g20, hf⟩ := gd_e hf
      obtain ⟨c21, s22, hf, e23, e24⟩ := ad_e hf
      obtain ⟨h25, eh25, hf⟩ := st_e hf
      refine x_newa (atype := .int) (t := 0) hx hb (hts _ q870) rfl (by decide) hK hX rfl (fun q => q) (dfl _ ⟨by decide, by decide⟩) g19 (by show _ * _ ≤ _; first | decide | (have := g20; simp only [componentBytes, aTy]; omega)) (by simp only [rmm]; omega) (by simp only [rmm]; omega) dX0_newRow_37 (fun H hX => ?_)
      replace hX := hX.re eh25
      have g26 : hT h25 (hZ h) = 100 := by rw [eh25]; exact nw_T _ _ _
      clear eh25
      replace kc : (0 + 1) + c21 = MC := by omega
      replace ks : (0 + (Int32.toNatClampNeg p1)) + s22 = MS := by omega
      clear e23 e24
      obtain ⟨q1, q2⟩ := Prod.mk.inj (Option.some.inj hf)
      obtain ⟨q2, q3⟩ := Prod.mk.inj q2
      obtain ⟨rfl, rfl⟩ := Prod.mk.inj q1
      refine W.cs (cells' := MC) (slots' := MS) (by omega) (by omega) ?_
      exact hret _ _ _ _ hX dX0_newRow_39
theorem cdX0_torn : yX0_torn.cls ≠ "java/lang/invoke/MethodHandle" ∧ yX0_torn.cls ≠ "java/lang/invoke/VarHandle" ∧ (parseMethodDescriptor yX0_torn.desc).map (fun d => d.parameters.length) = some 0 := by decide +kernel
set_option maxHeartbeats 4000000 in
set_option maxRecDepth 100000 in
theorem wx_torn (l : Launch) (G : Gt) (hG : XG G) (h : Hp) (n : Nat) (o : Nat) (r : Int32) (hf : X_torn n o h = some r) : Met l yX0_torn (ws_ yX0_torn cX0_torn 1 (some .int)) (rmm (0) 0 0 (0)) (XP G [.ref o] h) (XQp (some (.int r))) 0 0 (fun _ => False) := by
  rw [X_torn] at hf
  obtain ⟨g0, hf⟩ := gd_e hf
  refine metPi l (by decide) (Nat.le_of_ble_eq_true rfl) ?_
  intro p e s m args below meth c Q hx hb hts hown hnmd hml hinit hK hW hret ls hl
  have hown : s.vm.findClass RX0 = some m.cls := hown
  have hX := XX.start hW
  have hl : lv_has ls 1 [(0, .ref o)] := hl
  refine lv_aload_n hx hb dX0_torn_0 rfl (lv_at hl 0 rfl) ?_
  refine x_get (ci := 0) (C := RX0) (T := TX0) (N := 16) hx hb hts in_X0 hown hK.1 hX rfl g0 (by decide) rfl 15 (Nat.le_of_ble_eq_true rfl) (hts _ q923) (fun _ h9 => h9) (hv_int rfl) dX0_torn_1 ?_
  obtain rfl := Option.some.inj hf
  exact hret _ _ rfl dX0_torn_4
theorem cdX0_count : yX0_count.cls ≠ "java/lang/invoke/MethodHandle" ∧ yX0_count.cls ≠ "java/lang/invoke/VarHandle" ∧ (parseMethodDescriptor yX0_count.desc).map (fun d => d.parameters.length) = some 1 := by decide +kernel
set_option maxHeartbeats 4000000 in
set_option maxRecDepth 100000 in
theorem wx_count (l : Launch) (G : Gt) (hG : XG G) (h : Hp) (n : Nat) (o : Nat) (p1 : Int32) (r : Int32) (hf : X_count n o p1 h = some r) : Met l yX0_count (ws_ yX0_count cX0_count 2 (some .int)) (rmm (0) 0 0 (0)) (XP G [.ref o, .int p1] h) (XQp (some (.int r))) 0 0 (fun _ => False) := by
  rw [X_count] at hf
  obtain ⟨g0, hf⟩ := gd_e hf
  refine metPi l (by decide) (Nat.le_of_ble_eq_true rfl) ?_
  intro p e s m args below meth c Q hx hb hts hown hnmd hml hinit hK hW hret ls hl
  have hown : s.vm.findClass RX0 = some m.cls := hown
  have hX := XX.start hW
  have hl : lv_has ls 2 [(0, .ref o), (1, .int p1)] := hl
  have B56 : ∀ (t0 : Int32) (t1 : Int32) (ls : Array Slot), lv_has ls 2 [(0, .ref o)] → X_count_b56 n o h t0 t1 = some r → W p l e (rmm (0) 0 0 (0)) s m args below meth c s.heap [] 0 0 Q (F0 m 56 ls [.int t0, .int t1]) := by
    intro t0 t1 ls hl hf
    rw [X_count_b56] at hf
    refine lv_iadd hx hb dX0_count_56 ?_
    obtain rfl := Option.some.inj hf
    exact hret _ _ rfl dX0_count_57
  have B42 : ∀ (t0 : Int32) (ls : Array Slot), lv_has ls 2 [(0, .ref o)] → X_count_b42 n o h t0 = some r → W p l e (rmm (0) 0 0 (0)) s m args below meth c s.heap [] 0 0 Q (F0 m 42 ls [.int t0]) := by
    intro t0 ls hl hf
    rw [X_count_b42] at hf
    refine lv_aload_n hx hb dX0_count_42 rfl (lv_at hl 0 rfl) ?_
    refine x_get (ci := 0) (C := RX0) (T := TX0) (N := 16) hx hb hts in_X0 hown hK.1 hX rfl g0 (by decide) rfl 12 (Nat.le_of_ble_eq_true rfl) (hts _ q920) (fun _ h9 => h9) (hv_ref rfl) dX0_count_43 ?_
    refine lv_iconst (v := 1) hx hb dX0_count_46 (by decide) ?_
    obtain ⟨a9, e10, hf⟩ := bd_e hf
    obtain ⟨g11, hf⟩ := gd_e hf
    obtain ⟨g12, hf⟩ := gd_e hf
    refine x_aald hx hb hK.1 hX (rf_some e10) 10 g11 (by decide) rfl rfl rfl g12 dX0_count_47 ?_
    refine lx_ifnonnull (r := (hR h a9 (Int32.toNatClampNeg 1))) (tgt := 55) hx hb dX0_count_48 (by decide) (fun c13 => ?_) (fun c13 => ?_)
    · rw [if_neg c13] at hf
      refine lv_iconst (v := 1) hx hb dX0_count_55 (by decide) ?_
      exact B56 1 t0 _ (lv_sub hl [0] rfl) hf
    · rw [if_pos c13] at hf
      refine lv_iconst (v := 0) hx hb dX0_count_51 (by decide) ?_
      refine lv_goto (tgt := 56) hx hb dX0_count_52 (by decide) ?_
      exact B56 0 t0 _ (lv_sub hl [0] rfl) hf
  refine lv_iload_n hx hb dX0_count_0 rfl (lv_at hl 1 rfl) ?_
  by_cases c1 : p1 = 0
  · rw [if_pos c1] at hf
    refine lv_tableIn (off := 27) (tgt := 28) hx hb dX0_count_1 (by rw [c1]; decide) (by rw [c1]; decide) (by rw [c1]; decide) (by decide) ?_
    refine lv_aload_n hx hb dX0_count_28 rfl (lv_at hl 0 rfl) ?_
    refine x_get (ci := 0) (C := RX0) (T := TX0) (N := 16) hx hb hts in_X0 hown hK.1 hX rfl g0 (by decide) rfl 12 (Nat.le_of_ble_eq_true rfl) (hts _ q920) (fun _ h9 => h9) (hv_ref rfl) dX0_count_29 ?_
    refine lv_iconst (v := 0) hx hb dX0_count_32 (by decide) ?_
    obtain ⟨a4, e5, hf⟩ := bd_e hf
    obtain ⟨g6, hf⟩ := gd_e hf
    obtain ⟨g7, hf⟩ := gd_e hf
    refine x_aald hx hb hK.1 hX (rf_some e5) 10 g6 (by decide) rfl rfl rfl g7 dX0_count_33 ?_
    refine lx_ifnonnull (r := (hR h a4 (Int32.toNatClampNeg 0))) (tgt := 41) hx hb dX0_count_34 (by decide) (fun c8 => ?_) (fun c8 => ?_)
    · rw [if_neg c8] at hf
      refine lv_iconst (v := 1) hx hb dX0_count_41 (by decide) ?_
      exact B42 1 _ (lv_sub hl [0] rfl) hf
    · rw [if_pos c8] at hf
      refine lv_iconst (v := 0) hx hb dX0_count_37 (by decide) ?_
      refine lv_goto (tgt := 42) hx hb dX0_count_38 (by decide) ?_
      exact B42 0 _ (lv_sub hl [0] rfl) hf
  · rw [if_neg c1] at hf
    by_cases c2 : p1 = 1
    · rw [if_pos c2] at hf
      refine lv_tableIn (off := 57) (tgt := 58) hx hb dX0_count_1 (by rw [c2]; decide) (by rw [c2]; decide) (by rw [c2]; decide) (by decide) ?_
      refine lv_aload_n hx hb dX0_count_58 rfl (lv_at hl 0 rfl) ?_
      refine x_get (ci := 0) (C := RX0) (T := TX0) (N := 16) hx hb hts in_X0 hown hK.1 hX rfl g0 (by decide) rfl 1 (Nat.le_of_ble_eq_true rfl) (hts _ q909) (fun _ h9 => h9) (hv_int rfl) dX0_count_59 ?_
      obtain rfl := Option.some.inj hf
      exact hret _ _ rfl dX0_count_62
    · rw [if_neg c2] at hf
      by_cases c3 : p1 = 2
      · rw [if_pos c3] at hf
        refine lv_tableIn (off := 62) (tgt := 63) hx hb dX0_count_1 (by rw [c3]; decide) (by rw [c3]; decide) (by rw [c3]; decide) (by decide) ?_
        refine lv_aload_n hx hb dX0_count_63 rfl (lv_at hl 0 rfl) ?_
        refine x_get (ci := 0) (C := RX0) (T := TX0) (N := 16) hx hb hts in_X0 hown hK.1 hX rfl g0 (by decide) rfl 13 (Nat.le_of_ble_eq_true rfl) (hts _ q921) (fun _ h9 => h9) (hv_ref rfl) dX0_count_64 ?_
        refine lv_iconst (v := 0) hx hb dX0_count_67 (by decide) ?_
        obtain ⟨a14, e15, hf⟩ := bd_e hf
        obtain ⟨g16, hf⟩ := gd_e hf
        obtain ⟨g17, hf⟩ := gd_e hf
        refine x_aald hx hb hK.1 hX (rf_some e15) 8 g16 (by decide) rfl rfl rfl g17 dX0_count_68 ?_
        obtain ⟨a18, e19, hf⟩ := bd_e hf
        obtain ⟨g20, hf⟩ := gd_e hf
        refine x_getN (ci := 1) (C := RX1) (T := TX1) (N := 2) hx hb hts in_X1 hown hK.1 hX (rf_some e19) g20 (by decide) rfl 0 (Nat.le_of_ble_eq_true rfl) (hG.nw hK nq891) (fun _ h9 => h9) (hv_ref rfl) dX0_count_69 ?_
        refine lx_ifnonnull (r := (hR h a18 0)) (tgt := 80) hx hb dX0_count_72 (by decide) (fun c21 => ?_) (fun c21 => ?_)
        · rw [if_neg c21] at hf
          refine lv_aload_n hx hb dX0_count_80 rfl (lv_at hl 0 rfl) ?_
          refine x_get (ci := 0) (C := RX0) (T := TX0) (N := 16) hx hb hts in_X0 hown hK.1 hX rfl g0 (by decide) rfl 13 (Nat.le_of_ble_eq_true rfl) (hts _ q921) (fun _ h9 => h9) (hv_ref rfl) dX0_count_81 ?_
          refine lv_iconst (v := 0) hx hb dX0_count_84 (by decide) ?_
          obtain ⟨g22, hf⟩ := gd_e hf
          refine x_aald hx hb hK.1 hX (rf_some e15) 8 g16 (by decide) rfl rfl rfl g22 dX0_count_85 ?_
          refine x_getN (ci := 1) (C := RX1) (T := TX1) (N := 2) hx hb hts in_X1 hown hK.1 hX (rf_some e19) g20 (by decide) rfl 1 (Nat.le_of_ble_eq_true rfl) (hG.nw hK nq892) (fun _ h9 => h9) (hv_int rfl) dX0_count_86 ?_
          obtain rfl := Option.some.inj hf
          exact hret _ _ rfl dX0_count_89
        · rw [if_pos c21] at hf
          refine lv_bipush (v := (-4)) hx hb dX0_count_75 (by decide) ?_
          refine lv_goto (tgt := 89) hx hb dX0_count_77 (by decide) ?_
          obtain rfl := Option.some.inj hf
          exact hret _ _ rfl dX0_count_89
      · rw [if_neg c3] at hf
        have hlo : p1.toInt < 0 ∨ 2 < p1.toInt := by
          have := lv_neT c1 (a := 0) (by decide)
          have := lv_neT c2 (a := 1) (by decide)
          have := lv_neT c3 (a := 2) (by decide)
          omega
        refine lv_tableOut (tgt := 90) hx hb dX0_count_1 hlo (by decide) ?_
        refine lv_iconst (v := (-1)) hx hb dX0_count_90 (by decide) ?_
        obtain rfl := Option.some.inj hf
        exact hret _ _ rfl dX0_count_91
theorem cdX15_begin : yX15_begin.cls ≠ "java/lang/invoke/MethodHandle" ∧ yX15_begin.cls ≠ "java/lang/invoke/VarHandle" ∧ (parseMethodDescriptor yX15_begin.desc).map (fun d => d.parameters.length) = some 1 := by decide +kernel
set_option maxHeartbeats 4000000 in
set_option maxRecDepth 100000 in
theorem wx_Kind1_begin (l : Launch) (G : Gt) (hG : XG G) (h : Hp) (n : Nat) (o : Nat) (p1 : Int32) (r : Int32) (hf : X_Kind1_begin n o p1 h = some r) : Met l yX15_begin (ws_ yX15_begin cX15_begin 2 (some .int)) (rmm (0) 0 0 (0)) (XP G [.ref o, .int p1] h) (XQp (some (.int r))) 0 0 (fun _ => False) := by
  rw [X_Kind1_begin] at hf
  refine metPi l (by decide) (Nat.le_of_ble_eq_true rfl) ?_
  intro p e s m args below meth c Q hx hb hts hown hnmd hml hinit hK hW hret ls hl
  have hown : s.vm.findClass RX15 = some m.cls := hown
  have hX := XX.start hW
  have hl : lv_has ls 2 [(0, .ref o), (1, .int p1)] := hl
  refine lv_iload_n hx hb dX15_begin_0 rfl (lv_at hl 1 rfl) ?_
  obtain rfl := Option.some.inj hf
  exact hret _ _ rfl dX15_begin_1
theorem cdX16_begin : yX16_begin.cls ≠ "java/lang/invoke/MethodHandle" ∧ yX16_begin.cls ≠ "java/lang/invoke/VarHandle" ∧ (parseMethodDescriptor yX16_begin.desc).map (fun d => d.parameters.length) = some 1 := by decide +kernel
set_option maxHeartbeats 4000000 in
set_option maxRecDepth 100000 in
theorem wx_Kind2_begin (l : Launch) (G : Gt) (hG : XG G) (h : Hp) (n : Nat) (o : Nat) (p1 : Int32) (r : Int32) (hf : X_Kind2_begin n o p1 h = some r) : Met l yX16_begin (ws_ yX16_begin cX16_begin 2 (some .int)) (rmm (0) 0 0 (0)) (XP G [.ref o, .int p1] h) (XQp (some (.int r))) 0 0 (fun _ => False) := by
  rw [X_Kind2_begin] at hf
  refine metPi l (by decide) (Nat.le_of_ble_eq_true rfl) ?_
  intro p e s m args below meth c Q hx hb hts hown hnmd hml hinit hK hW hret ls hl
  have hown : s.vm.findClass RX16 = some m.cls := hown
  have hX := XX.start hW
  have hl : lv_has ls 2 [(0, .ref o), (1, .int p1)] := hl
  refine lv_iload_n hx hb dX16_begin_0 rfl (lv_at hl 1 rfl) ?_
  refine lv_iconst (v := 1) hx hb dX16_begin_1 (by decide) ?_
  refine lv_iadd hx hb dX16_begin_2 ?_
  obtain rfl := Option.some.inj hf
  exact hret _ _ rfl dX16_begin_3
