/-! walks of the system (by program) -/
theorem begin_ok {a : Nat} {u r : Int32} {h : Hp} (e : X_begin a u h = some r) : hT h a = 300 ∧ r = u ∨ hT h a = 301 ∧ r = u + 1 := by
  unfold X_begin at e
  by_cases h0 : hT h a = 300
  · rw [if_pos h0] at e; exact Or.inl ⟨h0, (Option.some.inj e).symm⟩
  · rw [if_neg h0] at e
    by_cases h1 : hT h a = 301
    · rw [if_pos h1] at e; exact Or.inr ⟨h1, (Option.some.inj e).symm⟩
    · rw [if_neg h1] at e; cases e
theorem cdX3_ors : yX3_ors.cls ≠ "java/lang/invoke/MethodHandle" ∧ yX3_ors.cls ≠ "java/lang/invoke/VarHandle" ∧ (parseMethodDescriptor yX3_ors.desc).map (fun d => d.parameters.length) = some 0 := by decide +kernel
theorem cdX3_sequence : yX3_sequence.cls ≠ "java/lang/invoke/MethodHandle" ∧ yX3_sequence.cls ≠ "java/lang/invoke/VarHandle" ∧ (parseMethodDescriptor yX3_sequence.desc).map (fun d => d.parameters.length) = some 0 := by decide +kernel
theorem cdJ0_init_2 : yJ0_init_2.cls ≠ "java/lang/invoke/MethodHandle" ∧ yJ0_init_2.cls ≠ "java/lang/invoke/VarHandle" ∧ (parseMethodDescriptor yJ0_init_2.desc).map (fun d => d.parameters.length) = some 4 := by decide +kernel
set_option maxHeartbeats 4000000 in
set_option maxRecDepth 100000 in
theorem wx_Throwable_init (l : Launch) (G : Gt) (hG : XG G) (h : Hp) (n : Nat) (o : Nat) (p1 : Option Nat) (p2 : Option Nat) (p3 : Int32) (p4 : Int32) (h1 : Hp) (hf : X_Throwable_init n o p1 p2 p3 p4 h = some h1) : Met l yJ0_init_2 (ws_ yJ0_init_2 cJ0_init_2 5 none) (rmm (1) 0 0 (64)) (XP G [.ref o, va_rf p1, va_rf p2, .int p3, .int p4] h) (XQ G none h h1) 0 0 (fre h) := by
  rw [X_Throwable_init] at hf
  obtain ⟨g0, hf⟩ := gd_e hf
  refine metSv l (by decide) (by cases p1 <;> cases p2 <;> exact Nat.le_of_ble_eq_true rfl) ?_
  intro p e s m args below meth c Q hx hb hts hown hnmd hml hinit hK hW hret ls hl
  have hinit : meth.name = "<init>" := hinit rfl
  have hown : s.vm.findClass RJ0 = some m.cls := hown
  have hX := XX.start hW
  have hl : lv_has ls 5 [(0, .ref o), (1, va_rf p1), (2, va_rf p2), (3, .int p3), (4, .int p4)] := Eq.mp (congrArg (lv_has ls 5) (show lv_args 0 [.ref o, va_rf p1, va_rf p2, .int p3, .int p4] = [(0, .ref o), (1, va_rf p1), (2, va_rf p2), (3, .int p3), (4, .int p4)] from by clear hf; cases p1 <;> cases p2 <;> rfl)) hl
  have B41 : ∀ (v1 : Option Nat) (v2 : Option Nat) (v3 : Int32) (h_8 : Hp) (H : Heap) (locs : List Loc) (ls : Array Slot), XX G h s.heap h_8 H locs → lv_has ls 5 [(0, .ref o), (1, va_rf v1), (2, va_rf v2), (3, .int v3)] → X_Throwable_init_b41 n o v1 v2 v3 h_8 = some h1 → W p l e (rmm (1) 0 0 (64)) s m args below meth c H locs 0 0 Q (F0 m 41 ls []) := by
    intro v1 v2 v3 h_8 H locs ls hX hl hf
    rw [X_Throwable_init_b41] at hf
    refine lv_aload_n hx hb dJ0_init_2_41 rfl (lv_at hl 0 rfl) ?_
    refine lx_aload_n hx hb dJ0_init_2_42 rfl (lv_at hl 1 rfl) ?_
    obtain ⟨h9, eh9, hf⟩ := st_e hf
    refine x_put (ci := 4) (C := RX4) (T := TX4) (N := 8) hx hb hts in_X4 tyX4 tyX4_ok nmX4 hown hK.1 hX rfl (hX.tg g0 (by decide)) (by decide) rfl 3 (Nat.le_of_ble_eq_true rfl) (hts _ q242) (fun _ h9 => h9) rfl (narrow_rfO _ v1) (fits_rfO _ v1) (Put1.fR (x := v1) rfl) dJ0_init_2_43 (fun H locs hX => ?_)
    replace hX := hX.re eh9
    clear eh9
    refine lv_aload_n hx hb dJ0_init_2_46 rfl (lv_at hl 0 rfl) ?_
    refine lx_aload_n hx hb dJ0_init_2_47 rfl (lv_at hl 2 rfl) ?_
    obtain ⟨h10, eh10, hf⟩ := st_e hf
    refine x_put (ci := 4) (C := RX4) (T := TX4) (N := 8) hx hb hts in_X4 tyX4 tyX4_ok nmX4 hown hK.1 hX rfl (hX.tg g0 (by decide)) (by decide) rfl 0 (Nat.le_of_ble_eq_true rfl) (hts _ q243) (fun _ h9 => h9) rfl (narrow_rfO _ v2) (fits_rfO _ v2) (Put1.fR (x := v2) rfl) dJ0_init_2_48 (fun H locs hX => ?_)
    replace hX := hX.re eh10
    clear eh10
    refine lv_iload_n hx hb dJ0_init_2_51 rfl (lv_at hl 3 rfl) ?_
    refine lv_if_ne (tgt := 60) hx hb dJ0_init_2_52 (by decide) (fun c11 => ?_) (fun c11 => ?_)
    · rw [if_neg c11] at hf
      obtain rfl := Option.some.inj hf
      exact hret _ _ _ _ hX dJ0_init_2_60
    · rw [if_pos c11] at hf
      refine lv_aload_n hx hb dJ0_init_2_55 rfl (lv_at hl 0 rfl) ?_
      refine lx_null hx hb dJ0_init_2_56 ?_
      obtain ⟨h12, eh12, hf⟩ := st_e hf
      refine x_put (ci := 4) (C := RX4) (T := TX4) (N := 8) hx hb hts in_X4 tyX4 tyX4_ok nmX4 hown hK.1 hX rfl (hX.tg g0 (by decide)) (by decide) rfl 2 (Nat.le_of_ble_eq_true rfl) (hts _ q245) (fun _ h9 => h9) rfl (narrow_rfO _ none) (fits_rfO _ none) (Put1.fR (x := none) rfl) dJ0_init_2_57 (fun H locs hX => ?_)
      replace hX := hX.re eh12
      clear eh12
      obtain rfl := Option.some.inj hf
      exact hret _ _ _ _ hX dJ0_init_2_60
  refine lv_aload_n hx hb dJ0_init_2_0 rfl (lv_at hl 0 rfl) ?_
  refine W.objInit hx hb hown (hts _ q194) (hts _ q148) (hts _ q149) rfl (by rw [hml]; exact hl.1) rfl dJ0_init_2_1 (Nat.le_of_ble_eq_true rfl) (by show 2 * 0 + _ + 12 ≤ _; first | exact Nat.le_of_ble_eq_true rfl | (simp only [List.map, List.sum_cons, List.sum_nil, rf_cat, cat_i, cat_l, cat_r, rmm] <;> decide)) ?_
  refine W.eq (g2 := F0 m 4 ls []) rfl ?_
  refine lv_aload_n hx hb dJ0_init_2_4 rfl (lv_at hl 0 rfl) ?_
  refine lv_aload_n hx hb dJ0_init_2_5 rfl (lv_at hl 0 rfl) ?_
  obtain ⟨h1, eh1, hf⟩ := st_e hf
  refine x_put (ci := 4) (C := RX4) (T := TX4) (N := 8) hx hb hts in_X4 tyX4 tyX4_ok nmX4 hown hK.1 hX rfl (hX.tg g0 (by decide)) (by decide) rfl 0 (Nat.le_of_ble_eq_true rfl) (hts _ q243) (fun _ h9 => h9) rfl (narrow_rfO _ (some o)) (fits_rfO _ (some o)) (Put1.fR (x := (some o)) rfl) dJ0_init_2_6 (fun H locs hX => ?_)
  replace hX := hX.re eh1
  clear eh1
  refine lv_aload_n hx hb dJ0_init_2_9 rfl (lv_at hl 0 rfl) ?_
  obtain ⟨g2, hf⟩ := gd_e hf
  refine x_gets hx hb hK hX (k := 5) (by decide) (hG.k hK).2.2.1.2.2.1 g2 hown (hts _ q195) (fun _ h9 => h9) dJ0_init_2_10 ?_
  obtain ⟨h3, eh3, hf⟩ := st_e hf
  refine x_put (ci := 4) (C := RX4) (T := TX4) (N := 8) hx hb hts in_X4 tyX4 tyX4_ok nmX4 hown hK.1 hX rfl (hX.tg g0 (by decide)) (by decide) rfl 1 (Nat.le_of_ble_eq_true rfl) (hts _ q244) (fun _ h9 => h9) rfl (narrow_rfA _ (hR h1 0 5)) (fits_rfA _ (hR h1 0 5)) (Put1.fR (x := (hR h1 0 5)) rfl) dJ0_init_2_13 (fun H locs hX => ?_)
  replace hX := hX.re eh3
  clear eh3
  refine lv_aload_n hx hb dJ0_init_2_16 rfl (lv_at hl 0 rfl) ?_
  obtain ⟨g4, hf⟩ := gd_e hf
  refine x_gets hx hb hK hX (k := 6) (by decide) (hG.k hK).2.2.1.2.2.2.1 g4 hown (hts _ q197) (fun _ h9 => h9) dJ0_init_2_17 ?_
  obtain ⟨h5, eh5, hf⟩ := st_e hf
  refine x_put (ci := 4) (C := RX4) (T := TX4) (N := 8) hx hb hts in_X4 tyX4 tyX4_ok nmX4 hown hK.1 hX rfl (hX.tg g0 (by decide)) (by decide) rfl 2 (Nat.le_of_ble_eq_true rfl) (hts _ q245) (fun _ h9 => h9) rfl (narrow_rfO _ (hR h3 0 6)) (fits_rfO _ (hR h3 0 6)) (Put1.fR (x := (hR h3 0 6)) rfl) dJ0_init_2_20 (fun H locs hX => ?_)
  replace hX := hX.re eh5
  clear eh5
  refine lv_iload hx hb dJ0_init_2_23 (lv_at hl 4 rfl) ?_
  refine lv_if_eq (tgt := 36) hx hb dJ0_init_2_25 (by decide) (fun c6 => ?_) (fun c6 => ?_)
  · rw [if_pos c6] at hf
    refine lv_aload_n hx hb dJ0_init_2_36 rfl (lv_at hl 0 rfl) ?_
    refine lx_null hx hb dJ0_init_2_37 ?_
    obtain ⟨h7, eh7, hf⟩ := st_e hf
    refine x_put (ci := 4) (C := RX4) (T := TX4) (N := 8) hx hb hts in_X4 tyX4 tyX4_ok nmX4 hown hK.1 hX rfl (hX.tg g0 (by decide)) (by decide) rfl 1 (Nat.le_of_ble_eq_true rfl) (hts _ q244) (fun _ h9 => h9) rfl (narrow_rfA _ none) (fits_rfA _ none) (Put1.fR (x := none) rfl) dJ0_init_2_38 (fun H locs hX => ?_)
    replace hX := hX.re eh7
    clear eh7
    exact B41 p1 p2 p3 h7 _ _ _ hX (lv_sub hl [0, 1, 2, 3] rfl) hf
  · rw [if_neg c6] at hf
    refine lv_aload_n hx hb dJ0_init_2_28 rfl (lv_at hl 0 rfl) ?_
    cases hf
theorem cdJ1_init : yJ1_init.cls ≠ "java/lang/invoke/MethodHandle" ∧ yJ1_init.cls ≠ "java/lang/invoke/VarHandle" ∧ (parseMethodDescriptor yJ1_init.desc).map (fun d => d.parameters.length) = some 4 := by decide +kernel
set_option maxHeartbeats 4000000 in
set_option maxRecDepth 100000 in
theorem wx_Exception_init (l : Launch) (G : Gt) (hG : XG G) (h : Hp) (n : Nat) (o : Nat) (p1 : Option Nat) (p2 : Option Nat) (p3 : Int32) (p4 : Int32) (h1 : Hp) (hf : X_Exception_init n o p1 p2 p3 p4 h = some h1) : Met l yJ1_init (ws_ yJ1_init cJ1_init 5 none) (rmm (2) 0 0 (88)) (XP G [.ref o, va_rf p1, va_rf p2, .int p3, .int p4] h) (XQ G none h h1) 0 0 (fre h) := by
  rw [X_Exception_init] at hf
  refine metSv l (by decide) (by cases p1 <;> cases p2 <;> exact Nat.le_of_ble_eq_true rfl) ?_
  intro p e s m args below meth c Q hx hb hts hown hnmd hml hinit hK hW hret ls hl
  have hinit : meth.name = "<init>" := hinit rfl
  have hown : s.vm.findClass RJ1 = some m.cls := hown
  have hX := XX.start hW
  have hl : lv_has ls 5 [(0, .ref o), (1, va_rf p1), (2, va_rf p2), (3, .int p3), (4, .int p4)] := Eq.mp (congrArg (lv_has ls 5) (show lv_args 0 [.ref o, va_rf p1, va_rf p2, .int p3, .int p4] = [(0, .ref o), (1, va_rf p1), (2, va_rf p2), (3, .int p3), (4, .int p4)] from by clear hf; cases p1 <;> cases p2 <;> rfl)) hl
  refine lv_aload_n hx hb dJ1_init_0 rfl (lv_at hl 0 rfl) ?_
  refine lx_aload_n hx hb dJ1_init_1 rfl (lv_at hl 1 rfl) ?_
  refine lx_aload_n hx hb dJ1_init_2 rfl (lv_at hl 2 rfl) ?_
  refine lv_iload_n hx hb dJ1_init_3 rfl (lv_at hl 3 rfl) ?_
  refine lv_iload hx hb dJ1_init_4 (lv_at hl 4 rfl) ?_
  obtain ⟨h2, e1, hf⟩ := bd_e hf
  refine x_done (mc := 0) (ms := 0) (va_runI (As := [va_rf p1, va_rf p2, .int p3, .int p4]) (rest := []) ⟨hx, hb, hml, hown, hts⟩ (wx_Throwable_init l G hG h n o p1 p2 p3 p4 h2 e1) (cwI 4 hts (lw_meth q236) rfl rfl rfl (hts _ q99) (hts _ q234) (hts _ q235) rfl cdJ0_init_2 ⟨(Nat.le_of_ble_eq_true rfl), (Nat.le_of_ble_eq_true rfl)⟩) (x_preS hK hX _) rfl rfl hl.1 rfl (lv_room (Nat.le_of_ble_eq_true rfl)) dJ1_init_6 ⟨(Nat.le_of_ble_eq_true rfl), (Nat.le_of_ble_eq_true rfl)⟩) hX rfl (fun H locs hX => ?_)
  clear e1
  obtain rfl := Option.some.inj hf
  exact hret _ _ _ _ hX dJ1_init_9
theorem cdJ2_init : yJ2_init.cls ≠ "java/lang/invoke/MethodHandle" ∧ yJ2_init.cls ≠ "java/lang/invoke/VarHandle" ∧ (parseMethodDescriptor yJ2_init.desc).map (fun d => d.parameters.length) = some 4 := by decide +kernel
set_option maxHeartbeats 4000000 in
set_option maxRecDepth 100000 in
theorem wx_RuntimeException_init (l : Launch) (G : Gt) (hG : XG G) (h : Hp) (n : Nat) (o : Nat) (p1 : Option Nat) (p2 : Option Nat) (p3 : Int32) (p4 : Int32) (h1 : Hp) (hf : X_RuntimeException_init n o p1 p2 p3 p4 h = some h1) : Met l yJ2_init (ws_ yJ2_init cJ2_init 5 none) (rmm (3) 0 0 (112)) (XP G [.ref o, va_rf p1, va_rf p2, .int p3, .int p4] h) (XQ G none h h1) 0 0 (fre h) := by
  rw [X_RuntimeException_init] at hf
  refine metSv l (by decide) (by cases p1 <;> cases p2 <;> exact Nat.le_of_ble_eq_true rfl) ?_
  intro p e s m args below meth c Q hx hb hts hown hnmd hml hinit hK hW hret ls hl
  have hinit : meth.name = "<init>" := hinit rfl
  have hown : s.vm.findClass RJ2 = some m.cls := hown
  have hX := XX.start hW
  have hl : lv_has ls 5 [(0, .ref o), (1, va_rf p1), (2, va_rf p2), (3, .int p3), (4, .int p4)] := Eq.mp (congrArg (lv_has ls 5) (show lv_args 0 [.ref o, va_rf p1, va_rf p2, .int p3, .int p4] = [(0, .ref o), (1, va_rf p1), (2, va_rf p2), (3, .int p3), (4, .int p4)] from by clear hf; cases p1 <;> cases p2 <;> rfl)) hl
  refine lv_aload_n hx hb dJ2_init_0 rfl (lv_at hl 0 rfl) ?_
  refine lx_aload_n hx hb dJ2_init_1 rfl (lv_at hl 1 rfl) ?_
  refine lx_aload_n hx hb dJ2_init_2 rfl (lv_at hl 2 rfl) ?_
  refine lv_iload_n hx hb dJ2_init_3 rfl (lv_at hl 3 rfl) ?_
  refine lv_iload hx hb dJ2_init_4 (lv_at hl 4 rfl) ?_
  obtain ⟨h2, e1, hf⟩ := bd_e hf
  refine x_done (mc := 0) (ms := 0) (va_runI (As := [va_rf p1, va_rf p2, .int p3, .int p4]) (rest := []) ⟨hx, hb, hml, hown, hts⟩ (wx_Exception_init l G hG h n o p1 p2 p3 p4 h2 e1) (cwI 4 hts (lw_meth q233) rfl rfl rfl (hts _ q100) (hts _ q231) (hts _ q232) rfl cdJ1_init ⟨(Nat.le_of_ble_eq_true rfl), (Nat.le_of_ble_eq_true rfl)⟩) (x_preS hK hX _) rfl rfl hl.1 rfl (lv_room (Nat.le_of_ble_eq_true rfl)) dJ2_init_6 ⟨(Nat.le_of_ble_eq_true rfl), (Nat.le_of_ble_eq_true rfl)⟩) hX rfl (fun H locs hX => ?_)
  clear e1
  obtain rfl := Option.some.inj hf
  exact hret _ _ _ _ hX dJ2_init_9
theorem cdX0_isIn : yX0_isIn.cls ≠ "java/lang/invoke/MethodHandle" ∧ yX0_isIn.cls ≠ "java/lang/invoke/VarHandle" ∧ (parseMethodDescriptor yX0_isIn.desc).map (fun d => d.parameters.length) = some 3 := by decide +kernel
set_option maxHeartbeats 4000000 in
set_option maxRecDepth 100000 in
theorem wx_isIn (l : Launch) (G : Gt) (hG : XG G) (h : Hp) (n : Nat) (p0 : Int64) (p2 : Int64) (p4 : Int64) (r : Int32) (hf : X_isIn n p0 p2 p4 = some r) : Met l yX0_isIn (ws_ yX0_isIn cX0_isIn 6 (some .boolean)) (rmm (0) 0 0 (0)) (XP G [.long p0, .long p2, .long p4] h) (XQp (some (.int r))) 0 0 (fun _ => False) := by
  rw [X_isIn] at hf
  refine metPi l (by decide) (Nat.le_of_ble_eq_true rfl) ?_
  intro p e s m args below meth c Q hx hb hts hown hnmd hml hinit hK hW hret ls hl
  have hown : s.vm.findClass RX0 = some m.cls := hown
  have hX := XX.start hW
  have hl : lv_has ls 6 [(0, .long p0), (2, .long p2), (4, .long p4)] := hl
  have B17 : ∀ (ls : Array Slot), lv_has ls 6 [] → X_isIn_b17 n = some r → W p l e (rmm (0) 0 0 (0)) s m args below meth c s.heap [] 0 0 Q (F0 m 17 ls []) := by
    intro ls hl hf
    rw [X_isIn_b17] at hf
    refine lv_iconst (v := 0) hx hb dX0_isIn_17 (by decide) ?_
    obtain rfl := Option.some.inj hf
    exact hret _ _ rfl dX0_isIn_18
  refine lv_lload_n hx hb dX0_isIn_0 rfl (lv_at hl 0 rfl) ?_
  refine lv_lload_n hx hb dX0_isIn_1 rfl (lv_at hl 1 rfl) ?_
  refine W.lcmp hx hb dX0_isIn_2 ?_
  refine lv_if_lt (tgt := 17) hx hb dX0_isIn_3 (by decide) (fun c1 => ?_) (fun c1 => ?_)
  · rw [if_pos c1] at hf
    exact B17 _ (lv_sub hl [] rfl) hf
  · rw [if_neg c1] at hf
    refine lv_lload_n hx hb dX0_isIn_6 rfl (lv_at hl 0 rfl) ?_
    refine lv_lload hx hb dX0_isIn_7 (lv_at hl 2 rfl) ?_
    refine W.lcmp hx hb dX0_isIn_9 ?_
    refine lv_if_gt (tgt := 17) hx hb dX0_isIn_10 (by decide) (fun c2 => ?_) (fun c2 => ?_)
    · rw [if_pos c2] at hf
      exact B17 _ (lv_sub hl [] rfl) hf
    · rw [if_neg c2] at hf
      refine lv_iconst (v := 1) hx hb dX0_isIn_13 (by decide) ?_
      refine lv_goto (tgt := 18) hx hb dX0_isIn_14 (by decide) ?_
      obtain rfl := Option.some.inj hf
      exact hret _ _ rfl dX0_isIn_18
theorem cdX0_feed : yX0_feed.cls ≠ "java/lang/invoke/MethodHandle" ∧ yX0_feed.cls ≠ "java/lang/invoke/VarHandle" ∧ (parseMethodDescriptor yX0_feed.desc).map (fun d => d.parameters.length) = some 1 := by decide +kernel
set_option maxHeartbeats 4000000 in
set_option maxRecDepth 100000 in
theorem wx_feed (l : Launch) (G : Gt) (hG : XG G) (h : Hp) (n : Nat) (o : Nat) (p1 : Int32) (r : Int32) (h1 : Hp) (hf : X_feed n o p1 h = some (r, h1)) : Met l yX0_feed (ws_ yX0_feed cX0_feed 2 (some .int)) (rmm (1) 0 0 (25)) (XP G [.ref o, .int p1] h) (XQ G (some (.int r)) h h1) 0 0 (fre h) := by
  rw [X_feed] at hf
  obtain ⟨g0, hf⟩ := gd_e hf
  refine metSi l (by decide) (Nat.le_of_ble_eq_true rfl) ?_
  intro p e s m args below meth c Q hx hb hts hown hnmd hml hinit hK hW hret ls hl
  have hown : s.vm.findClass RX0 = some m.cls := hown
  have hX := XX.start hW
  have hl : lv_has ls 2 [(0, .ref o), (1, .int p1)] := hl
  refine lv_iload_n hx hb dX0_feed_0 rfl (lv_at hl 1 rfl) ?_
  refine lv_i2l hx hb dX0_feed_1 rfl ?_
  refine lv_lconst (v := 0) hx hb dX0_feed_2 (by decide) ?_
  refine lv_ldc2 (v := 127) hx hb hown (hts _ q126) dX0_feed_3 ?_
  obtain ⟨r2, e1, hf⟩ := bd_e hf
  refine x_doneP (va_runS (As := [.long (Int32.toInt64 p1), .long 0, .long 127]) (rest := []) ⟨hx, hb, hml, hown, hts⟩ (wx_isIn l G hG h n (Int32.toInt64 p1) 0 127 r2 e1) (va_cwS 3 hts (lw_S q127 q128 q94 q129) rfl rfl rfl cdX0_isIn ⟨(Nat.le_of_ble_eq_true rfl), (Nat.le_of_ble_eq_true rfl)⟩) (x_preS hK hX _) rfl rfl hl.1 rfl (lv_room (Nat.le_of_ble_eq_true rfl)) dX0_feed_6 ⟨(Nat.le_of_ble_eq_true rfl), (Nat.le_of_ble_eq_true rfl)⟩) rfl ?_
  clear e1
  refine lv_if_ne (tgt := 14) hx hb dX0_feed_9 (by decide) (fun c3 => ?_) (fun c3 => ?_)
  · rw [if_neg c3] at hf
    refine lv_aload_n hx hb dX0_feed_14 rfl (lv_at hl 0 rfl) ?_
    refine x_get (ci := 0) (C := RX0) (T := TX0) (N := 16) hx hb hts in_X0 hown hK.1 hX rfl (hX.tg g0 (by decide)) (by decide) rfl 1 (Nat.le_of_ble_eq_true rfl) (hts _ q909) (fun _ h9 => h9) (hv_int rfl) dX0_feed_15 ?_
    refine lv_sipush (v := 200) hx hb dX0_feed_18 (by decide) ?_
    refine lv_icmp_ne (tgt := 27) hx hb dX0_feed_21 (by decide) (fun c4 => ?_) (fun c4 => ?_)
    · rw [if_neg c4] at hf
      refine lv_aload_n hx hb dX0_feed_27 rfl (lv_at hl 0 rfl) ?_
      refine x_get (ci := 0) (C := RX0) (T := TX0) (N := 16) hx hb hts in_X0 hown hK.1 hX rfl (hX.tg g0 (by decide)) (by decide) rfl 0 (Nat.le_of_ble_eq_true rfl) (hts _ q908) (fun _ h9 => h9) (hv_ref rfl) dX0_feed_28 ?_
      refine lv_aload_n hx hb dX0_feed_31 rfl (lv_at hl 0 rfl) ?_
      refine x_get (ci := 0) (C := RX0) (T := TX0) (N := 16) hx hb hts in_X0 hown hK.1 hX rfl (hX.tg g0 (by decide)) (by decide) rfl 1 (Nat.le_of_ble_eq_true rfl) (hts _ q909) (fun _ h9 => h9) (hv_int rfl) dX0_feed_32 ?_
      refine lv_iload_n hx hb dX0_feed_35 rfl (lv_at hl 1 rfl) ?_
      refine lv_i2b hx hb dX0_feed_36 rfl ?_
      obtain ⟨a5, e6, hf⟩ := bd_e hf
      obtain ⟨g7, hf⟩ := gd_e hf
      obtain ⟨g8, hf⟩ := gd_e hf
      obtain ⟨h9, eh9, hf⟩ := st_e hf
      refine x_bast hx hb hK.1 hX (rf_some e6) g7 g8 dX0_feed_37 (fun H locs hX => ?_)
      replace hX := hX.re eh9
      clear eh9
      refine lv_aload_n hx hb dX0_feed_38 rfl (lv_at hl 0 rfl) ?_
      refine lv_dup hx hb dX0_feed_39 rfl ?_
      refine x_get (ci := 0) (C := RX0) (T := TX0) (N := 16) hx hb hts in_X0 hown hK.1 hX rfl (hX.tg g0 (by decide)) (by decide) rfl 1 (Nat.le_of_ble_eq_true rfl) (hts _ q909) (fun _ h9 => h9) (hv_int rfl) dX0_feed_40 ?_
      refine lv_iconst (v := 1) hx hb dX0_feed_43 (by decide) ?_
      refine lv_iadd hx hb dX0_feed_44 ?_
      obtain ⟨h10, eh10, hf⟩ := st_e hf
      refine x_put (ci := 0) (C := RX0) (T := TX0) (N := 16) hx hb hts in_X0 tyX0 tyX0_ok nmX0 hown hK.1 hX rfl (hX.tg g0 (by decide)) (by decide) rfl 1 (Nat.le_of_ble_eq_true rfl) (hts _ q909) (fun _ h9 => h9) rfl rfl rfl (Put1.fI (x := ((hI h9 o 1) + 1)) rfl) dX0_feed_45 (fun H locs hX => ?_)
      replace hX := hX.re eh10
      clear eh10
      refine lv_aload_n hx hb dX0_feed_48 rfl (lv_at hl 0 rfl) ?_
      refine x_get (ci := 0) (C := RX0) (T := TX0) (N := 16) hx hb hts in_X0 hown hK.1 hX rfl (hX.tg g0 (by decide)) (by decide) rfl 1 (Nat.le_of_ble_eq_true rfl) (hts _ q909) (fun _ h9 => h9) (hv_int rfl) dX0_feed_49 ?_
      obtain ⟨rfl, rfl⟩ := Prod.mk.inj (Option.some.inj hf)
      exact hret _ _ _ _ hX rfl dX0_feed_52
    · rw [if_pos c4] at hf
      refine lv_bipush (v := (-3)) hx hb dX0_feed_24 (by decide) ?_
      obtain ⟨rfl, rfl⟩ := Prod.mk.inj (Option.some.inj hf)
      exact hret _ _ _ _ hX rfl dX0_feed_26
  · rw [if_pos c3] at hf
    refine lv_iconst (v := (-1)) hx hb dX0_feed_12 (by decide) ?_
    obtain ⟨rfl, rfl⟩ := Prod.mk.inj (Option.some.inj hf)
    exact hret _ _ _ _ hX rfl dX0_feed_13
theorem cdX0_end : yX0_end.cls ≠ "java/lang/invoke/MethodHandle" ∧ yX0_end.cls ≠ "java/lang/invoke/VarHandle" ∧ (parseMethodDescriptor yX0_end.desc).map (fun d => d.parameters.length) = some 1 := by decide +kernel
set_option maxHeartbeats 4000000 in
set_option maxRecDepth 100000 in
theorem wx_end (l : Launch) (G : Gt) (hG : XG G) (h : Hp) (n : Nat) (o : Nat) (p1 : Int32) (r : Int32) (h1 : Hp) (hf : X_end n o p1 h = some (r, h1)) : Met l yX0_end (ws_ yX0_end cX0_end 3 (some .int)) (rmm (1) 0 0 (25)) (XP G [.ref o, .int p1] h) (XQ G (some (.int r)) h h1) 0 0 (fre h) := by
  rw [X_end] at hf
  obtain ⟨g0, hf⟩ := gd_e hf
  refine metSi l (by decide) (Nat.le_of_ble_eq_true rfl) ?_
  intro p e s m args below meth c Q hx hb hts hown hnmd hml hinit hK hW hret ls hl
  have hown : s.vm.findClass RX0 = some m.cls := hown
  have hX := XX.start hW
  have hl : lv_has ls 3 [(0, .ref o), (1, .int p1)] := hl
  refine lv_iload_n hx hb dX0_end_0 rfl (lv_at hl 1 rfl) ?_
  refine lv_i2l hx hb dX0_end_1 rfl ?_
  refine lv_lconst (v := 0) hx hb dX0_end_2 (by decide) ?_
  refine lv_aload_n hx hb dX0_end_3 rfl (lv_at hl 0 rfl) ?_
  refine x_get (ci := 0) (C := RX0) (T := TX0) (N := 16) hx hb hts in_X0 hown hK.1 hX rfl (hX.tg g0 (by decide)) (by decide) rfl 1 (Nat.le_of_ble_eq_true rfl) (hts _ q909) (fun _ h9 => h9) (hv_int rfl) dX0_end_4 ?_
  refine lv_i2l hx hb dX0_end_7 rfl ?_
  obtain ⟨r2, e1, hf⟩ := bd_e hf
  refine x_doneP (va_runS (As := [.long (Int32.toInt64 p1), .long 0, .long (Int32.toInt64 (hI h o 1))]) (rest := []) ⟨hx, hb, hml, hown, hts⟩ (wx_isIn l G hG h n (Int32.toInt64 p1) 0 (Int32.toInt64 (hI h o 1)) r2 e1) (va_cwS 3 hts (lw_S q127 q128 q94 q129) rfl rfl rfl cdX0_isIn ⟨(Nat.le_of_ble_eq_true rfl), (Nat.le_of_ble_eq_true rfl)⟩) (x_preS hK hX _) rfl rfl hl.1 rfl (lv_room (Nat.le_of_ble_eq_true rfl)) dX0_end_8 ⟨(Nat.le_of_ble_eq_true rfl), (Nat.le_of_ble_eq_true rfl)⟩) rfl ?_
  clear e1
  refine lv_if_ne (tgt := 16) hx hb dX0_end_11 (by decide) (fun c3 => ?_) (fun c3 => ?_)
  · rw [if_neg c3] at hf
    refine lv_aload_n hx hb dX0_end_16 rfl (lv_at hl 0 rfl) ?_
    refine x_get (ci := 0) (C := RX0) (T := TX0) (N := 16) hx hb hts in_X0 hown hK.1 hX rfl (hX.tg g0 (by decide)) (by decide) rfl 1 (Nat.le_of_ble_eq_true rfl) (hts _ q909) (fun _ h9 => h9) (hv_int rfl) dX0_end_17 ?_
    refine lv_istore_n (lv' := [(2, .int (hI h o 1)), (0, .ref o), (1, .int p1)]) hx hb dX0_end_20 rfl hl (by decide) rfl (fun ls hl => ?_)
    refine lv_aload_n hx hb dX0_end_21 rfl (lv_at hl 1 rfl) ?_
    refine lv_iload_n hx hb dX0_end_22 rfl (lv_at hl 2 rfl) ?_
    obtain ⟨h4, eh4, hf⟩ := st_e hf
    refine x_put (ci := 0) (C := RX0) (T := TX0) (N := 16) hx hb hts in_X0 tyX0 tyX0_ok nmX0 hown hK.1 hX rfl (hX.tg g0 (by decide)) (by decide) rfl 1 (Nat.le_of_ble_eq_true rfl) (hts _ q909) (fun _ h9 => h9) rfl rfl rfl (Put1.fI (x := p1) rfl) dX0_end_23 (fun H locs hX => ?_)
    replace hX := hX.re eh4
    clear eh4
    refine lv_iload_n hx hb dX0_end_26 rfl (lv_at hl 0 rfl) ?_
    obtain ⟨rfl, rfl⟩ := Prod.mk.inj (Option.some.inj hf)
    exact hret _ _ _ _ hX rfl dX0_end_27
  · rw [if_pos c3] at hf
    refine lv_iconst (v := (-1)) hx hb dX0_end_14 (by decide) ?_
    obtain ⟨rfl, rfl⟩ := Prod.mk.inj (Option.some.inj hf)
    exact hret _ _ _ _ hX rfl dX0_end_15
theorem cdX3_at : yX3_at.cls ≠ "java/lang/invoke/MethodHandle" ∧ yX3_at.cls ≠ "java/lang/invoke/VarHandle" ∧ (parseMethodDescriptor yX3_at.desc).map (fun d => d.parameters.length) = some 1 := by decide +kernel
set_option maxHeartbeats 4000000 in
set_option maxRecDepth 100000 in
theorem wx_Reader_at (l : Launch) (G : Gt) (hG : XG G) (h : Hp) (n : Nat) (o : Nat) (p1 : Int32) (r : Int32) (hf : X_Reader_at n o p1 h = some r) : Met l yX3_at (ws_ yX3_at cX3_at 2 (some .int)) (rmm (0) 0 0 (0)) (XP G [.ref o, .int p1] h) (XQp (some (.int r))) 0 0 (fun _ => False) := by
  rw [X_Reader_at] at hf
  obtain ⟨g0, hf⟩ := gd_e hf
  refine metPi l (by decide) (Nat.le_of_ble_eq_true rfl) ?_
  intro p e s m args below meth c Q hx hb hts hown hnmd hml hinit hK hW hret ls hl
  have hown : s.vm.findClass RX3 = some m.cls := hown
  have hX := XX.start hW
  have hl : lv_has ls 2 [(0, .ref o), (1, .int p1)] := hl
  refine lv_iload_n hx hb dX3_at_0 rfl (lv_at hl 1 rfl) ?_
  refine lv_aload_n hx hb dX3_at_1 rfl (lv_at hl 0 rfl) ?_
  refine x_get (ci := 3) (C := RX3) (T := TX3) (N := 9) hx hb hts in_X3 hown hK.1 hX rfl g0 (by decide) rfl 0 (Nat.le_of_ble_eq_true rfl) (hts _ q262) (fun _ h9 => h9) (hv_ref rfl) dX3_at_2 ?_
  obtain ⟨a1, e2, hf⟩ := bd_e hf
  obtain ⟨g3, hf⟩ := gd_e hf
  refine x_alen hx hb hK.1 hX (rf_some e2) 2 g3 (by decide) rfl dX3_at_5 ?_
  refine lv_icmp_ge (tgt := 18) hx hb dX3_at_6 (by decide) (fun c4 => ?_) (fun c4 => ?_)
  · rw [if_pos c4] at hf
    refine lv_bipush (v := (-4)) hx hb dX3_at_18 (by decide) ?_
    obtain rfl := Option.some.inj hf
    exact hret _ _ rfl dX3_at_20
  · rw [if_neg c4] at hf
    refine lv_aload_n hx hb dX3_at_9 rfl (lv_at hl 0 rfl) ?_
    refine x_get (ci := 3) (C := RX3) (T := TX3) (N := 9) hx hb hts in_X3 hown hK.1 hX rfl g0 (by decide) rfl 0 (Nat.le_of_ble_eq_true rfl) (hts _ q262) (fun _ h9 => h9) (hv_ref rfl) dX3_at_10 ?_
    refine lv_iload_n hx hb dX3_at_13 rfl (lv_at hl 1 rfl) ?_
    obtain ⟨g5, hf⟩ := gd_e hf
    refine x_bald hx hb hK.1 hX (rf_some e2) g3 g5 dX3_at_14 ?_
    refine lv_goto (tgt := 20) hx hb dX3_at_15 (by decide) ?_
    obtain rfl := Option.some.inj hf
    exact hret _ _ rfl dX3_at_20
theorem cdX4_init : yX4_init.cls ≠ "java/lang/invoke/MethodHandle" ∧ yX4_init.cls ≠ "java/lang/invoke/VarHandle" ∧ (parseMethodDescriptor yX4_init.desc).map (fun d => d.parameters.length) = some 2 := by decide +kernel
set_option maxHeartbeats 4000000 in
set_option maxRecDepth 100000 in
theorem wx_Fault_init (l : Launch) (G : Gt) (hG : XG G) (h : Hp) (n : Nat) (o : Nat) (p1 : Int32) (p2 : Int32) (h1 : Hp) (hf : X_Fault_init n o p1 p2 h = some h1) : Met l yX4_init (ws_ yX4_init cX4_init 3 none) (rmm (4) 0 0 (136)) (XP G [.ref o, .int p1, .int p2] h) (XQ G none h h1) 0 0 (fre h) := by
  rw [X_Fault_init] at hf
  obtain ⟨g0, hf⟩ := gd_e hf
  refine metSv l (by decide) (Nat.le_of_ble_eq_true rfl) ?_
  intro p e s m args below meth c Q hx hb hts hown hnmd hml hinit hK hW hret ls hl
  have hinit : meth.name = "<init>" := hinit rfl
  have hown : s.vm.findClass RX4 = some m.cls := hown
  have hX := XX.start hW
  have hl : lv_has ls 3 [(0, .ref o), (1, .int p1), (2, .int p2)] := hl
  refine lv_aload_n hx hb dX4_init_0 rfl (lv_at hl 0 rfl) ?_
  refine lx_null hx hb dX4_init_1 ?_
  refine lx_null hx hb dX4_init_2 ?_
  refine lv_iconst (v := 0) hx hb dX4_init_3 (by decide) ?_
  refine lv_iconst (v := 0) hx hb dX4_init_4 (by decide) ?_
  obtain ⟨h2, e1, hf⟩ := bd_e hf
  refine x_done (mc := 0) (ms := 0) (va_runI (As := [va_rf none, va_rf none, .int 0, .int 0]) (rest := []) ⟨hx, hb, hml, hown, hts⟩ (wx_RuntimeException_init l G hG h n o none none 0 0 h2 e1) (cwI 4 hts (lw_meth q230) rfl rfl rfl (hts _ q101) (hts _ q228) (hts _ q229) rfl cdJ2_init ⟨(Nat.le_of_ble_eq_true rfl), (Nat.le_of_ble_eq_true rfl)⟩) (x_preS hK hX _) rfl rfl hl.1 rfl (lv_room (Nat.le_of_ble_eq_true rfl)) dX4_init_5 ⟨(Nat.le_of_ble_eq_true rfl), (Nat.le_of_ble_eq_true rfl)⟩) hX rfl (fun H locs hX => ?_)
  clear e1
  refine lv_aload_n hx hb dX4_init_8 rfl (lv_at hl 0 rfl) ?_
  refine lv_iload_n hx hb dX4_init_9 rfl (lv_at hl 1 rfl) ?_
  obtain ⟨h3, eh3, hf⟩ := st_e hf
  refine x_putF (ci := 4) (C := RX4) (T := TX4) (N := 8) hx hb hts in_X4 tyX4 tyX4_ok nmX4 hown hK.1 hX rfl (hX.tg g0 (by decide)) (by decide) rfl 6 (Nat.le_of_ble_eq_true rfl) (hts _ q237) (fun _ h9 => h9) rfl hinit rfl rfl rfl (Put1.fI (x := p1) rfl) dX4_init_10 (fun H locs hX => ?_)
  replace hX := hX.re eh3
  clear eh3
  refine lv_aload_n hx hb dX4_init_13 rfl (lv_at hl 0 rfl) ?_
  refine lv_iload_n hx hb dX4_init_14 rfl (lv_at hl 2 rfl) ?_
  obtain ⟨h4, eh4, hf⟩ := st_e hf
  refine x_putF (ci := 4) (C := RX4) (T := TX4) (N := 8) hx hb hts in_X4 tyX4 tyX4_ok nmX4 hown hK.1 hX rfl (hX.tg g0 (by decide)) (by decide) rfl 7 (Nat.le_of_ble_eq_true rfl) (hts _ q239) (fun _ h9 => h9) rfl hinit rfl rfl rfl (Put1.fI (x := p2) rfl) dX4_init_15 (fun H locs hX => ?_)
  replace hX := hX.re eh4
  clear eh4
  obtain rfl := Option.some.inj hf
  exact hret _ _ _ _ hX dX4_init_18
theorem cdX3_must : yX3_must.cls ≠ "java/lang/invoke/MethodHandle" ∧ yX3_must.cls ≠ "java/lang/invoke/VarHandle" ∧ (parseMethodDescriptor yX3_must.desc).map (fun d => d.parameters.length) = some 2 := by decide +kernel
set_option maxHeartbeats 4000000 in
set_option maxRecDepth 100000 in
theorem wx_Reader_must (l : Launch) (G : Gt) (hG : XG G) (h : Hp) (n : Nat) (o : Nat) (p1 : Int32) (p2 : Int32) (res : Sum (Unit) Nat) (h1 : Hp) (MC MS : Nat) (hf : X_Reader_must n o p1 p2 h = some ((res, h1), MC, MS)) : vx_Met l yX3_must (ws_ yX3_must cX3_must 3 none) (rmm (5) MC MS (158)) (XP G [.ref o, .int p1, .int p2] h) (XQn G (fun _ : Unit => none) res h h1) (XCn G res h h1) MC MS (fre h) := by
  rw [X_Reader_must] at hf
  obtain ⟨g0, hf⟩ := gd_e hf
  refine metXv l (by decide) (Nat.le_of_ble_eq_true rfl) ?_
  intro p e s m args below meth c Q hx hb hts hown hnmd hml hinit hK hW hret hth ls hl
  have hown : s.vm.findClass RX3 = some m.cls := hown
  have hX := XX.start hW
  have kc : 0 + MC = MC := Nat.zero_add _
  have ks : 0 + MS = MS := Nat.zero_add _
  have hl : lv_has ls 3 [(0, .ref o), (1, .int p1), (2, .int p2)] := hl
  refine lv_iload_n hx hb dX3_must_0 rfl (lv_at hl 1 rfl) ?_
  refine lv_if_ne (tgt := 17) hx hb dX3_must_1 (by decide) (fun c1 => ?_) (fun c1 => ?_)
  · rw [if_neg c1] at hf
    obtain ⟨q1, q2⟩ := Prod.mk.inj (Option.some.inj hf)
    obtain ⟨q2, q3⟩ := Prod.mk.inj q2
    obtain ⟨q0, rfl⟩ := Prod.mk.inj q1
    refine W.cs (cells' := MC) (slots' := MS) (by omega) (by omega) ?_
    exact hret _ _ _ _ _ q0.symm hX dX3_must_17
  · rw [if_pos c1] at hf
    obtain ⟨c2, s3, hf, e4, e5⟩ := ad_e hf
    obtain ⟨h6, eh6, hf⟩ := st_e hf
    refine x_new (ci := 4) (C := RX4) (T := TX4) (N := 8) hx hb hts in_X4 hown q169 q170 q102 hK hX (by decide) rfl tyX4_ok (fun k hk => dfl _ (dfC4 k hk)) (by simp only [rmm]; omega) (by simp only [rmm]; omega) dX3_must_4 (fun H hX => ?_)
    replace hX := hX.re eh6
    have g7 : hT h6 (hZ h) = 5 := by rw [eh6]; exact nw_T _ _ _
    clear eh6
    replace kc : (0 + 1) + c2 = MC := by omega
    replace ks : (0 + 8) + s3 = MS := by omega
    clear e4 e5
    refine lv_dup hx hb dX3_must_7 rfl ?_
    refine lv_iload_n hx hb dX3_must_8 rfl (lv_at hl 2 rfl) ?_
    refine lv_aload_n hx hb dX3_must_9 rfl (lv_at hl 0 rfl) ?_
    refine x_get (ci := 3) (C := RX3) (T := TX3) (N := 9) hx hb hts in_X3 hown hK.1 hX rfl (hX.tg g0 (by decide)) (by decide) rfl 5 (Nat.le_of_ble_eq_true rfl) (hts _ q269) (fun _ h9 => h9) (hv_int rfl) dX3_must_10 ?_
    obtain ⟨h9, e8, hf⟩ := bd_e hf
    refine x_done (mc := 0) (ms := 0) (va_runI (As := [.int p2, .int (hI h6 o 5)]) (rest := [.ref (hZ h)]) ⟨hx, hb, hml, hown, hts⟩ (wx_Fault_init l G hG h6 n (hZ h) p2 (hI h6 o 5) h9 e8) (cwI 2 hts (lw_meth q227) rfl rfl rfl (hts _ q102) (hts _ q225) (hts _ q226) rfl cdX4_init ⟨(by simp only [rmm]; omega), (by simp only [rmm]; omega)⟩) (x_preS hK hX _) rfl rfl hl.1 rfl (lv_room (Nat.le_of_ble_eq_true rfl)) dX3_must_13 ⟨(by simp only [rmm]; omega), (by simp only [rmm]; omega)⟩) hX rfl (fun H locs hX => ?_)
    clear e8
    obtain ⟨g10, hf⟩ := gd_e hf
    obtain ⟨q1, q2⟩ := Prod.mk.inj (Option.some.inj hf)
    obtain ⟨q2, q3⟩ := Prod.mk.inj q2
    obtain ⟨q0, rfl⟩ := Prod.mk.inj q1
    refine vx_athrow hx hb dX3_must_16 ?_
    refine vx_cs (cells' := MC) (slots' := MS) (by omega) (by omega) ?_
    exact hth _ _ _ _ _ _ q0.symm g10 hX
theorem cdX3_isMark : yX3_isMark.cls ≠ "java/lang/invoke/MethodHandle" ∧ yX3_isMark.cls ≠ "java/lang/invoke/VarHandle" ∧ (parseMethodDescriptor yX3_isMark.desc).map (fun d => d.parameters.length) = some 1 := by decide +kernel
set_option maxHeartbeats 4000000 in
set_option maxRecDepth 100000 in
theorem wx_Reader_isMark (l : Launch) (G : Gt) (hG : XG G) (h : Hp) (n : Nat) (p0 : Int32) (r : Int32) (hf : X_Reader_isMark n p0 = some r) : Met l yX3_isMark (ws_ yX3_isMark cX3_isMark 1 (some .boolean)) (rmm (0) 0 0 (0)) (XP G [.int p0] h) (XQp (some (.int r))) 0 0 (fun _ => False) := by
  rw [X_Reader_isMark] at hf
  refine metPi l (by decide) (Nat.le_of_ble_eq_true rfl) ?_
  intro p e s m args below meth c Q hx hb hts hown hnmd hml hinit hK hW hret ls hl
  have hown : s.vm.findClass RX3 = some m.cls := hown
  have hX := XX.start hW
  have hl : lv_has ls 1 [(0, .int p0)] := hl
  have B124 : ∀ (ls : Array Slot), lv_has ls 1 [] → X_Reader_isMark_b124 n = some r → W p l e (rmm (0) 0 0 (0)) s m args below meth c s.heap [] 0 0 Q (F0 m 124 ls []) := by
    intro ls hl hf
    rw [X_Reader_isMark_b124] at hf
    refine lv_iconst (v := 1) hx hb dX3_isMark_124 (by decide) ?_
    obtain rfl := Option.some.inj hf
    exact hret _ _ rfl dX3_isMark_125
  refine lv_iload_n hx hb dX3_isMark_0 rfl (lv_at hl 0 rfl) ?_
  by_cases c1 : p0 = 33
  · rw [if_pos c1] at hf
    refine lv_lookup (off := 123) (tgt := 124) hx hb dX3_isMark_1 (by decide) (by rw [c1]; decide) (by decide) ?_
    exact B124 _ (lv_sub hl [] rfl) hf
  · rw [if_neg c1] at hf
    by_cases c2 : p0 = 38
    · rw [if_pos c2] at hf
      refine lv_lookup (off := 123) (tgt := 124) hx hb dX3_isMark_1 (by decide) (by rw [c2]; decide) (by decide) ?_
      exact B124 _ (lv_sub hl [] rfl) hf
    · rw [if_neg c2] at hf
      by_cases c3 : p0 = 40
      · rw [if_pos c3] at hf
        refine lv_lookup (off := 123) (tgt := 124) hx hb dX3_isMark_1 (by decide) (by rw [c3]; decide) (by decide) ?_
        exact B124 _ (lv_sub hl [] rfl) hf
      · rw [if_neg c3] at hf
        by_cases c4 : p0 = 41
        · rw [if_pos c4] at hf
          refine lv_lookup (off := 123) (tgt := 124) hx hb dX3_isMark_1 (by decide) (by rw [c4]; decide) (by decide) ?_
          exact B124 _ (lv_sub hl [] rfl) hf
        · rw [if_neg c4] at hf
          by_cases c5 : p0 = 42
          · rw [if_pos c5] at hf
            refine lv_lookup (off := 123) (tgt := 124) hx hb dX3_isMark_1 (by decide) (by rw [c5]; decide) (by decide) ?_
            exact B124 _ (lv_sub hl [] rfl) hf
          · rw [if_neg c5] at hf
            by_cases c6 : p0 = 44
            · rw [if_pos c6] at hf
              refine lv_lookup (off := 123) (tgt := 124) hx hb dX3_isMark_1 (by decide) (by rw [c6]; decide) (by decide) ?_
              exact B124 _ (lv_sub hl [] rfl) hf
            · rw [if_neg c6] at hf
              by_cases c7 : p0 = 47
              · rw [if_pos c7] at hf
                refine lv_lookup (off := 123) (tgt := 124) hx hb dX3_isMark_1 (by decide) (by rw [c7]; decide) (by decide) ?_
                exact B124 _ (lv_sub hl [] rfl) hf
              · rw [if_neg c7] at hf
                by_cases c8 : p0 = 59
                · rw [if_pos c8] at hf
                  refine lv_lookup (off := 123) (tgt := 124) hx hb dX3_isMark_1 (by decide) (by rw [c8]; decide) (by decide) ?_
                  exact B124 _ (lv_sub hl [] rfl) hf
                · rw [if_neg c8] at hf
                  by_cases c9 : p0 = 61
                  · rw [if_pos c9] at hf
                    refine lv_lookup (off := 123) (tgt := 124) hx hb dX3_isMark_1 (by decide) (by rw [c9]; decide) (by decide) ?_
                    exact B124 _ (lv_sub hl [] rfl) hf
                  · rw [if_neg c9] at hf
                    by_cases c10 : p0 = 62
                    · rw [if_pos c10] at hf
                      refine lv_lookup (off := 123) (tgt := 124) hx hb dX3_isMark_1 (by decide) (by rw [c10]; decide) (by decide) ?_
                      exact B124 _ (lv_sub hl [] rfl) hf
                    · rw [if_neg c10] at hf
                      by_cases c11 : p0 = 123
                      · rw [if_pos c11] at hf
                        refine lv_lookup (off := 123) (tgt := 124) hx hb dX3_isMark_1 (by decide) (by rw [c11]; decide) (by decide) ?_
                        exact B124 _ (lv_sub hl [] rfl) hf
                      · rw [if_neg c11] at hf
                        by_cases c12 : p0 = 124
                        · rw [if_pos c12] at hf
                          refine lv_lookup (off := 123) (tgt := 124) hx hb dX3_isMark_1 (by decide) (by rw [c12]; decide) (by decide) ?_
                          exact B124 _ (lv_sub hl [] rfl) hf
                        · rw [if_neg c12] at hf
                          by_cases c13 : p0 = 125
                          · rw [if_pos c13] at hf
                            refine lv_lookup (off := 123) (tgt := 124) hx hb dX3_isMark_1 (by decide) (by rw [c13]; decide) (by decide) ?_
                            exact B124 _ (lv_sub hl [] rfl) hf
                          · rw [if_neg c13] at hf
                            by_cases c14 : p0 = 126
                            · rw [if_pos c14] at hf
                              refine lv_lookup (off := 123) (tgt := 124) hx hb dX3_isMark_1 (by decide) (by rw [c14]; decide) (by decide) ?_
                              exact B124 _ (lv_sub hl [] rfl) hf
                            · rw [if_neg c14] at hf
                              refine lv_lookup (off := 125) (tgt := 126) hx hb dX3_isMark_1 (by decide) ((lv_osw c1 (by decide)).trans <| (lv_osw c2 (by decide)).trans <| (lv_osw c3 (by decide)).trans <| (lv_osw c4 (by decide)).trans <| (lv_osw c5 (by decide)).trans <| (lv_osw c6 (by decide)).trans <| (lv_osw c7 (by decide)).trans <| (lv_osw c8 (by decide)).trans <| (lv_osw c9 (by decide)).trans <| (lv_osw c10 (by decide)).trans <| (lv_osw c11 (by decide)).trans <| (lv_osw c12 (by decide)).trans <| (lv_osw c13 (by decide)).trans <| (lv_osw c14 (by decide)).trans <| rfl) (by decide) ?_
                              refine lv_iconst (v := 0) hx hb dX3_isMark_126 (by decide) ?_
                              obtain rfl := Option.some.inj hf
                              exact hret _ _ rfl dX3_isMark_127
theorem cdX3_next : yX3_next.cls ≠ "java/lang/invoke/MethodHandle" ∧ yX3_next.cls ≠ "java/lang/invoke/VarHandle" ∧ (parseMethodDescriptor yX3_next.desc).map (fun d => d.parameters.length) = some 0 := by decide +kernel
set_option maxHeartbeats 4000000 in
set_option maxRecDepth 100000 in
theorem wx_Reader_next (l : Launch) (G : Gt) (hG : XG G) (h : Hp) (n : Nat) (o : Nat) (res : Sum (Unit) Nat) (h1 : Hp) (MC MS : Nat) (hf : X_Reader_next n o h = some ((res, h1), MC, MS)) : vx_Met l yX3_next (ws_ yX3_next cX3_next 2 none) (rmm (6) MC MS (180)) (XP G [.ref o] h) (XQn G (fun _ : Unit => none) res h h1) (XCn G res h h1) MC MS (fre h) := by
  rw [X_Reader_next] at hf
  obtain ⟨g0, hf⟩ := gd_e hf
  refine metXv l (by decide) (Nat.le_of_ble_eq_true rfl) ?_
  intro p e s m args below meth c Q hx hb hts hown hnmd hml hinit hK hW hret hth ls hl
  have hown : s.vm.findClass RX3 = some m.cls := hown
  have hX := XX.start hW
  have kc : 0 + MC = MC := Nat.zero_add _
  have ks : 0 + MS = MS := Nat.zero_add _
  have hl : lv_has ls 2 [(0, .ref o)] := hl
  have B225 : ∀ (t0 : Int32) (h_42 : Hp) (ck cs qc qs : Nat) (kc : ck + qc = MC) (ks : cs + qs = MS) (H : Heap) (locs : List Loc) (ls : Array Slot), XX G h s.heap h_42 H locs → lv_has ls 2 [(0, .ref o)] → X_Reader_next_b225 n o t0 h_42 = some ((res, h1), qc, qs) → W p l e (rmm (6) MC MS (180)) s m args below meth c H locs ck cs Q (F0 m 225 ls [.int t0, .ref o]) := by
    intro t0 h_42 ck cs qc qs kc ks H locs ls hX hl hf
    rw [X_Reader_next_b225] at hf
    refine lv_iconst (v := 1) hx hb dX3_next_225 (by decide) ?_
    obtain ⟨r51, h44, c45, s46, e43, l54, l55, e53⟩ := bdX_e hf
    refine x_doneX (val := (fun _ : Unit => none)) (vx_runV (b := o) (As := [.int t0, .int 1]) (rest := []) ⟨hx, hb, hml, hown, hts⟩ (wx_Reader_must l G hG h_42 n o t0 1 r51 h44 c45 s46 e43) (cwV 2 hts (lw_V q165 q167 qs2 q98 q168) rfl rfl rfl ⟨rfl, cdX3_must⟩ ⟨(by simp only [rmm]; omega), (by simp only [rmm]; omega)⟩) (x_preV (ci := 3) (T := TX3) (N := 9) hK hX _ (hX.tg g0 (by decide)) (by decide) rfl) rfl rfl hl.1 rfl (lv_room (Nat.le_of_ble_eq_true rfl)) dX3_next_226 ⟨(by simp only [rmm]; omega), (by simp only [rmm]; omega)⟩) hX e53 hth kc ks (fun r52 c47 s48 hf e49 e50 H locs hX => ?_)
    clear e43 l54 l55 e53
    replace kc : (ck + c45) + c47 = MC := by omega
    replace ks : (cs + s46) + s48 = MS := by omega
    clear e49 e50
    refine lv_aload_n hx hb dX3_next_229 rfl (lv_at hl 0 rfl) ?_
    refine lv_iconst (v := 2) hx hb dX3_next_230 (by decide) ?_
    obtain ⟨h56, eh56, hf⟩ := st_e hf
    refine x_put (ci := 3) (C := RX3) (T := TX3) (N := 9) hx hb hts in_X3 tyX3 tyX3_ok nmX3 hown hK.1 hX rfl (hX.tg g0 (by decide)) (by decide) rfl 7 (Nat.le_of_ble_eq_true rfl) (hts _ q271) (fun _ h9 => h9) rfl rfl rfl (Put1.fI (x := 2) rfl) dX3_next_231 (fun H locs hX => ?_)
    replace hX := hX.re eh56
    clear eh56
    refine lv_goto (tgt := 251) hx hb dX3_next_234 (by decide) ?_
    obtain ⟨q1, q2⟩ := Prod.mk.inj (Option.some.inj hf)
    obtain ⟨q2, q3⟩ := Prod.mk.inj q2
    obtain ⟨q0, rfl⟩ := Prod.mk.inj q1
    refine W.cs (cells' := MC) (slots' := MS) (by omega) (by omega) ?_
    exact hret _ _ _ _ _ q0.symm hX dX3_next_251
  have B190 : ∀ (K129 : Hp → Option ((Sum (Unit) Nat × Hp) × Nat × Nat)) (hK129 : ∀ (h2 : Hp) (ck cs qc qs : Nat) (_ : ck + qc = MC) (_ : cs + qs = MS) (H : Heap) (locs : List Loc) (ls : Array Slot), XX G h s.heap h2 H locs → lv_has ls 2 [(0, .ref o)] → K129 h2 = some ((res, h1), qc, qs) → W p l e (rmm (6) MC MS (180)) s m args below meth c H locs ck cs Q (F0 m 129 ls [])) (t0 : Int32) (h_58 : Hp) (ck cs qc qs : Nat) (kc : ck + qc = MC) (ks : cs + qs = MS) (H : Heap) (locs : List Loc) (ls : Array Slot), XX G h s.heap h_58 H locs → lv_has ls 2 [(0, .ref o)] → X_Reader_next_b190 n o K129 t0 h_58 = some ((res, h1), qc, qs) → W p l e (rmm (6) MC MS (180)) s m args below meth c H locs ck cs Q (F0 m 190 ls [.int t0, .ref o]) := by
    intro K129 hK129 t0 h_58 ck cs qc qs kc ks H locs ls hX hl hf
    rw [X_Reader_next_b190] at hf
    obtain ⟨h59, eh59, hf⟩ := st_e hf
    refine x_put (ci := 3) (C := RX3) (T := TX3) (N := 9) hx hb hts in_X3 tyX3 tyX3_ok nmX3 hown hK.1 hX rfl (hX.tg g0 (by decide)) (by decide) rfl 8 (Nat.le_of_ble_eq_true rfl) (hts _ q272) (fun _ h9 => h9) rfl rfl rfl (Put1.fI (x := t0) rfl) dX3_next_190 (fun H locs hX => ?_)
    replace hX := hX.re eh59
    clear eh59
    refine lv_aload_n hx hb dX3_next_193 rfl (lv_at hl 0 rfl) ?_
    refine lv_dup hx hb dX3_next_194 rfl ?_
    refine x_get (ci := 3) (C := RX3) (T := TX3) (N := 9) hx hb hts in_X3 hown hK.1 hX rfl (hX.tg g0 (by decide)) (by decide) rfl 6 (Nat.le_of_ble_eq_true rfl) (hts _ q270) (fun _ h9 => h9) (hv_int rfl) dX3_next_195 ?_
    refine lv_iconst (v := 1) hx hb dX3_next_198 (by decide) ?_
    refine lv_iadd hx hb dX3_next_199 ?_
    obtain ⟨h60, eh60, hf⟩ := st_e hf
    refine x_put (ci := 3) (C := RX3) (T := TX3) (N := 9) hx hb hts in_X3 tyX3 tyX3_ok nmX3 hown hK.1 hX rfl (hX.tg g0 (by decide)) (by decide) rfl 6 (Nat.le_of_ble_eq_true rfl) (hts _ q270) (fun _ h9 => h9) rfl rfl rfl (Put1.fI (x := ((hI h59 o 6) + 1)) rfl) dX3_next_200 (fun H locs hX => ?_)
    replace hX := hX.re eh60
    clear eh60
    refine lv_goto (tgt := 129) hx hb dX3_next_203 (by decide) ?_
    exact hK129 h60 _ _ _ _ kc ks _ _ _ hX (lv_sub hl [0] rfl) hf
  have B129 : ∀ (f : Nat) (h_35 : Hp) (ck cs qc qs : Nat) (kc : ck + qc = MC) (ks : cs + qs = MS) (H : Heap) (locs : List Loc) (ls : Array Slot), XX G h s.heap h_35 H locs → lv_has ls 2 [(0, .ref o)] → X_Reader_next_b129 n o f h_35 = some ((res, h1), qc, qs) → W p l e (rmm (6) MC MS (180)) s m args below meth c H locs ck cs Q (F0 m 129 ls []) := by
    intro f
    induction f with
    | zero =>
      intro h_35 ck cs qc qs kc ks H locs ls hX hl hf
      rw [X_Reader_next_b129] at hf
      cases hf
    | succ f hK129 =>
      intro h_35 ck cs qc qs kc ks H locs ls hX hl hf
      rw [X_Reader_next_b129] at hf
      refine lv_aload_n hx hb dX3_next_129 rfl (lv_at hl 0 rfl) ?_
      refine lv_aload_n hx hb dX3_next_130 rfl (lv_at hl 0 rfl) ?_
      refine x_get (ci := 3) (C := RX3) (T := TX3) (N := 9) hx hb hts in_X3 hown hK.1 hX rfl (hX.tg g0 (by decide)) (by decide) rfl 6 (Nat.le_of_ble_eq_true rfl) (hts _ q270) (fun _ h9 => h9) (hv_int rfl) dX3_next_131 ?_
      obtain ⟨r37, e36, hf⟩ := bd_e hf
      refine x_doneP (va_runV (b := o) (As := [.int (hI h_35 o 6)]) (rest := []) ⟨hx, hb, hml, hown, hts⟩ (wx_Reader_at l G hG h_35 n o (hI h_35 o 6) r37 e36) (cwV 1 hts (lw_V q156 q158 qs1 q98 q159) rfl rfl rfl ⟨rfl, cdX3_at⟩ ⟨(by simp only [rmm]; omega), (by simp only [rmm]; omega)⟩) (x_preV (ci := 3) (T := TX3) (N := 9) hK hX _ (hX.tg g0 (by decide)) (by decide) rfl) rfl rfl hl.1 rfl (lv_room (Nat.le_of_ble_eq_true rfl)) dX3_next_134 ⟨(by simp only [rmm]; omega), (by simp only [rmm]; omega)⟩) rfl ?_
      clear e36
      refine lv_i2l hx hb dX3_next_137 rfl ?_
      refine lv_ldc2 (v := 48) hx hb hown (hts _ q163) dX3_next_138 ?_
      refine lv_ldc2 (v := 57) hx hb hown (hts _ q164) dX3_next_141 ?_
      obtain ⟨r39, e38, hf⟩ := bd_e hf
      refine x_doneP (va_runSN (As := [.long (Int32.toInt64 r37), .long 48, .long 57]) (rest := []) ⟨hx, hb, hml, hown, hts⟩ (wx_isIn l G hG h_35 n (Int32.toInt64 r37) 48 57 r39 e38) ⟨va_cnB 3 hts (lw_meth q129) rfl rfl rfl (hG.nw hK nq162) (hts _ q94) cdX0_isIn ⟨(by simp only [rmm]; omega), (by simp only [rmm]; omega)⟩, hts _ q128, trivial⟩ (x_preS hK hX _) rfl rfl hl.1 rfl (lv_room (Nat.le_of_ble_eq_true rfl)) dX3_next_144 ⟨(by simp only [rmm]; omega), (by simp only [rmm]; omega)⟩) rfl ?_
      clear e38
      refine lv_if_eq (tgt := 206) hx hb dX3_next_147 (by decide) (fun c40 => ?_) (fun c40 => ?_)
      · rw [if_pos c40] at hf
        refine lv_aload_n hx hb dX3_next_206 rfl (lv_at hl 0 rfl) ?_
        refine lv_aload_n hx hb dX3_next_207 rfl (lv_at hl 0 rfl) ?_
        refine x_get (ci := 3) (C := RX3) (T := TX3) (N := 9) hx hb hts in_X3 hown hK.1 hX rfl (hX.tg g0 (by decide)) (by decide) rfl 6 (Nat.le_of_ble_eq_true rfl) (hts _ q270) (fun _ h9 => h9) (hv_int rfl) dX3_next_208 ?_
        refine lv_aload_n hx hb dX3_next_211 rfl (lv_at hl 0 rfl) ?_
        refine x_get (ci := 3) (C := RX3) (T := TX3) (N := 9) hx hb hts in_X3 hown hK.1 hX rfl (hX.tg g0 (by decide)) (by decide) rfl 5 (Nat.le_of_ble_eq_true rfl) (hts _ q269) (fun _ h9 => h9) (hv_int rfl) dX3_next_212 ?_
        refine lv_isub hx hb dX3_next_215 ?_
        refine lv_iconst (v := 2) hx hb dX3_next_216 (by decide) ?_
        refine lv_icmp_gt (tgt := 224) hx hb dX3_next_217 (by decide) (fun c41 => ?_) (fun c41 => ?_)
        · rw [if_pos c41] at hf
          refine lv_iconst (v := 0) hx hb dX3_next_224 (by decide) ?_
          exact B225 0 h_35 _ _ _ _ kc ks _ _ _ hX (lv_sub hl [0] rfl) hf
        · rw [if_neg c41] at hf
          refine lv_iconst (v := 1) hx hb dX3_next_220 (by decide) ?_
          refine lv_goto (tgt := 225) hx hb dX3_next_221 (by decide) ?_
          exact B225 1 h_35 _ _ _ _ kc ks _ _ _ hX (lv_sub hl [0] rfl) hf
      · rw [if_neg c40] at hf
        refine lv_aload_n hx hb dX3_next_150 rfl (lv_at hl 0 rfl) ?_
        refine lv_aload_n hx hb dX3_next_151 rfl (lv_at hl 0 rfl) ?_
        refine x_get (ci := 3) (C := RX3) (T := TX3) (N := 9) hx hb hts in_X3 hown hK.1 hX rfl (hX.tg g0 (by decide)) (by decide) rfl 6 (Nat.le_of_ble_eq_true rfl) (hts _ q270) (fun _ h9 => h9) (hv_int rfl) dX3_next_152 ?_
        refine lv_aload_n hx hb dX3_next_155 rfl (lv_at hl 0 rfl) ?_
        refine x_get (ci := 3) (C := RX3) (T := TX3) (N := 9) hx hb hts in_X3 hown hK.1 hX rfl (hX.tg g0 (by decide)) (by decide) rfl 5 (Nat.le_of_ble_eq_true rfl) (hts _ q269) (fun _ h9 => h9) (hv_int rfl) dX3_next_156 ?_
        refine lv_isub hx hb dX3_next_159 ?_
        refine lv_iconst (v := 2) hx hb dX3_next_160 (by decide) ?_
        refine lv_icmp_ge (tgt := 186) hx hb dX3_next_161 (by decide) (fun c57 => ?_) (fun c57 => ?_)
        · rw [if_pos c57] at hf
          refine lv_aload_n hx hb dX3_next_186 rfl (lv_at hl 0 rfl) ?_
          refine x_get (ci := 3) (C := RX3) (T := TX3) (N := 9) hx hb hts in_X3 hown hK.1 hX rfl (hX.tg g0 (by decide)) (by decide) rfl 8 (Nat.le_of_ble_eq_true rfl) (hts _ q272) (fun _ h9 => h9) (hv_int rfl) dX3_next_187 ?_
          exact B190 (X_Reader_next_b129 n o f) hK129 (hI h_35 o 8) h_35 _ _ _ _ kc ks _ _ _ hX (lv_sub hl [0] rfl) hf
        · rw [if_neg c57] at hf
          refine lv_bipush (v := 10) hx hb dX3_next_164 (by decide) ?_
          refine lv_aload_n hx hb dX3_next_166 rfl (lv_at hl 0 rfl) ?_
          refine x_get (ci := 3) (C := RX3) (T := TX3) (N := 9) hx hb hts in_X3 hown hK.1 hX rfl (hX.tg g0 (by decide)) (by decide) rfl 8 (Nat.le_of_ble_eq_true rfl) (hts _ q272) (fun _ h9 => h9) (hv_int rfl) dX3_next_167 ?_
          refine lv_imul hx hb dX3_next_170 ?_
          refine lv_aload_n hx hb dX3_next_171 rfl (lv_at hl 0 rfl) ?_
          refine lv_aload_n hx hb dX3_next_172 rfl (lv_at hl 0 rfl) ?_
          refine x_get (ci := 3) (C := RX3) (T := TX3) (N := 9) hx hb hts in_X3 hown hK.1 hX rfl (hX.tg g0 (by decide)) (by decide) rfl 6 (Nat.le_of_ble_eq_true rfl) (hts _ q270) (fun _ h9 => h9) (hv_int rfl) dX3_next_173 ?_
          obtain ⟨r62, e61, hf⟩ := bd_e hf
          refine x_doneP (va_runV (b := o) (As := [.int (hI h_35 o 6)]) (rest := [.int (10 * (hI h_35 o 8)), .ref o]) ⟨hx, hb, hml, hown, hts⟩ (wx_Reader_at l G hG h_35 n o (hI h_35 o 6) r62 e61) (cwV 1 hts (lw_V q156 q158 qs1 q98 q159) rfl rfl rfl ⟨rfl, cdX3_at⟩ ⟨(by simp only [rmm]; omega), (by simp only [rmm]; omega)⟩) (x_preV (ci := 3) (T := TX3) (N := 9) hK hX _ (hX.tg g0 (by decide)) (by decide) rfl) rfl rfl hl.1 rfl (lv_room (Nat.le_of_ble_eq_true rfl)) dX3_next_176 ⟨(by simp only [rmm]; omega), (by simp only [rmm]; omega)⟩) rfl ?_
          clear e61
          refine lv_iadd hx hb dX3_next_179 ?_
          refine lv_bipush (v := 48) hx hb dX3_next_180 (by decide) ?_
          refine lv_isub hx hb dX3_next_182 ?_
          refine lv_goto (tgt := 190) hx hb dX3_next_183 (by decide) ?_
          exact B190 (X_Reader_next_b129 n o f) hK129 (((10 * (hI h_35 o 8)) + r62) - 48) h_35 _ _ _ _ kc ks _ _ _ hX (lv_sub hl [0] rfl) hf
  have B8 : ∀ (f : Nat) (h_2 : Hp) (ck cs qc qs : Nat) (kc : ck + qc = MC) (ks : cs + qs = MS) (H : Heap) (locs : List Loc) (ls : Array Slot), XX G h s.heap h_2 H locs → lv_has ls 2 [(0, .ref o)] → X_Reader_next_b8 n o f h_2 = some ((res, h1), qc, qs) → W p l e (rmm (6) MC MS (180)) s m args below meth c H locs ck cs Q (F0 m 8 ls []) := by
    intro f
    induction f with
    | zero =>
      intro h_2 ck cs qc qs kc ks H locs ls hX hl hf
      rw [X_Reader_next_b8] at hf
      cases hf
    | succ f hK8 =>
      intro h_2 ck cs qc qs kc ks H locs ls hX hl hf
      rw [X_Reader_next_b8] at hf
      refine lv_aload_n hx hb dX3_next_8 rfl (lv_at hl 0 rfl) ?_
      refine lv_aload_n hx hb dX3_next_9 rfl (lv_at hl 0 rfl) ?_
      refine x_get (ci := 3) (C := RX3) (T := TX3) (N := 9) hx hb hts in_X3 hown hK.1 hX rfl (hX.tg g0 (by decide)) (by decide) rfl 5 (Nat.le_of_ble_eq_true rfl) (hts _ q269) (fun _ h9 => h9) (hv_int rfl) dX3_next_10 ?_
      obtain ⟨r4, e3, hf⟩ := bd_e hf
      refine x_doneP (va_runV (b := o) (As := [.int (hI h_2 o 5)]) (rest := []) ⟨hx, hb, hml, hown, hts⟩ (wx_Reader_at l G hG h_2 n o (hI h_2 o 5) r4 e3) (cwV 1 hts (lw_V q156 q158 qs1 q98 q159) rfl rfl rfl ⟨rfl, cdX3_at⟩ ⟨(by simp only [rmm]; omega), (by simp only [rmm]; omega)⟩) (x_preV (ci := 3) (T := TX3) (N := 9) hK hX _ (hX.tg g0 (by decide)) (by decide) rfl) rfl rfl hl.1 rfl (lv_room (Nat.le_of_ble_eq_true rfl)) dX3_next_13 ⟨(by simp only [rmm]; omega), (by simp only [rmm]; omega)⟩) rfl ?_
      clear e3
      refine lv_bipush (v := 32) hx hb dX3_next_16 (by decide) ?_
      refine lv_icmp_ne (tgt := 34) hx hb dX3_next_18 (by decide) (fun c5 => ?_) (fun c5 => ?_)
      · rw [if_neg c5] at hf
        refine lv_aload_n hx hb dX3_next_34 rfl (lv_at hl 0 rfl) ?_
        refine lv_aload_n hx hb dX3_next_35 rfl (lv_at hl 0 rfl) ?_
        refine x_get (ci := 3) (C := RX3) (T := TX3) (N := 9) hx hb hts in_X3 hown hK.1 hX rfl (hX.tg g0 (by decide)) (by decide) rfl 5 (Nat.le_of_ble_eq_true rfl) (hts _ q269) (fun _ h9 => h9) (hv_int rfl) dX3_next_36 ?_
        obtain ⟨r7, e6, hf⟩ := bd_e hf
        refine x_doneP (va_runV (b := o) (As := [.int (hI h_2 o 5)]) (rest := []) ⟨hx, hb, hml, hown, hts⟩ (wx_Reader_at l G hG h_2 n o (hI h_2 o 5) r7 e6) (cwV 1 hts (lw_V q156 q158 qs1 q98 q159) rfl rfl rfl ⟨rfl, cdX3_at⟩ ⟨(by simp only [rmm]; omega), (by simp only [rmm]; omega)⟩) (x_preV (ci := 3) (T := TX3) (N := 9) hK hX _ (hX.tg g0 (by decide)) (by decide) rfl) rfl rfl hl.1 rfl (lv_room (Nat.le_of_ble_eq_true rfl)) dX3_next_39 ⟨(by simp only [rmm]; omega), (by simp only [rmm]; omega)⟩) rfl ?_
        clear e6
        refine lv_istore_n (lv' := [(1, .int r7), (0, .ref o)]) hx hb dX3_next_42 rfl hl (by decide) rfl (fun ls hl => ?_)
        refine lv_aload_n hx hb dX3_next_43 rfl (lv_at hl 1 rfl) ?_
        refine lv_aload_n hx hb dX3_next_44 rfl (lv_at hl 1 rfl) ?_
        refine x_get (ci := 3) (C := RX3) (T := TX3) (N := 9) hx hb hts in_X3 hown hK.1 hX rfl (hX.tg g0 (by decide)) (by decide) rfl 5 (Nat.le_of_ble_eq_true rfl) (hts _ q269) (fun _ h9 => h9) (hv_int rfl) dX3_next_45 ?_
        refine lv_iconst (v := 1) hx hb dX3_next_48 (by decide) ?_
        refine lv_iadd hx hb dX3_next_49 ?_
        obtain ⟨h8, eh8, hf⟩ := st_e hf
        refine x_put (ci := 3) (C := RX3) (T := TX3) (N := 9) hx hb hts in_X3 tyX3 tyX3_ok nmX3 hown hK.1 hX rfl (hX.tg g0 (by decide)) (by decide) rfl 6 (Nat.le_of_ble_eq_true rfl) (hts _ q270) (fun _ h9 => h9) rfl rfl rfl (Put1.fI (x := ((hI h_2 o 5) + 1)) rfl) dX3_next_50 (fun H locs hX => ?_)
        replace hX := hX.re eh8
        clear eh8
        refine lv_aload_n hx hb dX3_next_53 rfl (lv_at hl 1 rfl) ?_
        refine lv_iload_n hx hb dX3_next_54 rfl (lv_at hl 0 rfl) ?_
        obtain ⟨h9, eh9, hf⟩ := st_e hf
        refine x_put (ci := 3) (C := RX3) (T := TX3) (N := 9) hx hb hts in_X3 tyX3 tyX3_ok nmX3 hown hK.1 hX rfl (hX.tg g0 (by decide)) (by decide) rfl 8 (Nat.le_of_ble_eq_true rfl) (hts _ q272) (fun _ h9 => h9) rfl rfl rfl (Put1.fI (x := r7) rfl) dX3_next_55 (fun H locs hX => ?_)
        replace hX := hX.re eh9
        clear eh9
        refine lv_iload_n hx hb dX3_next_58 rfl (lv_at hl 0 rfl) ?_
        refine lv_bipush (v := (-4)) hx hb dX3_next_59 (by decide) ?_
        refine lv_icmp_ne (tgt := 80) hx hb dX3_next_61 (by decide) (fun c10 => ?_) (fun c10 => ?_)
        · rw [if_neg c10] at hf
          refine lv_iload_n hx hb dX3_next_80 rfl (lv_at hl 0 rfl) ?_
          refine lv_i2l hx hb dX3_next_81 rfl ?_
          refine lv_ldc2 (v := 97) hx hb hown (hts _ q160) dX3_next_82 ?_
          refine lv_ldc2 (v := 104) hx hb hown (hts _ q161) dX3_next_85 ?_
          obtain ⟨r12, e11, hf⟩ := bd_e hf
          refine x_doneP (va_runSN (As := [.long (Int32.toInt64 r7), .long 97, .long 104]) (rest := []) ⟨hx, hb, hml, hown, hts⟩ (wx_isIn l G hG h9 n (Int32.toInt64 r7) 97 104 r12 e11) ⟨va_cnB 3 hts (lw_meth q129) rfl rfl rfl (hG.nw hK nq162) (hts _ q94) cdX0_isIn ⟨(by simp only [rmm]; omega), (by simp only [rmm]; omega)⟩, hts _ q128, trivial⟩ (x_preS hK hX _) rfl rfl hl.1 rfl (lv_room (Nat.le_of_ble_eq_true rfl)) dX3_next_88 ⟨(by simp only [rmm]; omega), (by simp only [rmm]; omega)⟩) rfl ?_
          clear e11
          refine lv_if_eq (tgt := 102) hx hb dX3_next_91 (by decide) (fun c13 => ?_) (fun c13 => ?_)
          · rw [if_pos c13] at hf
            refine lv_iload_n hx hb dX3_next_102 rfl (lv_at hl 0 rfl) ?_
            refine lv_i2l hx hb dX3_next_103 rfl ?_
            refine lv_ldc2 (v := 48) hx hb hown (hts _ q163) dX3_next_104 ?_
            refine lv_ldc2 (v := 57) hx hb hown (hts _ q164) dX3_next_107 ?_
            obtain ⟨r15, e14, hf⟩ := bd_e hf
            refine x_doneP (va_runSN (As := [.long (Int32.toInt64 r7), .long 48, .long 57]) (rest := []) ⟨hx, hb, hml, hown, hts⟩ (wx_isIn l G hG h9 n (Int32.toInt64 r7) 48 57 r15 e14) ⟨va_cnB 3 hts (lw_meth q129) rfl rfl rfl (hG.nw hK nq162) (hts _ q94) cdX0_isIn ⟨(by simp only [rmm]; omega), (by simp only [rmm]; omega)⟩, hts _ q128, trivial⟩ (x_preS hK hX _) rfl rfl hl.1 rfl (lv_room (Nat.le_of_ble_eq_true rfl)) dX3_next_110 ⟨(by simp only [rmm]; omega), (by simp only [rmm]; omega)⟩) rfl ?_
            clear e14
            refine lv_if_eq (tgt := 237) hx hb dX3_next_113 (by decide) (fun c16 => ?_) (fun c16 => ?_)
            · rw [if_pos c16] at hf
              refine lv_aload_n hx hb dX3_next_237 rfl (lv_at hl 1 rfl) ?_
              refine lv_iload_n hx hb dX3_next_238 rfl (lv_at hl 0 rfl) ?_
              obtain ⟨r18, e17, hf⟩ := bd_e hf
              refine x_doneP (va_runS (As := [.int r7]) (rest := [.ref o]) ⟨hx, hb, hml, hown, hts⟩ (wx_Reader_isMark l G hG h9 n r7 r18 e17) (va_cwS 1 hts (lw_S q259 q260 q98 q261) rfl rfl rfl cdX3_isMark ⟨(by simp only [rmm]; omega), (by simp only [rmm]; omega)⟩) (x_preS hK hX _) rfl rfl hl.1 rfl (lv_room (Nat.le_of_ble_eq_true rfl)) dX3_next_239 ⟨(by simp only [rmm]; omega), (by simp only [rmm]; omega)⟩) rfl ?_
              clear e17
              refine lv_iconst (v := 1) hx hb dX3_next_242 (by decide) ?_
              obtain ⟨r27, h20, c21, s22, e19, l30, l31, e29⟩ := bdX_e hf
              refine x_doneX (val := (fun _ : Unit => none)) (vx_runV (b := o) (As := [.int r18, .int 1]) (rest := []) ⟨hx, hb, hml, hown, hts⟩ (wx_Reader_must l G hG h9 n o r18 1 r27 h20 c21 s22 e19) (cwV 2 hts (lw_V q165 q167 qs2 q98 q168) rfl rfl rfl ⟨rfl, cdX3_must⟩ ⟨(by simp only [rmm]; omega), (by simp only [rmm]; omega)⟩) (x_preV (ci := 3) (T := TX3) (N := 9) hK hX _ (hX.tg g0 (by decide)) (by decide) rfl) rfl rfl hl.1 rfl (lv_room (Nat.le_of_ble_eq_true rfl)) dX3_next_243 ⟨(by simp only [rmm]; omega), (by simp only [rmm]; omega)⟩) hX e29 hth kc ks (fun r28 c23 s24 hf e25 e26 H locs hX => ?_)
              clear e19 l30 l31 e29
              replace kc : (ck + c21) + c23 = MC := by omega
              replace ks : (cs + s22) + s24 = MS := by omega
              clear e25 e26
              refine lv_aload_n hx hb dX3_next_246 rfl (lv_at hl 1 rfl) ?_
              refine lv_iconst (v := 3) hx hb dX3_next_247 (by decide) ?_
              obtain ⟨h32, eh32, hf⟩ := st_e hf
              refine x_put (ci := 3) (C := RX3) (T := TX3) (N := 9) hx hb hts in_X3 tyX3 tyX3_ok nmX3 hown hK.1 hX rfl (hX.tg g0 (by decide)) (by decide) rfl 7 (Nat.le_of_ble_eq_true rfl) (hts _ q271) (fun _ h9 => h9) rfl rfl rfl (Put1.fI (x := 3) rfl) dX3_next_248 (fun H locs hX => ?_)
              replace hX := hX.re eh32
              clear eh32
              obtain ⟨q1, q2⟩ := Prod.mk.inj (Option.some.inj hf)
              obtain ⟨q2, q3⟩ := Prod.mk.inj q2
              obtain ⟨q0, rfl⟩ := Prod.mk.inj q1
              refine W.cs (cells' := MC) (slots' := MS) (by omega) (by omega) ?_
              exact hret _ _ _ _ _ q0.symm hX dX3_next_251
            · rw [if_neg c16] at hf
              refine lv_aload_n hx hb dX3_next_116 rfl (lv_at hl 1 rfl) ?_
              refine lv_aload_n hx hb dX3_next_117 rfl (lv_at hl 1 rfl) ?_
              refine x_get (ci := 3) (C := RX3) (T := TX3) (N := 9) hx hb hts in_X3 hown hK.1 hX rfl (hX.tg g0 (by decide)) (by decide) rfl 5 (Nat.le_of_ble_eq_true rfl) (hts _ q269) (fun _ h9 => h9) (hv_int rfl) dX3_next_118 ?_
              obtain ⟨h33, eh33, hf⟩ := st_e hf
              refine x_put (ci := 3) (C := RX3) (T := TX3) (N := 9) hx hb hts in_X3 tyX3 tyX3_ok nmX3 hown hK.1 hX rfl (hX.tg g0 (by decide)) (by decide) rfl 6 (Nat.le_of_ble_eq_true rfl) (hts _ q270) (fun _ h9 => h9) rfl rfl rfl (Put1.fI (x := (hI h9 o 5)) rfl) dX3_next_121 (fun H locs hX => ?_)
              replace hX := hX.re eh33
              clear eh33
              refine lv_aload_n hx hb dX3_next_124 rfl (lv_at hl 1 rfl) ?_
              refine lv_iconst (v := 0) hx hb dX3_next_125 (by decide) ?_
              obtain ⟨h34, eh34, hf⟩ := st_e hf
              refine x_put (ci := 3) (C := RX3) (T := TX3) (N := 9) hx hb hts in_X3 tyX3 tyX3_ok nmX3 hown hK.1 hX rfl (hX.tg g0 (by decide)) (by decide) rfl 8 (Nat.le_of_ble_eq_true rfl) (hts _ q272) (fun _ h9 => h9) rfl rfl rfl (Put1.fI (x := 0) rfl) dX3_next_126 (fun H locs hX => ?_)
              replace hX := hX.re eh34
              clear eh34
              exact B129 n h34 _ _ _ _ kc ks _ _ _ hX (lv_sub hl [1] rfl) hf
          · rw [if_neg c13] at hf
            refine lv_aload_n hx hb dX3_next_94 rfl (lv_at hl 1 rfl) ?_
            refine lv_iconst (v := 1) hx hb dX3_next_95 (by decide) ?_
            obtain ⟨h63, eh63, hf⟩ := st_e hf
            refine x_put (ci := 3) (C := RX3) (T := TX3) (N := 9) hx hb hts in_X3 tyX3 tyX3_ok nmX3 hown hK.1 hX rfl (hX.tg g0 (by decide)) (by decide) rfl 7 (Nat.le_of_ble_eq_true rfl) (hts _ q271) (fun _ h9 => h9) rfl rfl rfl (Put1.fI (x := 1) rfl) dX3_next_96 (fun H locs hX => ?_)
            replace hX := hX.re eh63
            clear eh63
            refine lv_goto (tgt := 251) hx hb dX3_next_99 (by decide) ?_
            obtain ⟨q1, q2⟩ := Prod.mk.inj (Option.some.inj hf)
            obtain ⟨q2, q3⟩ := Prod.mk.inj q2
            obtain ⟨q0, rfl⟩ := Prod.mk.inj q1
            refine W.cs (cells' := MC) (slots' := MS) (by omega) (by omega) ?_
            exact hret _ _ _ _ _ q0.symm hX dX3_next_251
        · rw [if_pos c10] at hf
          refine lv_aload_n hx hb dX3_next_64 rfl (lv_at hl 1 rfl) ?_
          refine lv_aload_n hx hb dX3_next_65 rfl (lv_at hl 1 rfl) ?_
          refine x_get (ci := 3) (C := RX3) (T := TX3) (N := 9) hx hb hts in_X3 hown hK.1 hX rfl (hX.tg g0 (by decide)) (by decide) rfl 5 (Nat.le_of_ble_eq_true rfl) (hts _ q269) (fun _ h9 => h9) (hv_int rfl) dX3_next_66 ?_
          obtain ⟨h64, eh64, hf⟩ := st_e hf
          refine x_put (ci := 3) (C := RX3) (T := TX3) (N := 9) hx hb hts in_X3 tyX3 tyX3_ok nmX3 hown hK.1 hX rfl (hX.tg g0 (by decide)) (by decide) rfl 6 (Nat.le_of_ble_eq_true rfl) (hts _ q270) (fun _ h9 => h9) rfl rfl rfl (Put1.fI (x := (hI h9 o 5)) rfl) dX3_next_69 (fun H locs hX => ?_)
          replace hX := hX.re eh64
          clear eh64
          refine lv_aload_n hx hb dX3_next_72 rfl (lv_at hl 1 rfl) ?_
          refine lv_iconst (v := 0) hx hb dX3_next_73 (by decide) ?_
          obtain ⟨h65, eh65, hf⟩ := st_e hf
          refine x_put (ci := 3) (C := RX3) (T := TX3) (N := 9) hx hb hts in_X3 tyX3 tyX3_ok nmX3 hown hK.1 hX rfl (hX.tg g0 (by decide)) (by decide) rfl 7 (Nat.le_of_ble_eq_true rfl) (hts _ q271) (fun _ h9 => h9) rfl rfl rfl (Put1.fI (x := 0) rfl) dX3_next_74 (fun H locs hX => ?_)
          replace hX := hX.re eh65
          clear eh65
          refine lv_goto (tgt := 251) hx hb dX3_next_77 (by decide) ?_
          obtain ⟨q1, q2⟩ := Prod.mk.inj (Option.some.inj hf)
          obtain ⟨q2, q3⟩ := Prod.mk.inj q2
          obtain ⟨q0, rfl⟩ := Prod.mk.inj q1
          refine W.cs (cells' := MC) (slots' := MS) (by omega) (by omega) ?_
          exact hret _ _ _ _ _ q0.symm hX dX3_next_251
      · rw [if_pos c5] at hf
        refine lv_aload_n hx hb dX3_next_21 rfl (lv_at hl 0 rfl) ?_
        refine lv_dup hx hb dX3_next_22 rfl ?_
        refine x_get (ci := 3) (C := RX3) (T := TX3) (N := 9) hx hb hts in_X3 hown hK.1 hX rfl (hX.tg g0 (by decide)) (by decide) rfl 5 (Nat.le_of_ble_eq_true rfl) (hts _ q269) (fun _ h9 => h9) (hv_int rfl) dX3_next_23 ?_
        refine lv_iconst (v := 1) hx hb dX3_next_26 (by decide) ?_
        refine lv_iadd hx hb dX3_next_27 ?_
        obtain ⟨h66, eh66, hf⟩ := st_e hf
        refine x_put (ci := 3) (C := RX3) (T := TX3) (N := 9) hx hb hts in_X3 tyX3 tyX3_ok nmX3 hown hK.1 hX rfl (hX.tg g0 (by decide)) (by decide) rfl 5 (Nat.le_of_ble_eq_true rfl) (hts _ q269) (fun _ h9 => h9) rfl rfl rfl (Put1.fI (x := ((hI h_2 o 5) + 1)) rfl) dX3_next_28 (fun H locs hX => ?_)
        replace hX := hX.re eh66
        clear eh66
        refine lv_goto (tgt := 8) hx hb dX3_next_31 (by decide) ?_
        exact hK8 h66 _ _ _ _ kc ks _ _ _ hX (lv_sub hl [0] rfl) hf
  refine lv_aload_n hx hb dX3_next_0 rfl (lv_at hl 0 rfl) ?_
  refine lv_aload_n hx hb dX3_next_1 rfl (lv_at hl 0 rfl) ?_
  refine x_get (ci := 3) (C := RX3) (T := TX3) (N := 9) hx hb hts in_X3 hown hK.1 hX rfl (hX.tg g0 (by decide)) (by decide) rfl 6 (Nat.le_of_ble_eq_true rfl) (hts _ q270) (fun _ h9 => h9) (hv_int rfl) dX3_next_2 ?_
  obtain ⟨h1, eh1, hf⟩ := st_e hf
  refine x_put (ci := 3) (C := RX3) (T := TX3) (N := 9) hx hb hts in_X3 tyX3 tyX3_ok nmX3 hown hK.1 hX rfl (hX.tg g0 (by decide)) (by decide) rfl 5 (Nat.le_of_ble_eq_true rfl) (hts _ q269) (fun _ h9 => h9) rfl rfl rfl (Put1.fI (x := (hI h o 6)) rfl) dX3_next_5 (fun H locs hX => ?_)
  replace hX := hX.re eh1
  clear eh1
  exact B8 n h1 _ _ _ _ kc ks _ _ _ hX (lv_sub hl [0] rfl) hf
theorem cdX3_init : yX3_init.cls ≠ "java/lang/invoke/MethodHandle" ∧ yX3_init.cls ≠ "java/lang/invoke/VarHandle" ∧ (parseMethodDescriptor yX3_init.desc).map (fun d => d.parameters.length) = some 1 := by decide +kernel
set_option maxHeartbeats 4000000 in
set_option maxRecDepth 100000 in
theorem wx_Reader_init (l : Launch) (G : Gt) (hG : XG G) (h : Hp) (n : Nat) (o : Nat) (p1 : Option Nat) (res : Sum (Unit) Nat) (h1 : Hp) (MC MS : Nat) (hf : X_Reader_init n o p1 h = some ((res, h1), MC, MS)) : vx_Met l yX3_init (ws_ yX3_init cX3_init 2 none) (rmm (7) MC MS (201)) (XP G [.ref o, va_rf p1] h) (XQn G (fun _ : Unit => none) res h h1) (XCn G res h h1) MC MS (fre h) := by
  rw [X_Reader_init] at hf
  obtain ⟨g0, hf⟩ := gd_e hf
  refine metXv l (by decide) (by cases p1 <;> exact Nat.le_of_ble_eq_true rfl) ?_
  intro p e s m args below meth c Q hx hb hts hown hnmd hml hinit hK hW hret hth ls hl
  have hinit : meth.name = "<init>" := hinit rfl
  have hown : s.vm.findClass RX3 = some m.cls := hown
  have hX := XX.start hW
  have kc : 0 + MC = MC := Nat.zero_add _
  have ks : 0 + MS = MS := Nat.zero_add _
  have hl : lv_has ls 2 [(0, .ref o), (1, va_rf p1)] := Eq.mp (congrArg (lv_has ls 2) (show lv_args 0 [.ref o, va_rf p1] = [(0, .ref o), (1, va_rf p1)] from by clear hf; cases p1 <;> rfl)) hl
  refine lv_aload_n hx hb dX3_init_0 rfl (lv_at hl 0 rfl) ?_
  refine W.objInit hx hb hown (hts _ q147) (hts _ q148) (hts _ q149) rfl (by rw [hml]; exact hl.1) rfl dX3_init_1 (by simp only [rmm]; omega) (by show 2 * 0 + _ + 12 ≤ _; first | exact Nat.le_of_ble_eq_true rfl | (simp only [List.map, List.sum_cons, List.sum_nil, rf_cat, cat_i, cat_l, cat_r, rmm] <;> decide)) ?_
  refine W.eq (g2 := F0 m 4 ls []) rfl ?_
  refine lv_aload_n hx hb dX3_init_4 rfl (lv_at hl 0 rfl) ?_
  refine lv_iconst (v := 4) hx hb dX3_init_5 (by decide) ?_
  obtain ⟨c1, s2, hf, e3, e4⟩ := ad_e hf
  obtain ⟨h5, eh5, hf⟩ := st_e hf
  refine x_newq (C := "PromiseTries$Promise") (t := 7) hx hb hown (hts _ q150) (hG.k hK).2.1.1.2.2.1 rfl (by decide) hK hX rfl (by decide) (by decide) (by simp only [rmm]; omega) (by simp only [rmm]; omega) dX3_init_6 (fun H hX => ?_)
  replace hX := hX.re eh5
  have g6 : hT h5 (hZ h) = 107 := by rw [eh5]; exact nw_T _ _ _
  clear eh5
  replace kc : (0 + 1) + c1 = MC := by omega
  replace ks : (0 + (Int32.toNatClampNeg 4)) + s2 = MS := by omega
  clear e3 e4
  obtain ⟨h7, eh7, hf⟩ := st_e hf
  refine x_putF (ci := 3) (C := RX3) (T := TX3) (N := 9) hx hb hts in_X3 tyX3 tyX3_ok nmX3 hown hK.1 hX rfl (hX.tg g0 (by decide)) (by decide) rfl 1 (Nat.le_of_ble_eq_true rfl) (hts _ q263) (fun _ h9 => h9) rfl hinit rfl (narrow_rfA _ (some (hZ h))) (fits_rfA _ (some (hZ h))) (Put1.fR (x := (some (hZ h))) rfl) dX3_init_9 (fun H locs hX => ?_)
  replace hX := hX.re eh7
  clear eh7
  refine lv_aload_n hx hb dX3_init_12 rfl (lv_at hl 0 rfl) ?_
  refine lx_aload_n hx hb dX3_init_13 rfl (lv_at hl 1 rfl) ?_
  obtain ⟨h8, eh8, hf⟩ := st_e hf
  refine x_putF (ci := 3) (C := RX3) (T := TX3) (N := 9) hx hb hts in_X3 tyX3 tyX3_ok nmX3 hown hK.1 hX rfl (hX.tg g0 (by decide)) (by decide) rfl 0 (Nat.le_of_ble_eq_true rfl) (hts _ q262) (fun _ h9 => h9) rfl hinit rfl (narrow_rfA _ p1) (fits_rfA _ p1) (Put1.fR (x := p1) rfl) dX3_init_14 (fun H locs hX => ?_)
  replace hX := hX.re eh8
  clear eh8
  refine lv_aload_n hx hb dX3_init_17 rfl (lv_at hl 0 rfl) ?_
  obtain ⟨r17, h10, c11, s12, e9, l20, l21, e19⟩ := bdX_e hf
  refine x_doneX (val := (fun _ : Unit => none)) (vx_runV (b := o) (As := []) (rest := []) ⟨hx, hb, hml, hown, hts⟩ (wx_Reader_next l G hG h8 n o r17 h10 c11 s12 e9) (cwV 0 hts (lw_V q152 q154 qs0 q98 q155) rfl rfl rfl ⟨rfl, cdX3_next⟩ ⟨(by simp only [rmm]; omega), (by simp only [rmm]; omega)⟩) (x_preV (ci := 3) (T := TX3) (N := 9) hK hX _ (hX.tg g0 (by decide)) (by decide) rfl) rfl rfl hl.1 rfl (lv_room (Nat.le_of_ble_eq_true rfl)) dX3_init_18 ⟨(by simp only [rmm]; omega), (by simp only [rmm]; omega)⟩) hX e19 hth kc ks (fun r18 c13 s14 hf e15 e16 H locs hX => ?_)
  clear e9 l20 l21 e19
  replace kc : ((0 + 1) + c11) + c13 = MC := by omega
  replace ks : ((0 + (Int32.toNatClampNeg 4)) + s12) + s14 = MS := by omega
  clear e15 e16
  obtain ⟨q1, q2⟩ := Prod.mk.inj (Option.some.inj hf)
  obtain ⟨q2, q3⟩ := Prod.mk.inj q2
  obtain ⟨q0, rfl⟩ := Prod.mk.inj q1
  refine W.cs (cells' := MC) (slots' := MS) (by omega) (by omega) ?_
  exact hret _ _ _ _ _ q0.symm hX dX3_init_21
theorem cdX3_isSign : yX3_isSign.cls ≠ "java/lang/invoke/MethodHandle" ∧ yX3_isSign.cls ≠ "java/lang/invoke/VarHandle" ∧ (parseMethodDescriptor yX3_isSign.desc).map (fun d => d.parameters.length) = some 1 := by decide +kernel
set_option maxHeartbeats 4000000 in
set_option maxRecDepth 100000 in
theorem wx_Reader_isSign (l : Launch) (G : Gt) (hG : XG G) (h : Hp) (n : Nat) (o : Nat) (p1 : Int32) (r : Int32) (hf : X_Reader_isSign n o p1 h = some r) : Met l yX3_isSign (ws_ yX3_isSign cX3_isSign 2 (some .boolean)) (rmm (0) 0 0 (0)) (XP G [.ref o, .int p1] h) (XQp (some (.int r))) 0 0 (fun _ => False) := by
  rw [X_Reader_isSign] at hf
  obtain ⟨g0, hf⟩ := gd_e hf
  refine metPi l (by decide) (Nat.le_of_ble_eq_true rfl) ?_
  intro p e s m args below meth c Q hx hb hts hown hnmd hml hinit hK hW hret ls hl
  have hown : s.vm.findClass RX3 = some m.cls := hown
  have hX := XX.start hW
  have hl : lv_has ls 2 [(0, .ref o), (1, .int p1)] := hl
  have B20 : ∀ (ls : Array Slot), lv_has ls 2 [(0, .ref o)] → X_Reader_isSign_b20 n o h = some r → W p l e (rmm (0) 0 0 (0)) s m args below meth c s.heap [] 0 0 Q (F0 m 20 ls []) := by
    intro ls hl hf
    rw [X_Reader_isSign_b20] at hf
    refine lv_iconst (v := 0) hx hb dX3_isSign_20 (by decide) ?_
    obtain rfl := Option.some.inj hf
    exact hret _ _ rfl dX3_isSign_21
  refine lv_aload_n hx hb dX3_isSign_0 rfl (lv_at hl 0 rfl) ?_
  refine x_get (ci := 3) (C := RX3) (T := TX3) (N := 9) hx hb hts in_X3 hown hK.1 hX rfl g0 (by decide) rfl 7 (Nat.le_of_ble_eq_true rfl) (hts _ q271) (fun _ h9 => h9) (hv_int rfl) dX3_isSign_1 ?_
  refine lv_iconst (v := 3) hx hb dX3_isSign_4 (by decide) ?_
  refine lv_icmp_ne (tgt := 20) hx hb dX3_isSign_5 (by decide) (fun c1 => ?_) (fun c1 => ?_)
  · rw [if_neg c1] at hf
    exact B20 _ (lv_sub hl [0] rfl) hf
  · rw [if_pos c1] at hf
    refine lv_aload_n hx hb dX3_isSign_8 rfl (lv_at hl 0 rfl) ?_
    refine x_get (ci := 3) (C := RX3) (T := TX3) (N := 9) hx hb hts in_X3 hown hK.1 hX rfl g0 (by decide) rfl 8 (Nat.le_of_ble_eq_true rfl) (hts _ q272) (fun _ h9 => h9) (hv_int rfl) dX3_isSign_9 ?_
    refine lv_iload_n hx hb dX3_isSign_12 rfl (lv_at hl 1 rfl) ?_
    refine lv_icmp_ne (tgt := 20) hx hb dX3_isSign_13 (by decide) (fun c2 => ?_) (fun c2 => ?_)
    · rw [if_neg c2] at hf
      exact B20 _ (lv_sub hl [0] rfl) hf
    · rw [if_pos c2] at hf
      refine lv_iconst (v := 1) hx hb dX3_isSign_16 (by decide) ?_
      refine lv_goto (tgt := 21) hx hb dX3_isSign_17 (by decide) ?_
      obtain rfl := Option.some.inj hf
      exact hret _ _ rfl dX3_isSign_21
theorem cdX6_init : yX6_init.cls ≠ "java/lang/invoke/MethodHandle" ∧ yX6_init.cls ≠ "java/lang/invoke/VarHandle" ∧ (parseMethodDescriptor yX6_init.desc).map (fun d => d.parameters.length) = some 0 := by decide +kernel
set_option maxHeartbeats 4000000 in
set_option maxRecDepth 100000 in
theorem wx_Side_init (l : Launch) (G : Gt) (hG : XG G) (h : Hp) (n : Nat) (o : Nat) (h1 : Hp) (MC MS : Nat) (hf : X_Side_init n o h = some (h1, MC, MS)) : Met l yX6_init (ws_ yX6_init cX6_init 1 none) (rmm (1) MC MS (64)) (XP G [.ref o] h) (XQ G none h h1) MC MS (fre h) := by
  rw [X_Side_init] at hf
  obtain ⟨g0, hf⟩ := gd_e hf
  refine metSv l (by decide) (Nat.le_of_ble_eq_true rfl) ?_
  intro p e s m args below meth c Q hx hb hts hown hnmd hml hinit hK hW hret ls hl
  have hinit : meth.name = "<init>" := hinit rfl
  have hown : s.vm.findClass RX6 = some m.cls := hown
  have hX := XX.start hW
  have kc : 0 + MC = MC := Nat.zero_add _
  have ks : 0 + MS = MS := Nat.zero_add _
  have hl : lv_has ls 1 [(0, .ref o)] := hl
  refine lv_aload_n hx hb dX6_init_0 rfl (lv_at hl 0 rfl) ?_
  refine W.objInit hx hb hown (hts _ q315) (hts _ q148) (hts _ q149) rfl (by rw [hml]; exact hl.1) rfl dX6_init_1 (by simp only [rmm]; omega) (by show 2 * 0 + _ + 12 ≤ _; first | exact Nat.le_of_ble_eq_true rfl | (simp only [List.map, List.sum_cons, List.sum_nil, rf_cat, cat_i, cat_l, cat_r, rmm] <;> decide)) ?_
  refine W.eq (g2 := F0 m 4 ls []) rfl ?_
  refine lv_aload_n hx hb dX6_init_4 rfl (lv_at hl 0 rfl) ?_
  refine lv_bipush (v := 41) hx hb dX6_init_5 (by decide) ?_
  obtain ⟨c1, s2, hf, e3, e4⟩ := ad_e hf
  obtain ⟨h5, eh5, hf⟩ := st_e hf
  refine x_newq (C := "PromiseTries$Holds") (t := 5) hx hb hown (hts _ q316) (hG.k hK).2.1.1.1 rfl (by decide) hK hX rfl (by decide) (by decide) (by simp only [rmm]; omega) (by simp only [rmm]; omega) dX6_init_7 (fun H hX => ?_)
  replace hX := hX.re eh5
  have g6 : hT h5 (hZ h) = 105 := by rw [eh5]; exact nw_T _ _ _
  clear eh5
  replace kc : (0 + 1) + c1 = MC := by omega
  replace ks : (0 + (Int32.toNatClampNeg 41)) + s2 = MS := by omega
  clear e3 e4
  obtain ⟨h7, eh7, hf⟩ := st_e hf
  refine x_putF (ci := 6) (C := RX6) (T := TX6) (N := 5) hx hb hts in_X6 tyX6 tyX6_ok nmX6 hown hK.1 hX rfl (hX.tg g0 (by decide)) (by decide) rfl 0 (Nat.le_of_ble_eq_true rfl) (hts _ q320) (fun _ h9 => h9) rfl hinit rfl (narrow_rfA _ (some (hZ h))) (fits_rfA _ (some (hZ h))) (Put1.fR (x := (some (hZ h))) rfl) dX6_init_10 (fun H locs hX => ?_)
  replace hX := hX.re eh7
  clear eh7
  refine lv_aload_n hx hb dX6_init_13 rfl (lv_at hl 0 rfl) ?_
  refine lv_bipush (v := 48) hx hb dX6_init_14 (by decide) ?_
  refine lv_bipush (v := 48) hx hb dX6_init_16 (by decide) ?_
  obtain ⟨c8, s9, hf, e10, e11⟩ := ad_e hf
  obtain ⟨h12, eh12, hf⟩ := st_e hf
  refine x_multi (ty := .long) (to := 11) (ti := 1) hx hb hown (hts _ q318) (hG.k hK).2.1.2.2 (hts _ q342) hK hX rfl rfl (by decide) (by decide) rfl rfl (Or.inr ⟨rfl, rfl⟩) (fun q => q) rfl dX6_init_18 (by decide) (by decide) (by decide) (by decide) (by decide) rfl rfl (by simp only [rmm]; omega) (by simp only [rmm]; omega) (fun H hX => ?_)
  replace hX := hX.re eh12
  clear eh12
  replace kc : ((0 + 1) + 1 + (Int32.toNatClampNeg 48)) + c8 = MC := by omega
  replace ks : ((0 + (Int32.toNatClampNeg 41)) + (Int32.toNatClampNeg 48) + (Int32.toNatClampNeg 48) * (Int32.toNatClampNeg 48)) + s9 = MS := by omega
  clear e10 e11
  obtain ⟨h13, eh13, hf⟩ := st_e hf
  refine x_putF (ci := 6) (C := RX6) (T := TX6) (N := 5) hx hb hts in_X6 tyX6 tyX6_ok nmX6 hown hK.1 hX rfl (hX.tg g0 (by decide)) (by decide) rfl 4 (Nat.le_of_ble_eq_true rfl) (hts _ q329) (fun _ h9 => h9) rfl hinit rfl (narrow_rfA _ (some (hZ h7))) (fits_rfA _ (some (hZ h7))) (Put1.fR (x := (some (hZ h7))) rfl) dX6_init_22 (fun H locs hX => ?_)
  replace hX := hX.re eh13
  clear eh13
  obtain ⟨q1, q2⟩ := Prod.mk.inj (Option.some.inj hf)
  obtain ⟨q2, q3⟩ := Prod.mk.inj q2
  subst q1
  refine W.cs (cells' := MC) (slots' := MS) (by omega) (by omega) ?_
  exact hret _ _ _ _ hX dX6_init_25
theorem cdX5_init : yX5_init.cls ≠ "java/lang/invoke/MethodHandle" ∧ yX5_init.cls ≠ "java/lang/invoke/VarHandle" ∧ (parseMethodDescriptor yX5_init.desc).map (fun d => d.parameters.length) = some 0 := by decide +kernel
set_option maxHeartbeats 4000000 in
set_option maxRecDepth 100000 in
theorem wx_Promise_init (l : Launch) (G : Gt) (hG : XG G) (h : Hp) (n : Nat) (o : Nat) (h1 : Hp) (MC MS : Nat) (hf : X_Promise_init n o h = some (h1, MC, MS)) : Met l yX5_init (ws_ yX5_init cX5_init 1 none) (rmm (2) MC MS (84)) (XP G [.ref o] h) (XQ G none h h1) MC MS (fre h) := by
  rw [X_Promise_init] at hf
  obtain ⟨g0, hf⟩ := gd_e hf
  refine metSv l (by decide) (Nat.le_of_ble_eq_true rfl) ?_
  intro p e s m args below meth c Q hx hb hts hown hnmd hml hinit hK hW hret ls hl
  have hinit : meth.name = "<init>" := hinit rfl
  have hown : s.vm.findClass RX5 = some m.cls := hown
  have hX := XX.start hW
  have kc : 0 + MC = MC := Nat.zero_add _
  have ks : 0 + MS = MS := Nat.zero_add _
  have hl : lv_has ls 1 [(0, .ref o)] := hl
  refine lv_aload_n hx hb dX5_init_0 rfl (lv_at hl 0 rfl) ?_
  refine W.objInit hx hb hown (hts _ q308) (hts _ q148) (hts _ q149) rfl (by rw [hml]; exact hl.1) rfl dX5_init_1 (by simp only [rmm]; omega) (by show 2 * 0 + _ + 12 ≤ _; first | exact Nat.le_of_ble_eq_true rfl | (simp only [List.map, List.sum_cons, List.sum_nil, rf_cat, cat_i, cat_l, cat_r, rmm] <;> decide)) ?_
  refine W.eq (g2 := F0 m 4 ls []) rfl ?_
  refine lv_aload_n hx hb dX5_init_4 rfl (lv_at hl 0 rfl) ?_
  refine lv_iconst (v := 2) hx hb dX5_init_5 (by decide) ?_
  obtain ⟨c1, s2, hf, e3, e4⟩ := ad_e hf
  obtain ⟨h5, eh5, hf⟩ := st_e hf
  refine x_newq (C := "PromiseTries$Side") (t := 6) hx hb hown (hts _ q309) (hG.k hK).2.1.1.2.1 rfl (by decide) hK hX rfl (by decide) (by decide) (by simp only [rmm]; omega) (by simp only [rmm]; omega) dX5_init_6 (fun H hX => ?_)
  replace hX := hX.re eh5
  have g6 : hT h5 (hZ h) = 106 := by rw [eh5]; exact nw_T _ _ _
  clear eh5
  replace kc : (0 + 1) + c1 = MC := by omega
  replace ks : (0 + (Int32.toNatClampNeg 2)) + s2 = MS := by omega
  clear e3 e4
  refine lv_dup hx hb dX5_init_9 rfl ?_
  refine lv_iconst (v := 0) hx hb dX5_init_10 (by decide) ?_
  obtain ⟨c7, s8, hf, e9, e10⟩ := ad_e hf
  obtain ⟨h11, eh11, hf⟩ := st_e hf
  refine x_new (ci := 6) (C := RX6) (T := TX6) (N := 5) hx hb hts in_X6 hown q309 q311 q104 hK hX (by decide) rfl tyX6_ok (fun k hk => dfl _ (dfC6 k hk)) (by simp only [rmm]; omega) (by simp only [rmm]; omega) dX5_init_11 (fun H hX => ?_)
  replace hX := hX.re eh11
  have g12 : hT h11 (hZ h5) = 7 := by rw [eh11]; exact nw_T _ _ _
  clear eh11
  replace kc : ((0 + 1) + 1) + c7 = MC := by omega
  replace ks : ((0 + (Int32.toNatClampNeg 2)) + 5) + s8 = MS := by omega
  clear e9 e10
  refine lv_dup hx hb dX5_init_14 rfl ?_
  obtain ⟨h14, c15, s16, c17, s18, e13, hf, e19, e20⟩ := bdAv_e hf
  refine x_done (mc := c15) (ms := s16) (va_runIN (As := []) (rest := [.ref (hZ h5), .int 0, .ref (hZ h), .ref (hZ h), .ref o]) ⟨hx, hb, hml, hown, hts⟩ (wx_Side_init l G hG h11 n (hZ h5) h14 c15 s16 e13) ⟨va_cnB 0 hts (lw_meth q314) rfl rfl rfl (hG.nw hK nq312) (hts _ q104) cdX6_init ⟨(by simp only [rmm]; omega), (by simp only [rmm]; omega)⟩, rfl, hts _ q313⟩ (x_preS hK hX _) rfl rfl hl.1 rfl (lv_room (Nat.le_of_ble_eq_true rfl)) dX5_init_15 ⟨(by simp only [rmm]; omega), (by simp only [rmm]; omega)⟩) hX rfl (fun H locs hX => ?_)
  clear e13
  replace kc : (((0 + 1) + 1) + c15) + c17 = MC := by omega
  replace ks : (((0 + (Int32.toNatClampNeg 2)) + 5) + s16) + s18 = MS := by omega
  clear e19 e20
  obtain ⟨g21, hf⟩ := gd_e hf
  obtain ⟨g22, hf⟩ := gd_e hf
  obtain ⟨g23, hf⟩ := gd_e hf
  obtain ⟨h24, eh24, hf⟩ := st_e hf
  refine x_aastO hx hb hK hX rfl 6 g21 (by decide) rfl rfl (ci := 6) (T := TX6) (N := 5) rfl (by decide) rfl g22 g23 dX5_init_18 (fun H locs hX => ?_)
  replace hX := hX.re eh24
  clear eh24
  refine lv_dup hx hb dX5_init_19 rfl ?_
  refine lv_iconst (v := 1) hx hb dX5_init_20 (by decide) ?_
  obtain ⟨c25, s26, hf, e27, e28⟩ := ad_e hf
  obtain ⟨h29, eh29, hf⟩ := st_e hf
  refine x_new (ci := 6) (C := RX6) (T := TX6) (N := 5) hx hb hts in_X6 hown q309 q311 q104 hK hX (by decide) rfl tyX6_ok (fun k hk => dfl _ (dfC6 k hk)) (by simp only [rmm]; omega) (by simp only [rmm]; omega) dX5_init_21 (fun H hX => ?_)
  replace hX := hX.re eh29
  have g30 : hT h29 (hZ h24) = 7 := by rw [eh29]; exact nw_T _ _ _
  clear eh29
  replace kc : ((((0 + 1) + 1) + c15) + 1) + c25 = MC := by omega
  replace ks : ((((0 + (Int32.toNatClampNeg 2)) + 5) + s16) + 5) + s26 = MS := by omega
  clear e27 e28
  refine lv_dup hx hb dX5_init_24 rfl ?_
  obtain ⟨h32, c33, s34, c35, s36, e31, hf, e37, e38⟩ := bdAv_e hf
  refine x_done (mc := c33) (ms := s34) (va_runIN (As := []) (rest := [.ref (hZ h24), .int 1, .ref (hZ h), .ref (hZ h), .ref o]) ⟨hx, hb, hml, hown, hts⟩ (wx_Side_init l G hG h29 n (hZ h24) h32 c33 s34 e31) ⟨va_cnB 0 hts (lw_meth q314) rfl rfl rfl (hG.nw hK nq312) (hts _ q104) cdX6_init ⟨(by simp only [rmm]; omega), (by simp only [rmm]; omega)⟩, rfl, hts _ q313⟩ (x_preS hK hX _) rfl rfl hl.1 rfl (lv_room (Nat.le_of_ble_eq_true rfl)) dX5_init_25 ⟨(by simp only [rmm]; omega), (by simp only [rmm]; omega)⟩) hX rfl (fun H locs hX => ?_)
  clear e31
  replace kc : (((((0 + 1) + 1) + c15) + 1) + c33) + c35 = MC := by omega
  replace ks : (((((0 + (Int32.toNatClampNeg 2)) + 5) + s16) + 5) + s34) + s36 = MS := by omega
  clear e37 e38
  obtain ⟨g39, hf⟩ := gd_e hf
  obtain ⟨g40, hf⟩ := gd_e hf
  obtain ⟨g41, hf⟩ := gd_e hf
  obtain ⟨h42, eh42, hf⟩ := st_e hf
  refine x_aastO hx hb hK hX rfl 6 g39 (by decide) rfl rfl (ci := 6) (T := TX6) (N := 5) rfl (by decide) rfl g40 g41 dX5_init_28 (fun H locs hX => ?_)
  replace hX := hX.re eh42
  clear eh42
  obtain ⟨h43, eh43, hf⟩ := st_e hf
  refine x_putF (ci := 5) (C := RX5) (T := TX5) (N := 3) hx hb hts in_X5 tyX5 tyX5_ok nmX5 hown hK.1 hX rfl (hX.tg g0 (by decide)) (by decide) rfl 0 (Nat.le_of_ble_eq_true rfl) (hts _ q343) (fun _ h9 => h9) rfl hinit rfl (narrow_rfA _ (some (hZ h))) (fits_rfA _ (some (hZ h))) (Put1.fR (x := (some (hZ h))) rfl) dX5_init_29 (fun H locs hX => ?_)
  replace hX := hX.re eh43
  clear eh43
  obtain ⟨q1, q2⟩ := Prod.mk.inj (Option.some.inj hf)
  obtain ⟨q2, q3⟩ := Prod.mk.inj q2
  subst q1
  refine W.cs (cells' := MC) (slots' := MS) (by omega) (by omega) ?_
  exact hret _ _ _ _ hX dX5_init_32
theorem cdX3_opens : yX3_opens.cls ≠ "java/lang/invoke/MethodHandle" ∧ yX3_opens.cls ≠ "java/lang/invoke/VarHandle" ∧ (parseMethodDescriptor yX3_opens.desc).map (fun d => d.parameters.length) = some 0 := by decide +kernel
set_option maxHeartbeats 4000000 in
set_option maxRecDepth 100000 in
theorem wx_Reader_opens (l : Launch) (G : Gt) (hG : XG G) (h : Hp) (n : Nat) (o : Nat) (res : Sum (Unit) Nat) (h1 : Hp) (MC MS : Nat) (hf : X_Reader_opens n o h = some ((res, h1), MC, MS)) : vx_Met l yX3_opens (ws_ yX3_opens cX3_opens 1 none) (rmm (7) MC MS (201)) (XP G [.ref o] h) (XQn G (fun _ : Unit => none) res h h1) (XCn G res h h1) MC MS (fre h) := by
  rw [X_Reader_opens] at hf
  obtain ⟨g0, hf⟩ := gd_e hf
  refine metXv l (by decide) (Nat.le_of_ble_eq_true rfl) ?_
  intro p e s m args below meth c Q hx hb hts hown hnmd hml hinit hK hW hret hth ls hl
  have hown : s.vm.findClass RX3 = some m.cls := hown
  have hX := XX.start hW
  have kc : 0 + MC = MC := Nat.zero_add _
  have ks : 0 + MS = MS := Nat.zero_add _
  have hl : lv_has ls 1 [(0, .ref o)] := hl
  have B15 : ∀ (t0 : Int32) (h_2 : Hp) (ck cs qc qs : Nat) (kc : ck + qc = MC) (ks : cs + qs = MS) (H : Heap) (locs : List Loc) (ls : Array Slot), XX G h s.heap h_2 H locs → lv_has ls 1 [(0, .ref o)] → X_Reader_opens_b15 n o t0 h_2 = some ((res, h1), qc, qs) → W p l e (rmm (7) MC MS (201)) s m args below meth c H locs ck cs Q (F0 m 15 ls [.int t0, .ref o]) := by
    intro t0 h_2 ck cs qc qs kc ks H locs ls hX hl hf
    rw [X_Reader_opens_b15] at hf
    refine lv_iconst (v := 4) hx hb dX3_opens_15 (by decide) ?_
    obtain ⟨r11, h4, c5, s6, e3, l14, l15, e13⟩ := bdX_e hf
    refine x_doneX (val := (fun _ : Unit => none)) (vx_runV (b := o) (As := [.int t0, .int 4]) (rest := []) ⟨hx, hb, hml, hown, hts⟩ (wx_Reader_must l G hG h_2 n o t0 4 r11 h4 c5 s6 e3) (cwV 2 hts (lw_V q165 q167 qs2 q98 q168) rfl rfl rfl ⟨rfl, cdX3_must⟩ ⟨(by simp only [rmm]; omega), (by simp only [rmm]; omega)⟩) (x_preV (ci := 3) (T := TX3) (N := 9) hK hX _ (hX.tg g0 (by decide)) (by decide) rfl) rfl rfl hl.1 rfl (lv_room (Nat.le_of_ble_eq_true rfl)) dX3_opens_16 ⟨(by simp only [rmm]; omega), (by simp only [rmm]; omega)⟩) hX e13 hth kc ks (fun r12 c7 s8 hf e9 e10 H locs hX => ?_)
    clear e3 l14 l15 e13
    replace kc : (ck + c5) + c7 = MC := by omega
    replace ks : (cs + s6) + s8 = MS := by omega
    clear e9 e10
    refine lv_aload_n hx hb dX3_opens_19 rfl (lv_at hl 0 rfl) ?_
    refine lv_dup hx hb dX3_opens_20 rfl ?_
    refine x_get (ci := 3) (C := RX3) (T := TX3) (N := 9) hx hb hts in_X3 hown hK.1 hX rfl (hX.tg g0 (by decide)) (by decide) rfl 4 (Nat.le_of_ble_eq_true rfl) (hts _ q268) (fun _ h9 => h9) (hv_int rfl) dX3_opens_21 ?_
    refine lv_iconst (v := 1) hx hb dX3_opens_24 (by decide) ?_
    refine lv_iadd hx hb dX3_opens_25 ?_
    obtain ⟨h16, eh16, hf⟩ := st_e hf
    refine x_put (ci := 3) (C := RX3) (T := TX3) (N := 9) hx hb hts in_X3 tyX3 tyX3_ok nmX3 hown hK.1 hX rfl (hX.tg g0 (by decide)) (by decide) rfl 4 (Nat.le_of_ble_eq_true rfl) (hts _ q268) (fun _ h9 => h9) rfl rfl rfl (Put1.fI (x := ((hI h4 o 4) + 1)) rfl) dX3_opens_26 (fun H locs hX => ?_)
    replace hX := hX.re eh16
    clear eh16
    refine lv_aload_n hx hb dX3_opens_29 rfl (lv_at hl 0 rfl) ?_
    obtain ⟨r25, h18, c19, s20, e17, l28, l29, e27⟩ := bdX_e hf
    refine x_doneX (val := (fun _ : Unit => none)) (vx_runV (b := o) (As := []) (rest := []) ⟨hx, hb, hml, hown, hts⟩ (wx_Reader_next l G hG h16 n o r25 h18 c19 s20 e17) (cwV 0 hts (lw_V q152 q154 qs0 q98 q155) rfl rfl rfl ⟨rfl, cdX3_next⟩ ⟨(by simp only [rmm]; omega), (by simp only [rmm]; omega)⟩) (x_preV (ci := 3) (T := TX3) (N := 9) hK hX _ (hX.tg g0 (by decide)) (by decide) rfl) rfl rfl hl.1 rfl (lv_room (Nat.le_of_ble_eq_true rfl)) dX3_opens_30 ⟨(by simp only [rmm]; omega), (by simp only [rmm]; omega)⟩) hX e27 hth kc ks (fun r26 c21 s22 hf e23 e24 H locs hX => ?_)
    clear e17 l28 l29 e27
    replace kc : ((ck + c5) + c19) + c21 = MC := by omega
    replace ks : ((cs + s6) + s20) + s22 = MS := by omega
    clear e23 e24
    obtain ⟨q1, q2⟩ := Prod.mk.inj (Option.some.inj hf)
    obtain ⟨q2, q3⟩ := Prod.mk.inj q2
    obtain ⟨q0, rfl⟩ := Prod.mk.inj q1
    refine W.cs (cells' := MC) (slots' := MS) (by omega) (by omega) ?_
    exact hret _ _ _ _ _ q0.symm hX dX3_opens_33
  refine lv_aload_n hx hb dX3_opens_0 rfl (lv_at hl 0 rfl) ?_
  refine lv_aload_n hx hb dX3_opens_1 rfl (lv_at hl 0 rfl) ?_
  refine x_get (ci := 3) (C := RX3) (T := TX3) (N := 9) hx hb hts in_X3 hown hK.1 hX rfl (hX.tg g0 (by decide)) (by decide) rfl 4 (Nat.le_of_ble_eq_true rfl) (hts _ q268) (fun _ h9 => h9) (hv_int rfl) dX3_opens_2 ?_
  refine lv_bipush (v := 8) hx hb dX3_opens_5 (by decide) ?_
  refine lv_icmp_ge (tgt := 14) hx hb dX3_opens_7 (by decide) (fun c1 => ?_) (fun c1 => ?_)
  · rw [if_pos c1] at hf
    refine lv_iconst (v := 0) hx hb dX3_opens_14 (by decide) ?_
    exact B15 0 h _ _ _ _ kc ks _ _ _ hX (lv_sub hl [0] rfl) hf
  · rw [if_neg c1] at hf
    refine lv_iconst (v := 1) hx hb dX3_opens_10 (by decide) ?_
    refine lv_goto (tgt := 15) hx hb dX3_opens_11 (by decide) ?_
    exact B15 1 h _ _ _ _ kc ks _ _ _ hX (lv_sub hl [0] rfl) hf
