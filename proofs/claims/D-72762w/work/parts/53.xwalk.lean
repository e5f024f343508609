/-! walks of the system (by program) -/
theorem cdX12_built : yX12_built.cls ≠ "java/lang/invoke/MethodHandle" ∧ yX12_built.cls ≠ "java/lang/invoke/VarHandle" ∧ (parseMethodDescriptor yX12_built.desc).map (fun d => d.parameters.length) = some 1 := by decide +kernel
set_option maxHeartbeats 4000000 in
set_option maxRecDepth 100000 in
theorem wx_Either_built (l : Launch) (G : Gt) (hG : XG G) (D : Nat) (hD : 2 ≤ D) (fb : Nat → Option Nat → Hp → Option ((Option Nat × Hp) × Nat × Nat)) (hrec : ∀ a mm h r h1 k n, fb a mm h = some ((r, h1), k, n) → BuiltOK l G h a mm r h1 k n D) (h : Hp) (n : Nat) (o : Nat) (p1 : Option Nat) (r : Option Nat) (h1 : Hp) (MC MS : Nat) (hf : X_Either_built n fb o p1 h = some ((r, h1), MC, MS)) : Met l yX12_built (ws_ yX12_built cX12_built 4 (some (.object "PromiseTries$Part"))) (rmm (D + 3) MC MS (64 * (D + 1))) (XP G [.ref o, va_rf p1] h) (XQ G (some (va_rf r)) h h1) MC MS (fre h) := by
  rw [X_Either_built] at hf
  obtain ⟨g0, hf⟩ := gd_e hf
  refine metSr l (by decide) (by cases p1 <;> exact Nat.le_of_ble_eq_true rfl) (Or.inl ⟨_, rfl⟩) ?_
  intro p e s m args below meth c Q hx hb hts hown hnmd hml hinit hK hW hret ls hl
  have hown : s.vm.findClass RX12 = some m.cls := hown
  have hX := XX.start hW
  have kc : 0 + MC = MC := Nat.zero_add _
  have ks : 0 + MS = MS := Nat.zero_add _
  have hl : lv_has ls 4 [(0, .ref o), (1, va_rf p1)] := Eq.mp (congrArg (lv_has ls 4) (show lv_args 0 [.ref o, va_rf p1] = [(0, .ref o), (1, va_rf p1)] from by clear hf; cases p1 <;> rfl)) hl
  have B41 : ∀ (v2 : Option Nat) (v3 : Option Nat) (t0 : Int32) (t1 : Option Nat) (t2 : Option Nat) (h_34 : Hp) (ck cs qc qs : Nat) (kc : ck + qc = MC) (ks : cs + qs = MS) (H : Heap) (locs : List Loc) (ls : Array Slot), XX G h s.heap h_34 H locs → lv_has ls 4 [(0, .ref o), (2, va_rf v2), (3, va_rf v3)] → X_Either_built_b41 n fb o v2 v3 t0 t1 t2 h_34 = some ((r, h1), qc, qs) → W p l e (rmm (D + 3) MC MS (64 * (D + 1))) s m args below meth c H locs ck cs Q (F0 m 41 ls [.int t0, va_rf t1, va_rf t2]) := by
    intro v2 v3 t0 t1 t2 h_34 ck cs qc qs kc ks H locs ls hX hl hf
    rw [X_Either_built_b41] at hf
    refine lx_aload_n hx hb dX12_built_41 rfl (lv_at hl 1 rfl) ?_
    obtain ⟨a35, e36, hf⟩ := bd_e hf
    obtain ⟨g37, hf⟩ := gd_e hf
    refine x_getN (ci := 12) (C := RX14) (T := TX14) (N := 3) hx hb hts in_X14 hown hK.1 hX (rf_some e36) g37 (by decide) rfl 1 (Nat.le_of_ble_eq_true rfl) (hG.nw hK nq593) (fun _ h9 => h9) (hv_long rfl) dX12_built_42 ?_
    refine lx_aload_n hx hb dX12_built_45 rfl (lv_at hl 2 rfl) ?_
    obtain ⟨a38, e39, hf⟩ := bd_e hf
    obtain ⟨g40, hf⟩ := gd_e hf
    refine x_getN (ci := 12) (C := RX14) (T := TX14) (N := 3) hx hb hts in_X14 hown hK.1 hX (rf_some e39) g40 (by decide) rfl 1 (Nat.le_of_ble_eq_true rfl) (hG.nw hK nq593) (fun _ h9 => h9) (hv_long rfl) dX12_built_46 ?_
    refine lv_lor hx hb dX12_built_49 ?_
    refine lx_aload_n hx hb dX12_built_50 rfl (lv_at hl 1 rfl) ?_
    refine x_getN (ci := 12) (C := RX14) (T := TX14) (N := 3) hx hb hts in_X14 hown hK.1 hX (rf_some e36) g37 (by decide) rfl 2 (Nat.le_of_ble_eq_true rfl) (hG.nw hK nq596) (fun _ h9 => h9) (hv_long rfl) dX12_built_51 ?_
    refine lx_aload_n hx hb dX12_built_54 rfl (lv_at hl 2 rfl) ?_
    refine x_getN (ci := 12) (C := RX14) (T := TX14) (N := 3) hx hb hts in_X14 hown hK.1 hX (rf_some e39) g40 (by decide) rfl 2 (Nat.le_of_ble_eq_true rfl) (hG.nw hK nq596) (fun _ h9 => h9) (hv_long rfl) dX12_built_55 ?_
    refine lv_lor hx hb dX12_built_58 ?_
    obtain ⟨a41, e42, hf⟩ := bd_e hf
    obtain ⟨h44, e43, hf⟩ := bd_e hf
    refine x_done (mc := 0) (ms := 0) (va_runI (As := [.int t0, .long ((hL h_34 a35 1) ||| (hL h_34 a38 1)), .long ((hL h_34 a35 2) ||| (hL h_34 a38 2))]) (rest := [va_rf t2]) ⟨hx, hb, hml, hown, hts⟩ (wx_Part_init l G hG h_34 n a41 t0 ((hL h_34 a35 1) ||| (hL h_34 a38 1)) ((hL h_34 a35 2) ||| (hL h_34 a38 2)) h44 e43) (cwI 3 hts (lw_meth q586) rfl rfl rfl (hts _ q113) (hts _ q626) (hts _ q585) rfl cdX14_init ⟨(by simp only [rmm]; omega), (by simp only [rmm]; omega)⟩) (x_preS hK hX _) rfl rfl hl.1 (stk_eq (rf_some e42) rfl) (lv_room (by simp only [List.map, List.sum_cons, List.sum_nil, rf_cat, cat_i, cat_l, cat_r] <;> decide)) dX12_built_59 ⟨(by simp only [rmm]; omega), (by simp only [rmm]; omega)⟩) hX rfl (fun H locs hX => ?_)
    clear e43
    obtain ⟨q1, q2⟩ := Prod.mk.inj (Option.some.inj hf)
    obtain ⟨q2, q3⟩ := Prod.mk.inj q2
    obtain ⟨rfl, rfl⟩ := Prod.mk.inj q1
    refine W.cs (cells' := MC) (slots' := MS) (by omega) (by omega) ?_
    exact hret _ _ _ _ hX dX12_built_62
  have B36 : ∀ (v2 : Option Nat) (v3 : Option Nat) (t0 : Option Nat) (t1 : Option Nat) (h_33 : Hp) (ck cs qc qs : Nat) (kc : ck + qc = MC) (ks : cs + qs = MS) (H : Heap) (locs : List Loc) (ls : Array Slot), XX G h s.heap h_33 H locs → lv_has ls 4 [(0, .ref o), (2, va_rf v2), (3, va_rf v3)] → X_Either_built_b36 n fb o v2 v3 t0 t1 h_33 = some ((r, h1), qc, qs) → W p l e (rmm (D + 3) MC MS (64 * (D + 1))) s m args below meth c H locs ck cs Q (F0 m 36 ls [va_rf t0, va_rf t1]) := by
    intro v2 v3 t0 t1 h_33 ck cs qc qs kc ks H locs ls hX hl hf
    rw [X_Either_built_b36] at hf
    refine lv_iconst (v := 1) hx hb dX12_built_36 (by decide) ?_
    refine lv_goto (tgt := 41) hx hb dX12_built_37 (by decide) ?_
    exact B41 v2 v3 1 t0 t1 h_33 _ _ _ _ kc ks _ _ _ hX (lv_sub hl [0, 1, 2] rfl) hf
  refine lv_aload_n hx hb dX12_built_0 rfl (lv_at hl 0 rfl) ?_
  refine x_get (ci := 10) (C := RX12) (T := TX12) (N := 2) hx hb hts in_X12 hown hK.1 hX rfl (hX.tg g0 (by decide)) (by decide) rfl 0 (Nat.le_of_ble_eq_true rfl) (hts _ q467) (u_same (hts _ q468)) (hv_ref rfl) dX12_built_1 ?_
  refine lx_aload_n hx hb dX12_built_4 rfl (lv_at hl 1 rfl) ?_
  obtain ⟨a1, e2, hf⟩ := bd_e hf
  obtain ⟨r4, h5, c6, s7, c8, s9, e3, hf, e10, e11⟩ := bdA_e hf
  refine x_built hG hx hb hml hts hown hK hX (rf_some e2) (mm := p1) rfl (hrec _ _ _ _ _ _ _ e3) q607 hl.1 (Nat.le_of_ble_eq_true rfl) (by simp only [rmm]; omega) (by simp only [rmm]; omega) ⟨(by simp only [rmm]; omega), (by simp only [rmm]; omega)⟩ dX12_built_5 (fun H locs hX => ?_)
  clear e3
  replace kc : (0 + c6) + c8 = MC := by omega
  replace ks : (0 + s7) + s9 = MS := by omega
  clear e10 e11
  refine lx_astore_n (r := r4) (lv' := [(2, va_rf r4), (0, .ref o), (1, va_rf p1)]) hx hb dX12_built_8 rfl hl (by decide) (by generalize hq9 : va_rf p1 = w9; have hc9 : w9.category = 1 := (by rw [← hq9]; exact rf_cat _); cases w9 <;> first | rfl | cases hc9) (fun ls hl => ?_)
  refine lv_aload_n hx hb dX12_built_9 rfl (lv_at hl 1 rfl) ?_
  refine x_get (ci := 10) (C := RX12) (T := TX12) (N := 2) hx hb hts in_X12 hown hK.1 hX rfl (hX.tg g0 (by decide)) (by decide) rfl 1 (Nat.le_of_ble_eq_true rfl) (hts _ q474) (u_same (hts _ q475)) (hv_ref rfl) dX12_built_10 ?_
  refine lx_aload_n hx hb dX12_built_13 rfl (lv_at hl 2 rfl) ?_
  obtain ⟨a12, e13, hf⟩ := bd_e hf
  obtain ⟨r15, h16, c17, s18, c19, s20, e14, hf, e21, e22⟩ := bdA_e hf
  refine x_built hG hx hb hml hts hown hK hX (rf_some e13) (mm := p1) rfl (hrec _ _ _ _ _ _ _ e14) q607 hl.1 (Nat.le_of_ble_eq_true rfl) (by simp only [rmm]; omega) (by simp only [rmm]; omega) ⟨(by simp only [rmm]; omega), (by simp only [rmm]; omega)⟩ dX12_built_14 (fun H locs hX => ?_)
  clear e14
  replace kc : ((0 + c6) + c17) + c19 = MC := by omega
  replace ks : ((0 + s7) + s18) + s20 = MS := by omega
  clear e21 e22
  refine lx_astore_n (r := r15) (lv' := [(3, va_rf r15), (2, va_rf r4), (0, .ref o), (1, va_rf p1)]) hx hb dX12_built_17 rfl hl (by decide) (by generalize hq9 : va_rf r4 = w9; have hc9 : w9.category = 1 := (by rw [← hq9]; exact rf_cat _); cases w9 <;> first | rfl | cases hc9) (fun ls hl => ?_)
  obtain ⟨c23, s24, hf, e25, e26⟩ := ad_e hf
  obtain ⟨h27, eh27, hf⟩ := st_e hf
  refine x_new (ci := 12) (C := RX14) (T := TX14) (N := 3) hx hb hts in_X14 hown q625 q583 q113 hK hX (by decide) rfl tyX14_ok (fun k hk => dfl _ (dfC12 k hk)) (by simp only [rmm]; omega) (by simp only [rmm]; omega) dX12_built_18 (fun H hX => ?_)
  replace hX := hX.re eh27
  have g28 : hT h27 (hZ h16) = 13 := by rw [eh27]; exact nw_T _ _ _
  clear eh27
  replace kc : (((0 + c6) + c17) + 1) + c23 = MC := by omega
  replace ks : (((0 + s7) + s18) + 3) + s24 = MS := by omega
  clear e25 e26
  refine lv_dup hx hb dX12_built_21 rfl ?_
  refine lx_aload_n hx hb dX12_built_22 rfl (lv_at hl 1 rfl) ?_
  obtain ⟨a29, e30, hf⟩ := bd_e hf
  obtain ⟨g31, hf⟩ := gd_e hf
  refine x_getN (ci := 12) (C := RX14) (T := TX14) (N := 3) hx hb hts in_X14 hown hK.1 hX (rf_some e30) g31 (by decide) rfl 0 (Nat.le_of_ble_eq_true rfl) (hG.nw hK nq590) (fun _ h9 => h9) (hv_int rfl) dX12_built_23 ?_
  refine lv_if_ne (tgt := 36) hx hb dX12_built_26 (by decide) (fun c32 => ?_) (fun c32 => ?_)
  · rw [if_neg c32] at hf
    exact B36 r4 r15 (some (hZ h16)) (some (hZ h16)) h27 _ _ _ _ kc ks _ _ _ hX (lv_sub hl [2, 1, 0] rfl) hf
  · rw [if_pos c32] at hf
    refine lx_aload_n hx hb dX12_built_29 rfl (lv_at hl 0 rfl) ?_
    obtain ⟨a45, e46, hf⟩ := bd_e hf
    obtain ⟨g47, hf⟩ := gd_e hf
    refine x_getN (ci := 12) (C := RX14) (T := TX14) (N := 3) hx hb hts in_X14 hown hK.1 hX (rf_some e46) g47 (by decide) rfl 0 (Nat.le_of_ble_eq_true rfl) (hG.nw hK nq590) (fun _ h9 => h9) (hv_int rfl) dX12_built_30 ?_
    refine lv_if_eq (tgt := 40) hx hb dX12_built_33 (by decide) (fun c48 => ?_) (fun c48 => ?_)
    · rw [if_pos c48] at hf
      refine lv_iconst (v := 0) hx hb dX12_built_40 (by decide) ?_
      exact B41 r4 r15 0 (some (hZ h16)) (some (hZ h16)) h27 _ _ _ _ kc ks _ _ _ hX (lv_sub hl [2, 1, 0] rfl) hf
    · rw [if_neg c48] at hf
      exact B36 r4 r15 (some (hZ h16)) (some (hZ h16)) h27 _ _ _ _ kc ks _ _ _ hX (lv_sub hl [2, 1, 0] rfl) hf
theorem cdX13_place : yX13_place.cls ≠ "java/lang/invoke/MethodHandle" ∧ yX13_place.cls ≠ "java/lang/invoke/VarHandle" ∧ (parseMethodDescriptor yX13_place.desc).map (fun d => d.parameters.length) = some 1 := by decide +kernel
set_option maxHeartbeats 4000000 in
set_option maxRecDepth 100000 in
theorem wx_Machine_place (l : Launch) (G : Gt) (hG : XG G) (h : Hp) (n : Nat) (o : Nat) (p1 : Option Nat) (r : Option Nat) (h1 : Hp) (MC MS : Nat) (hf : X_Machine_place n o p1 h = some ((r, h1), MC, MS)) : Met l yX13_place (ws_ yX13_place cX13_place 2 (some (.object "PromiseTries$Part"))) (rmm (2) MC MS (89)) (XP G [.ref o, va_rf p1] h) (XQ G (some (va_rf r)) h h1) MC MS (fre h) := by
  rw [X_Machine_place] at hf
  obtain ⟨g0, hf⟩ := gd_e hf
  refine metSr l (by decide) (by cases p1 <;> exact Nat.le_of_ble_eq_true rfl) (Or.inl ⟨_, rfl⟩) ?_
  intro p e s m args below meth c Q hx hb hts hown hnmd hml hinit hK hW hret ls hl
  have hown : s.vm.findClass RX13 = some m.cls := hown
  have hX := XX.start hW
  have kc : 0 + MC = MC := Nat.zero_add _
  have ks : 0 + MS = MS := Nat.zero_add _
  have hl : lv_has ls 2 [(0, .ref o), (1, va_rf p1)] := Eq.mp (congrArg (lv_has ls 2) (show lv_args 0 [.ref o, va_rf p1] = [(0, .ref o), (1, va_rf p1)] from by clear hf; cases p1 <;> rfl)) hl
  refine lv_aload_n hx hb dX13_place_0 rfl (lv_at hl 0 rfl) ?_
  refine x_get (ci := 11) (C := RX13) (T := TX13) (N := 6) hx hb hts in_X13 hown hK.1 hX rfl (hX.tg g0 (by decide)) (by decide) rfl 0 (Nat.le_of_ble_eq_true rfl) (hts _ q548) (fun _ h9 => h9) (hv_ref rfl) dX13_place_1 ?_
  refine lv_aload_n hx hb dX13_place_4 rfl (lv_at hl 0 rfl) ?_
  refine x_get (ci := 11) (C := RX13) (T := TX13) (N := 6) hx hb hts in_X13 hown hK.1 hX rfl (hX.tg g0 (by decide)) (by decide) rfl 2 (Nat.le_of_ble_eq_true rfl) (hts _ q550) (fun _ h9 => h9) (hv_int rfl) dX13_place_5 ?_
  refine lx_aload_n hx hb dX13_place_8 rfl (lv_at hl 1 rfl) ?_
  obtain ⟨a1, e2, hf⟩ := bd_e hf
  obtain ⟨g3, hf⟩ := gd_e hf
  obtain ⟨a4, e5, hf⟩ := bd_e hf
  obtain ⟨g6, hf⟩ := gd_e hf
  obtain ⟨g7, hf⟩ := gd_e hf
  obtain ⟨h8, eh8, hf⟩ := st_e hf
  refine x_aastL' hG hx hb hK hX (rf_some e2) g3 (rf_some e5) g6 g7 dX13_place_9 (fun H locs hX => ?_)
  replace hX := hX.re eh8
  clear eh8
  refine lv_aload_n hx hb dX13_place_10 rfl (lv_at hl 0 rfl) ?_
  refine lv_dup hx hb dX13_place_11 rfl ?_
  refine x_get (ci := 11) (C := RX13) (T := TX13) (N := 6) hx hb hts in_X13 hown hK.1 hX rfl (hX.tg g0 (by decide)) (by decide) rfl 2 (Nat.le_of_ble_eq_true rfl) (hts _ q550) (fun _ h9 => h9) (hv_int rfl) dX13_place_12 ?_
  refine lv_iconst (v := 1) hx hb dX13_place_15 (by decide) ?_
  refine lv_iadd hx hb dX13_place_16 ?_
  obtain ⟨h9, eh9, hf⟩ := st_e hf
  refine x_put (ci := 11) (C := RX13) (T := TX13) (N := 6) hx hb hts in_X13 tyX13 tyX13_ok nmX13 hown hK.1 hX rfl (hX.tg g0 (by decide)) (by decide) rfl 2 (Nat.le_of_ble_eq_true rfl) (hts _ q550) (fun _ h9 => h9) rfl rfl rfl (Put1.fI (x := ((hI h8 o 2) + 1)) rfl) dX13_place_17 (fun H locs hX => ?_)
  replace hX := hX.re eh9
  clear eh9
  obtain ⟨c10, s11, hf, e12, e13⟩ := ad_e hf
  obtain ⟨h14, eh14, hf⟩ := st_e hf
  refine x_new (ci := 12) (C := RX14) (T := TX14) (N := 3) hx hb hts in_X14 hown q582 q583 q113 hK hX (by decide) rfl tyX14_ok (fun k hk => dfl _ (dfC12 k hk)) (by simp only [rmm]; omega) (by simp only [rmm]; omega) dX13_place_20 (fun H hX => ?_)
  replace hX := hX.re eh14
  have g15 : hT h14 (hZ h9) = 13 := by rw [eh14]; exact nw_T _ _ _
  clear eh14
  replace kc : (0 + 1) + c10 = MC := by omega
  replace ks : (0 + 3) + s11 = MS := by omega
  clear e12 e13
  refine lv_dup hx hb dX13_place_23 rfl ?_
  refine lv_iconst (v := 0) hx hb dX13_place_24 (by decide) ?_
  refine lv_lconst (v := 1) hx hb dX13_place_25 (by decide) ?_
  refine lv_aload_n hx hb dX13_place_26 rfl (lv_at hl 0 rfl) ?_
  refine x_get (ci := 11) (C := RX13) (T := TX13) (N := 6) hx hb hts in_X13 hown hK.1 hX rfl (hX.tg g0 (by decide)) (by decide) rfl 2 (Nat.le_of_ble_eq_true rfl) (hts _ q550) (fun _ h9 => h9) (hv_int rfl) dX13_place_27 ?_
  refine lv_iconst (v := 1) hx hb dX13_place_30 (by decide) ?_
  refine lv_isub hx hb dX13_place_31 ?_
  refine lv_lshl hx hb dX13_place_32 rfl ?_
  refine lv_lconst (v := 1) hx hb dX13_place_33 (by decide) ?_
  refine lv_aload_n hx hb dX13_place_34 rfl (lv_at hl 0 rfl) ?_
  refine x_get (ci := 11) (C := RX13) (T := TX13) (N := 6) hx hb hts in_X13 hown hK.1 hX rfl (hX.tg g0 (by decide)) (by decide) rfl 2 (Nat.le_of_ble_eq_true rfl) (hts _ q550) (fun _ h9 => h9) (hv_int rfl) dX13_place_35 ?_
  refine lv_iconst (v := 1) hx hb dX13_place_38 (by decide) ?_
  refine lv_isub hx hb dX13_place_39 ?_
  refine lv_lshl hx hb dX13_place_40 rfl ?_
  obtain ⟨h17, e16, hf⟩ := bd_e hf
  refine x_done (mc := 0) (ms := 0) (va_runI (As := [.int 0, .long (1 <<< (Int32.toInt64 ((hI h14 o 2) - 1) &&& 63)), .long (1 <<< (Int32.toInt64 ((hI h14 o 2) - 1) &&& 63))]) (rest := [.ref (hZ h9)]) ⟨hx, hb, hml, hown, hts⟩ (wx_Part_init l G hG h14 n (hZ h9) 0 (1 <<< (Int32.toInt64 ((hI h14 o 2) - 1) &&& 63)) (1 <<< (Int32.toInt64 ((hI h14 o 2) - 1) &&& 63)) h17 e16) (cwI 3 hts (lw_meth q586) rfl rfl rfl (hts _ q113) (hts _ q584) (hts _ q585) rfl cdX14_init ⟨(by simp only [rmm]; omega), (by simp only [rmm]; omega)⟩) (x_preS hK hX _) rfl rfl hl.1 rfl (lv_room (Nat.le_of_ble_eq_true rfl)) dX13_place_41 ⟨(by simp only [rmm]; omega), (by simp only [rmm]; omega)⟩) hX rfl (fun H locs hX => ?_)
  clear e16
  obtain ⟨q1, q2⟩ := Prod.mk.inj (Option.some.inj hf)
  obtain ⟨q2, q3⟩ := Prod.mk.inj q2
  obtain ⟨rfl, rfl⟩ := Prod.mk.inj q1
  refine W.cs (cells' := MC) (slots' := MS) (by omega) (by omega) ?_
  exact hret _ _ _ _ hX dX13_place_44
theorem cdX8_built : yX8_built.cls ≠ "java/lang/invoke/MethodHandle" ∧ yX8_built.cls ≠ "java/lang/invoke/VarHandle" ∧ (parseMethodDescriptor yX8_built.desc).map (fun d => d.parameters.length) = some 1 := by decide +kernel
set_option maxHeartbeats 4000000 in
set_option maxRecDepth 100000 in
theorem wx_Atom_built (l : Launch) (G : Gt) (hG : XG G) (h : Hp) (n : Nat) (o : Nat) (p1 : Option Nat) (r : Option Nat) (h1 : Hp) (MC MS : Nat) (hf : X_Atom_built n o p1 h = some ((r, h1), MC, MS)) : Met l yX8_built (ws_ yX8_built cX8_built 2 (some (.object "PromiseTries$Part"))) (rmm (3) MC MS (110)) (XP G [.ref o, va_rf p1] h) (XQ G (some (va_rf r)) h h1) MC MS (fre h) := by
  rw [X_Atom_built] at hf
  obtain ⟨g0, hf⟩ := gd_e hf
  refine metSr l (by decide) (by cases p1 <;> exact Nat.le_of_ble_eq_true rfl) (Or.inl ⟨_, rfl⟩) ?_
  intro p e s m args below meth c Q hx hb hts hown hnmd hml hinit hK hW hret ls hl
  have hown : s.vm.findClass RX8 = some m.cls := hown
  have hX := XX.start hW
  have kc : 0 + MC = MC := Nat.zero_add _
  have ks : 0 + MS = MS := Nat.zero_add _
  have hl : lv_has ls 2 [(0, .ref o), (1, va_rf p1)] := Eq.mp (congrArg (lv_has ls 2) (show lv_args 0 [.ref o, va_rf p1] = [(0, .ref o), (1, va_rf p1)] from by clear hf; cases p1 <;> rfl)) hl
  refine lx_aload_n hx hb dX8_built_0 rfl (lv_at hl 1 rfl) ?_
  refine lv_aload_n hx hb dX8_built_1 rfl (lv_at hl 0 rfl) ?_
  refine x_get (ci := 7) (C := RX8) (T := TX8) (N := 2) hx hb hts in_X8 hown hK.1 hX rfl (hX.tg g0 (by decide)) (by decide) rfl 1 (Nat.le_of_ble_eq_true rfl) (hts _ q428) (fun _ h9 => h9) (hv_ref rfl) dX8_built_2 ?_
  obtain ⟨a1, e2, hf⟩ := bd_e hf
  obtain ⟨g4, hf⟩ := gd_e hf
  obtain ⟨r12, h5, c6, s7, c8, s9, e3, hf, e10, e11⟩ := bdA_e hf
  refine x_done (mc := c6) (ms := s7) (va_runV (b := a1) (As := [va_rf (hR h o 1)]) (rest := []) ⟨hx, hb, hml, hown, hts⟩ (wx_Machine_place l G hG h n a1 (hR h o 1) r12 h5 c6 s7 e3) (cwV 1 hts (lw_V q578 q579 q580 q112 q581) rfl rfl rfl ⟨rfl, cdX13_place⟩ ⟨(by simp only [rmm]; omega), (by simp only [rmm]; omega)⟩) (x_preV (ci := 11) (T := TX13) (N := 6) hK hX _ g4 (by decide) rfl) rfl rfl hl.1 (stk_eq (rf_some e2) rfl) (lv_room (Nat.le_of_ble_eq_true rfl)) dX8_built_5 ⟨(by simp only [rmm]; omega), (by simp only [rmm]; omega)⟩) hX rfl (fun H locs hX => ?_)
  clear e3
  replace kc : (0 + c6) + c8 = MC := by omega
  replace ks : (0 + s7) + s9 = MS := by omega
  clear e10 e11
  obtain ⟨q1, q2⟩ := Prod.mk.inj (Option.some.inj hf)
  obtain ⟨q2, q3⟩ := Prod.mk.inj q2
  obtain ⟨rfl, rfl⟩ := Prod.mk.inj q1
  refine W.cs (cells' := MC) (slots' := MS) (by omega) (by omega) ?_
  exact hret _ _ _ _ hX dX8_built_8
theorem cdX14_orNone : yX14_orNone.cls ≠ "java/lang/invoke/MethodHandle" ∧ yX14_orNone.cls ≠ "java/lang/invoke/VarHandle" ∧ (parseMethodDescriptor yX14_orNone.desc).map (fun d => d.parameters.length) = some 0 := by decide +kernel
set_option maxHeartbeats 4000000 in
set_option maxRecDepth 100000 in
theorem wx_Part_orNone (l : Launch) (G : Gt) (hG : XG G) (h : Hp) (n : Nat) (o : Nat) (r : Option Nat) (h1 : Hp) (MC MS : Nat) (hf : X_Part_orNone n o h = some ((r, h1), MC, MS)) : Met l yX14_orNone (ws_ yX14_orNone cX14_orNone 1 (some (.object "PromiseTries$Part"))) (rmm (2) MC MS (89)) (XP G [.ref o] h) (XQ G (some (va_rf r)) h h1) MC MS (fre h) := by
  rw [X_Part_orNone] at hf
  obtain ⟨g0, hf⟩ := gd_e hf
  refine metSr l (by decide) (Nat.le_of_ble_eq_true rfl) (Or.inl ⟨_, rfl⟩) ?_
  intro p e s m args below meth c Q hx hb hts hown hnmd hml hinit hK hW hret ls hl
  have hown : s.vm.findClass RX14 = some m.cls := hown
  have hX := XX.start hW
  have kc : 0 + MC = MC := Nat.zero_add _
  have ks : 0 + MS = MS := Nat.zero_add _
  have hl : lv_has ls 1 [(0, .ref o)] := hl
  obtain ⟨c1, s2, hf, e3, e4⟩ := ad_e hf
  obtain ⟨h5, eh5, hf⟩ := st_e hf
  refine x_new (ci := 12) (C := RX14) (T := TX14) (N := 3) hx hb hts in_X14 hown q618 q583 q113 hK hX (by decide) rfl tyX14_ok (fun k hk => dfl _ (dfC12 k hk)) (by simp only [rmm]; omega) (by simp only [rmm]; omega) dX14_orNone_0 (fun H hX => ?_)
  replace hX := hX.re eh5
  have g6 : hT h5 (hZ h) = 13 := by rw [eh5]; exact nw_T _ _ _
  clear eh5
  replace kc : (0 + 1) + c1 = MC := by omega
  replace ks : (0 + 3) + s2 = MS := by omega
  clear e3 e4
  refine lv_dup hx hb dX14_orNone_3 rfl ?_
  refine lv_iconst (v := 1) hx hb dX14_orNone_4 (by decide) ?_
  refine lv_aload_n hx hb dX14_orNone_5 rfl (lv_at hl 0 rfl) ?_
  refine x_get (ci := 12) (C := RX14) (T := TX14) (N := 3) hx hb hts in_X14 hown hK.1 hX rfl (hX.tg g0 (by decide)) (by decide) rfl 1 (Nat.le_of_ble_eq_true rfl) (hts _ q591) (fun _ h9 => h9) (hv_long rfl) dX14_orNone_6 ?_
  refine lv_aload_n hx hb dX14_orNone_9 rfl (lv_at hl 0 rfl) ?_
  refine x_get (ci := 12) (C := RX14) (T := TX14) (N := 3) hx hb hts in_X14 hown hK.1 hX rfl (hX.tg g0 (by decide)) (by decide) rfl 2 (Nat.le_of_ble_eq_true rfl) (hts _ q594) (fun _ h9 => h9) (hv_long rfl) dX14_orNone_10 ?_
  obtain ⟨h8, e7, hf⟩ := bd_e hf
  refine x_done (mc := 0) (ms := 0) (va_runI (As := [.int 1, .long (hL h5 o 1), .long (hL h5 o 2)]) (rest := [.ref (hZ h)]) ⟨hx, hb, hml, hown, hts⟩ (wx_Part_init l G hG h5 n (hZ h) 1 (hL h5 o 1) (hL h5 o 2) h8 e7) (cwI 3 hts (lw_meth q586) rfl rfl rfl (hts _ q113) (hts _ q619) (hts _ q585) rfl cdX14_init ⟨(by simp only [rmm]; omega), (by simp only [rmm]; omega)⟩) (x_preS hK hX _) rfl rfl hl.1 rfl (lv_room (Nat.le_of_ble_eq_true rfl)) dX14_orNone_13 ⟨(by simp only [rmm]; omega), (by simp only [rmm]; omega)⟩) hX rfl (fun H locs hX => ?_)
  clear e7
  obtain ⟨q1, q2⟩ := Prod.mk.inj (Option.some.inj hf)
  obtain ⟨q2, q3⟩ := Prod.mk.inj q2
  obtain ⟨rfl, rfl⟩ := Prod.mk.inj q1
  refine W.cs (cells' := MC) (slots' := MS) (by omega) (by omega) ?_
  exact hret _ _ _ _ hX dX14_orNone_16
theorem cdX9_built : yX9_built.cls ≠ "java/lang/invoke/MethodHandle" ∧ yX9_built.cls ≠ "java/lang/invoke/VarHandle" ∧ (parseMethodDescriptor yX9_built.desc).map (fun d => d.parameters.length) = some 1 := by decide +kernel
set_option maxHeartbeats 4000000 in
set_option maxRecDepth 100000 in
theorem wx_Times_built (l : Launch) (G : Gt) (hG : XG G) (D : Nat) (hD : 2 ≤ D) (fb : Nat → Option Nat → Hp → Option ((Option Nat × Hp) × Nat × Nat)) (hrec : ∀ a mm h r h1 k n, fb a mm h = some ((r, h1), k, n) → BuiltOK l G h a mm r h1 k n D) (h : Hp) (n : Nat) (o : Nat) (p1 : Option Nat) (r : Option Nat) (h1 : Hp) (MC MS : Nat) (hf : X_Times_built n fb o p1 h = some ((r, h1), MC, MS)) : Met l yX9_built (ws_ yX9_built cX9_built 5 (some (.object "PromiseTries$Part"))) (rmm (D + 3) MC MS (64 * (D + 1))) (XP G [.ref o, va_rf p1] h) (XQ G (some (va_rf r)) h h1) MC MS (fre h) := by
  rw [X_Times_built] at hf
  obtain ⟨g0, hf⟩ := gd_e hf
  refine metSr l (by decide) (by cases p1 <;> exact Nat.le_of_ble_eq_true rfl) (Or.inl ⟨_, rfl⟩) ?_
  intro p e s m args below meth c Q hx hb hts hown hnmd hml hinit hK hW hret ls hl
  have hown : s.vm.findClass RX9 = some m.cls := hown
  have hX := XX.start hW
  have kc : 0 + MC = MC := Nat.zero_add _
  have ks : 0 + MS = MS := Nat.zero_add _
  have hl : lv_has ls 5 [(0, .ref o), (1, va_rf p1)] := Eq.mp (congrArg (lv_has ls 5) (show lv_args 0 [.ref o, va_rf p1] = [(0, .ref o), (1, va_rf p1)] from by clear hf; cases p1 <;> rfl)) hl
  have B70 : ∀ (K32 : Option Nat → Option Nat → Int32 → Hp → Option ((Option Nat × Hp) × Nat × Nat)) (hK32 : ∀ (v1 : Option Nat) (v2 : Option Nat) (v3 : Int32) (h2 : Hp) (ck cs qc qs : Nat) (_ : ck + qc = MC) (_ : cs + qs = MS) (H : Heap) (locs : List Loc) (ls : Array Slot), XX G h s.heap h2 H locs → lv_has ls 5 [(0, .ref o), (1, va_rf v1), (2, va_rf v2), (3, .int v3)] → K32 v1 v2 v3 h2 = some ((r, h1), qc, qs) → W p l e (rmm (D + 3) MC MS (64 * (D + 1))) s m args below meth c H locs ck cs Q (F0 m 32 ls [])) (v1 : Option Nat) (v3 : Int32) (t0 : Option Nat) (t1 : Option Nat) (t2 : Option Nat) (h_40 : Hp) (ck cs qc qs : Nat) (kc : ck + qc = MC) (ks : cs + qs = MS) (H : Heap) (locs : List Loc) (ls : Array Slot), XX G h s.heap h_40 H locs → lv_has ls 5 [(0, .ref o), (1, va_rf v1), (3, .int v3)] → X_Times_built_b70 n fb o K32 v1 v3 t0 t1 t2 h_40 = some ((r, h1), qc, qs) → W p l e (rmm (D + 3) MC MS (64 * (D + 1))) s m args below meth c H locs ck cs Q (F0 m 70 ls [va_rf t0, va_rf t1, va_rf t2]) := by
    intro K32 hK32 v1 v3 t0 t1 t2 h_40 ck cs qc qs kc ks H locs ls hX hl hf
    rw [X_Times_built_b70] at hf
    obtain ⟨a41, e42, hf⟩ := bd_e hf
    obtain ⟨g44, hf⟩ := gd_e hf
    obtain ⟨r52, h45, c46, s47, c48, s49, e43, hf, e50, e51⟩ := bdA_e hf
    refine x_done (mc := c46) (ms := s47) (va_runV (b := a41) (As := [va_rf t1, va_rf t0]) (rest := []) ⟨hx, hb, hml, hown, hts⟩ (wx_Machine_joined l G hG h_40 n a41 t1 t0 r52 h45 c46 s47 e43) (cwV 2 hts (lw_V q620 q621 q622 q112 q623) rfl rfl rfl ⟨rfl, cdX13_joined⟩ ⟨(by simp only [rmm]; omega), (by simp only [rmm]; omega)⟩) (x_preV (ci := 11) (T := TX13) (N := 6) hK hX _ g44 (by decide) rfl) rfl rfl hl.1 (stk_eq (rf_some e42) rfl) (lv_room (Nat.le_of_ble_eq_true rfl)) dX9_built_70 ⟨(by simp only [rmm]; omega), (by simp only [rmm]; omega)⟩) hX rfl (fun H locs hX => ?_)
    clear e43
    replace kc : (ck + c46) + c48 = MC := by omega
    replace ks : (cs + s47) + s49 = MS := by omega
    clear e50 e51
    refine lx_astore_n (r := r52) (lv' := [(2, va_rf r52), (0, .ref o), (1, va_rf v1), (3, .int v3)]) hx hb dX9_built_73 rfl hl (by decide) (by generalize hq9 : va_rf v1 = w9; have hc9 : w9.category = 1 := (by rw [← hq9]; exact rf_cat _); cases w9 <;> first | rfl | cases hc9) (fun ls hl => ?_)
    refine lv_iinc (v := (v3 + 1)) (lv' := [(3, .int (v3 + 1)), (2, va_rf r52), (0, .ref o), (1, va_rf v1)]) hx hb dX9_built_74 hl (k := 3) rfl rfl (by decide) (by generalize hq9 : va_rf r52 = w9; have hc9 : w9.category = 1 := (by rw [← hq9]; exact rf_cat _); cases w9 <;> first | rfl | cases hc9) (fun ls hl => ?_)
    refine lv_goto (tgt := 32) hx hb dX9_built_77 (by decide) ?_
    exact hK32 v1 r52 (v3 + 1) h45 _ _ _ _ kc ks _ _ _ hX (lv_sub hl [2, 3, 1, 0] rfl) hf
  have B32 : ∀ (f : Nat) (v1 : Option Nat) (v2 : Option Nat) (v3 : Int32) (h_14 : Hp) (ck cs qc qs : Nat) (kc : ck + qc = MC) (ks : cs + qs = MS) (H : Heap) (locs : List Loc) (ls : Array Slot), XX G h s.heap h_14 H locs → lv_has ls 5 [(0, .ref o), (1, va_rf v1), (2, va_rf v2), (3, .int v3)] → X_Times_built_b32 n fb o f v1 v2 v3 h_14 = some ((r, h1), qc, qs) → W p l e (rmm (D + 3) MC MS (64 * (D + 1))) s m args below meth c H locs ck cs Q (F0 m 32 ls []) := by
    intro f
    induction f with
    | zero =>
      intro v1 v2 v3 h_14 ck cs qc qs kc ks H locs ls hX hl hf
      rw [X_Times_built_b32] at hf
      cases hf
    | succ f hK32 =>
      intro v1 v2 v3 h_14 ck cs qc qs kc ks H locs ls hX hl hf
      rw [X_Times_built_b32] at hf
      refine lv_iload_n hx hb dX9_built_32 rfl (lv_at hl 3 rfl) ?_
      refine lv_aload_n hx hb dX9_built_33 rfl (lv_at hl 0 rfl) ?_
      refine x_get (ci := 8) (C := RX9) (T := TX9) (N := 3) hx hb hts in_X9 hown hK.1 hX rfl (hX.tg g0 (by decide)) (by decide) rfl 2 (Nat.le_of_ble_eq_true rfl) (hts _ q449) (fun _ h9 => h9) (hv_int rfl) dX9_built_34 ?_
      refine lv_icmp_ge (tgt := 80) hx hb dX9_built_37 (by decide) (fun c15 => ?_) (fun c15 => ?_)
      · rw [if_pos c15] at hf
        refine lx_aload_n hx hb dX9_built_80 rfl (lv_at hl 2 rfl) ?_
        obtain ⟨q1, q2⟩ := Prod.mk.inj (Option.some.inj hf)
        obtain ⟨q2, q3⟩ := Prod.mk.inj q2
        obtain ⟨rfl, rfl⟩ := Prod.mk.inj q1
        refine W.cs (cells' := MC) (slots' := MS) (by omega) (by omega) ?_
        exact hret _ _ _ _ hX dX9_built_81
      · rw [if_neg c15] at hf
        refine lv_aload_n hx hb dX9_built_40 rfl (lv_at hl 0 rfl) ?_
        refine x_get (ci := 8) (C := RX9) (T := TX9) (N := 3) hx hb hts in_X9 hown hK.1 hX rfl (hX.tg g0 (by decide)) (by decide) rfl 0 (Nat.le_of_ble_eq_true rfl) (hts _ q447) (fun _ h9 => h9) (hv_ref rfl) dX9_built_41 ?_
        refine lx_aload_n hx hb dX9_built_44 rfl (lv_at hl 1 rfl) ?_
        obtain ⟨a16, e17, hf⟩ := bd_e hf
        obtain ⟨r19, h20, c21, s22, c23, s24, e18, hf, e25, e26⟩ := bdA_e hf
        refine x_built hG hx hb hml hts hown hK hX (rf_some e17) (mm := v1) rfl (hrec _ _ _ _ _ _ _ e18) q613 hl.1 (Nat.le_of_ble_eq_true rfl) (by simp only [rmm]; omega) (by simp only [rmm]; omega) ⟨(by simp only [rmm]; omega), (by simp only [rmm]; omega)⟩ dX9_built_45 (fun H locs hX => ?_)
        clear e18
        replace kc : (ck + c21) + c23 = MC := by omega
        replace ks : (cs + s22) + s24 = MS := by omega
        clear e25 e26
        refine lx_astore (r := r19) (lv' := [(4, va_rf r19), (0, .ref o), (1, va_rf v1), (2, va_rf v2), (3, .int v3)]) hx hb dX9_built_48 hl (by decide) rfl (fun ls hl => ?_)
        refine lx_aload_n hx hb dX9_built_50 rfl (lv_at hl 2 rfl) ?_
        refine lx_aload_n hx hb dX9_built_51 rfl (lv_at hl 3 rfl) ?_
        refine lv_iload_n hx hb dX9_built_52 rfl (lv_at hl 4 rfl) ?_
        refine lv_aload_n hx hb dX9_built_53 rfl (lv_at hl 1 rfl) ?_
        refine x_get (ci := 8) (C := RX9) (T := TX9) (N := 3) hx hb hts in_X9 hown hK.1 hX rfl (hX.tg g0 (by decide)) (by decide) rfl 1 (Nat.le_of_ble_eq_true rfl) (hts _ q448) (fun _ h9 => h9) (hv_int rfl) dX9_built_54 ?_
        refine lv_icmp_ge (tgt := 65) hx hb dX9_built_57 (by decide) (fun c27 => ?_) (fun c27 => ?_)
        · rw [if_pos c27] at hf
          refine lx_aload hx hb dX9_built_65 (lv_at hl 0 rfl) ?_
          obtain ⟨a28, e29, hf⟩ := bd_e hf
          obtain ⟨g31, hf⟩ := gd_e hf
          obtain ⟨r39, h32, c33, s34, c35, s36, e30, hf, e37, e38⟩ := bdA_e hf
          refine x_done (mc := c33) (ms := s34) (va_runV (b := a28) (As := []) (rest := [va_rf v2, va_rf v1]) ⟨hx, hb, hml, hown, hts⟩ (wx_Part_orNone l G hG h20 n a28 r39 h32 c33 s34 e30) (cwV 0 hts (lw_V q614 q615 q616 q113 q617) rfl rfl rfl ⟨rfl, cdX14_orNone⟩ ⟨(by simp only [rmm]; omega), (by simp only [rmm]; omega)⟩) (x_preV (ci := 12) (T := TX14) (N := 3) hK hX _ g31 (by decide) rfl) rfl rfl hl.1 (stk_eq (rf_some e29) rfl) (lv_room (by simp only [List.map, List.sum_cons, List.sum_nil, rf_cat, cat_i, cat_l, cat_r] <;> decide)) dX9_built_67 ⟨(by simp only [rmm]; omega), (by simp only [rmm]; omega)⟩) hX rfl (fun H locs hX => ?_)
          clear e30
          replace kc : ((ck + c21) + c33) + c35 = MC := by omega
          replace ks : ((cs + s22) + s34) + s36 = MS := by omega
          clear e37 e38
          exact B70 (X_Times_built_b32 n fb o f) hK32 v1 v3 r39 v2 v1 h32 _ _ _ _ kc ks _ _ _ hX (lv_sub hl [1, 2, 4] rfl) hf
        · rw [if_neg c27] at hf
          refine lx_aload hx hb dX9_built_60 (lv_at hl 0 rfl) ?_
          refine lv_goto (tgt := 70) hx hb dX9_built_62 (by decide) ?_
          exact B70 (X_Times_built_b32 n fb o f) hK32 v1 v3 r19 v2 v1 h20 _ _ _ _ kc ks _ _ _ hX (lv_sub hl [1, 2, 4] rfl) hf
  have B29 : ∀ (v1 : Option Nat) (t0 : Option Nat) (h_13 : Hp) (ck cs qc qs : Nat) (kc : ck + qc = MC) (ks : cs + qs = MS) (H : Heap) (locs : List Loc) (ls : Array Slot), XX G h s.heap h_13 H locs → lv_has ls 5 [(0, .ref o), (1, va_rf v1)] → X_Times_built_b29 n fb o v1 t0 h_13 = some ((r, h1), qc, qs) → W p l e (rmm (D + 3) MC MS (64 * (D + 1))) s m args below meth c H locs ck cs Q (F0 m 29 ls [va_rf t0]) := by
    intro v1 t0 h_13 ck cs qc qs kc ks H locs ls hX hl hf
    rw [X_Times_built_b29] at hf
    refine lx_astore_n (r := t0) (lv' := [(2, va_rf t0), (0, .ref o), (1, va_rf v1)]) hx hb dX9_built_29 rfl hl (by decide) (by generalize hq9 : va_rf v1 = w9; have hc9 : w9.category = 1 := (by rw [← hq9]; exact rf_cat _); cases w9 <;> first | rfl | cases hc9) (fun ls hl => ?_)
    refine lv_iconst (v := 1) hx hb dX9_built_30 (by decide) ?_
    refine lv_istore_n (lv' := [(3, .int 1), (2, va_rf t0), (0, .ref o), (1, va_rf v1)]) hx hb dX9_built_31 rfl hl (by decide) (by generalize hq9 : va_rf t0 = w9; have hc9 : w9.category = 1 := (by rw [← hq9]; exact rf_cat _); cases w9 <;> first | rfl | cases hc9) (fun ls hl => ?_)
    exact B32 n v1 t0 1 h_13 _ _ _ _ kc ks _ _ _ hX (lv_sub hl [2, 3, 1, 0] rfl) hf
  refine lv_aload_n hx hb dX9_built_0 rfl (lv_at hl 0 rfl) ?_
  refine x_get (ci := 8) (C := RX9) (T := TX9) (N := 3) hx hb hts in_X9 hown hK.1 hX rfl (hX.tg g0 (by decide)) (by decide) rfl 1 (Nat.le_of_ble_eq_true rfl) (hts _ q448) (fun _ h9 => h9) (hv_int rfl) dX9_built_1 ?_
  refine lv_if_ne (tgt := 21) hx hb dX9_built_4 (by decide) (fun c1 => ?_) (fun c1 => ?_)
  · rw [if_neg c1] at hf
    refine lv_aload_n hx hb dX9_built_21 rfl (lv_at hl 0 rfl) ?_
    refine x_get (ci := 8) (C := RX9) (T := TX9) (N := 3) hx hb hts in_X9 hown hK.1 hX rfl (hX.tg g0 (by decide)) (by decide) rfl 0 (Nat.le_of_ble_eq_true rfl) (hts _ q447) (fun _ h9 => h9) (hv_ref rfl) dX9_built_22 ?_
    refine lx_aload_n hx hb dX9_built_25 rfl (lv_at hl 1 rfl) ?_
    obtain ⟨a2, e3, hf⟩ := bd_e hf
    obtain ⟨r5, h6, c7, s8, c9, s10, e4, hf, e11, e12⟩ := bdA_e hf
    refine x_built hG hx hb hml hts hown hK hX (rf_some e3) (mm := p1) rfl (hrec _ _ _ _ _ _ _ e4) q613 hl.1 (Nat.le_of_ble_eq_true rfl) (by simp only [rmm]; omega) (by simp only [rmm]; omega) ⟨(by simp only [rmm]; omega), (by simp only [rmm]; omega)⟩ dX9_built_26 (fun H locs hX => ?_)
    clear e4
    replace kc : (0 + c7) + c9 = MC := by omega
    replace ks : (0 + s8) + s10 = MS := by omega
    clear e11 e12
    exact B29 p1 r5 h6 _ _ _ _ kc ks _ _ _ hX (lv_sub hl [0, 1] rfl) hf
  · rw [if_pos c1] at hf
    refine lv_aload_n hx hb dX9_built_7 rfl (lv_at hl 0 rfl) ?_
    refine x_get (ci := 8) (C := RX9) (T := TX9) (N := 3) hx hb hts in_X9 hown hK.1 hX rfl (hX.tg g0 (by decide)) (by decide) rfl 0 (Nat.le_of_ble_eq_true rfl) (hts _ q447) (fun _ h9 => h9) (hv_ref rfl) dX9_built_8 ?_
    refine lx_aload_n hx hb dX9_built_11 rfl (lv_at hl 1 rfl) ?_
    obtain ⟨a53, e54, hf⟩ := bd_e hf
    obtain ⟨r56, h57, c58, s59, c60, s61, e55, hf, e62, e63⟩ := bdA_e hf
    refine x_built hG hx hb hml hts hown hK hX (rf_some e54) (mm := p1) rfl (hrec _ _ _ _ _ _ _ e55) q613 hl.1 (Nat.le_of_ble_eq_true rfl) (by simp only [rmm]; omega) (by simp only [rmm]; omega) ⟨(by simp only [rmm]; omega), (by simp only [rmm]; omega)⟩ dX9_built_12 (fun H locs hX => ?_)
    clear e55
    replace kc : (0 + c58) + c60 = MC := by omega
    replace ks : (0 + s59) + s61 = MS := by omega
    clear e62 e63
    obtain ⟨a64, e65, hf⟩ := bd_e hf
    obtain ⟨g67, hf⟩ := gd_e hf
    obtain ⟨r75, h68, c69, s70, c71, s72, e66, hf, e73, e74⟩ := bdA_e hf
    refine x_done (mc := c69) (ms := s70) (va_runV (b := a64) (As := []) (rest := []) ⟨hx, hb, hml, hown, hts⟩ (wx_Part_orNone l G hG h57 n a64 r75 h68 c69 s70 e66) (cwV 0 hts (lw_V q614 q615 q616 q113 q617) rfl rfl rfl ⟨rfl, cdX14_orNone⟩ ⟨(by simp only [rmm]; omega), (by simp only [rmm]; omega)⟩) (x_preV (ci := 12) (T := TX14) (N := 3) hK hX _ g67 (by decide) rfl) rfl rfl hl.1 (stk_eq (rf_some e65) rfl) (lv_room (Nat.le_of_ble_eq_true rfl)) dX9_built_15 ⟨(by simp only [rmm]; omega), (by simp only [rmm]; omega)⟩) hX rfl (fun H locs hX => ?_)
    clear e66
    replace kc : ((0 + c58) + c69) + c71 = MC := by omega
    replace ks : ((0 + s59) + s70) + s72 = MS := by omega
    clear e73 e74
    refine lv_goto (tgt := 29) hx hb dX9_built_18 (by decide) ?_
    exact B29 p1 r75 h68 _ _ _ _ kc ks _ _ _ hX (lv_sub hl [0, 1] rfl) hf
theorem built_ok (l : Launch) (G : Gt) (hG : XG G) (d a : Nat) (mm : Option Nat) (h : Hp) (r : Option Nat) (h1 : Hp) (k n : Nat) (e : X_built d a mm h = some ((r, h1), k, n)) : BuiltOK l G h a mm r h1 k n (d + 2) := by
  induction d generalizing a mm h r h1 k n with
  | zero => rw [X_built] at e; cases e
  | succ d ih =>
    rw [X_built] at e
    have ih' : ∀ a mm h r h1 k n, X_built d a mm h = some ((r, h1), k, n) → BuiltOK l G h a mm r h1 k n (d + 2) := fun a mm h r h1 k n e => ih a mm h r h1 k n e
    by_cases t0 : hT h a = 8
    · rw [if_pos t0] at e; exact ⟨3, 110, by omega, by omega, Or.inl ⟨t0, wx_Atom_built l G hG h 100 a mm r h1 k n e⟩⟩
    rw [if_neg t0] at e
    by_cases t1 : hT h a = 9
    · rw [if_pos t1] at e; exact ⟨d + 2 + 3, 64 * (d + 2 + 1), by omega, by omega, Or.inr (Or.inl ⟨t1, wx_Times_built l G hG (d + 2) (by omega) _ ih' h 100 a mm r h1 k n e⟩)⟩
    rw [if_neg t1] at e
    by_cases t2 : hT h a = 10
    · rw [if_pos t2] at e; exact ⟨d + 2 + 3, 64 * (d + 2 + 1), by omega, by omega, Or.inr (Or.inr (Or.inl ⟨t2, wx_Then_built l G hG (d + 2) (by omega) _ ih' h 100 a mm r h1 k n e⟩))⟩
    rw [if_neg t2] at e
    by_cases t3 : hT h a = 11
    · rw [if_pos t3] at e; exact ⟨d + 2 + 3, 64 * (d + 2 + 1), by omega, by omega, Or.inr (Or.inr (Or.inr (⟨t3, wx_Either_built l G hG (d + 2) (by omega) _ ih' h 100 a mm r h1 k n e⟩)))⟩
    rw [if_neg t3] at e
    cases e
theorem cdX13_built : yX13_built.cls ≠ "java/lang/invoke/MethodHandle" ∧ yX13_built.cls ≠ "java/lang/invoke/VarHandle" ∧ (parseMethodDescriptor yX13_built.desc).map (fun d => d.parameters.length) = some 1 := by decide +kernel
set_option maxHeartbeats 4000000 in
set_option maxRecDepth 100000 in
theorem wx_Machine_built (l : Launch) (G : Gt) (hG : XG G) (h : Hp) (n : Nat) (o : Nat) (p1 : Option Nat) (h1 : Hp) (MC MS : Nat) (hf : X_Machine_built n o p1 h = some (h1, MC, MS)) : Met l yX13_built (ws_ yX13_built cX13_built 6 none) (rmm (421) MC MS (13504)) (XP G [.ref o, va_rf p1] h) (XQ G none h h1) MC MS (fre h) := by
  rw [X_Machine_built] at hf
  obtain ⟨g0, hf⟩ := gd_e hf
  refine metSv l (by decide) (by cases p1 <;> exact Nat.le_of_ble_eq_true rfl) ?_
  intro p e s m args below meth c Q hx hb hts hown hnmd hml hinit hK hW hret ls hl
  have hown : s.vm.findClass RX13 = some m.cls := hown
  have hX := XX.start hW
  have kc : 0 + MC = MC := Nat.zero_add _
  have ks : 0 + MS = MS := Nat.zero_add _
  have hl : lv_has ls 6 [(0, .ref o), (1, va_rf p1)] := Eq.mp (congrArg (lv_has ls 6) (show lv_args 0 [.ref o, va_rf p1] = [(0, .ref o), (1, va_rf p1)] from by clear hf; cases p1 <;> rfl)) hl
  have B71 : ∀ (f : Nat) (v3 : Int64) (v5 : Int32) (h_20 : Hp) (ck cs qc qs : Nat) (kc : ck + qc = MC) (ks : cs + qs = MS) (H : Heap) (locs : List Loc) (ls : Array Slot), XX G h s.heap h_20 H locs → lv_has ls 6 [(0, .ref o), (3, .long v3), (5, .int v5)] → X_Machine_built_b71 n o f v3 v5 h_20 = some (h1, qc, qs) → W p l e (rmm (421) MC MS (13504)) s m args below meth c H locs ck cs Q (F0 m 71 ls []) := by
    intro f
    induction f with
    | zero =>
      intro v3 v5 h_20 ck cs qc qs kc ks H locs ls hX hl hf
      rw [X_Machine_built_b71] at hf
      cases hf
    | succ f hK71 =>
      intro v3 v5 h_20 ck cs qc qs kc ks H locs ls hX hl hf
      rw [X_Machine_built_b71] at hf
      refine lv_iload hx hb dX13_built_71 (lv_at hl 2 rfl) ?_
      refine lv_aload_n hx hb dX13_built_73 rfl (lv_at hl 0 rfl) ?_
      refine x_get (ci := 11) (C := RX13) (T := TX13) (N := 6) hx hb hts in_X13 hown hK.1 hX rfl (hX.tg g0 (by decide)) (by decide) rfl 2 (Nat.le_of_ble_eq_true rfl) (hts _ q550) (fun _ h9 => h9) (hv_int rfl) dX13_built_74 ?_
      refine lv_icmp_ge (tgt := 97) hx hb dX13_built_77 (by decide) (fun c21 => ?_) (fun c21 => ?_)
      · rw [if_pos c21] at hf
        refine lv_aload_n hx hb dX13_built_97 rfl (lv_at hl 0 rfl) ?_
        obtain ⟨h23, e22, hf⟩ := bd_e hf
        refine x_done (mc := 0) (ms := 0) (va_runV (b := o) (As := []) (rest := []) ⟨hx, hb, hml, hown, hts⟩ (wx_Machine_findsMore l G hG h_20 n o h23 e22) (cwV 0 hts (lw_V q634 q636 qs20 q112 q637) rfl rfl rfl ⟨rfl, cdX13_findsMore⟩ ⟨(by simp only [rmm]; omega), (by simp only [rmm]; omega)⟩) (x_preV (ci := 11) (T := TX13) (N := 6) hK hX _ (hX.tg g0 (by decide)) (by decide) rfl) rfl rfl hl.1 rfl (lv_room (Nat.le_of_ble_eq_true rfl)) dX13_built_98 ⟨(by simp only [rmm]; omega), (by simp only [rmm]; omega)⟩) hX rfl (fun H locs hX => ?_)
        clear e22
        obtain ⟨q1, q2⟩ := Prod.mk.inj (Option.some.inj hf)
        obtain ⟨q2, q3⟩ := Prod.mk.inj q2
        subst q1
        refine W.cs (cells' := MC) (slots' := MS) (by omega) (by omega) ?_
        exact hret _ _ _ _ hX dX13_built_101
      · rw [if_neg c21] at hf
        refine lv_aload_n hx hb dX13_built_80 rfl (lv_at hl 0 rfl) ?_
        refine x_get (ci := 11) (C := RX13) (T := TX13) (N := 6) hx hb hts in_X13 hown hK.1 hX rfl (hX.tg g0 (by decide)) (by decide) rfl 1 (Nat.le_of_ble_eq_true rfl) (hts _ q549) (fun _ h9 => h9) (hv_ref rfl) dX13_built_81 ?_
        refine lv_iload hx hb dX13_built_84 (lv_at hl 2 rfl) ?_
        refine lv_dup2_11 hx hb dX13_built_86 rfl (rf_cat _) ?_
        obtain ⟨a24, e25, hf⟩ := bd_e hf
        obtain ⟨g26, hf⟩ := gd_e hf
        obtain ⟨g27, hf⟩ := gd_e hf
        refine x_lald hx hb hK.1 hX (rf_some e25) g26 g27 dX13_built_87 ?_
        refine lv_lload_n hx hb dX13_built_88 rfl (lv_at hl 1 rfl) ?_
        refine lv_land hx hb dX13_built_89 ?_
        obtain ⟨g28, hf⟩ := gd_e hf
        obtain ⟨h29, eh29, hf⟩ := st_e hf
        refine x_last hx hb hK.1 hX (rf_some e25) g26 g28 dX13_built_90 (fun H locs hX => ?_)
        replace hX := hX.re eh29
        clear eh29
        refine lv_iinc (v := (v5 + 1)) (lv' := [(5, .int (v5 + 1)), (0, .ref o), (3, .long v3)]) hx hb dX13_built_91 hl (k := 2) rfl rfl (by decide) rfl (fun ls hl => ?_)
        refine lv_goto (tgt := 71) hx hb dX13_built_94 (by decide) ?_
        exact hK71 v3 (v5 + 1) h29 _ _ _ _ kc ks _ _ _ hX (lv_sub hl [1, 2, 0] rfl) hf
  have B42 : ∀ (K11 : Option Nat → Int64 → Int32 → Hp → Option ((Hp) × Nat × Nat)) (hK11 : ∀ (v2 : Option Nat) (v3 : Int64) (v5 : Int32) (h2 : Hp) (ck cs qc qs : Nat) (_ : ck + qc = MC) (_ : cs + qs = MS) (H : Heap) (locs : List Loc) (ls : Array Slot), XX G h s.heap h2 H locs → lv_has ls 6 [(0, .ref o), (2, va_rf v2), (3, .long v3), (5, .int v5)] → K11 v2 v3 v5 h2 = some (h1, qc, qs) → W p l e (rmm (421) MC MS (13504)) s m args below meth c H locs ck cs Q (F0 m 11 ls [])) (v2 : Option Nat) (v5 : Int32) (t0 : Int64) (t1 : Int64) (h_37 : Hp) (ck cs qc qs : Nat) (kc : ck + qc = MC) (ks : cs + qs = MS) (H : Heap) (locs : List Loc) (ls : Array Slot), XX G h s.heap h_37 H locs → lv_has ls 6 [(0, .ref o), (2, va_rf v2), (5, .int v5)] → X_Machine_built_b42 n o K11 v2 v5 t0 t1 h_37 = some (h1, qc, qs) → W p l e (rmm (421) MC MS (13504)) s m args below meth c H locs ck cs Q (F0 m 42 ls [.long t0, .long t1]) := by
    intro K11 hK11 v2 v5 t0 t1 h_37 ck cs qc qs kc ks H locs ls hX hl hf
    rw [X_Machine_built_b42] at hf
    refine lv_lor hx hb dX13_built_42 ?_
    refine lv_lstore_n (lv' := [(3, .long (t1 ||| t0)), (0, .ref o), (2, va_rf v2), (5, .int v5)]) hx hb dX13_built_43 rfl hl (by decide) (by generalize hq9 : va_rf v2 = w9; have hc9 : w9.category = 1 := (by rw [← hq9]; exact rf_cat _); cases w9 <;> first | rfl | cases hc9) (fun ls hl => ?_)
    refine lv_iinc (v := (v5 + 1)) (lv' := [(5, .int (v5 + 1)), (3, .long (t1 ||| t0)), (0, .ref o), (2, va_rf v2)]) hx hb dX13_built_44 hl (k := 3) rfl rfl (by decide) rfl (fun ls hl => ?_)
    refine lv_goto (tgt := 11) hx hb dX13_built_47 (by decide) ?_
    exact hK11 v2 (t1 ||| t0) (v5 + 1) h_37 _ _ _ _ kc ks _ _ _ hX (lv_sub hl [2, 3, 1, 0] rfl) hf
  have B11 : ∀ (f : Nat) (v2 : Option Nat) (v3 : Int64) (v5 : Int32) (h_12 : Hp) (ck cs qc qs : Nat) (kc : ck + qc = MC) (ks : cs + qs = MS) (H : Heap) (locs : List Loc) (ls : Array Slot), XX G h s.heap h_12 H locs → lv_has ls 6 [(0, .ref o), (2, va_rf v2), (3, .long v3), (5, .int v5)] → X_Machine_built_b11 n o f v2 v3 v5 h_12 = some (h1, qc, qs) → W p l e (rmm (421) MC MS (13504)) s m args below meth c H locs ck cs Q (F0 m 11 ls []) := by
    intro f
    induction f with
    | zero =>
      intro v2 v3 v5 h_12 ck cs qc qs kc ks H locs ls hX hl hf
      rw [X_Machine_built_b11] at hf
      cases hf
    | succ f hK11 =>
      intro v2 v3 v5 h_12 ck cs qc qs kc ks H locs ls hX hl hf
      rw [X_Machine_built_b11] at hf
      refine lv_iload hx hb dX13_built_11 (lv_at hl 3 rfl) ?_
      refine lv_aload_n hx hb dX13_built_13 rfl (lv_at hl 0 rfl) ?_
      refine x_get (ci := 11) (C := RX13) (T := TX13) (N := 6) hx hb hts in_X13 hown hK.1 hX rfl (hX.tg g0 (by decide)) (by decide) rfl 2 (Nat.le_of_ble_eq_true rfl) (hts _ q550) (fun _ h9 => h9) (hv_int rfl) dX13_built_14 ?_
      refine lv_icmp_ge (tgt := 50) hx hb dX13_built_17 (by decide) (fun c13 => ?_) (fun c13 => ?_)
      · rw [if_pos c13] at hf
        refine lv_aload_n hx hb dX13_built_50 rfl (lv_at hl 0 rfl) ?_
        refine lx_aload_n hx hb dX13_built_51 rfl (lv_at hl 1 rfl) ?_
        obtain ⟨a14, e15, hf⟩ := bd_e hf
        obtain ⟨g16, hf⟩ := gd_e hf
        refine x_getN (ci := 12) (C := RX14) (T := TX14) (N := 3) hx hb hts in_X14 hown hK.1 hX (rf_some e15) g16 (by decide) rfl 1 (Nat.le_of_ble_eq_true rfl) (hG.nw hK nq592) (fun _ h9 => h9) (hv_long rfl) dX13_built_52 ?_
        refine lv_lload_n hx hb dX13_built_55 rfl (lv_at hl 2 rfl) ?_
        refine lv_land hx hb dX13_built_56 ?_
        obtain ⟨h17, eh17, hf⟩ := st_e hf
        refine x_put (ci := 11) (C := RX13) (T := TX13) (N := 6) hx hb hts in_X13 tyX13 tyX13_ok nmX13 hown hK.1 hX rfl (hX.tg g0 (by decide)) (by decide) rfl 3 (Nat.le_of_ble_eq_true rfl) (hts _ q551) (fun _ h9 => h9) rfl rfl rfl (Put1.fL (x := ((hL h_12 a14 1) &&& v3)) rfl) dX13_built_57 (fun H locs hX => ?_)
        replace hX := hX.re eh17
        clear eh17
        refine lv_aload_n hx hb dX13_built_60 rfl (lv_at hl 0 rfl) ?_
        refine lx_aload_n hx hb dX13_built_61 rfl (lv_at hl 1 rfl) ?_
        obtain ⟨g18, hf⟩ := gd_e hf
        refine x_getN (ci := 12) (C := RX14) (T := TX14) (N := 3) hx hb hts in_X14 hown hK.1 hX (rf_some e15) g18 (by decide) rfl 2 (Nat.le_of_ble_eq_true rfl) (hG.nw hK nq595) (fun _ h9 => h9) (hv_long rfl) dX13_built_62 ?_
        obtain ⟨h19, eh19, hf⟩ := st_e hf
        refine x_put (ci := 11) (C := RX13) (T := TX13) (N := 6) hx hb hts in_X13 tyX13 tyX13_ok nmX13 hown hK.1 hX rfl (hX.tg g0 (by decide)) (by decide) rfl 4 (Nat.le_of_ble_eq_true rfl) (hts _ q553) (fun _ h9 => h9) rfl rfl rfl (Put1.fL (x := (hL h17 a14 2)) rfl) dX13_built_65 (fun H locs hX => ?_)
        replace hX := hX.re eh19
        clear eh19
        refine lv_iconst (v := 0) hx hb dX13_built_68 (by decide) ?_
        refine lv_istore (lv' := [(5, .int 0), (0, .ref o), (2, va_rf v2), (3, .long v3)]) hx hb dX13_built_69 hl (by decide) rfl (fun ls hl => ?_)
        exact B71 n v3 0 h19 _ _ _ _ kc ks _ _ _ hX (lv_sub hl [1, 3, 0] rfl) hf
      · rw [if_neg c13] at hf
        refine lv_lload_n hx hb dX13_built_20 rfl (lv_at hl 2 rfl) ?_
        refine lv_aload_n hx hb dX13_built_21 rfl (lv_at hl 0 rfl) ?_
        refine x_get (ci := 11) (C := RX13) (T := TX13) (N := 6) hx hb hts in_X13 hown hK.1 hX rfl (hX.tg g0 (by decide)) (by decide) rfl 0 (Nat.le_of_ble_eq_true rfl) (hts _ q548) (fun _ h9 => h9) (hv_ref rfl) dX13_built_22 ?_
        refine lv_iload hx hb dX13_built_25 (lv_at hl 3 rfl) ?_
        obtain ⟨a30, e31, hf⟩ := bd_e hf
        obtain ⟨g32, hf⟩ := gd_e hf
        obtain ⟨g33, hf⟩ := gd_e hf
        refine x_aald hx hb hK.1 hX (rf_some e31) 5 g32 (by decide) rfl rfl rfl g33 dX13_built_27 ?_
        obtain ⟨r35, e34, hf⟩ := bd_e hf
        refine x_doneP (va_runSN (As := [va_rf (hR h_12 a30 (Int32.toNatClampNeg v5))]) (rest := [.long v3]) ⟨hx, hb, hml, hown, hts⟩ (wx_fulfilling l G hG h_12 n (hR h_12 a30 (Int32.toNatClampNeg v5)) r35 e34) ⟨va_cnB 1 hts (lw_meth q631) rfl rfl rfl (hG.nw hK nq629) (hts _ q94) cdX0_fulfilling ⟨(by simp only [rmm]; omega), (by simp only [rmm]; omega)⟩, hts _ q630, trivial⟩ (x_preS hK hX _) rfl rfl hl.1 rfl (lv_room (Nat.le_of_ble_eq_true rfl)) dX13_built_28 ⟨(by simp only [rmm]; omega), (by simp only [rmm]; omega)⟩) rfl ?_
        clear e34
        refine lv_if_le (tgt := 41) hx hb dX13_built_31 (by decide) (fun c36 => ?_) (fun c36 => ?_)
        · rw [if_pos c36] at hf
          refine lv_lconst (v := 0) hx hb dX13_built_41 (by decide) ?_
          exact B42 (X_Machine_built_b11 n o f) hK11 v2 v5 0 v3 h_12 _ _ _ _ kc ks _ _ _ hX (lv_sub hl [0, 1, 3] rfl) hf
        · rw [if_neg c36] at hf
          refine lv_lconst (v := 1) hx hb dX13_built_34 (by decide) ?_
          refine lv_iload hx hb dX13_built_35 (lv_at hl 3 rfl) ?_
          refine lv_lshl hx hb dX13_built_37 rfl ?_
          refine lv_goto (tgt := 42) hx hb dX13_built_38 (by decide) ?_
          exact B42 (X_Machine_built_b11 n o f) hK11 v2 v5 (1 <<< (Int32.toInt64 v5 &&& 63)) v3 h_12 _ _ _ _ kc ks _ _ _ hX (lv_sub hl [0, 1, 3] rfl) hf
  refine lx_aload_n hx hb dX13_built_0 rfl (lv_at hl 1 rfl) ?_
  refine lv_aload_n hx hb dX13_built_1 rfl (lv_at hl 0 rfl) ?_
  obtain ⟨a1, e2, hf⟩ := bd_e hf
  obtain ⟨r4, h5, c6, s7, c8, s9, e3, hf, e10, e11⟩ := bdA_e hf
  refine x_built hG hx hb hml hts hown hK hX (rf_some e2) (mm := (some o)) rfl (built_ok l G hG 208 _ _ _ _ _ _ _ e3) q572 hl.1 (Nat.le_of_ble_eq_true rfl) (by simp only [rmm]; omega) (by simp only [rmm]; omega) ⟨(by simp only [rmm]; omega), (by simp only [rmm]; omega)⟩ dX13_built_2 (fun H locs hX => ?_)
  clear e3
  replace kc : (0 + c6) + c8 = MC := by omega
  replace ks : (0 + s7) + s9 = MS := by omega
  clear e10 e11
  refine lx_astore_n (r := r4) (lv' := [(2, va_rf r4), (0, .ref o), (1, va_rf p1)]) hx hb dX13_built_5 rfl hl (by decide) (by generalize hq9 : va_rf p1 = w9; have hc9 : w9.category = 1 := (by rw [← hq9]; exact rf_cat _); cases w9 <;> first | rfl | cases hc9) (fun ls hl => ?_)
  refine lv_lconst (v := 0) hx hb dX13_built_6 (by decide) ?_
  refine lv_lstore_n (lv' := [(3, .long 0), (2, va_rf r4), (0, .ref o), (1, va_rf p1)]) hx hb dX13_built_7 rfl hl (by decide) (by generalize hq9 : va_rf r4 = w9; have hc9 : w9.category = 1 := (by rw [← hq9]; exact rf_cat _); cases w9 <;> first | rfl | cases hc9) (fun ls hl => ?_)
  refine lv_iconst (v := 0) hx hb dX13_built_8 (by decide) ?_
  refine lv_istore (lv' := [(5, .int 0), (3, .long 0), (2, va_rf r4), (0, .ref o), (1, va_rf p1)]) hx hb dX13_built_9 hl (by decide) rfl (fun ls hl => ?_)
  exact B11 n r4 0 0 h5 _ _ _ _ kc ks _ _ _ hX (lv_sub hl [3, 2, 1, 0] rfl) hf
theorem cdX0_capped : yX0_capped.cls ≠ "java/lang/invoke/MethodHandle" ∧ yX0_capped.cls ≠ "java/lang/invoke/VarHandle" ∧ (parseMethodDescriptor yX0_capped.desc).map (fun d => d.parameters.length) = some 1 := by decide +kernel
set_option maxHeartbeats 4000000 in
set_option maxRecDepth 100000 in
theorem wx_capped (l : Launch) (G : Gt) (hG : XG G) (h : Hp) (n : Nat) (p0 : Int32) (r : Int32) (hf : X_capped n p0 = some r) : Met l yX0_capped (ws_ yX0_capped cX0_capped 1 (some .int)) (rmm (1) 0 0 (64)) (XP G [.int p0] h) (XQp (some (.int r))) 0 0 (fun _ => False) := by
  rw [X_capped] at hf
  refine metPi l (by decide) (Nat.le_of_ble_eq_true rfl) ?_
  intro p e s m args below meth c Q hx hb hts hown hnmd hml hinit hK hW hret ls hl
  have hown : s.vm.findClass RX0 = some m.cls := hown
  have hX := XX.start hW
  have hl : lv_has ls 1 [(0, .int p0)] := hl
  refine lv_iload_n hx hb dX0_capped_0 rfl (lv_at hl 0 rfl) ?_
  refine lv_sipush (v := 1000) hx hb dX0_capped_1 (by decide) ?_
  refine va_mmin hx hb (hml.trans hl.1.symm) hown (hts _ q509) (hts _ q510) (hts _ q108) (hts _ q511) (Nat.le_of_ble_eq_true rfl) (by show _ ≤ _; first | decide | (simp [rf_cat, cat_i, cat_l, cat_r, rmm]; done) | (simp [rf_cat, cat_i, cat_l, cat_r, rmm]; omega)) (by simp only [rmm]; omega) (by simp only [rmm]; omega) dX0_capped_4 ?_
  obtain rfl := Option.some.inj hf
  exact hret _ _ rfl dX0_capped_7
theorem cdX11_least : yX11_least.cls ≠ "java/lang/invoke/MethodHandle" ∧ yX11_least.cls ≠ "java/lang/invoke/VarHandle" ∧ (parseMethodDescriptor yX11_least.desc).map (fun d => d.parameters.length) = some 0 := by decide +kernel
set_option maxHeartbeats 4000000 in
set_option maxRecDepth 100000 in
theorem wx_Then_least (l : Launch) (G : Gt) (hG : XG G) (D : Nat) (hD : 2 ≤ D) (fw : Nat → Option Int32) (h : Hp) (hrec : ∀ a r, fw a = some r → LeastOK l G h a r D) (n : Nat) (o : Nat) (r : Int32) (hf : X_Then_least n fw o h = some r) : Met l yX11_least (ws_ yX11_least cX11_least 1 (some .int)) (rmm (D + 3) 0 0 (64 * (D + 1))) (XP G [.ref o] h) (XQp (some (.int r))) 0 0 (fun _ => False) := by
  rw [X_Then_least] at hf
  obtain ⟨g0, hf⟩ := gd_e hf
  refine metPi l (by decide) (Nat.le_of_ble_eq_true rfl) ?_
  intro p e s m args below meth c Q hx hb hts hown hnmd hml hinit hK hW hret ls hl
  have hown : s.vm.findClass RX11 = some m.cls := hown
  have hX := XX.start hW
  have hl : lv_has ls 1 [(0, .ref o)] := hl
  refine lv_aload_n hx hb dX11_least_0 rfl (lv_at hl 0 rfl) ?_
  refine x_get (ci := 9) (C := RX11) (T := TX11) (N := 2) hx hb hts in_X11 hown hK.1 hX rfl g0 (by decide) rfl 0 (Nat.le_of_ble_eq_true rfl) (hts _ q469) (u_same (hts _ q470)) (hv_ref rfl) dX11_least_1 ?_
  obtain ⟨a1, e2, hf⟩ := bd_e hf
  obtain ⟨r4, e3, hf⟩ := bd_e hf
  refine x_least hG hx hb hml hts hown hK hX (rf_some e2) (hrec _ _ e3) q502 hl.1 (Nat.le_of_ble_eq_true rfl) (by simp only [rmm]; omega) (by simp only [rmm]; omega) ⟨(by simp only [rmm]; omega), (by simp only [rmm]; omega)⟩ dX11_least_4 ?_
  clear e3
  refine lv_aload_n hx hb dX11_least_7 rfl (lv_at hl 0 rfl) ?_
  refine x_get (ci := 9) (C := RX11) (T := TX11) (N := 2) hx hb hts in_X11 hown hK.1 hX rfl g0 (by decide) rfl 1 (Nat.le_of_ble_eq_true rfl) (hts _ q472) (u_same (hts _ q473)) (hv_ref rfl) dX11_least_8 ?_
  obtain ⟨a5, e6, hf⟩ := bd_e hf
  obtain ⟨r8, e7, hf⟩ := bd_e hf
  refine x_least hG hx hb hml hts hown hK hX (rf_some e6) (hrec _ _ e7) q502 hl.1 (Nat.le_of_ble_eq_true rfl) (by simp only [rmm]; omega) (by simp only [rmm]; omega) ⟨(by simp only [rmm]; omega), (by simp only [rmm]; omega)⟩ dX11_least_11 ?_
  clear e7
  refine lv_iadd hx hb dX11_least_14 ?_
  obtain ⟨r10, e9, hf⟩ := bd_e hf
  refine x_doneP (va_runSN (As := [.int (r4 + r8)]) (rest := []) ⟨hx, hb, hml, hown, hts⟩ (wx_capped l G hG h n (r4 + r8) r10 e9) ⟨va_cnB 1 hts (lw_meth q508) rfl rfl rfl (hG.nw hK nq512) (hts _ q94) cdX0_capped ⟨(by simp only [rmm]; omega), (by simp only [rmm]; omega)⟩, hts _ q507, trivial⟩ (x_preS hK hX _) rfl rfl hl.1 rfl (lv_room (Nat.le_of_ble_eq_true rfl)) dX11_least_15 ⟨(Nat.le_of_ble_eq_true rfl), (Nat.le_of_ble_eq_true rfl)⟩) rfl ?_
  clear e9
  obtain rfl := Option.some.inj hf
  exact hret _ _ rfl dX11_least_18
theorem cdX12_least : yX12_least.cls ≠ "java/lang/invoke/MethodHandle" ∧ yX12_least.cls ≠ "java/lang/invoke/VarHandle" ∧ (parseMethodDescriptor yX12_least.desc).map (fun d => d.parameters.length) = some 0 := by decide +kernel
set_option maxHeartbeats 4000000 in
set_option maxRecDepth 100000 in
theorem wx_Either_least (l : Launch) (G : Gt) (hG : XG G) (D : Nat) (hD : 2 ≤ D) (fw : Nat → Option Int32) (h : Hp) (hrec : ∀ a r, fw a = some r → LeastOK l G h a r D) (n : Nat) (o : Nat) (r : Int32) (hf : X_Either_least n fw o h = some r) : Met l yX12_least (ws_ yX12_least cX12_least 1 (some .int)) (rmm (D + 3) 0 0 (64 * (D + 1))) (XP G [.ref o] h) (XQp (some (.int r))) 0 0 (fun _ => False) := by
  rw [X_Either_least] at hf
  obtain ⟨g0, hf⟩ := gd_e hf
  refine metPi l (by decide) (Nat.le_of_ble_eq_true rfl) ?_
  intro p e s m args below meth c Q hx hb hts hown hnmd hml hinit hK hW hret ls hl
  have hown : s.vm.findClass RX12 = some m.cls := hown
  have hX := XX.start hW
  have hl : lv_has ls 1 [(0, .ref o)] := hl
  refine lv_aload_n hx hb dX12_least_0 rfl (lv_at hl 0 rfl) ?_
  refine x_get (ci := 10) (C := RX12) (T := TX12) (N := 2) hx hb hts in_X12 hown hK.1 hX rfl g0 (by decide) rfl 0 (Nat.le_of_ble_eq_true rfl) (hts _ q467) (u_same (hts _ q468)) (hv_ref rfl) dX12_least_1 ?_
  obtain ⟨a1, e2, hf⟩ := bd_e hf
  obtain ⟨r4, e3, hf⟩ := bd_e hf
  refine x_least hG hx hb hml hts hown hK hX (rf_some e2) (hrec _ _ e3) q499 hl.1 (Nat.le_of_ble_eq_true rfl) (by simp only [rmm]; omega) (by simp only [rmm]; omega) ⟨(by simp only [rmm]; omega), (by simp only [rmm]; omega)⟩ dX12_least_4 ?_
  clear e3
  refine lv_aload_n hx hb dX12_least_7 rfl (lv_at hl 0 rfl) ?_
  refine x_get (ci := 10) (C := RX12) (T := TX12) (N := 2) hx hb hts in_X12 hown hK.1 hX rfl g0 (by decide) rfl 1 (Nat.le_of_ble_eq_true rfl) (hts _ q474) (u_same (hts _ q475)) (hv_ref rfl) dX12_least_8 ?_
  obtain ⟨a5, e6, hf⟩ := bd_e hf
  obtain ⟨r8, e7, hf⟩ := bd_e hf
  refine x_least hG hx hb hml hts hown hK hX (rf_some e6) (hrec _ _ e7) q499 hl.1 (Nat.le_of_ble_eq_true rfl) (by simp only [rmm]; omega) (by simp only [rmm]; omega) ⟨(by simp only [rmm]; omega), (by simp only [rmm]; omega)⟩ dX12_least_11 ?_
  clear e7
  refine va_mmin hx hb (hml.trans hl.1.symm) hown (hts _ q513) (hts _ q510) (hts _ q108) (hts _ q511) (by simp only [rmm]; omega) (by show _ ≤ _; first | decide | (simp [rf_cat, cat_i, cat_l, cat_r, rmm]; done) | (simp [rf_cat, cat_i, cat_l, cat_r, rmm]; omega)) (by simp only [rmm]; omega) (by simp only [rmm]; omega) dX12_least_14 ?_
  obtain rfl := Option.some.inj hf
  exact hret _ _ rfl dX12_least_17
theorem cdX8_least : yX8_least.cls ≠ "java/lang/invoke/MethodHandle" ∧ yX8_least.cls ≠ "java/lang/invoke/VarHandle" ∧ (parseMethodDescriptor yX8_least.desc).map (fun d => d.parameters.length) = some 0 := by decide +kernel
set_option maxHeartbeats 4000000 in
set_option maxRecDepth 100000 in
theorem wx_Atom_least (l : Launch) (G : Gt) (hG : XG G) (h : Hp) (n : Nat) (o : Nat) (r : Int32) (hf : X_Atom_least n o h = some r) : Met l yX8_least (ws_ yX8_least cX8_least 1 (some .int)) (rmm (0) 0 0 (0)) (XP G [.ref o] h) (XQp (some (.int r))) 0 0 (fun _ => False) := by
  rw [X_Atom_least] at hf
  refine metPi l (by decide) (Nat.le_of_ble_eq_true rfl) ?_
  intro p e s m args below meth c Q hx hb hts hown hnmd hml hinit hK hW hret ls hl
  have hown : s.vm.findClass RX8 = some m.cls := hown
  have hX := XX.start hW
  have hl : lv_has ls 1 [(0, .ref o)] := hl
  refine lv_iconst (v := 1) hx hb dX8_least_0 (by decide) ?_
  obtain rfl := Option.some.inj hf
  exact hret _ _ rfl dX8_least_1
theorem cdX9_least : yX9_least.cls ≠ "java/lang/invoke/MethodHandle" ∧ yX9_least.cls ≠ "java/lang/invoke/VarHandle" ∧ (parseMethodDescriptor yX9_least.desc).map (fun d => d.parameters.length) = some 0 := by decide +kernel
set_option maxHeartbeats 4000000 in
set_option maxRecDepth 100000 in
theorem wx_Times_least (l : Launch) (G : Gt) (hG : XG G) (D : Nat) (hD : 2 ≤ D) (fw : Nat → Option Int32) (h : Hp) (hrec : ∀ a r, fw a = some r → LeastOK l G h a r D) (n : Nat) (o : Nat) (r : Int32) (hf : X_Times_least n fw o h = some r) : Met l yX9_least (ws_ yX9_least cX9_least 1 (some .int)) (rmm (D + 3) 0 0 (64 * (D + 1))) (XP G [.ref o] h) (XQp (some (.int r))) 0 0 (fun _ => False) := by
  rw [X_Times_least] at hf
  obtain ⟨g0, hf⟩ := gd_e hf
  refine metPi l (by decide) (Nat.le_of_ble_eq_true rfl) ?_
  intro p e s m args below meth c Q hx hb hts hown hnmd hml hinit hK hW hret ls hl
  have hown : s.vm.findClass RX9 = some m.cls := hown
  have hX := XX.start hW
  have hl : lv_has ls 1 [(0, .ref o)] := hl
  refine lv_aload_n hx hb dX9_least_0 rfl (lv_at hl 0 rfl) ?_
  refine x_get (ci := 8) (C := RX9) (T := TX9) (N := 3) hx hb hts in_X9 hown hK.1 hX rfl g0 (by decide) rfl 1 (Nat.le_of_ble_eq_true rfl) (hts _ q448) (fun _ h9 => h9) (hv_int rfl) dX9_least_1 ?_
  refine lv_aload_n hx hb dX9_least_4 rfl (lv_at hl 0 rfl) ?_
  refine x_get (ci := 8) (C := RX9) (T := TX9) (N := 3) hx hb hts in_X9 hown hK.1 hX rfl g0 (by decide) rfl 0 (Nat.le_of_ble_eq_true rfl) (hts _ q447) (fun _ h9 => h9) (hv_ref rfl) dX9_least_5 ?_
  obtain ⟨a1, e2, hf⟩ := bd_e hf
  obtain ⟨r4, e3, hf⟩ := bd_e hf
  refine x_least hG hx hb hml hts hown hK hX (rf_some e2) (hrec _ _ e3) q505 hl.1 (Nat.le_of_ble_eq_true rfl) (by simp only [rmm]; omega) (by simp only [rmm]; omega) ⟨(by simp only [rmm]; omega), (by simp only [rmm]; omega)⟩ dX9_least_8 ?_
  clear e3
  refine lv_imul hx hb dX9_least_11 ?_
  obtain ⟨r6, e5, hf⟩ := bd_e hf
  refine x_doneP (va_runSN (As := [.int ((hI h o 1) * r4)]) (rest := []) ⟨hx, hb, hml, hown, hts⟩ (wx_capped l G hG h n ((hI h o 1) * r4) r6 e5) ⟨va_cnB 1 hts (lw_meth q508) rfl rfl rfl (hG.nw hK nq506) (hts _ q94) cdX0_capped ⟨(by simp only [rmm]; omega), (by simp only [rmm]; omega)⟩, hts _ q507, trivial⟩ (x_preS hK hX _) rfl rfl hl.1 rfl (lv_room (Nat.le_of_ble_eq_true rfl)) dX9_least_12 ⟨(Nat.le_of_ble_eq_true rfl), (Nat.le_of_ble_eq_true rfl)⟩) rfl ?_
  clear e5
  obtain rfl := Option.some.inj hf
  exact hret _ _ rfl dX9_least_15
theorem least_ok (l : Launch) (G : Gt) (hG : XG G) (d a : Nat) (h : Hp) (r : Int32) (e : X_least d a h = some r) : LeastOK l G h a r (d + 2) := by
  induction d generalizing a r with
  | zero => rw [X_least] at e; cases e
  | succ d ih =>
    rw [X_least] at e
    have ih' : ∀ a r, (fun a => X_least d a h) a = some r → LeastOK l G h a r (d + 2) := fun a r e => ih a r e
    by_cases t0 : hT h a = 8
    · rw [if_pos t0] at e; exact ⟨0, 0, by omega, by omega, Or.inl ⟨t0, wx_Atom_least l G hG h 0 a r e⟩⟩
    rw [if_neg t0] at e
    by_cases t1 : hT h a = 9
    · rw [if_pos t1] at e; exact ⟨d + 2 + 3, 64 * (d + 2 + 1), by omega, by omega, Or.inr (Or.inl ⟨t1, wx_Times_least l G hG (d + 2) (by omega) _ h ih' 0 a r e⟩)⟩
    rw [if_neg t1] at e
    by_cases t2 : hT h a = 10
    · rw [if_pos t2] at e; exact ⟨d + 2 + 3, 64 * (d + 2 + 1), by omega, by omega, Or.inr (Or.inr (Or.inl ⟨t2, wx_Then_least l G hG (d + 2) (by omega) _ h ih' 0 a r e⟩))⟩
    rw [if_neg t2] at e
    by_cases t3 : hT h a = 11
    · rw [if_pos t3] at e; exact ⟨d + 2 + 3, 64 * (d + 2 + 1), by omega, by omega, Or.inr (Or.inr (Or.inr (⟨t3, wx_Either_least l G hG (d + 2) (by omega) _ h ih' 0 a r e⟩)))⟩
    rw [if_neg t3] at e
    cases e
theorem cdX11_weight : yX11_weight.cls ≠ "java/lang/invoke/MethodHandle" ∧ yX11_weight.cls ≠ "java/lang/invoke/VarHandle" ∧ (parseMethodDescriptor yX11_weight.desc).map (fun d => d.parameters.length) = some 0 := by decide +kernel
set_option maxHeartbeats 4000000 in
set_option maxRecDepth 100000 in
theorem wx_Then_weight (l : Launch) (G : Gt) (hG : XG G) (D : Nat) (hD : 2 ≤ D) (fw : Nat → Option Int32) (h : Hp) (hrec : ∀ a r, fw a = some r → WeightOK l G h a r D) (n : Nat) (o : Nat) (r : Int32) (hf : X_Then_weight n fw o h = some r) : Met l yX11_weight (ws_ yX11_weight cX11_weight 1 (some .int)) (rmm (D + 3) 0 0 (64 * (D + 1))) (XP G [.ref o] h) (XQp (some (.int r))) 0 0 (fun _ => False) := by
  rw [X_Then_weight] at hf
  obtain ⟨g0, hf⟩ := gd_e hf
  refine metPi l (by decide) (Nat.le_of_ble_eq_true rfl) ?_
  intro p e s m args below meth c Q hx hb hts hown hnmd hml hinit hK hW hret ls hl
  have hown : s.vm.findClass RX11 = some m.cls := hown
  have hX := XX.start hW
  have hl : lv_has ls 1 [(0, .ref o)] := hl
  refine lv_aload_n hx hb dX11_weight_0 rfl (lv_at hl 0 rfl) ?_
  refine x_superW hG hx hb hml hts hown hK hX rfl (Or.inl ⟨rfl, g0⟩) q533 q480 hl.1 (Nat.le_of_ble_eq_true rfl) (by simp only [rmm]; omega) (by simp only [rmm]; omega) ⟨(by simp only [rmm]; omega), (by simp only [rmm]; omega)⟩ dX11_weight_1 ?_
  refine lv_aload_n hx hb dX11_weight_4 rfl (lv_at hl 0 rfl) ?_
  refine x_get (ci := 9) (C := RX11) (T := TX11) (N := 2) hx hb hts in_X11 hown hK.1 hX rfl g0 (by decide) rfl 0 (Nat.le_of_ble_eq_true rfl) (hts _ q469) (u_same (hts _ q470)) (hv_ref rfl) dX11_weight_5 ?_
  obtain ⟨a1, e2, hf⟩ := bd_e hf
  obtain ⟨r4, e3, hf⟩ := bd_e hf
  refine x_weight hG hx hb hml hts hown hK hX (rf_some e2) (hrec _ _ e3) q534 hl.1 (Nat.le_of_ble_eq_true rfl) (by simp only [rmm]; omega) (by simp only [rmm]; omega) ⟨(by simp only [rmm]; omega), (by simp only [rmm]; omega)⟩ dX11_weight_8 ?_
  clear e3
  refine lv_iadd hx hb dX11_weight_11 ?_
  refine lv_aload_n hx hb dX11_weight_12 rfl (lv_at hl 0 rfl) ?_
  refine x_get (ci := 9) (C := RX11) (T := TX11) (N := 2) hx hb hts in_X11 hown hK.1 hX rfl g0 (by decide) rfl 1 (Nat.le_of_ble_eq_true rfl) (hts _ q472) (u_same (hts _ q473)) (hv_ref rfl) dX11_weight_13 ?_
  obtain ⟨a5, e6, hf⟩ := bd_e hf
  obtain ⟨r8, e7, hf⟩ := bd_e hf
  refine x_weight hG hx hb hml hts hown hK hX (rf_some e6) (hrec _ _ e7) q534 hl.1 (Nat.le_of_ble_eq_true rfl) (by simp only [rmm]; omega) (by simp only [rmm]; omega) ⟨(by simp only [rmm]; omega), (by simp only [rmm]; omega)⟩ dX11_weight_16 ?_
  clear e7
  refine lv_iadd hx hb dX11_weight_19 ?_
  obtain ⟨r10, e9, hf⟩ := bd_e hf
  refine x_doneP (va_runSN (As := [.int ((0 + r4) + r8)]) (rest := []) ⟨hx, hb, hml, hown, hts⟩ (wx_capped l G hG h n ((0 + r4) + r8) r10 e9) ⟨va_cnB 1 hts (lw_meth q508) rfl rfl rfl (hG.nw hK nq512) (hts _ q94) cdX0_capped ⟨(by simp only [rmm]; omega), (by simp only [rmm]; omega)⟩, hts _ q507, trivial⟩ (x_preS hK hX _) rfl rfl hl.1 rfl (lv_room (Nat.le_of_ble_eq_true rfl)) dX11_weight_20 ⟨(Nat.le_of_ble_eq_true rfl), (Nat.le_of_ble_eq_true rfl)⟩) rfl ?_
  clear e9
  obtain rfl := Option.some.inj hf
  exact hret _ _ rfl dX11_weight_23
theorem cdX12_weight : yX12_weight.cls ≠ "java/lang/invoke/MethodHandle" ∧ yX12_weight.cls ≠ "java/lang/invoke/VarHandle" ∧ (parseMethodDescriptor yX12_weight.desc).map (fun d => d.parameters.length) = some 0 := by decide +kernel
set_option maxHeartbeats 4000000 in
set_option maxRecDepth 100000 in
theorem wx_Either_weight (l : Launch) (G : Gt) (hG : XG G) (D : Nat) (hD : 2 ≤ D) (fw : Nat → Option Int32) (h : Hp) (hrec : ∀ a r, fw a = some r → WeightOK l G h a r D) (n : Nat) (o : Nat) (r : Int32) (hf : X_Either_weight n fw o h = some r) : Met l yX12_weight (ws_ yX12_weight cX12_weight 1 (some .int)) (rmm (D + 3) 0 0 (64 * (D + 1))) (XP G [.ref o] h) (XQp (some (.int r))) 0 0 (fun _ => False) := by
  rw [X_Either_weight] at hf
  obtain ⟨g0, hf⟩ := gd_e hf
  refine metPi l (by decide) (Nat.le_of_ble_eq_true rfl) ?_
  intro p e s m args below meth c Q hx hb hts hown hnmd hml hinit hK hW hret ls hl
  have hown : s.vm.findClass RX12 = some m.cls := hown
  have hX := XX.start hW
  have hl : lv_has ls 1 [(0, .ref o)] := hl
  refine lv_aload_n hx hb dX12_weight_0 rfl (lv_at hl 0 rfl) ?_
  refine x_superW hG hx hb hml hts hown hK hX rfl (Or.inr ⟨rfl, g0⟩) q525 q489 hl.1 (Nat.le_of_ble_eq_true rfl) (by simp only [rmm]; omega) (by simp only [rmm]; omega) ⟨(by simp only [rmm]; omega), (by simp only [rmm]; omega)⟩ dX12_weight_1 ?_
  refine lv_aload_n hx hb dX12_weight_4 rfl (lv_at hl 0 rfl) ?_
  refine x_get (ci := 10) (C := RX12) (T := TX12) (N := 2) hx hb hts in_X12 hown hK.1 hX rfl g0 (by decide) rfl 0 (Nat.le_of_ble_eq_true rfl) (hts _ q467) (u_same (hts _ q468)) (hv_ref rfl) dX12_weight_5 ?_
  obtain ⟨a1, e2, hf⟩ := bd_e hf
  obtain ⟨r4, e3, hf⟩ := bd_e hf
  refine x_weight hG hx hb hml hts hown hK hX (rf_some e2) (hrec _ _ e3) q530 hl.1 (Nat.le_of_ble_eq_true rfl) (by simp only [rmm]; omega) (by simp only [rmm]; omega) ⟨(by simp only [rmm]; omega), (by simp only [rmm]; omega)⟩ dX12_weight_8 ?_
  clear e3
  refine lv_iadd hx hb dX12_weight_11 ?_
  refine lv_aload_n hx hb dX12_weight_12 rfl (lv_at hl 0 rfl) ?_
  refine x_get (ci := 10) (C := RX12) (T := TX12) (N := 2) hx hb hts in_X12 hown hK.1 hX rfl g0 (by decide) rfl 1 (Nat.le_of_ble_eq_true rfl) (hts _ q474) (u_same (hts _ q475)) (hv_ref rfl) dX12_weight_13 ?_
  obtain ⟨a5, e6, hf⟩ := bd_e hf
  obtain ⟨r8, e7, hf⟩ := bd_e hf
  refine x_weight hG hx hb hml hts hown hK hX (rf_some e6) (hrec _ _ e7) q530 hl.1 (Nat.le_of_ble_eq_true rfl) (by simp only [rmm]; omega) (by simp only [rmm]; omega) ⟨(by simp only [rmm]; omega), (by simp only [rmm]; omega)⟩ dX12_weight_16 ?_
  clear e7
  refine lv_iadd hx hb dX12_weight_19 ?_
  obtain ⟨r10, e9, hf⟩ := bd_e hf
  refine x_doneP (va_runSN (As := [.int ((0 + r4) + r8)]) (rest := []) ⟨hx, hb, hml, hown, hts⟩ (wx_capped l G hG h n ((0 + r4) + r8) r10 e9) ⟨va_cnB 1 hts (lw_meth q508) rfl rfl rfl (hG.nw hK nq538) (hts _ q94) cdX0_capped ⟨(by simp only [rmm]; omega), (by simp only [rmm]; omega)⟩, hts _ q507, trivial⟩ (x_preS hK hX _) rfl rfl hl.1 rfl (lv_room (Nat.le_of_ble_eq_true rfl)) dX12_weight_20 ⟨(Nat.le_of_ble_eq_true rfl), (Nat.le_of_ble_eq_true rfl)⟩) rfl ?_
  clear e9
  obtain rfl := Option.some.inj hf
  exact hret _ _ rfl dX12_weight_23
theorem cdX8_weight : yX8_weight.cls ≠ "java/lang/invoke/MethodHandle" ∧ yX8_weight.cls ≠ "java/lang/invoke/VarHandle" ∧ (parseMethodDescriptor yX8_weight.desc).map (fun d => d.parameters.length) = some 0 := by decide +kernel
set_option maxHeartbeats 4000000 in
set_option maxRecDepth 100000 in
theorem wx_Atom_weight (l : Launch) (G : Gt) (hG : XG G) (h : Hp) (n : Nat) (o : Nat) (r : Int32) (hf : X_Atom_weight n o h = some r) : Met l yX8_weight (ws_ yX8_weight cX8_weight 1 (some .int)) (rmm (0) 0 0 (0)) (XP G [.ref o] h) (XQp (some (.int r))) 0 0 (fun _ => False) := by
  rw [X_Atom_weight] at hf
  refine metPi l (by decide) (Nat.le_of_ble_eq_true rfl) ?_
  intro p e s m args below meth c Q hx hb hts hown hnmd hml hinit hK hW hret ls hl
  have hown : s.vm.findClass RX8 = some m.cls := hown
  have hX := XX.start hW
  have hl : lv_has ls 1 [(0, .ref o)] := hl
  refine lv_iconst (v := 1) hx hb dX8_weight_0 (by decide) ?_
  obtain rfl := Option.some.inj hf
  exact hret _ _ rfl dX8_weight_1
theorem cdX9_weight : yX9_weight.cls ≠ "java/lang/invoke/MethodHandle" ∧ yX9_weight.cls ≠ "java/lang/invoke/VarHandle" ∧ (parseMethodDescriptor yX9_weight.desc).map (fun d => d.parameters.length) = some 0 := by decide +kernel
set_option maxHeartbeats 4000000 in
set_option maxRecDepth 100000 in
theorem wx_Times_weight (l : Launch) (G : Gt) (hG : XG G) (D : Nat) (hD : 2 ≤ D) (fw : Nat → Option Int32) (h : Hp) (hrec : ∀ a r, fw a = some r → WeightOK l G h a r D) (n : Nat) (o : Nat) (r : Int32) (hf : X_Times_weight n fw o h = some r) : Met l yX9_weight (ws_ yX9_weight cX9_weight 1 (some .int)) (rmm (D + 3) 0 0 (64 * (D + 1))) (XP G [.ref o] h) (XQp (some (.int r))) 0 0 (fun _ => False) := by
  rw [X_Times_weight] at hf
  obtain ⟨g0, hf⟩ := gd_e hf
  refine metPi l (by decide) (Nat.le_of_ble_eq_true rfl) ?_
  intro p e s m args below meth c Q hx hb hts hown hnmd hml hinit hK hW hret ls hl
  have hown : s.vm.findClass RX9 = some m.cls := hown
  have hX := XX.start hW
  have hl : lv_has ls 1 [(0, .ref o)] := hl
  refine lv_aload_n hx hb dX9_weight_0 rfl (lv_at hl 0 rfl) ?_
  refine x_get (ci := 8) (C := RX9) (T := TX9) (N := 3) hx hb hts in_X9 hown hK.1 hX rfl g0 (by decide) rfl 2 (Nat.le_of_ble_eq_true rfl) (hts _ q449) (fun _ h9 => h9) (hv_int rfl) dX9_weight_1 ?_
  refine lv_aload_n hx hb dX9_weight_4 rfl (lv_at hl 0 rfl) ?_
  refine x_get (ci := 8) (C := RX9) (T := TX9) (N := 3) hx hb hts in_X9 hown hK.1 hX rfl g0 (by decide) rfl 0 (Nat.le_of_ble_eq_true rfl) (hts _ q447) (fun _ h9 => h9) (hv_ref rfl) dX9_weight_5 ?_
  obtain ⟨a1, e2, hf⟩ := bd_e hf
  obtain ⟨r4, e3, hf⟩ := bd_e hf
  refine x_weight hG hx hb hml hts hown hK hX (rf_some e2) (hrec _ _ e3) q537 hl.1 (Nat.le_of_ble_eq_true rfl) (by simp only [rmm]; omega) (by simp only [rmm]; omega) ⟨(by simp only [rmm]; omega), (by simp only [rmm]; omega)⟩ dX9_weight_8 ?_
  clear e3
  refine lv_imul hx hb dX9_weight_11 ?_
  obtain ⟨r6, e5, hf⟩ := bd_e hf
  refine x_doneP (va_runSN (As := [.int ((hI h o 2) * r4)]) (rest := []) ⟨hx, hb, hml, hown, hts⟩ (wx_capped l G hG h n ((hI h o 2) * r4) r6 e5) ⟨va_cnB 1 hts (lw_meth q508) rfl rfl rfl (hG.nw hK nq506) (hts _ q94) cdX0_capped ⟨(by simp only [rmm]; omega), (by simp only [rmm]; omega)⟩, hts _ q507, trivial⟩ (x_preS hK hX _) rfl rfl hl.1 rfl (lv_room (Nat.le_of_ble_eq_true rfl)) dX9_weight_12 ⟨(Nat.le_of_ble_eq_true rfl), (Nat.le_of_ble_eq_true rfl)⟩) rfl ?_
  clear e5
  obtain rfl := Option.some.inj hf
  exact hret _ _ rfl dX9_weight_15
theorem weight_ok (l : Launch) (G : Gt) (hG : XG G) (d a : Nat) (h : Hp) (r : Int32) (e : X_weight d a h = some r) : WeightOK l G h a r (d + 2) := by
  induction d generalizing a r with
  | zero => rw [X_weight] at e; cases e
  | succ d ih =>
    rw [X_weight] at e
    have ih' : ∀ a r, (fun a => X_weight d a h) a = some r → WeightOK l G h a r (d + 2) := fun a r e => ih a r e
    by_cases t0 : hT h a = 8
    · rw [if_pos t0] at e; exact ⟨0, 0, by omega, by omega, Or.inl ⟨t0, wx_Atom_weight l G hG h 0 a r e⟩⟩
    rw [if_neg t0] at e
    by_cases t1 : hT h a = 9
    · rw [if_pos t1] at e; exact ⟨d + 2 + 3, 64 * (d + 2 + 1), by omega, by omega, Or.inr (Or.inl ⟨t1, wx_Times_weight l G hG (d + 2) (by omega) _ h ih' 0 a r e⟩)⟩
    rw [if_neg t1] at e
    by_cases t2 : hT h a = 10
    · rw [if_pos t2] at e; exact ⟨d + 2 + 3, 64 * (d + 2 + 1), by omega, by omega, Or.inr (Or.inr (Or.inl ⟨t2, wx_Then_weight l G hG (d + 2) (by omega) _ h ih' 0 a r e⟩))⟩
    rw [if_neg t2] at e
    by_cases t3 : hT h a = 11
    · rw [if_pos t3] at e; exact ⟨d + 2 + 3, 64 * (d + 2 + 1), by omega, by omega, Or.inr (Or.inr (Or.inr (⟨t3, wx_Either_weight l G hG (d + 2) (by omega) _ h ih' 0 a r e⟩)))⟩
    rw [if_neg t3] at e
    cases e
