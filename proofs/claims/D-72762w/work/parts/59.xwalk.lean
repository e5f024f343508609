/-! walks of the system (by program) -/
theorem cdX2_init : yX2_init.cls ≠ "java/lang/invoke/MethodHandle" ∧ yX2_init.cls ≠ "java/lang/invoke/VarHandle" ∧ (parseMethodDescriptor yX2_init.desc).map (fun d => d.parameters.length) = some 0 := by decide +kernel
set_option maxHeartbeats 4000000 in
set_option maxRecDepth 100000 in
theorem wx_PromiseTriesModel_init (l : Launch) (G : Gt) (hG : XG G) (h : Hp) (n : Nat) (o : Nat) (h1 : Hp) (MC MS : Nat) (hf : X_PromiseTriesModel_init n o h = some (h1, MC, MS)) : Met l yX2_init (ws_ yX2_init cX2_init 2 none) (rmm (1) MC MS (64)) (XP G [.ref o] h) (XQ G none h h1) MC MS (fre h) := by
  rw [X_PromiseTriesModel_init] at hf
  obtain ⟨g0, hf⟩ := gd_e hf
  refine metSv l (by decide) (Nat.le_of_ble_eq_true rfl) ?_
  intro p e s m args below meth c Q hx hb hts hown hnmd hml hinit hK hW hret ls hl
  have hinit : meth.name = "<init>" := hinit rfl
  have hown : s.vm.findClass RX2 = some m.cls := hown
  have hX := XX.start hW
  have kc : 0 + MC = MC := Nat.zero_add _
  have ks : 0 + MS = MS := Nat.zero_add _
  have hl : lv_has ls 2 [(0, .ref o)] := hl
  have B324 : ∀ (f : Nat) (v1 : Int32) (h_263 : Hp) (ck cs qc qs : Nat) (kc : ck + qc = MC) (ks : cs + qs = MS) (H : Heap) (locs : List Loc) (ls : Array Slot), XX G h s.heap h_263 H locs → lv_has ls 2 [(0, .ref o), (1, .int v1)] → X_PromiseTriesModel_init_b324 n o f v1 h_263 = some (h1, qc, qs) → W p l e (rmm (1) MC MS (64)) s m args below meth c H locs ck cs Q (F0 m 324 ls []) := by
    intro f
    induction f with
    | zero =>
      intro v1 h_263 ck cs qc qs kc ks H locs ls hX hl hf
      rw [X_PromiseTriesModel_init_b324] at hf
      cases hf
    | succ f hK324 =>
      intro v1 h_263 ck cs qc qs kc ks H locs ls hX hl hf
      rw [X_PromiseTriesModel_init_b324] at hf
      refine lv_iload_n hx hb dX2_init_324 rfl (lv_at hl 1 rfl) ?_
      refine lv_iconst (v := 4) hx hb dX2_init_325 (by decide) ?_
      refine lv_icmp_ge (tgt := 343) hx hb dX2_init_326 (by decide) (fun c264 => ?_) (fun c264 => ?_)
      · rw [if_pos c264] at hf
        obtain ⟨q1, q2⟩ := Prod.mk.inj (Option.some.inj hf)
        obtain ⟨q2, q3⟩ := Prod.mk.inj q2
        subst q1
        refine W.cs (cells' := MC) (slots' := MS) (by omega) (by omega) ?_
        exact hret _ _ _ _ hX dX2_init_343
      · rw [if_neg c264] at hf
        refine lv_aload_n hx hb dX2_init_329 rfl (lv_at hl 0 rfl) ?_
        refine x_get (ci := 2) (C := RX2) (T := TX2) (N := 52) hx hb hts in_X2 hown hK.1 hX rfl (hX.tg g0 (by decide)) (by decide) rfl 48 (Nat.le_of_ble_eq_true rfl) (hts _ q1138) (fun _ h9 => h9) (hv_ref rfl) dX2_init_330 ?_
        refine lv_iload_n hx hb dX2_init_333 rfl (lv_at hl 1 rfl) ?_
        refine lv_bipush (v := (-4)) hx hb dX2_init_334 (by decide) ?_
        obtain ⟨a265, e266, hf⟩ := bd_e hf
        obtain ⟨g267, hf⟩ := gd_e hf
        obtain ⟨g268, hf⟩ := gd_e hf
        obtain ⟨h269, eh269, hf⟩ := st_e hf
        refine x_iast hx hb hK.1 hX (rf_some e266) g267 g268 dX2_init_336 (fun H locs hX => ?_)
        replace hX := hX.re eh269
        clear eh269
        refine lv_iinc (v := (v1 + 1)) (lv' := [(1, .int (v1 + 1)), (0, .ref o)]) hx hb dX2_init_337 hl (k := 1) rfl rfl (by decide) rfl (fun ls hl => ?_)
        refine lv_goto (tgt := 324) hx hb dX2_init_340 (by decide) ?_
        exact hK324 (v1 + 1) h269 _ _ _ _ kc ks _ _ _ hX (lv_sub hl [1, 0] rfl) hf
  refine lv_aload_n hx hb dX2_init_0 rfl (lv_at hl 0 rfl) ?_
  refine W.objInit hx hb hown (hts _ q1083) (hts _ q148) (hts _ q149) rfl (by rw [hml]; exact hl.1) rfl dX2_init_1 (by simp only [rmm]; omega) (by show 2 * 0 + _ + 12 ≤ _; first | exact Nat.le_of_ble_eq_true rfl | (simp only [List.map, List.sum_cons, List.sum_nil, rf_cat, cat_i, cat_l, cat_r, rmm] <;> decide)) ?_
  refine W.eq (g2 := F0 m 4 ls []) rfl ?_
  refine lv_aload_n hx hb dX2_init_4 rfl (lv_at hl 0 rfl) ?_
  refine lv_sipush (v := 360) hx hb dX2_init_5 (by decide) ?_
  obtain ⟨c1, s2, hf, e3, e4⟩ := ad_e hf
  obtain ⟨h5, eh5, hf⟩ := st_e hf
  refine x_newa (atype := .int) (t := 0) hx hb (hts _ q870) rfl (by decide) hK hX rfl (fun q => q) (dfl _ ⟨by decide, by decide⟩) (by decide) (by show _ * _ ≤ _; first | decide | (have := True.intro; simp only [componentBytes, aTy]; omega)) (by simp only [rmm]; omega) (by simp only [rmm]; omega) dX2_init_8 (fun H hX => ?_)
  replace hX := hX.re eh5
  have g6 : hT h5 (hZ h) = 100 := by rw [eh5]; exact nw_T _ _ _
  clear eh5
  replace kc : (0 + 1) + c1 = MC := by omega
  replace ks : (0 + (Int32.toNatClampNeg 360)) + s2 = MS := by omega
  clear e3 e4
  obtain ⟨h7, eh7, hf⟩ := st_e hf
  refine x_putF (ci := 2) (C := RX2) (T := TX2) (N := 52) hx hb hts in_X2 tyX2 tyX2_ok nmX2 hown hK.1 hX rfl (hX.tg g0 (by decide)) (by decide) rfl 0 (Nat.le_of_ble_eq_true rfl) (hts _ q1090) (fun _ h9 => h9) rfl hinit rfl (narrow_rfA _ (some (hZ h))) (fits_rfA _ (some (hZ h))) (Put1.fR (x := (some (hZ h))) rfl) dX2_init_10 (fun H locs hX => ?_)
  replace hX := hX.re eh7
  clear eh7
  refine lv_aload_n hx hb dX2_init_13 rfl (lv_at hl 0 rfl) ?_
  refine lv_sipush (v := 360) hx hb dX2_init_14 (by decide) ?_
  obtain ⟨c8, s9, hf, e10, e11⟩ := ad_e hf
  obtain ⟨h12, eh12, hf⟩ := st_e hf
  refine x_newa (atype := .int) (t := 0) hx hb (hts _ q870) rfl (by decide) hK hX rfl (fun q => q) (dfl _ ⟨by decide, by decide⟩) (by decide) (by show _ * _ ≤ _; first | decide | (have := True.intro; simp only [componentBytes, aTy]; omega)) (by simp only [rmm]; omega) (by simp only [rmm]; omega) dX2_init_17 (fun H hX => ?_)
  replace hX := hX.re eh12
  have g13 : hT h12 (hZ h7) = 100 := by rw [eh12]; exact nw_T _ _ _
  clear eh12
  replace kc : ((0 + 1) + 1) + c8 = MC := by omega
  replace ks : ((0 + (Int32.toNatClampNeg 360)) + (Int32.toNatClampNeg 360)) + s9 = MS := by omega
  clear e10 e11
  obtain ⟨h14, eh14, hf⟩ := st_e hf
  refine x_putF (ci := 2) (C := RX2) (T := TX2) (N := 52) hx hb hts in_X2 tyX2 tyX2_ok nmX2 hown hK.1 hX rfl (hX.tg g0 (by decide)) (by decide) rfl 1 (Nat.le_of_ble_eq_true rfl) (hts _ q1091) (fun _ h9 => h9) rfl hinit rfl (narrow_rfA _ (some (hZ h7))) (fits_rfA _ (some (hZ h7))) (Put1.fR (x := (some (hZ h7))) rfl) dX2_init_19 (fun H locs hX => ?_)
  replace hX := hX.re eh14
  clear eh14
  refine lv_aload_n hx hb dX2_init_22 rfl (lv_at hl 0 rfl) ?_
  refine lv_sipush (v := 1624) hx hb dX2_init_23 (by decide) ?_
  obtain ⟨c15, s16, hf, e17, e18⟩ := ad_e hf
  obtain ⟨h19, eh19, hf⟩ := st_e hf
  refine x_newa (atype := .long) (t := 1) hx hb (hts _ q342) rfl (by decide) hK hX rfl (fun q => q) (dfl _ ⟨by decide, by decide⟩) (by decide) (by show _ * _ ≤ _; first | decide | (have := True.intro; simp only [componentBytes, aTy]; omega)) (by simp only [rmm]; omega) (by simp only [rmm]; omega) dX2_init_26 (fun H hX => ?_)
  replace hX := hX.re eh19
  have g20 : hT h19 (hZ h14) = 101 := by rw [eh19]; exact nw_T _ _ _
  clear eh19
  replace kc : (((0 + 1) + 1) + 1) + c15 = MC := by omega
  replace ks : (((0 + (Int32.toNatClampNeg 360)) + (Int32.toNatClampNeg 360)) + (Int32.toNatClampNeg 1624)) + s16 = MS := by omega
  clear e17 e18
  obtain ⟨h21, eh21, hf⟩ := st_e hf
  refine x_putF (ci := 2) (C := RX2) (T := TX2) (N := 52) hx hb hts in_X2 tyX2 tyX2_ok nmX2 hown hK.1 hX rfl (hX.tg g0 (by decide)) (by decide) rfl 2 (Nat.le_of_ble_eq_true rfl) (hts _ q1092) (fun _ h9 => h9) rfl hinit rfl (narrow_rfA _ (some (hZ h14))) (fits_rfA _ (some (hZ h14))) (Put1.fR (x := (some (hZ h14))) rfl) dX2_init_28 (fun H locs hX => ?_)
  replace hX := hX.re eh21
  clear eh21
  refine lv_aload_n hx hb dX2_init_31 rfl (lv_at hl 0 rfl) ?_
  refine lv_sipush (v := 1624) hx hb dX2_init_32 (by decide) ?_
  obtain ⟨c22, s23, hf, e24, e25⟩ := ad_e hf
  obtain ⟨h26, eh26, hf⟩ := st_e hf
  refine x_newa (atype := .long) (t := 1) hx hb (hts _ q342) rfl (by decide) hK hX rfl (fun q => q) (dfl _ ⟨by decide, by decide⟩) (by decide) (by show _ * _ ≤ _; first | decide | (have := True.intro; simp only [componentBytes, aTy]; omega)) (by simp only [rmm]; omega) (by simp only [rmm]; omega) dX2_init_35 (fun H hX => ?_)
  replace hX := hX.re eh26
  have g27 : hT h26 (hZ h21) = 101 := by rw [eh26]; exact nw_T _ _ _
  clear eh26
  replace kc : ((((0 + 1) + 1) + 1) + 1) + c22 = MC := by omega
  replace ks : ((((0 + (Int32.toNatClampNeg 360)) + (Int32.toNatClampNeg 360)) + (Int32.toNatClampNeg 1624)) + (Int32.toNatClampNeg 1624)) + s23 = MS := by omega
  clear e24 e25
  obtain ⟨h28, eh28, hf⟩ := st_e hf
  refine x_putF (ci := 2) (C := RX2) (T := TX2) (N := 52) hx hb hts in_X2 tyX2 tyX2_ok nmX2 hown hK.1 hX rfl (hX.tg g0 (by decide)) (by decide) rfl 3 (Nat.le_of_ble_eq_true rfl) (hts _ q1093) (fun _ h9 => h9) rfl hinit rfl (narrow_rfA _ (some (hZ h21))) (fits_rfA _ (some (hZ h21))) (Put1.fR (x := (some (hZ h21))) rfl) dX2_init_37 (fun H locs hX => ?_)
  replace hX := hX.re eh28
  clear eh28
  refine lv_aload_n hx hb dX2_init_40 rfl (lv_at hl 0 rfl) ?_
  refine lv_bipush (v := 8) hx hb dX2_init_41 (by decide) ?_
  obtain ⟨c29, s30, hf, e31, e32⟩ := ad_e hf
  obtain ⟨h33, eh33, hf⟩ := st_e hf
  refine x_newa (atype := .int) (t := 0) hx hb (hts _ q870) rfl (by decide) hK hX rfl (fun q => q) (dfl _ ⟨by decide, by decide⟩) (by decide) (by show _ * _ ≤ _; first | decide | (have := True.intro; simp only [componentBytes, aTy]; omega)) (by simp only [rmm]; omega) (by simp only [rmm]; omega) dX2_init_43 (fun H hX => ?_)
  replace hX := hX.re eh33
  have g34 : hT h33 (hZ h28) = 100 := by rw [eh33]; exact nw_T _ _ _
  clear eh33
  replace kc : (((((0 + 1) + 1) + 1) + 1) + 1) + c29 = MC := by omega
  replace ks : (((((0 + (Int32.toNatClampNeg 360)) + (Int32.toNatClampNeg 360)) + (Int32.toNatClampNeg 1624)) + (Int32.toNatClampNeg 1624)) + (Int32.toNatClampNeg 8)) + s30 = MS := by omega
  clear e31 e32
  obtain ⟨h35, eh35, hf⟩ := st_e hf
  refine x_putF (ci := 2) (C := RX2) (T := TX2) (N := 52) hx hb hts in_X2 tyX2 tyX2_ok nmX2 hown hK.1 hX rfl (hX.tg g0 (by decide)) (by decide) rfl 4 (Nat.le_of_ble_eq_true rfl) (hts _ q1094) (fun _ h9 => h9) rfl hinit rfl (narrow_rfA _ (some (hZ h28))) (fits_rfA _ (some (hZ h28))) (Put1.fR (x := (some (hZ h28))) rfl) dX2_init_45 (fun H locs hX => ?_)
  replace hX := hX.re eh35
  clear eh35
  refine lv_aload_n hx hb dX2_init_48 rfl (lv_at hl 0 rfl) ?_
  refine lv_bipush (v := 8) hx hb dX2_init_49 (by decide) ?_
  obtain ⟨c36, s37, hf, e38, e39⟩ := ad_e hf
  obtain ⟨h40, eh40, hf⟩ := st_e hf
  refine x_newa (atype := .int) (t := 0) hx hb (hts _ q870) rfl (by decide) hK hX rfl (fun q => q) (dfl _ ⟨by decide, by decide⟩) (by decide) (by show _ * _ ≤ _; first | decide | (have := True.intro; simp only [componentBytes, aTy]; omega)) (by simp only [rmm]; omega) (by simp only [rmm]; omega) dX2_init_51 (fun H hX => ?_)
  replace hX := hX.re eh40
  have g41 : hT h40 (hZ h35) = 100 := by rw [eh40]; exact nw_T _ _ _
  clear eh40
  replace kc : ((((((0 + 1) + 1) + 1) + 1) + 1) + 1) + c36 = MC := by omega
  replace ks : ((((((0 + (Int32.toNatClampNeg 360)) + (Int32.toNatClampNeg 360)) + (Int32.toNatClampNeg 1624)) + (Int32.toNatClampNeg 1624)) + (Int32.toNatClampNeg 8)) + (Int32.toNatClampNeg 8)) + s37 = MS := by omega
  clear e38 e39
  obtain ⟨h42, eh42, hf⟩ := st_e hf
  refine x_putF (ci := 2) (C := RX2) (T := TX2) (N := 52) hx hb hts in_X2 tyX2 tyX2_ok nmX2 hown hK.1 hX rfl (hX.tg g0 (by decide)) (by decide) rfl 5 (Nat.le_of_ble_eq_true rfl) (hts _ q1095) (fun _ h9 => h9) rfl hinit rfl (narrow_rfA _ (some (hZ h35))) (fits_rfA _ (some (hZ h35))) (Put1.fR (x := (some (hZ h35))) rfl) dX2_init_53 (fun H locs hX => ?_)
  replace hX := hX.re eh42
  clear eh42
  refine lv_aload_n hx hb dX2_init_56 rfl (lv_at hl 0 rfl) ?_
  refine lv_bipush (v := 16) hx hb dX2_init_57 (by decide) ?_
  obtain ⟨c43, s44, hf, e45, e46⟩ := ad_e hf
  obtain ⟨h47, eh47, hf⟩ := st_e hf
  refine x_newa (atype := .long) (t := 1) hx hb (hts _ q342) rfl (by decide) hK hX rfl (fun q => q) (dfl _ ⟨by decide, by decide⟩) (by decide) (by show _ * _ ≤ _; first | decide | (have := True.intro; simp only [componentBytes, aTy]; omega)) (by simp only [rmm]; omega) (by simp only [rmm]; omega) dX2_init_59 (fun H hX => ?_)
  replace hX := hX.re eh47
  have g48 : hT h47 (hZ h42) = 101 := by rw [eh47]; exact nw_T _ _ _
  clear eh47
  replace kc : (((((((0 + 1) + 1) + 1) + 1) + 1) + 1) + 1) + c43 = MC := by omega
  replace ks : (((((((0 + (Int32.toNatClampNeg 360)) + (Int32.toNatClampNeg 360)) + (Int32.toNatClampNeg 1624)) + (Int32.toNatClampNeg 1624)) + (Int32.toNatClampNeg 8)) + (Int32.toNatClampNeg 8)) + (Int32.toNatClampNeg 16)) + s44 = MS := by omega
  clear e45 e46
  obtain ⟨h49, eh49, hf⟩ := st_e hf
  refine x_putF (ci := 2) (C := RX2) (T := TX2) (N := 52) hx hb hts in_X2 tyX2 tyX2_ok nmX2 hown hK.1 hX rfl (hX.tg g0 (by decide)) (by decide) rfl 6 (Nat.le_of_ble_eq_true rfl) (hts _ q1096) (fun _ h9 => h9) rfl hinit rfl (narrow_rfA _ (some (hZ h42))) (fits_rfA _ (some (hZ h42))) (Put1.fR (x := (some (hZ h42))) rfl) dX2_init_61 (fun H locs hX => ?_)
  replace hX := hX.re eh49
  clear eh49
  refine lv_aload_n hx hb dX2_init_64 rfl (lv_at hl 0 rfl) ?_
  refine lv_bipush (v := 16) hx hb dX2_init_65 (by decide) ?_
  obtain ⟨c50, s51, hf, e52, e53⟩ := ad_e hf
  obtain ⟨h54, eh54, hf⟩ := st_e hf
  refine x_newa (atype := .long) (t := 1) hx hb (hts _ q342) rfl (by decide) hK hX rfl (fun q => q) (dfl _ ⟨by decide, by decide⟩) (by decide) (by show _ * _ ≤ _; first | decide | (have := True.intro; simp only [componentBytes, aTy]; omega)) (by simp only [rmm]; omega) (by simp only [rmm]; omega) dX2_init_67 (fun H hX => ?_)
  replace hX := hX.re eh54
  have g55 : hT h54 (hZ h49) = 101 := by rw [eh54]; exact nw_T _ _ _
  clear eh54
  replace kc : ((((((((0 + 1) + 1) + 1) + 1) + 1) + 1) + 1) + 1) + c50 = MC := by omega
  replace ks : ((((((((0 + (Int32.toNatClampNeg 360)) + (Int32.toNatClampNeg 360)) + (Int32.toNatClampNeg 1624)) + (Int32.toNatClampNeg 1624)) + (Int32.toNatClampNeg 8)) + (Int32.toNatClampNeg 8)) + (Int32.toNatClampNeg 16)) + (Int32.toNatClampNeg 16)) + s51 = MS := by omega
  clear e52 e53
  obtain ⟨h56, eh56, hf⟩ := st_e hf
  refine x_putF (ci := 2) (C := RX2) (T := TX2) (N := 52) hx hb hts in_X2 tyX2 tyX2_ok nmX2 hown hK.1 hX rfl (hX.tg g0 (by decide)) (by decide) rfl 7 (Nat.le_of_ble_eq_true rfl) (hts _ q1097) (fun _ h9 => h9) rfl hinit rfl (narrow_rfA _ (some (hZ h49))) (fits_rfA _ (some (hZ h49))) (Put1.fR (x := (some (hZ h49))) rfl) dX2_init_69 (fun H locs hX => ?_)
  replace hX := hX.re eh56
  clear eh56
  refine lv_aload_n hx hb dX2_init_72 rfl (lv_at hl 0 rfl) ?_
  refine lv_bipush (v := 49) hx hb dX2_init_73 (by decide) ?_
  obtain ⟨c57, s58, hf, e59, e60⟩ := ad_e hf
  obtain ⟨h61, eh61, hf⟩ := st_e hf
  refine x_newa (atype := .int) (t := 0) hx hb (hts _ q870) rfl (by decide) hK hX rfl (fun q => q) (dfl _ ⟨by decide, by decide⟩) (by decide) (by show _ * _ ≤ _; first | decide | (have := True.intro; simp only [componentBytes, aTy]; omega)) (by simp only [rmm]; omega) (by simp only [rmm]; omega) dX2_init_75 (fun H hX => ?_)
  replace hX := hX.re eh61
  have g62 : hT h61 (hZ h56) = 100 := by rw [eh61]; exact nw_T _ _ _
  clear eh61
  replace kc : (((((((((0 + 1) + 1) + 1) + 1) + 1) + 1) + 1) + 1) + 1) + c57 = MC := by omega
  replace ks : (((((((((0 + (Int32.toNatClampNeg 360)) + (Int32.toNatClampNeg 360)) + (Int32.toNatClampNeg 1624)) + (Int32.toNatClampNeg 1624)) + (Int32.toNatClampNeg 8)) + (Int32.toNatClampNeg 8)) + (Int32.toNatClampNeg 16)) + (Int32.toNatClampNeg 16)) + (Int32.toNatClampNeg 49)) + s58 = MS := by omega
  clear e59 e60
  obtain ⟨h63, eh63, hf⟩ := st_e hf
  refine x_putF (ci := 2) (C := RX2) (T := TX2) (N := 52) hx hb hts in_X2 tyX2 tyX2_ok nmX2 hown hK.1 hX rfl (hX.tg g0 (by decide)) (by decide) rfl 9 (Nat.le_of_ble_eq_true rfl) (hts _ q1099) (fun _ h9 => h9) rfl hinit rfl (narrow_rfA _ (some (hZ h56))) (fits_rfA _ (some (hZ h56))) (Put1.fR (x := (some (hZ h56))) rfl) dX2_init_77 (fun H locs hX => ?_)
  replace hX := hX.re eh63
  clear eh63
  refine lv_aload_n hx hb dX2_init_80 rfl (lv_at hl 0 rfl) ?_
  refine lv_bipush (v := 98) hx hb dX2_init_81 (by decide) ?_
  obtain ⟨c64, s65, hf, e66, e67⟩ := ad_e hf
  obtain ⟨h68, eh68, hf⟩ := st_e hf
  refine x_newa (atype := .int) (t := 0) hx hb (hts _ q870) rfl (by decide) hK hX rfl (fun q => q) (dfl _ ⟨by decide, by decide⟩) (by decide) (by show _ * _ ≤ _; first | decide | (have := True.intro; simp only [componentBytes, aTy]; omega)) (by simp only [rmm]; omega) (by simp only [rmm]; omega) dX2_init_83 (fun H hX => ?_)
  replace hX := hX.re eh68
  have g69 : hT h68 (hZ h63) = 100 := by rw [eh68]; exact nw_T _ _ _
  clear eh68
  replace kc : ((((((((((0 + 1) + 1) + 1) + 1) + 1) + 1) + 1) + 1) + 1) + 1) + c64 = MC := by omega
  replace ks : ((((((((((0 + (Int32.toNatClampNeg 360)) + (Int32.toNatClampNeg 360)) + (Int32.toNatClampNeg 1624)) + (Int32.toNatClampNeg 1624)) + (Int32.toNatClampNeg 8)) + (Int32.toNatClampNeg 8)) + (Int32.toNatClampNeg 16)) + (Int32.toNatClampNeg 16)) + (Int32.toNatClampNeg 49)) + (Int32.toNatClampNeg 98)) + s65 = MS := by omega
  clear e66 e67
  obtain ⟨h70, eh70, hf⟩ := st_e hf
  refine x_putF (ci := 2) (C := RX2) (T := TX2) (N := 52) hx hb hts in_X2 tyX2 tyX2_ok nmX2 hown hK.1 hX rfl (hX.tg g0 (by decide)) (by decide) rfl 10 (Nat.le_of_ble_eq_true rfl) (hts _ q1100) (fun _ h9 => h9) rfl hinit rfl (narrow_rfA _ (some (hZ h63))) (fits_rfA _ (some (hZ h63))) (Put1.fR (x := (some (hZ h63))) rfl) dX2_init_85 (fun H locs hX => ?_)
  replace hX := hX.re eh70
  clear eh70
  refine lv_aload_n hx hb dX2_init_88 rfl (lv_at hl 0 rfl) ?_
  refine lv_iconst (v := 2) hx hb dX2_init_89 (by decide) ?_
  obtain ⟨c71, s72, hf, e73, e74⟩ := ad_e hf
  obtain ⟨h75, eh75, hf⟩ := st_e hf
  refine x_newa (atype := .boolean) (t := 4) hx hb (hts _ q1247) rfl (by decide) hK hX rfl (fun q => q) (dfl _ ⟨by decide, by decide⟩) (by decide) (by show _ * _ ≤ _; first | decide | (have := True.intro; simp only [componentBytes, aTy]; omega)) (by simp only [rmm]; omega) (by simp only [rmm]; omega) dX2_init_90 (fun H hX => ?_)
  replace hX := hX.re eh75
  have g76 : hT h75 (hZ h70) = 104 := by rw [eh75]; exact nw_T _ _ _
  clear eh75
  replace kc : (((((((((((0 + 1) + 1) + 1) + 1) + 1) + 1) + 1) + 1) + 1) + 1) + 1) + c71 = MC := by omega
  replace ks : (((((((((((0 + (Int32.toNatClampNeg 360)) + (Int32.toNatClampNeg 360)) + (Int32.toNatClampNeg 1624)) + (Int32.toNatClampNeg 1624)) + (Int32.toNatClampNeg 8)) + (Int32.toNatClampNeg 8)) + (Int32.toNatClampNeg 16)) + (Int32.toNatClampNeg 16)) + (Int32.toNatClampNeg 49)) + (Int32.toNatClampNeg 98)) + (Int32.toNatClampNeg 2)) + s72 = MS := by omega
  clear e73 e74
  obtain ⟨h77, eh77, hf⟩ := st_e hf
  refine x_putF (ci := 2) (C := RX2) (T := TX2) (N := 52) hx hb hts in_X2 tyX2 tyX2_ok nmX2 hown hK.1 hX rfl (hX.tg g0 (by decide)) (by decide) rfl 11 (Nat.le_of_ble_eq_true rfl) (hts _ q1101) (fun _ h9 => h9) rfl hinit rfl (narrow_rfA _ (some (hZ h70))) (fits_rfA _ (some (hZ h70))) (Put1.fR (x := (some (hZ h70))) rfl) dX2_init_92 (fun H locs hX => ?_)
  replace hX := hX.re eh77
  clear eh77
  refine lv_aload_n hx hb dX2_init_95 rfl (lv_at hl 0 rfl) ?_
  refine lv_sipush (v := 200) hx hb dX2_init_96 (by decide) ?_
  obtain ⟨c78, s79, hf, e80, e81⟩ := ad_e hf
  obtain ⟨h82, eh82, hf⟩ := st_e hf
  refine x_newa (atype := .int) (t := 0) hx hb (hts _ q870) rfl (by decide) hK hX rfl (fun q => q) (dfl _ ⟨by decide, by decide⟩) (by decide) (by show _ * _ ≤ _; first | decide | (have := True.intro; simp only [componentBytes, aTy]; omega)) (by simp only [rmm]; omega) (by simp only [rmm]; omega) dX2_init_99 (fun H hX => ?_)
  replace hX := hX.re eh82
  have g83 : hT h82 (hZ h77) = 100 := by rw [eh82]; exact nw_T _ _ _
  clear eh82
  replace kc : ((((((((((((0 + 1) + 1) + 1) + 1) + 1) + 1) + 1) + 1) + 1) + 1) + 1) + 1) + c78 = MC := by omega
  replace ks : ((((((((((((0 + (Int32.toNatClampNeg 360)) + (Int32.toNatClampNeg 360)) + (Int32.toNatClampNeg 1624)) + (Int32.toNatClampNeg 1624)) + (Int32.toNatClampNeg 8)) + (Int32.toNatClampNeg 8)) + (Int32.toNatClampNeg 16)) + (Int32.toNatClampNeg 16)) + (Int32.toNatClampNeg 49)) + (Int32.toNatClampNeg 98)) + (Int32.toNatClampNeg 2)) + (Int32.toNatClampNeg 200)) + s79 = MS := by omega
  clear e80 e81
  obtain ⟨h84, eh84, hf⟩ := st_e hf
  refine x_putF (ci := 2) (C := RX2) (T := TX2) (N := 52) hx hb hts in_X2 tyX2 tyX2_ok nmX2 hown hK.1 hX rfl (hX.tg g0 (by decide)) (by decide) rfl 12 (Nat.le_of_ble_eq_true rfl) (hts _ q1102) (fun _ h9 => h9) rfl hinit rfl (narrow_rfA _ (some (hZ h77))) (fits_rfA _ (some (hZ h77))) (Put1.fR (x := (some (hZ h77))) rfl) dX2_init_101 (fun H locs hX => ?_)
  replace hX := hX.re eh84
  clear eh84
  refine lv_aload_n hx hb dX2_init_104 rfl (lv_at hl 0 rfl) ?_
  refine lv_bipush (v := 40) hx hb dX2_init_105 (by decide) ?_
  obtain ⟨c85, s86, hf, e87, e88⟩ := ad_e hf
  obtain ⟨h89, eh89, hf⟩ := st_e hf
  refine x_newa (atype := .long) (t := 1) hx hb (hts _ q342) rfl (by decide) hK hX rfl (fun q => q) (dfl _ ⟨by decide, by decide⟩) (by decide) (by show _ * _ ≤ _; first | decide | (have := True.intro; simp only [componentBytes, aTy]; omega)) (by simp only [rmm]; omega) (by simp only [rmm]; omega) dX2_init_107 (fun H hX => ?_)
  replace hX := hX.re eh89
  have g90 : hT h89 (hZ h84) = 101 := by rw [eh89]; exact nw_T _ _ _
  clear eh89
  replace kc : (((((((((((((0 + 1) + 1) + 1) + 1) + 1) + 1) + 1) + 1) + 1) + 1) + 1) + 1) + 1) + c85 = MC := by omega
  replace ks : (((((((((((((0 + (Int32.toNatClampNeg 360)) + (Int32.toNatClampNeg 360)) + (Int32.toNatClampNeg 1624)) + (Int32.toNatClampNeg 1624)) + (Int32.toNatClampNeg 8)) + (Int32.toNatClampNeg 8)) + (Int32.toNatClampNeg 16)) + (Int32.toNatClampNeg 16)) + (Int32.toNatClampNeg 49)) + (Int32.toNatClampNeg 98)) + (Int32.toNatClampNeg 2)) + (Int32.toNatClampNeg 200)) + (Int32.toNatClampNeg 40)) + s86 = MS := by omega
  clear e87 e88
  obtain ⟨h91, eh91, hf⟩ := st_e hf
  refine x_putF (ci := 2) (C := RX2) (T := TX2) (N := 52) hx hb hts in_X2 tyX2 tyX2_ok nmX2 hown hK.1 hX rfl (hX.tg g0 (by decide)) (by decide) rfl 21 (Nat.le_of_ble_eq_true rfl) (hts _ q1111) (fun _ h9 => h9) rfl hinit rfl (narrow_rfA _ (some (hZ h84))) (fits_rfA _ (some (hZ h84))) (Put1.fR (x := (some (hZ h84))) rfl) dX2_init_109 (fun H locs hX => ?_)
  replace hX := hX.re eh91
  clear eh91
  refine lv_aload_n hx hb dX2_init_112 rfl (lv_at hl 0 rfl) ?_
  refine lv_bipush (v := 40) hx hb dX2_init_113 (by decide) ?_
  obtain ⟨c92, s93, hf, e94, e95⟩ := ad_e hf
  obtain ⟨h96, eh96, hf⟩ := st_e hf
  refine x_newa (atype := .long) (t := 1) hx hb (hts _ q342) rfl (by decide) hK hX rfl (fun q => q) (dfl _ ⟨by decide, by decide⟩) (by decide) (by show _ * _ ≤ _; first | decide | (have := True.intro; simp only [componentBytes, aTy]; omega)) (by simp only [rmm]; omega) (by simp only [rmm]; omega) dX2_init_115 (fun H hX => ?_)
  replace hX := hX.re eh96
  have g97 : hT h96 (hZ h91) = 101 := by rw [eh96]; exact nw_T _ _ _
  clear eh96
  replace kc : ((((((((((((((0 + 1) + 1) + 1) + 1) + 1) + 1) + 1) + 1) + 1) + 1) + 1) + 1) + 1) + 1) + c92 = MC := by omega
  replace ks : ((((((((((((((0 + (Int32.toNatClampNeg 360)) + (Int32.toNatClampNeg 360)) + (Int32.toNatClampNeg 1624)) + (Int32.toNatClampNeg 1624)) + (Int32.toNatClampNeg 8)) + (Int32.toNatClampNeg 8)) + (Int32.toNatClampNeg 16)) + (Int32.toNatClampNeg 16)) + (Int32.toNatClampNeg 49)) + (Int32.toNatClampNeg 98)) + (Int32.toNatClampNeg 2)) + (Int32.toNatClampNeg 200)) + (Int32.toNatClampNeg 40)) + (Int32.toNatClampNeg 40)) + s93 = MS := by omega
  clear e94 e95
  obtain ⟨h98, eh98, hf⟩ := st_e hf
  refine x_putF (ci := 2) (C := RX2) (T := TX2) (N := 52) hx hb hts in_X2 tyX2 tyX2_ok nmX2 hown hK.1 hX rfl (hX.tg g0 (by decide)) (by decide) rfl 22 (Nat.le_of_ble_eq_true rfl) (hts _ q1112) (fun _ h9 => h9) rfl hinit rfl (narrow_rfA _ (some (hZ h91))) (fits_rfA _ (some (hZ h91))) (Put1.fR (x := (some (hZ h91))) rfl) dX2_init_117 (fun H locs hX => ?_)
  replace hX := hX.re eh98
  clear eh98
  refine lv_aload_n hx hb dX2_init_120 rfl (lv_at hl 0 rfl) ?_
  refine lv_bipush (v := 10) hx hb dX2_init_121 (by decide) ?_
  obtain ⟨c99, s100, hf, e101, e102⟩ := ad_e hf
  obtain ⟨h103, eh103, hf⟩ := st_e hf
  refine x_newa (atype := .boolean) (t := 4) hx hb (hts _ q1247) rfl (by decide) hK hX rfl (fun q => q) (dfl _ ⟨by decide, by decide⟩) (by decide) (by show _ * _ ≤ _; first | decide | (have := True.intro; simp only [componentBytes, aTy]; omega)) (by simp only [rmm]; omega) (by simp only [rmm]; omega) dX2_init_123 (fun H hX => ?_)
  replace hX := hX.re eh103
  have g104 : hT h103 (hZ h98) = 104 := by rw [eh103]; exact nw_T _ _ _
  clear eh103
  replace kc : (((((((((((((((0 + 1) + 1) + 1) + 1) + 1) + 1) + 1) + 1) + 1) + 1) + 1) + 1) + 1) + 1) + 1) + c99 = MC := by omega
  replace ks : (((((((((((((((0 + (Int32.toNatClampNeg 360)) + (Int32.toNatClampNeg 360)) + (Int32.toNatClampNeg 1624)) + (Int32.toNatClampNeg 1624)) + (Int32.toNatClampNeg 8)) + (Int32.toNatClampNeg 8)) + (Int32.toNatClampNeg 16)) + (Int32.toNatClampNeg 16)) + (Int32.toNatClampNeg 49)) + (Int32.toNatClampNeg 98)) + (Int32.toNatClampNeg 2)) + (Int32.toNatClampNeg 200)) + (Int32.toNatClampNeg 40)) + (Int32.toNatClampNeg 40)) + (Int32.toNatClampNeg 10)) + s100 = MS := by omega
  clear e101 e102
  obtain ⟨h105, eh105, hf⟩ := st_e hf
  refine x_putF (ci := 2) (C := RX2) (T := TX2) (N := 52) hx hb hts in_X2 tyX2 tyX2_ok nmX2 hown hK.1 hX rfl (hX.tg g0 (by decide)) (by decide) rfl 23 (Nat.le_of_ble_eq_true rfl) (hts _ q1113) (fun _ h9 => h9) rfl hinit rfl (narrow_rfA _ (some (hZ h98))) (fits_rfA _ (some (hZ h98))) (Put1.fR (x := (some (hZ h98))) rfl) dX2_init_125 (fun H locs hX => ?_)
  replace hX := hX.re eh105
  clear eh105
  refine lv_aload_n hx hb dX2_init_128 rfl (lv_at hl 0 rfl) ?_
  refine lv_bipush (v := 10) hx hb dX2_init_129 (by decide) ?_
  obtain ⟨c106, s107, hf, e108, e109⟩ := ad_e hf
  obtain ⟨h110, eh110, hf⟩ := st_e hf
  refine x_newa (atype := .boolean) (t := 4) hx hb (hts _ q1247) rfl (by decide) hK hX rfl (fun q => q) (dfl _ ⟨by decide, by decide⟩) (by decide) (by show _ * _ ≤ _; first | decide | (have := True.intro; simp only [componentBytes, aTy]; omega)) (by simp only [rmm]; omega) (by simp only [rmm]; omega) dX2_init_131 (fun H hX => ?_)
  replace hX := hX.re eh110
  have g111 : hT h110 (hZ h105) = 104 := by rw [eh110]; exact nw_T _ _ _
  clear eh110
  replace kc : ((((((((((((((((0 + 1) + 1) + 1) + 1) + 1) + 1) + 1) + 1) + 1) + 1) + 1) + 1) + 1) + 1) + 1) + 1) + c106 = MC := by omega
  replace ks : ((((((((((((((((0 + (Int32.toNatClampNeg 360)) + (Int32.toNatClampNeg 360)) + (Int32.toNatClampNeg 1624)) + (Int32.toNatClampNeg 1624)) + (Int32.toNatClampNeg 8)) + (Int32.toNatClampNeg 8)) + (Int32.toNatClampNeg 16)) + (Int32.toNatClampNeg 16)) + (Int32.toNatClampNeg 49)) + (Int32.toNatClampNeg 98)) + (Int32.toNatClampNeg 2)) + (Int32.toNatClampNeg 200)) + (Int32.toNatClampNeg 40)) + (Int32.toNatClampNeg 40)) + (Int32.toNatClampNeg 10)) + (Int32.toNatClampNeg 10)) + s107 = MS := by omega
  clear e108 e109
  obtain ⟨h112, eh112, hf⟩ := st_e hf
  refine x_putF (ci := 2) (C := RX2) (T := TX2) (N := 52) hx hb hts in_X2 tyX2 tyX2_ok nmX2 hown hK.1 hX rfl (hX.tg g0 (by decide)) (by decide) rfl 24 (Nat.le_of_ble_eq_true rfl) (hts _ q1114) (fun _ h9 => h9) rfl hinit rfl (narrow_rfA _ (some (hZ h105))) (fits_rfA _ (some (hZ h105))) (Put1.fR (x := (some (hZ h105))) rfl) dX2_init_133 (fun H locs hX => ?_)
  replace hX := hX.re eh112
  clear eh112
  refine lv_aload_n hx hb dX2_init_136 rfl (lv_at hl 0 rfl) ?_
  refine lv_bipush (v := 10) hx hb dX2_init_137 (by decide) ?_
  obtain ⟨c113, s114, hf, e115, e116⟩ := ad_e hf
  obtain ⟨h117, eh117, hf⟩ := st_e hf
  refine x_newa (atype := .boolean) (t := 4) hx hb (hts _ q1247) rfl (by decide) hK hX rfl (fun q => q) (dfl _ ⟨by decide, by decide⟩) (by decide) (by show _ * _ ≤ _; first | decide | (have := True.intro; simp only [componentBytes, aTy]; omega)) (by simp only [rmm]; omega) (by simp only [rmm]; omega) dX2_init_139 (fun H hX => ?_)
  replace hX := hX.re eh117
  have g118 : hT h117 (hZ h112) = 104 := by rw [eh117]; exact nw_T _ _ _
  clear eh117
  replace kc : (((((((((((((((((0 + 1) + 1) + 1) + 1) + 1) + 1) + 1) + 1) + 1) + 1) + 1) + 1) + 1) + 1) + 1) + 1) + 1) + c113 = MC := by omega
  replace ks : (((((((((((((((((0 + (Int32.toNatClampNeg 360)) + (Int32.toNatClampNeg 360)) + (Int32.toNatClampNeg 1624)) + (Int32.toNatClampNeg 1624)) + (Int32.toNatClampNeg 8)) + (Int32.toNatClampNeg 8)) + (Int32.toNatClampNeg 16)) + (Int32.toNatClampNeg 16)) + (Int32.toNatClampNeg 49)) + (Int32.toNatClampNeg 98)) + (Int32.toNatClampNeg 2)) + (Int32.toNatClampNeg 200)) + (Int32.toNatClampNeg 40)) + (Int32.toNatClampNeg 40)) + (Int32.toNatClampNeg 10)) + (Int32.toNatClampNeg 10)) + (Int32.toNatClampNeg 10)) + s114 = MS := by omega
  clear e115 e116
  obtain ⟨h119, eh119, hf⟩ := st_e hf
  refine x_putF (ci := 2) (C := RX2) (T := TX2) (N := 52) hx hb hts in_X2 tyX2 tyX2_ok nmX2 hown hK.1 hX rfl (hX.tg g0 (by decide)) (by decide) rfl 25 (Nat.le_of_ble_eq_true rfl) (hts _ q1115) (fun _ h9 => h9) rfl hinit rfl (narrow_rfA _ (some (hZ h112))) (fits_rfA _ (some (hZ h112))) (Put1.fR (x := (some (hZ h112))) rfl) dX2_init_141 (fun H locs hX => ?_)
  replace hX := hX.re eh119
  clear eh119
  refine lv_aload_n hx hb dX2_init_144 rfl (lv_at hl 0 rfl) ?_
  refine lv_iconst (v := 4) hx hb dX2_init_145 (by decide) ?_
  obtain ⟨c120, s121, hf, e122, e123⟩ := ad_e hf
  obtain ⟨h124, eh124, hf⟩ := st_e hf
  refine x_newa (atype := .long) (t := 1) hx hb (hts _ q342) rfl (by decide) hK hX rfl (fun q => q) (dfl _ ⟨by decide, by decide⟩) (by decide) (by show _ * _ ≤ _; first | decide | (have := True.intro; simp only [componentBytes, aTy]; omega)) (by simp only [rmm]; omega) (by simp only [rmm]; omega) dX2_init_146 (fun H hX => ?_)
  replace hX := hX.re eh124
  have g125 : hT h124 (hZ h119) = 101 := by rw [eh124]; exact nw_T _ _ _
  clear eh124
  replace kc : ((((((((((((((((((0 + 1) + 1) + 1) + 1) + 1) + 1) + 1) + 1) + 1) + 1) + 1) + 1) + 1) + 1) + 1) + 1) + 1) + 1) + c120 = MC := by omega
  replace ks : ((((((((((((((((((0 + (Int32.toNatClampNeg 360)) + (Int32.toNatClampNeg 360)) + (Int32.toNatClampNeg 1624)) + (Int32.toNatClampNeg 1624)) + (Int32.toNatClampNeg 8)) + (Int32.toNatClampNeg 8)) + (Int32.toNatClampNeg 16)) + (Int32.toNatClampNeg 16)) + (Int32.toNatClampNeg 49)) + (Int32.toNatClampNeg 98)) + (Int32.toNatClampNeg 2)) + (Int32.toNatClampNeg 200)) + (Int32.toNatClampNeg 40)) + (Int32.toNatClampNeg 40)) + (Int32.toNatClampNeg 10)) + (Int32.toNatClampNeg 10)) + (Int32.toNatClampNeg 10)) + (Int32.toNatClampNeg 4)) + s121 = MS := by omega
  clear e122 e123
  obtain ⟨h126, eh126, hf⟩ := st_e hf
  refine x_putF (ci := 2) (C := RX2) (T := TX2) (N := 52) hx hb hts in_X2 tyX2 tyX2_ok nmX2 hown hK.1 hX rfl (hX.tg g0 (by decide)) (by decide) rfl 26 (Nat.le_of_ble_eq_true rfl) (hts _ q1116) (fun _ h9 => h9) rfl hinit rfl (narrow_rfA _ (some (hZ h119))) (fits_rfA _ (some (hZ h119))) (Put1.fR (x := (some (hZ h119))) rfl) dX2_init_148 (fun H locs hX => ?_)
  replace hX := hX.re eh126
  clear eh126
  refine lv_aload_n hx hb dX2_init_151 rfl (lv_at hl 0 rfl) ?_
  refine lv_bipush (v := 6) hx hb dX2_init_152 (by decide) ?_
  obtain ⟨c127, s128, hf, e129, e130⟩ := ad_e hf
  obtain ⟨h131, eh131, hf⟩ := st_e hf
  refine x_newa (atype := .long) (t := 1) hx hb (hts _ q342) rfl (by decide) hK hX rfl (fun q => q) (dfl _ ⟨by decide, by decide⟩) (by decide) (by show _ * _ ≤ _; first | decide | (have := True.intro; simp only [componentBytes, aTy]; omega)) (by simp only [rmm]; omega) (by simp only [rmm]; omega) dX2_init_154 (fun H hX => ?_)
  replace hX := hX.re eh131
  have g132 : hT h131 (hZ h126) = 101 := by rw [eh131]; exact nw_T _ _ _
  clear eh131
  replace kc : (((((((((((((((((((0 + 1) + 1) + 1) + 1) + 1) + 1) + 1) + 1) + 1) + 1) + 1) + 1) + 1) + 1) + 1) + 1) + 1) + 1) + 1) + c127 = MC := by omega
  replace ks : (((((((((((((((((((0 + (Int32.toNatClampNeg 360)) + (Int32.toNatClampNeg 360)) + (Int32.toNatClampNeg 1624)) + (Int32.toNatClampNeg 1624)) + (Int32.toNatClampNeg 8)) + (Int32.toNatClampNeg 8)) + (Int32.toNatClampNeg 16)) + (Int32.toNatClampNeg 16)) + (Int32.toNatClampNeg 49)) + (Int32.toNatClampNeg 98)) + (Int32.toNatClampNeg 2)) + (Int32.toNatClampNeg 200)) + (Int32.toNatClampNeg 40)) + (Int32.toNatClampNeg 40)) + (Int32.toNatClampNeg 10)) + (Int32.toNatClampNeg 10)) + (Int32.toNatClampNeg 10)) + (Int32.toNatClampNeg 4)) + (Int32.toNatClampNeg 6)) + s128 = MS := by omega
  clear e129 e130
  refine lv_dup hx hb dX2_init_156 rfl ?_
  refine lv_iconst (v := 0) hx hb dX2_init_157 (by decide) ?_
  refine lv_ldc2 (v := (-6148914691236517206)) hx hb hown (hts _ q1084) dX2_init_158 ?_
  obtain ⟨g133, hf⟩ := gd_e hf
  obtain ⟨h134, eh134, hf⟩ := st_e hf
  refine x_last hx hb hK.1 hX rfl g132 g133 dX2_init_161 (fun H locs hX => ?_)
  replace hX := hX.re eh134
  clear eh134
  refine lv_dup hx hb dX2_init_162 rfl ?_
  refine lv_iconst (v := 1) hx hb dX2_init_163 (by decide) ?_
  refine lv_ldc2 (v := (-3689348814741910324)) hx hb hown (hts _ q1085) dX2_init_164 ?_
  obtain ⟨g135, hf⟩ := gd_e hf
  obtain ⟨g136, hf⟩ := gd_e hf
  obtain ⟨h137, eh137, hf⟩ := st_e hf
  refine x_last hx hb hK.1 hX rfl g135 g136 dX2_init_167 (fun H locs hX => ?_)
  replace hX := hX.re eh137
  clear eh137
  refine lv_dup hx hb dX2_init_168 rfl ?_
  refine lv_iconst (v := 2) hx hb dX2_init_169 (by decide) ?_
  refine lv_ldc2 (v := (-1085102592571150096)) hx hb hown (hts _ q1086) dX2_init_170 ?_
  obtain ⟨g138, hf⟩ := gd_e hf
  obtain ⟨g139, hf⟩ := gd_e hf
  obtain ⟨h140, eh140, hf⟩ := st_e hf
  refine x_last hx hb hK.1 hX rfl g138 g139 dX2_init_173 (fun H locs hX => ?_)
  replace hX := hX.re eh140
  clear eh140
  refine lv_dup hx hb dX2_init_174 rfl ?_
  refine lv_iconst (v := 3) hx hb dX2_init_175 (by decide) ?_
  refine lv_ldc2 (v := (-71777214294589696)) hx hb hown (hts _ q1087) dX2_init_176 ?_
  obtain ⟨g141, hf⟩ := gd_e hf
  obtain ⟨g142, hf⟩ := gd_e hf
  obtain ⟨h143, eh143, hf⟩ := st_e hf
  refine x_last hx hb hK.1 hX rfl g141 g142 dX2_init_179 (fun H locs hX => ?_)
  replace hX := hX.re eh143
  clear eh143
  refine lv_dup hx hb dX2_init_180 rfl ?_
  refine lv_iconst (v := 4) hx hb dX2_init_181 (by decide) ?_
  refine lv_ldc2 (v := (-281470681808896)) hx hb hown (hts _ q1088) dX2_init_182 ?_
  obtain ⟨g144, hf⟩ := gd_e hf
  obtain ⟨g145, hf⟩ := gd_e hf
  obtain ⟨h146, eh146, hf⟩ := st_e hf
  refine x_last hx hb hK.1 hX rfl g144 g145 dX2_init_185 (fun H locs hX => ?_)
  replace hX := hX.re eh146
  clear eh146
  refine lv_dup hx hb dX2_init_186 rfl ?_
  refine lv_iconst (v := 5) hx hb dX2_init_187 (by decide) ?_
  refine lv_ldc2 (v := (-4294967296)) hx hb hown (hts _ q1089) dX2_init_188 ?_
  obtain ⟨g147, hf⟩ := gd_e hf
  obtain ⟨g148, hf⟩ := gd_e hf
  obtain ⟨h149, eh149, hf⟩ := st_e hf
  refine x_last hx hb hK.1 hX rfl g147 g148 dX2_init_191 (fun H locs hX => ?_)
  replace hX := hX.re eh149
  clear eh149
  obtain ⟨h150, eh150, hf⟩ := st_e hf
  refine x_putF (ci := 2) (C := RX2) (T := TX2) (N := 52) hx hb hts in_X2 tyX2 tyX2_ok nmX2 hown hK.1 hX rfl (hX.tg g0 (by decide)) (by decide) rfl 28 (Nat.le_of_ble_eq_true rfl) (hts _ q1118) (fun _ h9 => h9) rfl hinit rfl (narrow_rfA _ (some (hZ h126))) (fits_rfA _ (some (hZ h126))) (Put1.fR (x := (some (hZ h126))) rfl) dX2_init_192 (fun H locs hX => ?_)
  replace hX := hX.re eh150
  clear eh150
  refine lv_aload_n hx hb dX2_init_195 rfl (lv_at hl 0 rfl) ?_
  refine lv_bipush (v := 21) hx hb dX2_init_196 (by decide) ?_
  obtain ⟨c151, s152, hf, e153, e154⟩ := ad_e hf
  obtain ⟨h155, eh155, hf⟩ := st_e hf
  refine x_newa (atype := .int) (t := 0) hx hb (hts _ q870) rfl (by decide) hK hX rfl (fun q => q) (dfl _ ⟨by decide, by decide⟩) (by decide) (by show _ * _ ≤ _; first | decide | (have := True.intro; simp only [componentBytes, aTy]; omega)) (by simp only [rmm]; omega) (by simp only [rmm]; omega) dX2_init_198 (fun H hX => ?_)
  replace hX := hX.re eh155
  have g156 : hT h155 (hZ h150) = 100 := by rw [eh155]; exact nw_T _ _ _
  clear eh155
  replace kc : ((((((((((((((((((((0 + 1) + 1) + 1) + 1) + 1) + 1) + 1) + 1) + 1) + 1) + 1) + 1) + 1) + 1) + 1) + 1) + 1) + 1) + 1) + 1) + c151 = MC := by omega
  replace ks : ((((((((((((((((((((0 + (Int32.toNatClampNeg 360)) + (Int32.toNatClampNeg 360)) + (Int32.toNatClampNeg 1624)) + (Int32.toNatClampNeg 1624)) + (Int32.toNatClampNeg 8)) + (Int32.toNatClampNeg 8)) + (Int32.toNatClampNeg 16)) + (Int32.toNatClampNeg 16)) + (Int32.toNatClampNeg 49)) + (Int32.toNatClampNeg 98)) + (Int32.toNatClampNeg 2)) + (Int32.toNatClampNeg 200)) + (Int32.toNatClampNeg 40)) + (Int32.toNatClampNeg 40)) + (Int32.toNatClampNeg 10)) + (Int32.toNatClampNeg 10)) + (Int32.toNatClampNeg 10)) + (Int32.toNatClampNeg 4)) + (Int32.toNatClampNeg 6)) + (Int32.toNatClampNeg 21)) + s152 = MS := by omega
  clear e153 e154
  obtain ⟨h157, eh157, hf⟩ := st_e hf
  refine x_putF (ci := 2) (C := RX2) (T := TX2) (N := 52) hx hb hts in_X2 tyX2 tyX2_ok nmX2 hown hK.1 hX rfl (hX.tg g0 (by decide)) (by decide) rfl 29 (Nat.le_of_ble_eq_true rfl) (hts _ q1119) (fun _ h9 => h9) rfl hinit rfl (narrow_rfA _ (some (hZ h150))) (fits_rfA _ (some (hZ h150))) (Put1.fR (x := (some (hZ h150))) rfl) dX2_init_200 (fun H locs hX => ?_)
  replace hX := hX.re eh157
  clear eh157
  refine lv_aload_n hx hb dX2_init_203 rfl (lv_at hl 0 rfl) ?_
  refine lv_bipush (v := 21) hx hb dX2_init_204 (by decide) ?_
  obtain ⟨c158, s159, hf, e160, e161⟩ := ad_e hf
  obtain ⟨h162, eh162, hf⟩ := st_e hf
  refine x_newa (atype := .long) (t := 1) hx hb (hts _ q342) rfl (by decide) hK hX rfl (fun q => q) (dfl _ ⟨by decide, by decide⟩) (by decide) (by show _ * _ ≤ _; first | decide | (have := True.intro; simp only [componentBytes, aTy]; omega)) (by simp only [rmm]; omega) (by simp only [rmm]; omega) dX2_init_206 (fun H hX => ?_)
  replace hX := hX.re eh162
  have g163 : hT h162 (hZ h157) = 101 := by rw [eh162]; exact nw_T _ _ _
  clear eh162
  replace kc : (((((((((((((((((((((0 + 1) + 1) + 1) + 1) + 1) + 1) + 1) + 1) + 1) + 1) + 1) + 1) + 1) + 1) + 1) + 1) + 1) + 1) + 1) + 1) + 1) + c158 = MC := by omega
  replace ks : (((((((((((((((((((((0 + (Int32.toNatClampNeg 360)) + (Int32.toNatClampNeg 360)) + (Int32.toNatClampNeg 1624)) + (Int32.toNatClampNeg 1624)) + (Int32.toNatClampNeg 8)) + (Int32.toNatClampNeg 8)) + (Int32.toNatClampNeg 16)) + (Int32.toNatClampNeg 16)) + (Int32.toNatClampNeg 49)) + (Int32.toNatClampNeg 98)) + (Int32.toNatClampNeg 2)) + (Int32.toNatClampNeg 200)) + (Int32.toNatClampNeg 40)) + (Int32.toNatClampNeg 40)) + (Int32.toNatClampNeg 10)) + (Int32.toNatClampNeg 10)) + (Int32.toNatClampNeg 10)) + (Int32.toNatClampNeg 4)) + (Int32.toNatClampNeg 6)) + (Int32.toNatClampNeg 21)) + (Int32.toNatClampNeg 21)) + s159 = MS := by omega
  clear e160 e161
  obtain ⟨h164, eh164, hf⟩ := st_e hf
  refine x_putF (ci := 2) (C := RX2) (T := TX2) (N := 52) hx hb hts in_X2 tyX2 tyX2_ok nmX2 hown hK.1 hX rfl (hX.tg g0 (by decide)) (by decide) rfl 30 (Nat.le_of_ble_eq_true rfl) (hts _ q1120) (fun _ h9 => h9) rfl hinit rfl (narrow_rfA _ (some (hZ h157))) (fits_rfA _ (some (hZ h157))) (Put1.fR (x := (some (hZ h157))) rfl) dX2_init_208 (fun H locs hX => ?_)
  replace hX := hX.re eh164
  clear eh164
  refine lv_aload_n hx hb dX2_init_211 rfl (lv_at hl 0 rfl) ?_
  refine lv_bipush (v := 21) hx hb dX2_init_212 (by decide) ?_
  obtain ⟨c165, s166, hf, e167, e168⟩ := ad_e hf
  obtain ⟨h169, eh169, hf⟩ := st_e hf
  refine x_newa (atype := .long) (t := 1) hx hb (hts _ q342) rfl (by decide) hK hX rfl (fun q => q) (dfl _ ⟨by decide, by decide⟩) (by decide) (by show _ * _ ≤ _; first | decide | (have := True.intro; simp only [componentBytes, aTy]; omega)) (by simp only [rmm]; omega) (by simp only [rmm]; omega) dX2_init_214 (fun H hX => ?_)
  replace hX := hX.re eh169
  have g170 : hT h169 (hZ h164) = 101 := by rw [eh169]; exact nw_T _ _ _
  clear eh169
  replace kc : ((((((((((((((((((((((0 + 1) + 1) + 1) + 1) + 1) + 1) + 1) + 1) + 1) + 1) + 1) + 1) + 1) + 1) + 1) + 1) + 1) + 1) + 1) + 1) + 1) + 1) + c165 = MC := by omega
  replace ks : ((((((((((((((((((((((0 + (Int32.toNatClampNeg 360)) + (Int32.toNatClampNeg 360)) + (Int32.toNatClampNeg 1624)) + (Int32.toNatClampNeg 1624)) + (Int32.toNatClampNeg 8)) + (Int32.toNatClampNeg 8)) + (Int32.toNatClampNeg 16)) + (Int32.toNatClampNeg 16)) + (Int32.toNatClampNeg 49)) + (Int32.toNatClampNeg 98)) + (Int32.toNatClampNeg 2)) + (Int32.toNatClampNeg 200)) + (Int32.toNatClampNeg 40)) + (Int32.toNatClampNeg 40)) + (Int32.toNatClampNeg 10)) + (Int32.toNatClampNeg 10)) + (Int32.toNatClampNeg 10)) + (Int32.toNatClampNeg 4)) + (Int32.toNatClampNeg 6)) + (Int32.toNatClampNeg 21)) + (Int32.toNatClampNeg 21)) + (Int32.toNatClampNeg 21)) + s166 = MS := by omega
  clear e167 e168
  obtain ⟨h171, eh171, hf⟩ := st_e hf
  refine x_putF (ci := 2) (C := RX2) (T := TX2) (N := 52) hx hb hts in_X2 tyX2 tyX2_ok nmX2 hown hK.1 hX rfl (hX.tg g0 (by decide)) (by decide) rfl 31 (Nat.le_of_ble_eq_true rfl) (hts _ q1121) (fun _ h9 => h9) rfl hinit rfl (narrow_rfA _ (some (hZ h164))) (fits_rfA _ (some (hZ h164))) (Put1.fR (x := (some (hZ h164))) rfl) dX2_init_216 (fun H locs hX => ?_)
  replace hX := hX.re eh171
  clear eh171
  refine lv_aload_n hx hb dX2_init_219 rfl (lv_at hl 0 rfl) ?_
  refine lv_bipush (v := 21) hx hb dX2_init_220 (by decide) ?_
  obtain ⟨c172, s173, hf, e174, e175⟩ := ad_e hf
  obtain ⟨h176, eh176, hf⟩ := st_e hf
  refine x_newa (atype := .boolean) (t := 4) hx hb (hts _ q1247) rfl (by decide) hK hX rfl (fun q => q) (dfl _ ⟨by decide, by decide⟩) (by decide) (by show _ * _ ≤ _; first | decide | (have := True.intro; simp only [componentBytes, aTy]; omega)) (by simp only [rmm]; omega) (by simp only [rmm]; omega) dX2_init_222 (fun H hX => ?_)
  replace hX := hX.re eh176
  have g177 : hT h176 (hZ h171) = 104 := by rw [eh176]; exact nw_T _ _ _
  clear eh176
  replace kc : (((((((((((((((((((((((0 + 1) + 1) + 1) + 1) + 1) + 1) + 1) + 1) + 1) + 1) + 1) + 1) + 1) + 1) + 1) + 1) + 1) + 1) + 1) + 1) + 1) + 1) + 1) + c172 = MC := by omega
  replace ks : (((((((((((((((((((((((0 + (Int32.toNatClampNeg 360)) + (Int32.toNatClampNeg 360)) + (Int32.toNatClampNeg 1624)) + (Int32.toNatClampNeg 1624)) + (Int32.toNatClampNeg 8)) + (Int32.toNatClampNeg 8)) + (Int32.toNatClampNeg 16)) + (Int32.toNatClampNeg 16)) + (Int32.toNatClampNeg 49)) + (Int32.toNatClampNeg 98)) + (Int32.toNatClampNeg 2)) + (Int32.toNatClampNeg 200)) + (Int32.toNatClampNeg 40)) + (Int32.toNatClampNeg 40)) + (Int32.toNatClampNeg 10)) + (Int32.toNatClampNeg 10)) + (Int32.toNatClampNeg 10)) + (Int32.toNatClampNeg 4)) + (Int32.toNatClampNeg 6)) + (Int32.toNatClampNeg 21)) + (Int32.toNatClampNeg 21)) + (Int32.toNatClampNeg 21)) + (Int32.toNatClampNeg 21)) + s173 = MS := by omega
  clear e174 e175
  obtain ⟨h178, eh178, hf⟩ := st_e hf
  refine x_putF (ci := 2) (C := RX2) (T := TX2) (N := 52) hx hb hts in_X2 tyX2 tyX2_ok nmX2 hown hK.1 hX rfl (hX.tg g0 (by decide)) (by decide) rfl 32 (Nat.le_of_ble_eq_true rfl) (hts _ q1122) (fun _ h9 => h9) rfl hinit rfl (narrow_rfA _ (some (hZ h171))) (fits_rfA _ (some (hZ h171))) (Put1.fR (x := (some (hZ h171))) rfl) dX2_init_224 (fun H locs hX => ?_)
  replace hX := hX.re eh178
  clear eh178
  refine lv_aload_n hx hb dX2_init_227 rfl (lv_at hl 0 rfl) ?_
  refine lv_bipush (v := 21) hx hb dX2_init_228 (by decide) ?_
  obtain ⟨c179, s180, hf, e181, e182⟩ := ad_e hf
  obtain ⟨h183, eh183, hf⟩ := st_e hf
  refine x_newa (atype := .int) (t := 0) hx hb (hts _ q870) rfl (by decide) hK hX rfl (fun q => q) (dfl _ ⟨by decide, by decide⟩) (by decide) (by show _ * _ ≤ _; first | decide | (have := True.intro; simp only [componentBytes, aTy]; omega)) (by simp only [rmm]; omega) (by simp only [rmm]; omega) dX2_init_230 (fun H hX => ?_)
  replace hX := hX.re eh183
  have g184 : hT h183 (hZ h178) = 100 := by rw [eh183]; exact nw_T _ _ _
  clear eh183
  replace kc : ((((((((((((((((((((((((0 + 1) + 1) + 1) + 1) + 1) + 1) + 1) + 1) + 1) + 1) + 1) + 1) + 1) + 1) + 1) + 1) + 1) + 1) + 1) + 1) + 1) + 1) + 1) + 1) + c179 = MC := by omega
  replace ks : ((((((((((((((((((((((((0 + (Int32.toNatClampNeg 360)) + (Int32.toNatClampNeg 360)) + (Int32.toNatClampNeg 1624)) + (Int32.toNatClampNeg 1624)) + (Int32.toNatClampNeg 8)) + (Int32.toNatClampNeg 8)) + (Int32.toNatClampNeg 16)) + (Int32.toNatClampNeg 16)) + (Int32.toNatClampNeg 49)) + (Int32.toNatClampNeg 98)) + (Int32.toNatClampNeg 2)) + (Int32.toNatClampNeg 200)) + (Int32.toNatClampNeg 40)) + (Int32.toNatClampNeg 40)) + (Int32.toNatClampNeg 10)) + (Int32.toNatClampNeg 10)) + (Int32.toNatClampNeg 10)) + (Int32.toNatClampNeg 4)) + (Int32.toNatClampNeg 6)) + (Int32.toNatClampNeg 21)) + (Int32.toNatClampNeg 21)) + (Int32.toNatClampNeg 21)) + (Int32.toNatClampNeg 21)) + (Int32.toNatClampNeg 21)) + s180 = MS := by omega
  clear e181 e182
  obtain ⟨h185, eh185, hf⟩ := st_e hf
  refine x_putF (ci := 2) (C := RX2) (T := TX2) (N := 52) hx hb hts in_X2 tyX2 tyX2_ok nmX2 hown hK.1 hX rfl (hX.tg g0 (by decide)) (by decide) rfl 33 (Nat.le_of_ble_eq_true rfl) (hts _ q1123) (fun _ h9 => h9) rfl hinit rfl (narrow_rfA _ (some (hZ h178))) (fits_rfA _ (some (hZ h178))) (Put1.fR (x := (some (hZ h178))) rfl) dX2_init_232 (fun H locs hX => ?_)
  replace hX := hX.re eh185
  clear eh185
  refine lv_aload_n hx hb dX2_init_235 rfl (lv_at hl 0 rfl) ?_
  refine lv_bipush (v := 21) hx hb dX2_init_236 (by decide) ?_
  obtain ⟨c186, s187, hf, e188, e189⟩ := ad_e hf
  obtain ⟨h190, eh190, hf⟩ := st_e hf
  refine x_newa (atype := .int) (t := 0) hx hb (hts _ q870) rfl (by decide) hK hX rfl (fun q => q) (dfl _ ⟨by decide, by decide⟩) (by decide) (by show _ * _ ≤ _; first | decide | (have := True.intro; simp only [componentBytes, aTy]; omega)) (by simp only [rmm]; omega) (by simp only [rmm]; omega) dX2_init_238 (fun H hX => ?_)
  replace hX := hX.re eh190
  have g191 : hT h190 (hZ h185) = 100 := by rw [eh190]; exact nw_T _ _ _
  clear eh190
  replace kc : (((((((((((((((((((((((((0 + 1) + 1) + 1) + 1) + 1) + 1) + 1) + 1) + 1) + 1) + 1) + 1) + 1) + 1) + 1) + 1) + 1) + 1) + 1) + 1) + 1) + 1) + 1) + 1) + 1) + c186 = MC := by omega
  replace ks : (((((((((((((((((((((((((0 + (Int32.toNatClampNeg 360)) + (Int32.toNatClampNeg 360)) + (Int32.toNatClampNeg 1624)) + (Int32.toNatClampNeg 1624)) + (Int32.toNatClampNeg 8)) + (Int32.toNatClampNeg 8)) + (Int32.toNatClampNeg 16)) + (Int32.toNatClampNeg 16)) + (Int32.toNatClampNeg 49)) + (Int32.toNatClampNeg 98)) + (Int32.toNatClampNeg 2)) + (Int32.toNatClampNeg 200)) + (Int32.toNatClampNeg 40)) + (Int32.toNatClampNeg 40)) + (Int32.toNatClampNeg 10)) + (Int32.toNatClampNeg 10)) + (Int32.toNatClampNeg 10)) + (Int32.toNatClampNeg 4)) + (Int32.toNatClampNeg 6)) + (Int32.toNatClampNeg 21)) + (Int32.toNatClampNeg 21)) + (Int32.toNatClampNeg 21)) + (Int32.toNatClampNeg 21)) + (Int32.toNatClampNeg 21)) + (Int32.toNatClampNeg 21)) + s187 = MS := by omega
  clear e188 e189
  obtain ⟨h192, eh192, hf⟩ := st_e hf
  refine x_putF (ci := 2) (C := RX2) (T := TX2) (N := 52) hx hb hts in_X2 tyX2 tyX2_ok nmX2 hown hK.1 hX rfl (hX.tg g0 (by decide)) (by decide) rfl 34 (Nat.le_of_ble_eq_true rfl) (hts _ q1124) (fun _ h9 => h9) rfl hinit rfl (narrow_rfA _ (some (hZ h185))) (fits_rfA _ (some (hZ h185))) (Put1.fR (x := (some (hZ h185))) rfl) dX2_init_240 (fun H locs hX => ?_)
  replace hX := hX.re eh192
  clear eh192
  refine lv_aload_n hx hb dX2_init_243 rfl (lv_at hl 0 rfl) ?_
  refine lv_bipush (v := 21) hx hb dX2_init_244 (by decide) ?_
  obtain ⟨c193, s194, hf, e195, e196⟩ := ad_e hf
  obtain ⟨h197, eh197, hf⟩ := st_e hf
  refine x_newa (atype := .int) (t := 0) hx hb (hts _ q870) rfl (by decide) hK hX rfl (fun q => q) (dfl _ ⟨by decide, by decide⟩) (by decide) (by show _ * _ ≤ _; first | decide | (have := True.intro; simp only [componentBytes, aTy]; omega)) (by simp only [rmm]; omega) (by simp only [rmm]; omega) dX2_init_246 (fun H hX => ?_)
  replace hX := hX.re eh197
  have g198 : hT h197 (hZ h192) = 100 := by rw [eh197]; exact nw_T _ _ _
  clear eh197
  replace kc : ((((((((((((((((((((((((((0 + 1) + 1) + 1) + 1) + 1) + 1) + 1) + 1) + 1) + 1) + 1) + 1) + 1) + 1) + 1) + 1) + 1) + 1) + 1) + 1) + 1) + 1) + 1) + 1) + 1) + 1) + c193 = MC := by omega
  replace ks : ((((((((((((((((((((((((((0 + (Int32.toNatClampNeg 360)) + (Int32.toNatClampNeg 360)) + (Int32.toNatClampNeg 1624)) + (Int32.toNatClampNeg 1624)) + (Int32.toNatClampNeg 8)) + (Int32.toNatClampNeg 8)) + (Int32.toNatClampNeg 16)) + (Int32.toNatClampNeg 16)) + (Int32.toNatClampNeg 49)) + (Int32.toNatClampNeg 98)) + (Int32.toNatClampNeg 2)) + (Int32.toNatClampNeg 200)) + (Int32.toNatClampNeg 40)) + (Int32.toNatClampNeg 40)) + (Int32.toNatClampNeg 10)) + (Int32.toNatClampNeg 10)) + (Int32.toNatClampNeg 10)) + (Int32.toNatClampNeg 4)) + (Int32.toNatClampNeg 6)) + (Int32.toNatClampNeg 21)) + (Int32.toNatClampNeg 21)) + (Int32.toNatClampNeg 21)) + (Int32.toNatClampNeg 21)) + (Int32.toNatClampNeg 21)) + (Int32.toNatClampNeg 21)) + (Int32.toNatClampNeg 21)) + s194 = MS := by omega
  clear e195 e196
  obtain ⟨h199, eh199, hf⟩ := st_e hf
  refine x_putF (ci := 2) (C := RX2) (T := TX2) (N := 52) hx hb hts in_X2 tyX2 tyX2_ok nmX2 hown hK.1 hX rfl (hX.tg g0 (by decide)) (by decide) rfl 35 (Nat.le_of_ble_eq_true rfl) (hts _ q1125) (fun _ h9 => h9) rfl hinit rfl (narrow_rfA _ (some (hZ h192))) (fits_rfA _ (some (hZ h192))) (Put1.fR (x := (some (hZ h192))) rfl) dX2_init_248 (fun H locs hX => ?_)
  replace hX := hX.re eh199
  clear eh199
  refine lv_aload_n hx hb dX2_init_251 rfl (lv_at hl 0 rfl) ?_
  refine lv_bipush (v := 21) hx hb dX2_init_252 (by decide) ?_
  obtain ⟨c200, s201, hf, e202, e203⟩ := ad_e hf
  obtain ⟨h204, eh204, hf⟩ := st_e hf
  refine x_newa (atype := .boolean) (t := 4) hx hb (hts _ q1247) rfl (by decide) hK hX rfl (fun q => q) (dfl _ ⟨by decide, by decide⟩) (by decide) (by show _ * _ ≤ _; first | decide | (have := True.intro; simp only [componentBytes, aTy]; omega)) (by simp only [rmm]; omega) (by simp only [rmm]; omega) dX2_init_254 (fun H hX => ?_)
  replace hX := hX.re eh204
  have g205 : hT h204 (hZ h199) = 104 := by rw [eh204]; exact nw_T _ _ _
  clear eh204
  replace kc : (((((((((((((((((((((((((((0 + 1) + 1) + 1) + 1) + 1) + 1) + 1) + 1) + 1) + 1) + 1) + 1) + 1) + 1) + 1) + 1) + 1) + 1) + 1) + 1) + 1) + 1) + 1) + 1) + 1) + 1) + 1) + c200 = MC := by omega
  replace ks : (((((((((((((((((((((((((((0 + (Int32.toNatClampNeg 360)) + (Int32.toNatClampNeg 360)) + (Int32.toNatClampNeg 1624)) + (Int32.toNatClampNeg 1624)) + (Int32.toNatClampNeg 8)) + (Int32.toNatClampNeg 8)) + (Int32.toNatClampNeg 16)) + (Int32.toNatClampNeg 16)) + (Int32.toNatClampNeg 49)) + (Int32.toNatClampNeg 98)) + (Int32.toNatClampNeg 2)) + (Int32.toNatClampNeg 200)) + (Int32.toNatClampNeg 40)) + (Int32.toNatClampNeg 40)) + (Int32.toNatClampNeg 10)) + (Int32.toNatClampNeg 10)) + (Int32.toNatClampNeg 10)) + (Int32.toNatClampNeg 4)) + (Int32.toNatClampNeg 6)) + (Int32.toNatClampNeg 21)) + (Int32.toNatClampNeg 21)) + (Int32.toNatClampNeg 21)) + (Int32.toNatClampNeg 21)) + (Int32.toNatClampNeg 21)) + (Int32.toNatClampNeg 21)) + (Int32.toNatClampNeg 21)) + (Int32.toNatClampNeg 21)) + s201 = MS := by omega
  clear e202 e203
  obtain ⟨h206, eh206, hf⟩ := st_e hf
  refine x_putF (ci := 2) (C := RX2) (T := TX2) (N := 52) hx hb hts in_X2 tyX2 tyX2_ok nmX2 hown hK.1 hX rfl (hX.tg g0 (by decide)) (by decide) rfl 36 (Nat.le_of_ble_eq_true rfl) (hts _ q1126) (fun _ h9 => h9) rfl hinit rfl (narrow_rfA _ (some (hZ h199))) (fits_rfA _ (some (hZ h199))) (Put1.fR (x := (some (hZ h199))) rfl) dX2_init_256 (fun H locs hX => ?_)
  replace hX := hX.re eh206
  clear eh206
  refine lv_aload_n hx hb dX2_init_259 rfl (lv_at hl 0 rfl) ?_
  refine lv_bipush (v := 96) hx hb dX2_init_260 (by decide) ?_
  obtain ⟨c207, s208, hf, e209, e210⟩ := ad_e hf
  obtain ⟨h211, eh211, hf⟩ := st_e hf
  refine x_newa (atype := .long) (t := 1) hx hb (hts _ q342) rfl (by decide) hK hX rfl (fun q => q) (dfl _ ⟨by decide, by decide⟩) (by decide) (by show _ * _ ≤ _; first | decide | (have := True.intro; simp only [componentBytes, aTy]; omega)) (by simp only [rmm]; omega) (by simp only [rmm]; omega) dX2_init_262 (fun H hX => ?_)
  replace hX := hX.re eh211
  have g212 : hT h211 (hZ h206) = 101 := by rw [eh211]; exact nw_T _ _ _
  clear eh211
  replace kc : ((((((((((((((((((((((((((((0 + 1) + 1) + 1) + 1) + 1) + 1) + 1) + 1) + 1) + 1) + 1) + 1) + 1) + 1) + 1) + 1) + 1) + 1) + 1) + 1) + 1) + 1) + 1) + 1) + 1) + 1) + 1) + 1) + c207 = MC := by omega
  replace ks : ((((((((((((((((((((((((((((0 + (Int32.toNatClampNeg 360)) + (Int32.toNatClampNeg 360)) + (Int32.toNatClampNeg 1624)) + (Int32.toNatClampNeg 1624)) + (Int32.toNatClampNeg 8)) + (Int32.toNatClampNeg 8)) + (Int32.toNatClampNeg 16)) + (Int32.toNatClampNeg 16)) + (Int32.toNatClampNeg 49)) + (Int32.toNatClampNeg 98)) + (Int32.toNatClampNeg 2)) + (Int32.toNatClampNeg 200)) + (Int32.toNatClampNeg 40)) + (Int32.toNatClampNeg 40)) + (Int32.toNatClampNeg 10)) + (Int32.toNatClampNeg 10)) + (Int32.toNatClampNeg 10)) + (Int32.toNatClampNeg 4)) + (Int32.toNatClampNeg 6)) + (Int32.toNatClampNeg 21)) + (Int32.toNatClampNeg 21)) + (Int32.toNatClampNeg 21)) + (Int32.toNatClampNeg 21)) + (Int32.toNatClampNeg 21)) + (Int32.toNatClampNeg 21)) + (Int32.toNatClampNeg 21)) + (Int32.toNatClampNeg 21)) + (Int32.toNatClampNeg 96)) + s208 = MS := by omega
  clear e209 e210
  obtain ⟨h213, eh213, hf⟩ := st_e hf
  refine x_putF (ci := 2) (C := RX2) (T := TX2) (N := 52) hx hb hts in_X2 tyX2 tyX2_ok nmX2 hown hK.1 hX rfl (hX.tg g0 (by decide)) (by decide) rfl 40 (Nat.le_of_ble_eq_true rfl) (hts _ q1130) (fun _ h9 => h9) rfl hinit rfl (narrow_rfA _ (some (hZ h206))) (fits_rfA _ (some (hZ h206))) (Put1.fR (x := (some (hZ h206))) rfl) dX2_init_264 (fun H locs hX => ?_)
  replace hX := hX.re eh213
  clear eh213
  refine lv_aload_n hx hb dX2_init_267 rfl (lv_at hl 0 rfl) ?_
  refine lv_bipush (v := 48) hx hb dX2_init_268 (by decide) ?_
  obtain ⟨c214, s215, hf, e216, e217⟩ := ad_e hf
  obtain ⟨h218, eh218, hf⟩ := st_e hf
  refine x_newa (atype := .long) (t := 1) hx hb (hts _ q342) rfl (by decide) hK hX rfl (fun q => q) (dfl _ ⟨by decide, by decide⟩) (by decide) (by show _ * _ ≤ _; first | decide | (have := True.intro; simp only [componentBytes, aTy]; omega)) (by simp only [rmm]; omega) (by simp only [rmm]; omega) dX2_init_270 (fun H hX => ?_)
  replace hX := hX.re eh218
  have g219 : hT h218 (hZ h213) = 101 := by rw [eh218]; exact nw_T _ _ _
  clear eh218
  replace kc : (((((((((((((((((((((((((((((0 + 1) + 1) + 1) + 1) + 1) + 1) + 1) + 1) + 1) + 1) + 1) + 1) + 1) + 1) + 1) + 1) + 1) + 1) + 1) + 1) + 1) + 1) + 1) + 1) + 1) + 1) + 1) + 1) + 1) + c214 = MC := by omega
  replace ks : (((((((((((((((((((((((((((((0 + (Int32.toNatClampNeg 360)) + (Int32.toNatClampNeg 360)) + (Int32.toNatClampNeg 1624)) + (Int32.toNatClampNeg 1624)) + (Int32.toNatClampNeg 8)) + (Int32.toNatClampNeg 8)) + (Int32.toNatClampNeg 16)) + (Int32.toNatClampNeg 16)) + (Int32.toNatClampNeg 49)) + (Int32.toNatClampNeg 98)) + (Int32.toNatClampNeg 2)) + (Int32.toNatClampNeg 200)) + (Int32.toNatClampNeg 40)) + (Int32.toNatClampNeg 40)) + (Int32.toNatClampNeg 10)) + (Int32.toNatClampNeg 10)) + (Int32.toNatClampNeg 10)) + (Int32.toNatClampNeg 4)) + (Int32.toNatClampNeg 6)) + (Int32.toNatClampNeg 21)) + (Int32.toNatClampNeg 21)) + (Int32.toNatClampNeg 21)) + (Int32.toNatClampNeg 21)) + (Int32.toNatClampNeg 21)) + (Int32.toNatClampNeg 21)) + (Int32.toNatClampNeg 21)) + (Int32.toNatClampNeg 21)) + (Int32.toNatClampNeg 96)) + (Int32.toNatClampNeg 48)) + s215 = MS := by omega
  clear e216 e217
  obtain ⟨h220, eh220, hf⟩ := st_e hf
  refine x_putF (ci := 2) (C := RX2) (T := TX2) (N := 52) hx hb hts in_X2 tyX2 tyX2_ok nmX2 hown hK.1 hX rfl (hX.tg g0 (by decide)) (by decide) rfl 41 (Nat.le_of_ble_eq_true rfl) (hts _ q1131) (fun _ h9 => h9) rfl hinit rfl (narrow_rfA _ (some (hZ h213))) (fits_rfA _ (some (hZ h213))) (Put1.fR (x := (some (hZ h213))) rfl) dX2_init_272 (fun H locs hX => ?_)
  replace hX := hX.re eh220
  clear eh220
  refine lv_aload_n hx hb dX2_init_275 rfl (lv_at hl 0 rfl) ?_
  refine lv_bipush (v := 48) hx hb dX2_init_276 (by decide) ?_
  obtain ⟨c221, s222, hf, e223, e224⟩ := ad_e hf
  obtain ⟨h225, eh225, hf⟩ := st_e hf
  refine x_newa (atype := .int) (t := 0) hx hb (hts _ q870) rfl (by decide) hK hX rfl (fun q => q) (dfl _ ⟨by decide, by decide⟩) (by decide) (by show _ * _ ≤ _; first | decide | (have := True.intro; simp only [componentBytes, aTy]; omega)) (by simp only [rmm]; omega) (by simp only [rmm]; omega) dX2_init_278 (fun H hX => ?_)
  replace hX := hX.re eh225
  have g226 : hT h225 (hZ h220) = 100 := by rw [eh225]; exact nw_T _ _ _
  clear eh225
  replace kc : ((((((((((((((((((((((((((((((0 + 1) + 1) + 1) + 1) + 1) + 1) + 1) + 1) + 1) + 1) + 1) + 1) + 1) + 1) + 1) + 1) + 1) + 1) + 1) + 1) + 1) + 1) + 1) + 1) + 1) + 1) + 1) + 1) + 1) + 1) + c221 = MC := by omega
  replace ks : ((((((((((((((((((((((((((((((0 + (Int32.toNatClampNeg 360)) + (Int32.toNatClampNeg 360)) + (Int32.toNatClampNeg 1624)) + (Int32.toNatClampNeg 1624)) + (Int32.toNatClampNeg 8)) + (Int32.toNatClampNeg 8)) + (Int32.toNatClampNeg 16)) + (Int32.toNatClampNeg 16)) + (Int32.toNatClampNeg 49)) + (Int32.toNatClampNeg 98)) + (Int32.toNatClampNeg 2)) + (Int32.toNatClampNeg 200)) + (Int32.toNatClampNeg 40)) + (Int32.toNatClampNeg 40)) + (Int32.toNatClampNeg 10)) + (Int32.toNatClampNeg 10)) + (Int32.toNatClampNeg 10)) + (Int32.toNatClampNeg 4)) + (Int32.toNatClampNeg 6)) + (Int32.toNatClampNeg 21)) + (Int32.toNatClampNeg 21)) + (Int32.toNatClampNeg 21)) + (Int32.toNatClampNeg 21)) + (Int32.toNatClampNeg 21)) + (Int32.toNatClampNeg 21)) + (Int32.toNatClampNeg 21)) + (Int32.toNatClampNeg 21)) + (Int32.toNatClampNeg 96)) + (Int32.toNatClampNeg 48)) + (Int32.toNatClampNeg 48)) + s222 = MS := by omega
  clear e223 e224
  obtain ⟨h227, eh227, hf⟩ := st_e hf
  refine x_putF (ci := 2) (C := RX2) (T := TX2) (N := 52) hx hb hts in_X2 tyX2 tyX2_ok nmX2 hown hK.1 hX rfl (hX.tg g0 (by decide)) (by decide) rfl 42 (Nat.le_of_ble_eq_true rfl) (hts _ q1132) (fun _ h9 => h9) rfl hinit rfl (narrow_rfA _ (some (hZ h220))) (fits_rfA _ (some (hZ h220))) (Put1.fR (x := (some (hZ h220))) rfl) dX2_init_280 (fun H locs hX => ?_)
  replace hX := hX.re eh227
  clear eh227
  refine lv_aload_n hx hb dX2_init_283 rfl (lv_at hl 0 rfl) ?_
  refine lv_bipush (v := 48) hx hb dX2_init_284 (by decide) ?_
  obtain ⟨c228, s229, hf, e230, e231⟩ := ad_e hf
  obtain ⟨h232, eh232, hf⟩ := st_e hf
  refine x_newa (atype := .int) (t := 0) hx hb (hts _ q870) rfl (by decide) hK hX rfl (fun q => q) (dfl _ ⟨by decide, by decide⟩) (by decide) (by show _ * _ ≤ _; first | decide | (have := True.intro; simp only [componentBytes, aTy]; omega)) (by simp only [rmm]; omega) (by simp only [rmm]; omega) dX2_init_286 (fun H hX => ?_)
  replace hX := hX.re eh232
  have g233 : hT h232 (hZ h227) = 100 := by rw [eh232]; exact nw_T _ _ _
  clear eh232
  replace kc : (((((((((((((((((((((((((((((((0 + 1) + 1) + 1) + 1) + 1) + 1) + 1) + 1) + 1) + 1) + 1) + 1) + 1) + 1) + 1) + 1) + 1) + 1) + 1) + 1) + 1) + 1) + 1) + 1) + 1) + 1) + 1) + 1) + 1) + 1) + 1) + c228 = MC := by omega
  replace ks : (((((((((((((((((((((((((((((((0 + (Int32.toNatClampNeg 360)) + (Int32.toNatClampNeg 360)) + (Int32.toNatClampNeg 1624)) + (Int32.toNatClampNeg 1624)) + (Int32.toNatClampNeg 8)) + (Int32.toNatClampNeg 8)) + (Int32.toNatClampNeg 16)) + (Int32.toNatClampNeg 16)) + (Int32.toNatClampNeg 49)) + (Int32.toNatClampNeg 98)) + (Int32.toNatClampNeg 2)) + (Int32.toNatClampNeg 200)) + (Int32.toNatClampNeg 40)) + (Int32.toNatClampNeg 40)) + (Int32.toNatClampNeg 10)) + (Int32.toNatClampNeg 10)) + (Int32.toNatClampNeg 10)) + (Int32.toNatClampNeg 4)) + (Int32.toNatClampNeg 6)) + (Int32.toNatClampNeg 21)) + (Int32.toNatClampNeg 21)) + (Int32.toNatClampNeg 21)) + (Int32.toNatClampNeg 21)) + (Int32.toNatClampNeg 21)) + (Int32.toNatClampNeg 21)) + (Int32.toNatClampNeg 21)) + (Int32.toNatClampNeg 21)) + (Int32.toNatClampNeg 96)) + (Int32.toNatClampNeg 48)) + (Int32.toNatClampNeg 48)) + (Int32.toNatClampNeg 48)) + s229 = MS := by omega
  clear e230 e231
  obtain ⟨h234, eh234, hf⟩ := st_e hf
  refine x_putF (ci := 2) (C := RX2) (T := TX2) (N := 52) hx hb hts in_X2 tyX2 tyX2_ok nmX2 hown hK.1 hX rfl (hX.tg g0 (by decide)) (by decide) rfl 43 (Nat.le_of_ble_eq_true rfl) (hts _ q1133) (fun _ h9 => h9) rfl hinit rfl (narrow_rfA _ (some (hZ h227))) (fits_rfA _ (some (hZ h227))) (Put1.fR (x := (some (hZ h227))) rfl) dX2_init_288 (fun H locs hX => ?_)
  replace hX := hX.re eh234
  clear eh234
  refine lv_aload_n hx hb dX2_init_291 rfl (lv_at hl 0 rfl) ?_
  refine lv_bipush (v := 48) hx hb dX2_init_292 (by decide) ?_
  obtain ⟨c235, s236, hf, e237, e238⟩ := ad_e hf
  obtain ⟨h239, eh239, hf⟩ := st_e hf
  refine x_newa (atype := .boolean) (t := 4) hx hb (hts _ q1247) rfl (by decide) hK hX rfl (fun q => q) (dfl _ ⟨by decide, by decide⟩) (by decide) (by show _ * _ ≤ _; first | decide | (have := True.intro; simp only [componentBytes, aTy]; omega)) (by simp only [rmm]; omega) (by simp only [rmm]; omega) dX2_init_294 (fun H hX => ?_)
  replace hX := hX.re eh239
  have g240 : hT h239 (hZ h234) = 104 := by rw [eh239]; exact nw_T _ _ _
  clear eh239
  replace kc : ((((((((((((((((((((((((((((((((0 + 1) + 1) + 1) + 1) + 1) + 1) + 1) + 1) + 1) + 1) + 1) + 1) + 1) + 1) + 1) + 1) + 1) + 1) + 1) + 1) + 1) + 1) + 1) + 1) + 1) + 1) + 1) + 1) + 1) + 1) + 1) + 1) + c235 = MC := by omega
  replace ks : ((((((((((((((((((((((((((((((((0 + (Int32.toNatClampNeg 360)) + (Int32.toNatClampNeg 360)) + (Int32.toNatClampNeg 1624)) + (Int32.toNatClampNeg 1624)) + (Int32.toNatClampNeg 8)) + (Int32.toNatClampNeg 8)) + (Int32.toNatClampNeg 16)) + (Int32.toNatClampNeg 16)) + (Int32.toNatClampNeg 49)) + (Int32.toNatClampNeg 98)) + (Int32.toNatClampNeg 2)) + (Int32.toNatClampNeg 200)) + (Int32.toNatClampNeg 40)) + (Int32.toNatClampNeg 40)) + (Int32.toNatClampNeg 10)) + (Int32.toNatClampNeg 10)) + (Int32.toNatClampNeg 10)) + (Int32.toNatClampNeg 4)) + (Int32.toNatClampNeg 6)) + (Int32.toNatClampNeg 21)) + (Int32.toNatClampNeg 21)) + (Int32.toNatClampNeg 21)) + (Int32.toNatClampNeg 21)) + (Int32.toNatClampNeg 21)) + (Int32.toNatClampNeg 21)) + (Int32.toNatClampNeg 21)) + (Int32.toNatClampNeg 21)) + (Int32.toNatClampNeg 96)) + (Int32.toNatClampNeg 48)) + (Int32.toNatClampNeg 48)) + (Int32.toNatClampNeg 48)) + (Int32.toNatClampNeg 48)) + s236 = MS := by omega
  clear e237 e238
  obtain ⟨h241, eh241, hf⟩ := st_e hf
  refine x_putF (ci := 2) (C := RX2) (T := TX2) (N := 52) hx hb hts in_X2 tyX2 tyX2_ok nmX2 hown hK.1 hX rfl (hX.tg g0 (by decide)) (by decide) rfl 44 (Nat.le_of_ble_eq_true rfl) (hts _ q1134) (fun _ h9 => h9) rfl hinit rfl (narrow_rfA _ (some (hZ h234))) (fits_rfA _ (some (hZ h234))) (Put1.fR (x := (some (hZ h234))) rfl) dX2_init_296 (fun H locs hX => ?_)
  replace hX := hX.re eh241
  clear eh241
  refine lv_aload_n hx hb dX2_init_299 rfl (lv_at hl 0 rfl) ?_
  refine lv_iconst (v := 4) hx hb dX2_init_300 (by decide) ?_
  obtain ⟨c242, s243, hf, e244, e245⟩ := ad_e hf
  obtain ⟨h246, eh246, hf⟩ := st_e hf
  refine x_newa (atype := .int) (t := 0) hx hb (hts _ q870) rfl (by decide) hK hX rfl (fun q => q) (dfl _ ⟨by decide, by decide⟩) (by decide) (by show _ * _ ≤ _; first | decide | (have := True.intro; simp only [componentBytes, aTy]; omega)) (by simp only [rmm]; omega) (by simp only [rmm]; omega) dX2_init_301 (fun H hX => ?_)
  replace hX := hX.re eh246
  have g247 : hT h246 (hZ h241) = 100 := by rw [eh246]; exact nw_T _ _ _
  clear eh246
  replace kc : (((((((((((((((((((((((((((((((((0 + 1) + 1) + 1) + 1) + 1) + 1) + 1) + 1) + 1) + 1) + 1) + 1) + 1) + 1) + 1) + 1) + 1) + 1) + 1) + 1) + 1) + 1) + 1) + 1) + 1) + 1) + 1) + 1) + 1) + 1) + 1) + 1) + 1) + c242 = MC := by omega
  replace ks : (((((((((((((((((((((((((((((((((0 + (Int32.toNatClampNeg 360)) + (Int32.toNatClampNeg 360)) + (Int32.toNatClampNeg 1624)) + (Int32.toNatClampNeg 1624)) + (Int32.toNatClampNeg 8)) + (Int32.toNatClampNeg 8)) + (Int32.toNatClampNeg 16)) + (Int32.toNatClampNeg 16)) + (Int32.toNatClampNeg 49)) + (Int32.toNatClampNeg 98)) + (Int32.toNatClampNeg 2)) + (Int32.toNatClampNeg 200)) + (Int32.toNatClampNeg 40)) + (Int32.toNatClampNeg 40)) + (Int32.toNatClampNeg 10)) + (Int32.toNatClampNeg 10)) + (Int32.toNatClampNeg 10)) + (Int32.toNatClampNeg 4)) + (Int32.toNatClampNeg 6)) + (Int32.toNatClampNeg 21)) + (Int32.toNatClampNeg 21)) + (Int32.toNatClampNeg 21)) + (Int32.toNatClampNeg 21)) + (Int32.toNatClampNeg 21)) + (Int32.toNatClampNeg 21)) + (Int32.toNatClampNeg 21)) + (Int32.toNatClampNeg 21)) + (Int32.toNatClampNeg 96)) + (Int32.toNatClampNeg 48)) + (Int32.toNatClampNeg 48)) + (Int32.toNatClampNeg 48)) + (Int32.toNatClampNeg 48)) + (Int32.toNatClampNeg 4)) + s243 = MS := by omega
  clear e244 e245
  obtain ⟨h248, eh248, hf⟩ := st_e hf
  refine x_putF (ci := 2) (C := RX2) (T := TX2) (N := 52) hx hb hts in_X2 tyX2 tyX2_ok nmX2 hown hK.1 hX rfl (hX.tg g0 (by decide)) (by decide) rfl 48 (Nat.le_of_ble_eq_true rfl) (hts _ q1138) (fun _ h9 => h9) rfl hinit rfl (narrow_rfA _ (some (hZ h241))) (fits_rfA _ (some (hZ h241))) (Put1.fR (x := (some (hZ h241))) rfl) dX2_init_303 (fun H locs hX => ?_)
  replace hX := hX.re eh248
  clear eh248
  refine lv_aload_n hx hb dX2_init_306 rfl (lv_at hl 0 rfl) ?_
  refine lv_iconst (v := 4) hx hb dX2_init_307 (by decide) ?_
  obtain ⟨c249, s250, hf, e251, e252⟩ := ad_e hf
  obtain ⟨h253, eh253, hf⟩ := st_e hf
  refine x_newa (atype := .int) (t := 0) hx hb (hts _ q870) rfl (by decide) hK hX rfl (fun q => q) (dfl _ ⟨by decide, by decide⟩) (by decide) (by show _ * _ ≤ _; first | decide | (have := True.intro; simp only [componentBytes, aTy]; omega)) (by simp only [rmm]; omega) (by simp only [rmm]; omega) dX2_init_308 (fun H hX => ?_)
  replace hX := hX.re eh253
  have g254 : hT h253 (hZ h248) = 100 := by rw [eh253]; exact nw_T _ _ _
  clear eh253
  replace kc : ((((((((((((((((((((((((((((((((((0 + 1) + 1) + 1) + 1) + 1) + 1) + 1) + 1) + 1) + 1) + 1) + 1) + 1) + 1) + 1) + 1) + 1) + 1) + 1) + 1) + 1) + 1) + 1) + 1) + 1) + 1) + 1) + 1) + 1) + 1) + 1) + 1) + 1) + 1) + c249 = MC := by omega
  replace ks : ((((((((((((((((((((((((((((((((((0 + (Int32.toNatClampNeg 360)) + (Int32.toNatClampNeg 360)) + (Int32.toNatClampNeg 1624)) + (Int32.toNatClampNeg 1624)) + (Int32.toNatClampNeg 8)) + (Int32.toNatClampNeg 8)) + (Int32.toNatClampNeg 16)) + (Int32.toNatClampNeg 16)) + (Int32.toNatClampNeg 49)) + (Int32.toNatClampNeg 98)) + (Int32.toNatClampNeg 2)) + (Int32.toNatClampNeg 200)) + (Int32.toNatClampNeg 40)) + (Int32.toNatClampNeg 40)) + (Int32.toNatClampNeg 10)) + (Int32.toNatClampNeg 10)) + (Int32.toNatClampNeg 10)) + (Int32.toNatClampNeg 4)) + (Int32.toNatClampNeg 6)) + (Int32.toNatClampNeg 21)) + (Int32.toNatClampNeg 21)) + (Int32.toNatClampNeg 21)) + (Int32.toNatClampNeg 21)) + (Int32.toNatClampNeg 21)) + (Int32.toNatClampNeg 21)) + (Int32.toNatClampNeg 21)) + (Int32.toNatClampNeg 21)) + (Int32.toNatClampNeg 96)) + (Int32.toNatClampNeg 48)) + (Int32.toNatClampNeg 48)) + (Int32.toNatClampNeg 48)) + (Int32.toNatClampNeg 48)) + (Int32.toNatClampNeg 4)) + (Int32.toNatClampNeg 4)) + s250 = MS := by omega
  clear e251 e252
  obtain ⟨h255, eh255, hf⟩ := st_e hf
  refine x_putF (ci := 2) (C := RX2) (T := TX2) (N := 52) hx hb hts in_X2 tyX2 tyX2_ok nmX2 hown hK.1 hX rfl (hX.tg g0 (by decide)) (by decide) rfl 49 (Nat.le_of_ble_eq_true rfl) (hts _ q1139) (fun _ h9 => h9) rfl hinit rfl (narrow_rfA _ (some (hZ h248))) (fits_rfA _ (some (hZ h248))) (Put1.fR (x := (some (hZ h248))) rfl) dX2_init_310 (fun H locs hX => ?_)
  replace hX := hX.re eh255
  clear eh255
  refine lv_aload_n hx hb dX2_init_313 rfl (lv_at hl 0 rfl) ?_
  refine lv_sipush (v := 160) hx hb dX2_init_314 (by decide) ?_
  obtain ⟨c256, s257, hf, e258, e259⟩ := ad_e hf
  obtain ⟨h260, eh260, hf⟩ := st_e hf
  refine x_newa (atype := .int) (t := 0) hx hb (hts _ q870) rfl (by decide) hK hX rfl (fun q => q) (dfl _ ⟨by decide, by decide⟩) (by decide) (by show _ * _ ≤ _; first | decide | (have := True.intro; simp only [componentBytes, aTy]; omega)) (by simp only [rmm]; omega) (by simp only [rmm]; omega) dX2_init_317 (fun H hX => ?_)
  replace hX := hX.re eh260
  have g261 : hT h260 (hZ h255) = 100 := by rw [eh260]; exact nw_T _ _ _
  clear eh260
  replace kc : (((((((((((((((((((((((((((((((((((0 + 1) + 1) + 1) + 1) + 1) + 1) + 1) + 1) + 1) + 1) + 1) + 1) + 1) + 1) + 1) + 1) + 1) + 1) + 1) + 1) + 1) + 1) + 1) + 1) + 1) + 1) + 1) + 1) + 1) + 1) + 1) + 1) + 1) + 1) + 1) + c256 = MC := by omega
  replace ks : (((((((((((((((((((((((((((((((((((0 + (Int32.toNatClampNeg 360)) + (Int32.toNatClampNeg 360)) + (Int32.toNatClampNeg 1624)) + (Int32.toNatClampNeg 1624)) + (Int32.toNatClampNeg 8)) + (Int32.toNatClampNeg 8)) + (Int32.toNatClampNeg 16)) + (Int32.toNatClampNeg 16)) + (Int32.toNatClampNeg 49)) + (Int32.toNatClampNeg 98)) + (Int32.toNatClampNeg 2)) + (Int32.toNatClampNeg 200)) + (Int32.toNatClampNeg 40)) + (Int32.toNatClampNeg 40)) + (Int32.toNatClampNeg 10)) + (Int32.toNatClampNeg 10)) + (Int32.toNatClampNeg 10)) + (Int32.toNatClampNeg 4)) + (Int32.toNatClampNeg 6)) + (Int32.toNatClampNeg 21)) + (Int32.toNatClampNeg 21)) + (Int32.toNatClampNeg 21)) + (Int32.toNatClampNeg 21)) + (Int32.toNatClampNeg 21)) + (Int32.toNatClampNeg 21)) + (Int32.toNatClampNeg 21)) + (Int32.toNatClampNeg 21)) + (Int32.toNatClampNeg 96)) + (Int32.toNatClampNeg 48)) + (Int32.toNatClampNeg 48)) + (Int32.toNatClampNeg 48)) + (Int32.toNatClampNeg 48)) + (Int32.toNatClampNeg 4)) + (Int32.toNatClampNeg 4)) + (Int32.toNatClampNeg 160)) + s257 = MS := by omega
  clear e258 e259
  obtain ⟨h262, eh262, hf⟩ := st_e hf
  refine x_putF (ci := 2) (C := RX2) (T := TX2) (N := 52) hx hb hts in_X2 tyX2 tyX2_ok nmX2 hown hK.1 hX rfl (hX.tg g0 (by decide)) (by decide) rfl 50 (Nat.le_of_ble_eq_true rfl) (hts _ q1140) (fun _ h9 => h9) rfl hinit rfl (narrow_rfA _ (some (hZ h255))) (fits_rfA _ (some (hZ h255))) (Put1.fR (x := (some (hZ h255))) rfl) dX2_init_319 (fun H locs hX => ?_)
  replace hX := hX.re eh262
  clear eh262
  refine lv_iconst (v := 0) hx hb dX2_init_322 (by decide) ?_
  refine lv_istore_n (lv' := [(1, .int 0), (0, .ref o)]) hx hb dX2_init_323 rfl hl (by decide) rfl (fun ls hl => ?_)
  exact B324 n 0 h262 _ _ _ _ kc ks _ _ _ hX (lv_sub hl [1, 0] rfl) hf
theorem cdX7_weight : yX7_weight.cls ≠ "java/lang/invoke/MethodHandle" ∧ yX7_weight.cls ≠ "java/lang/invoke/VarHandle" ∧ (parseMethodDescriptor yX7_weight.desc).map (fun d => d.parameters.length) = some 0 := by decide +kernel
set_option maxHeartbeats 4000000 in
set_option maxRecDepth 100000 in
theorem wx_Node_weight (l : Launch) (G : Gt) (hG : XG G) (h : Hp) (n : Nat) (o : Nat) (r : Int32) (hf : X_Node_weight n o h = some r) : Met l yX7_weight (ws_ yX7_weight cX7_weight 1 (some .int)) (rmm (0) 0 0 (0)) (XP G [.ref o] h) (XQp (some (.int r))) 0 0 (fun _ => False) := by
  rw [X_Node_weight] at hf
  refine metPi l (by decide) (Nat.le_of_ble_eq_true rfl) ?_
  intro p e s m args below meth c Q hx hb hts hown hnmd hml hinit hK hW hret ls hl
  have hown : s.vm.findClass RX7 = some m.cls := hown
  have hX := XX.start hW
  have hl : lv_has ls 1 [(0, .ref o)] := hl
  refine lv_iconst (v := 0) hx hb dX7_weight_0 (by decide) ?_
  obtain rfl := Option.some.inj hf
  exact hret _ _ rfl dX7_weight_1
