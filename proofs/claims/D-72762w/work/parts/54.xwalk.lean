/-! walks of the system (by program) -/
theorem cdX3_promiseComes : yX3_promiseComes.cls ≠ "java/lang/invoke/MethodHandle" ∧ yX3_promiseComes.cls ≠ "java/lang/invoke/VarHandle" ∧ (parseMethodDescriptor yX3_promiseComes.desc).map (fun d => d.parameters.length) = some 0 := by decide +kernel
set_option maxHeartbeats 4000000 in
set_option maxRecDepth 100000 in
theorem wx_Reader_promiseComes (l : Launch) (G : Gt) (hG : XG G) (h : Hp) (n : Nat) (o : Nat) (res : Sum (Unit) Nat) (h1 : Hp) (MC MS : Nat) (hf : X_Reader_promiseComes n o h = some ((res, h1), MC, MS)) : vx_Met l yX3_promiseComes (ws_ yX3_promiseComes cX3_promiseComes 6 none) (rmm (422) MC MS (13529)) (XP G [.ref o] h) (XQn G (fun _ : Unit => none) res h h1) (XCn G res h h1) MC MS (fre h) := by
  rw [X_Reader_promiseComes] at hf
  obtain ⟨g0, hf⟩ := gd_e hf
  refine metXv l (by decide) (Nat.le_of_ble_eq_true rfl) ?_
  intro p e s m args below meth c Q hx hb hts hown hnmd hml hinit hK hW hret hth ls hl
  have hown : s.vm.findClass RX3 = some m.cls := hown
  have hX := XX.start hW
  have kc : 0 + MC = MC := Nat.zero_add _
  have ks : 0 + MS = MS := Nat.zero_add _
  have hl : lv_has ls 6 [(0, .ref o)] := hl
  have B269 : ∀ (f : Nat) (v1 : Option Nat) (v2 : Option Nat) (v3 : Int32) (v4 : Int32) (h_208 : Hp) (ck cs qc qs : Nat) (kc : ck + qc = MC) (ks : cs + qs = MS) (H : Heap) (locs : List Loc) (ls : Array Slot), XX G h s.heap h_208 H locs → lv_has ls 6 [(0, .ref o), (1, va_rf v1), (2, va_rf v2), (3, .int v3), (4, .int v4)] → X_Reader_promiseComes_b269 n o f v1 v2 v3 v4 h_208 = some ((res, h1), qc, qs) → W p l e (rmm (422) MC MS (13529)) s m args below meth c H locs ck cs Q (F0 m 269 ls []) := by
    intro f
    induction f with
    | zero =>
      intro v1 v2 v3 v4 h_208 ck cs qc qs kc ks H locs ls hX hl hf
      rw [X_Reader_promiseComes_b269] at hf
      cases hf
    | succ f hK269 =>
      intro v1 v2 v3 v4 h_208 ck cs qc qs kc ks H locs ls hX hl hf
      rw [X_Reader_promiseComes_b269] at hf
      refine lv_iload hx hb dX3_promiseComes_269 (lv_at hl 4 rfl) ?_
      refine lv_iload_n hx hb dX3_promiseComes_271 rfl (lv_at hl 3 rfl) ?_
      refine lv_icmp_ge (tgt := 312) hx hb dX3_promiseComes_272 (by decide) (fun c209 => ?_) (fun c209 => ?_)
      · rw [if_pos c209] at hf
        refine lv_aload_n hx hb dX3_promiseComes_312 rfl (lv_at hl 0 rfl) ?_
        refine x_get (ci := 3) (C := RX3) (T := TX3) (N := 9) hx hb hts in_X3 hown hK.1 hX rfl (hX.tg g0 (by decide)) (by decide) rfl 1 (Nat.le_of_ble_eq_true rfl) (hts _ q263) (fun _ h9 => h9) (hv_ref rfl) dX3_promiseComes_313 ?_
        refine lv_aload_n hx hb dX3_promiseComes_316 rfl (lv_at hl 0 rfl) ?_
        refine x_get (ci := 3) (C := RX3) (T := TX3) (N := 9) hx hb hts in_X3 hown hK.1 hX rfl (hX.tg g0 (by decide)) (by decide) rfl 2 (Nat.le_of_ble_eq_true rfl) (hts _ q266) (fun _ h9 => h9) (hv_int rfl) dX3_promiseComes_317 ?_
        refine lx_aload_n hx hb dX3_promiseComes_320 rfl (lv_at hl 1 rfl) ?_
        obtain ⟨a210, e211, hf⟩ := bd_e hf
        obtain ⟨g212, hf⟩ := gd_e hf
        obtain ⟨a213, e214, hf⟩ := bd_e hf
        obtain ⟨g215, hf⟩ := gd_e hf
        obtain ⟨g216, hf⟩ := gd_e hf
        obtain ⟨h217, eh217, hf⟩ := st_e hf
        refine x_aastO hx hb hK hX (rf_some e211) 7 g212 (by decide) rfl rfl (ci := 5) (T := TX5) (N := 3) (rf_some e214) (by decide) rfl g215 g216 dX3_promiseComes_321 (fun H locs hX => ?_)
        replace hX := hX.re eh217
        clear eh217
        refine lv_aload_n hx hb dX3_promiseComes_322 rfl (lv_at hl 0 rfl) ?_
        refine lv_dup hx hb dX3_promiseComes_323 rfl ?_
        refine x_get (ci := 3) (C := RX3) (T := TX3) (N := 9) hx hb hts in_X3 hown hK.1 hX rfl (hX.tg g0 (by decide)) (by decide) rfl 2 (Nat.le_of_ble_eq_true rfl) (hts _ q266) (fun _ h9 => h9) (hv_int rfl) dX3_promiseComes_324 ?_
        refine lv_iconst (v := 1) hx hb dX3_promiseComes_327 (by decide) ?_
        refine lv_iadd hx hb dX3_promiseComes_328 ?_
        obtain ⟨h218, eh218, hf⟩ := st_e hf
        refine x_put (ci := 3) (C := RX3) (T := TX3) (N := 9) hx hb hts in_X3 tyX3 tyX3_ok nmX3 hown hK.1 hX rfl (hX.tg g0 (by decide)) (by decide) rfl 2 (Nat.le_of_ble_eq_true rfl) (hts _ q266) (fun _ h9 => h9) rfl rfl rfl (Put1.fI (x := ((hI h217 o 2) + 1)) rfl) dX3_promiseComes_329 (fun H locs hX => ?_)
        replace hX := hX.re eh218
        clear eh218
        refine lv_aload_n hx hb dX3_promiseComes_332 rfl (lv_at hl 0 rfl) ?_
        obtain ⟨r227, h220, c221, s222, e219, l230, l231, e229⟩ := bdX_e hf
        refine x_doneX (val := (fun _ : Unit => none)) (vx_runV (b := o) (As := []) (rest := []) ⟨hx, hb, hml, hown, hts⟩ (wx_Reader_next l G hG h218 n o r227 h220 c221 s222 e219) (cwV 0 hts (lw_V q152 q154 qs0 q98 q155) rfl rfl rfl ⟨rfl, cdX3_next⟩ ⟨(by simp only [rmm]; omega), (by simp only [rmm]; omega)⟩) (x_preV (ci := 3) (T := TX3) (N := 9) hK hX _ (hX.tg g0 (by decide)) (by decide) rfl) rfl rfl hl.1 rfl (lv_room (Nat.le_of_ble_eq_true rfl)) dX3_promiseComes_333 ⟨(by simp only [rmm]; omega), (by simp only [rmm]; omega)⟩) hX e229 hth kc ks (fun r228 c223 s224 hf e225 e226 H locs hX => ?_)
        clear e219 l230 l231 e229
        replace kc : (ck + c221) + c223 = MC := by omega
        replace ks : (cs + s222) + s224 = MS := by omega
        clear e225 e226
        obtain ⟨q1, q2⟩ := Prod.mk.inj (Option.some.inj hf)
        obtain ⟨q2, q3⟩ := Prod.mk.inj q2
        obtain ⟨q0, rfl⟩ := Prod.mk.inj q1
        refine W.cs (cells' := MC) (slots' := MS) (by omega) (by omega) ?_
        exact hret _ _ _ _ _ q0.symm hX dX3_promiseComes_336
      · rw [if_neg c209] at hf
        refine lx_aload_n hx hb dX3_promiseComes_275 rfl (lv_at hl 2 rfl) ?_
        refine lv_iload hx hb dX3_promiseComes_276 (lv_at hl 4 rfl) ?_
        obtain ⟨a232, e233, hf⟩ := bd_e hf
        obtain ⟨g234, hf⟩ := gd_e hf
        obtain ⟨g235, hf⟩ := gd_e hf
        refine x_aald hx hb hK.1 hX (rf_some e233) 6 g234 (by decide) rfl rfl rfl g235 dX3_promiseComes_278 ?_
        refine lx_astore (r := (hR h_208 a232 (Int32.toNatClampNeg v4))) (lv' := [(5, va_rf (hR h_208 a232 (Int32.toNatClampNeg v4))), (0, .ref o), (1, va_rf v1), (2, va_rf v2), (3, .int v3), (4, .int v4)]) hx hb dX3_promiseComes_279 hl (by decide) rfl (fun ls hl => ?_)
        refine lx_aload hx hb dX3_promiseComes_281 (lv_at hl 0 rfl) ?_
        obtain ⟨c236, s237, hf, e238, e239⟩ := ad_e hf
        obtain ⟨h240, eh240, hf⟩ := st_e hf
        refine x_new (ci := 11) (C := RX13) (T := TX13) (N := 6) hx hb hts in_X13 hown q541 q542 q112 hK hX (by decide) rfl tyX13_ok (fun k hk => dfl _ (dfC11 k hk)) (by simp only [rmm]; omega) (by simp only [rmm]; omega) dX3_promiseComes_283 (fun H hX => ?_)
        replace hX := hX.re eh240
        have g241 : hT h240 (hZ h_208) = 12 := by rw [eh240]; exact nw_T _ _ _
        clear eh240
        replace kc : (ck + 1) + c236 = MC := by omega
        replace ks : (cs + 6) + s237 = MS := by omega
        clear e238 e239
        refine lv_dup hx hb dX3_promiseComes_286 rfl ?_
        obtain ⟨h243, c244, s245, c246, s247, e242, hf, e248, e249⟩ := bdAv_e hf
        refine x_done (mc := c244) (ms := s245) (va_runIN (As := []) (rest := [.ref (hZ h_208), va_rf (hR h_208 a232 (Int32.toNatClampNeg v4))]) ⟨hx, hb, hml, hown, hts⟩ (wx_Machine_init l G hG h240 n (hZ h_208) h243 c244 s245 e242) ⟨va_cnB 0 hts (lw_meth q545) rfl rfl rfl (hG.nw hK nq543) (hts _ q112) cdX13_init ⟨(by simp only [rmm]; omega), (by simp only [rmm]; omega)⟩, rfl, hts _ q544⟩ (x_preS hK hX _) rfl rfl hl.1 rfl (lv_room (by simp only [List.map, List.sum_cons, List.sum_nil, rf_cat, cat_i, cat_l, cat_r] <;> decide)) dX3_promiseComes_287 ⟨(by simp only [rmm]; omega), (by simp only [rmm]; omega)⟩) hX rfl (fun H locs hX => ?_)
        clear e242
        replace kc : ((ck + 1) + c244) + c246 = MC := by omega
        replace ks : ((cs + 6) + s245) + s247 = MS := by omega
        clear e248 e249
        obtain ⟨a250, e251, hf⟩ := bd_e hf
        obtain ⟨g252, hf⟩ := gd_e hf
        obtain ⟨h253, eh253, hf⟩ := st_e hf
        refine x_putN (ci := 6) (C := RX6) (T := TX6) (N := 5) hx hb hts in_X6 tyX6 tyX6_ok nmX6 hown hK.1 hX (rf_some e251) g252 (by decide) rfl 3 (Nat.le_of_ble_eq_true rfl) (hG.nw hK nq328) (fun _ h9 => h9) rfl (narrow_rfO _ (some (hZ h_208))) (fits_rfO _ (some (hZ h_208))) (Put1.fR (x := (some (hZ h_208))) rfl) dX3_promiseComes_290 (fun H locs hX => ?_)
        replace hX := hX.re eh253
        clear eh253
        refine lx_aload hx hb dX3_promiseComes_293 (lv_at hl 0 rfl) ?_
        obtain ⟨g254, hf⟩ := gd_e hf
        refine x_getN (ci := 6) (C := RX6) (T := TX6) (N := 5) hx hb hts in_X6 hown hK.1 hX (rf_some e251) g254 (by decide) rfl 3 (Nat.le_of_ble_eq_true rfl) (hG.nw hK nq328) (fun _ h9 => h9) (hv_ref rfl) dX3_promiseComes_295 ?_
        refine lx_aload hx hb dX3_promiseComes_298 (lv_at hl 0 rfl) ?_
        refine x_getN (ci := 6) (C := RX6) (T := TX6) (N := 5) hx hb hts in_X6 hown hK.1 hX (rf_some e251) g254 (by decide) rfl 2 (Nat.le_of_ble_eq_true rfl) (hG.nw hK nq325) (fun _ h9 => h9) (hv_ref rfl) dX3_promiseComes_300 ?_
        obtain ⟨a255, e256, hf⟩ := bd_e hf
        obtain ⟨g258, hf⟩ := gd_e hf
        obtain ⟨h259, c260, s261, c262, s263, e257, hf, e264, e265⟩ := bdAv_e hf
        refine x_done (mc := c260) (ms := s261) (va_runV (b := a255) (As := [va_rf (hR h253 a250 2)]) (rest := []) ⟨hx, hb, hml, hown, hts⟩ (wx_Machine_built l G hG h253 n a255 (hR h253 a250 2) h259 c260 s261 e257) (cwV 1 hts (lw_V q568 q569 q570 q112 q571) rfl rfl rfl ⟨rfl, cdX13_built⟩ ⟨(by simp only [rmm]; omega), (by simp only [rmm]; omega)⟩) (x_preV (ci := 11) (T := TX13) (N := 6) hK hX _ g258 (by decide) rfl) rfl rfl hl.1 (stk_eq (rf_some e256) rfl) (lv_room (Nat.le_of_ble_eq_true rfl)) dX3_promiseComes_303 ⟨(by simp only [rmm]; omega), (by simp only [rmm]; omega)⟩) hX rfl (fun H locs hX => ?_)
        clear e257
        replace kc : (((ck + 1) + c244) + c260) + c262 = MC := by omega
        replace ks : (((cs + 6) + s245) + s261) + s263 = MS := by omega
        clear e264 e265
        refine lv_iinc (v := (v4 + 1)) (lv' := [(4, .int (v4 + 1)), (5, va_rf (hR h_208 a232 (Int32.toNatClampNeg v4))), (0, .ref o), (1, va_rf v1), (2, va_rf v2), (3, .int v3)]) hx hb dX3_promiseComes_306 hl (k := 5) rfl rfl (by decide) rfl (fun ls hl => ?_)
        refine lv_goto (tgt := 269) hx hb dX3_promiseComes_309 (by decide) ?_
        exact hK269 v1 v2 v3 (v4 + 1) h259 _ _ _ _ kc ks _ _ _ hX (lv_sub hl [2, 3, 4, 5, 0] rfl) hf
  have B253 : ∀ (v1 : Option Nat) (t0 : Int32) (h_188 : Hp) (ck cs qc qs : Nat) (kc : ck + qc = MC) (ks : cs + qs = MS) (H : Heap) (locs : List Loc) (ls : Array Slot), XX G h s.heap h_188 H locs → lv_has ls 6 [(0, .ref o), (1, va_rf v1)] → X_Reader_promiseComes_b253 n o v1 t0 h_188 = some ((res, h1), qc, qs) → W p l e (rmm (422) MC MS (13529)) s m args below meth c H locs ck cs Q (F0 m 253 ls [.int t0, .ref o]) := by
    intro v1 t0 h_188 ck cs qc qs kc ks H locs ls hX hl hf
    rw [X_Reader_promiseComes_b253] at hf
    refine lv_bipush (v := 6) hx hb dX3_promiseComes_253 (by decide) ?_
    obtain ⟨r197, h190, c191, s192, e189, l200, l201, e199⟩ := bdX_e hf
    refine x_doneX (val := (fun _ : Unit => none)) (vx_runV (b := o) (As := [.int t0, .int 6]) (rest := []) ⟨hx, hb, hml, hown, hts⟩ (wx_Reader_must l G hG h_188 n o t0 6 r197 h190 c191 s192 e189) (cwV 2 hts (lw_V q165 q167 qs2 q98 q168) rfl rfl rfl ⟨rfl, cdX3_must⟩ ⟨(by simp only [rmm]; omega), (by simp only [rmm]; omega)⟩) (x_preV (ci := 3) (T := TX3) (N := 9) hK hX _ (hX.tg g0 (by decide)) (by decide) rfl) rfl rfl hl.1 rfl (lv_room (Nat.le_of_ble_eq_true rfl)) dX3_promiseComes_255 ⟨(by simp only [rmm]; omega), (by simp only [rmm]; omega)⟩) hX e199 hth kc ks (fun r198 c193 s194 hf e195 e196 H locs hX => ?_)
    clear e189 l200 l201 e199
    replace kc : (ck + c191) + c193 = MC := by omega
    replace ks : (cs + s192) + s194 = MS := by omega
    clear e195 e196
    refine lx_aload_n hx hb dX3_promiseComes_258 rfl (lv_at hl 1 rfl) ?_
    obtain ⟨a202, e203, hf⟩ := bd_e hf
    obtain ⟨g204, hf⟩ := gd_e hf
    refine x_getN (ci := 5) (C := RX5) (T := TX5) (N := 3) hx hb hts in_X5 hown hK.1 hX (rf_some e203) g204 (by decide) rfl 0 (Nat.le_of_ble_eq_true rfl) (hG.nw hK nq345) (fun _ h9 => h9) (hv_ref rfl) dX3_promiseComes_259 ?_
    refine lx_astore_n (r := (hR h190 a202 0)) (lv' := [(2, va_rf (hR h190 a202 0)), (0, .ref o), (1, va_rf v1)]) hx hb dX3_promiseComes_262 rfl hl (by decide) (by generalize hq9 : va_rf v1 = w9; have hc9 : w9.category = 1 := (by rw [← hq9]; exact rf_cat _); cases w9 <;> first | rfl | cases hc9) (fun ls hl => ?_)
    refine lx_aload_n hx hb dX3_promiseComes_263 rfl (lv_at hl 0 rfl) ?_
    obtain ⟨a205, e206, hf⟩ := bd_e hf
    obtain ⟨g207, hf⟩ := gd_e hf
    refine x_alen hx hb hK.1 hX (rf_some e206) 6 g207 (by decide) rfl dX3_promiseComes_264 ?_
    refine lv_istore_n (lv' := [(3, .int (nI (hN h190 a205))), (2, va_rf (hR h190 a202 0)), (0, .ref o), (1, va_rf v1)]) hx hb dX3_promiseComes_265 rfl hl (by decide) (by generalize hq9 : va_rf (hR h190 a202 0) = w9; have hc9 : w9.category = 1 := (by rw [← hq9]; exact rf_cat _); cases w9 <;> first | rfl | cases hc9) (fun ls hl => ?_)
    refine lv_iconst (v := 0) hx hb dX3_promiseComes_266 (by decide) ?_
    refine lv_istore (lv' := [(4, .int 0), (3, .int (nI (hN h190 a205))), (2, va_rf (hR h190 a202 0)), (0, .ref o), (1, va_rf v1)]) hx hb dX3_promiseComes_267 hl (by decide) rfl (fun ls hl => ?_)
    exact B269 n v1 (hR h190 a202 0) (nI (hN h190 a205)) 0 h190 _ _ _ _ kc ks _ _ _ hX (lv_sub hl [3, 4, 2, 1, 0] rfl) hf
  have B252 : ∀ (v1 : Option Nat) (h_187 : Hp) (ck cs qc qs : Nat) (kc : ck + qc = MC) (ks : cs + qs = MS) (H : Heap) (locs : List Loc) (ls : Array Slot), XX G h s.heap h_187 H locs → lv_has ls 6 [(0, .ref o), (1, va_rf v1)] → X_Reader_promiseComes_b252 n o v1 h_187 = some ((res, h1), qc, qs) → W p l e (rmm (422) MC MS (13529)) s m args below meth c H locs ck cs Q (F0 m 252 ls [.ref o]) := by
    intro v1 h_187 ck cs qc qs kc ks H locs ls hX hl hf
    rw [X_Reader_promiseComes_b252] at hf
    refine lv_iconst (v := 0) hx hb dX3_promiseComes_252 (by decide) ?_
    exact B253 v1 0 h_187 _ _ _ _ kc ks _ _ _ hX (lv_sub hl [0, 1] rfl) hf
  have B209 : ∀ (v1 : Option Nat) (t0 : Int32) (h_158 : Hp) (ck cs qc qs : Nat) (kc : ck + qc = MC) (ks : cs + qs = MS) (H : Heap) (locs : List Loc) (ls : Array Slot), XX G h s.heap h_158 H locs → lv_has ls 6 [(0, .ref o), (1, va_rf v1)] → X_Reader_promiseComes_b209 n o v1 t0 h_158 = some ((res, h1), qc, qs) → W p l e (rmm (422) MC MS (13529)) s m args below meth c H locs ck cs Q (F0 m 209 ls [.int t0, .ref o]) := by
    intro v1 t0 h_158 ck cs qc qs kc ks H locs ls hX hl hf
    rw [X_Reader_promiseComes_b209] at hf
    refine lv_iconst (v := 5) hx hb dX3_promiseComes_209 (by decide) ?_
    obtain ⟨r167, h160, c161, s162, e159, l170, l171, e169⟩ := bdX_e hf
    refine x_doneX (val := (fun _ : Unit => none)) (vx_runV (b := o) (As := [.int t0, .int 5]) (rest := []) ⟨hx, hb, hml, hown, hts⟩ (wx_Reader_must l G hG h_158 n o t0 5 r167 h160 c161 s162 e159) (cwV 2 hts (lw_V q165 q167 qs2 q98 q168) rfl rfl rfl ⟨rfl, cdX3_must⟩ ⟨(by simp only [rmm]; omega), (by simp only [rmm]; omega)⟩) (x_preV (ci := 3) (T := TX3) (N := 9) hK hX _ (hX.tg g0 (by decide)) (by decide) rfl) rfl rfl hl.1 rfl (lv_room (Nat.le_of_ble_eq_true rfl)) dX3_promiseComes_210 ⟨(by simp only [rmm]; omega), (by simp only [rmm]; omega)⟩) hX e169 hth kc ks (fun r168 c163 s164 hf e165 e166 H locs hX => ?_)
    clear e159 l170 l171 e169
    replace kc : (ck + c161) + c163 = MC := by omega
    replace ks : (cs + s162) + s164 = MS := by omega
    clear e165 e166
    refine lv_aload_n hx hb dX3_promiseComes_213 rfl (lv_at hl 0 rfl) ?_
    refine lx_aload_n hx hb dX3_promiseComes_214 rfl (lv_at hl 1 rfl) ?_
    obtain ⟨a172, e173, hf⟩ := bd_e hf
    obtain ⟨g174, hf⟩ := gd_e hf
    refine x_getN (ci := 5) (C := RX5) (T := TX5) (N := 3) hx hb hts in_X5 hown hK.1 hX (rf_some e173) g174 (by decide) rfl 0 (Nat.le_of_ble_eq_true rfl) (hG.nw hK nq345) (fun _ h9 => h9) (hv_ref rfl) dX3_promiseComes_215 ?_
    refine lv_iconst (v := 0) hx hb dX3_promiseComes_218 (by decide) ?_
    obtain ⟨a175, e176, hf⟩ := bd_e hf
    obtain ⟨g177, hf⟩ := gd_e hf
    obtain ⟨g178, hf⟩ := gd_e hf
    refine x_aald hx hb hK.1 hX (rf_some e176) 6 g177 (by decide) rfl rfl rfl g178 dX3_promiseComes_219 ?_
    obtain ⟨a179, e180, hf⟩ := bd_e hf
    obtain ⟨g181, hf⟩ := gd_e hf
    refine x_getN (ci := 6) (C := RX6) (T := TX6) (N := 5) hx hb hts in_X6 hown hK.1 hX (rf_some e180) g181 (by decide) rfl 2 (Nat.le_of_ble_eq_true rfl) (hG.nw hK nq325) (fun _ h9 => h9) (hv_ref rfl) dX3_promiseComes_220 ?_
    obtain ⟨a182, e183, hf⟩ := bd_e hf
    obtain ⟨r185, e184, hf⟩ := bd_e hf
    refine x_weight hG hx hb hml hts hown hK hX (rf_some e183) (weight_ok l G hG 208 _ _ _ e184) q516 hl.1 (Nat.le_of_ble_eq_true rfl) (by simp only [rmm]; omega) (by simp only [rmm]; omega) ⟨(by simp only [rmm]; omega), (by simp only [rmm]; omega)⟩ dX3_promiseComes_223 ?_
    clear e184
    refine lv_bipush (v := 40) hx hb dX3_promiseComes_226 (by decide) ?_
    refine lv_icmp_gt (tgt := 252) hx hb dX3_promiseComes_228 (by decide) (fun c186 => ?_) (fun c186 => ?_)
    · rw [if_pos c186] at hf
      exact B252 v1 h160 _ _ _ _ kc ks _ _ _ hX (lv_sub hl [0, 1] rfl) hf
    · rw [if_neg c186] at hf
      refine lx_aload_n hx hb dX3_promiseComes_231 rfl (lv_at hl 1 rfl) ?_
      refine x_getN (ci := 5) (C := RX5) (T := TX5) (N := 3) hx hb hts in_X5 hown hK.1 hX (rf_some e173) g174 (by decide) rfl 0 (Nat.le_of_ble_eq_true rfl) (hG.nw hK nq345) (fun _ h9 => h9) (hv_ref rfl) dX3_promiseComes_232 ?_
      refine lv_iconst (v := 1) hx hb dX3_promiseComes_235 (by decide) ?_
      obtain ⟨g266, hf⟩ := gd_e hf
      refine x_aald hx hb hK.1 hX (rf_some e176) 6 g177 (by decide) rfl rfl rfl g266 dX3_promiseComes_236 ?_
      obtain ⟨a267, e268, hf⟩ := bd_e hf
      obtain ⟨g269, hf⟩ := gd_e hf
      refine x_getN (ci := 6) (C := RX6) (T := TX6) (N := 5) hx hb hts in_X6 hown hK.1 hX (rf_some e268) g269 (by decide) rfl 2 (Nat.le_of_ble_eq_true rfl) (hG.nw hK nq325) (fun _ h9 => h9) (hv_ref rfl) dX3_promiseComes_237 ?_
      obtain ⟨a270, e271, hf⟩ := bd_e hf
      obtain ⟨r273, e272, hf⟩ := bd_e hf
      refine x_weight hG hx hb hml hts hown hK hX (rf_some e271) (weight_ok l G hG 208 _ _ _ e272) q516 hl.1 (Nat.le_of_ble_eq_true rfl) (by simp only [rmm]; omega) (by simp only [rmm]; omega) ⟨(by simp only [rmm]; omega), (by simp only [rmm]; omega)⟩ dX3_promiseComes_240 ?_
      clear e272
      refine lv_bipush (v := 40) hx hb dX3_promiseComes_243 (by decide) ?_
      refine lv_icmp_gt (tgt := 252) hx hb dX3_promiseComes_245 (by decide) (fun c274 => ?_) (fun c274 => ?_)
      · rw [if_pos c274] at hf
        exact B252 v1 h160 _ _ _ _ kc ks _ _ _ hX (lv_sub hl [0, 1] rfl) hf
      · rw [if_neg c274] at hf
        refine lv_iconst (v := 1) hx hb dX3_promiseComes_248 (by decide) ?_
        refine lv_goto (tgt := 253) hx hb dX3_promiseComes_249 (by decide) ?_
        exact B253 v1 1 h160 _ _ _ _ kc ks _ _ _ hX (lv_sub hl [0, 1] rfl) hf
  have B208 : ∀ (v1 : Option Nat) (h_157 : Hp) (ck cs qc qs : Nat) (kc : ck + qc = MC) (ks : cs + qs = MS) (H : Heap) (locs : List Loc) (ls : Array Slot), XX G h s.heap h_157 H locs → lv_has ls 6 [(0, .ref o), (1, va_rf v1)] → X_Reader_promiseComes_b208 n o v1 h_157 = some ((res, h1), qc, qs) → W p l e (rmm (422) MC MS (13529)) s m args below meth c H locs ck cs Q (F0 m 208 ls [.ref o]) := by
    intro v1 h_157 ck cs qc qs kc ks H locs ls hX hl hf
    rw [X_Reader_promiseComes_b208] at hf
    refine lv_iconst (v := 0) hx hb dX3_promiseComes_208 (by decide) ?_
    exact B209 v1 0 h_157 _ _ _ _ kc ks _ _ _ hX (lv_sub hl [0, 1] rfl) hf
  have B162 : ∀ (v1 : Option Nat) (h_126 : Hp) (ck cs qc qs : Nat) (kc : ck + qc = MC) (ks : cs + qs = MS) (H : Heap) (locs : List Loc) (ls : Array Slot), XX G h s.heap h_126 H locs → lv_has ls 6 [(0, .ref o), (1, va_rf v1)] → X_Reader_promiseComes_b162 n o v1 h_126 = some ((res, h1), qc, qs) → W p l e (rmm (422) MC MS (13529)) s m args below meth c H locs ck cs Q (F0 m 162 ls []) := by
    intro v1 h_126 ck cs qc qs kc ks H locs ls hX hl hf
    rw [X_Reader_promiseComes_b162] at hf
    refine lv_aload_n hx hb dX3_promiseComes_162 rfl (lv_at hl 0 rfl) ?_
    refine lv_aload_n hx hb dX3_promiseComes_163 rfl (lv_at hl 0 rfl) ?_
    refine lv_bipush (v := 59) hx hb dX3_promiseComes_164 (by decide) ?_
    obtain ⟨r128, e127, hf⟩ := bd_e hf
    refine x_doneP (va_runV (b := o) (As := [.int 59]) (rest := [.ref o]) ⟨hx, hb, hml, hown, hts⟩ (wx_Reader_isSign l G hG h_126 n o 59 r128 e127) (cwV 1 hts (lw_V q300 q302 qs6 q98 q303) rfl rfl rfl ⟨rfl, cdX3_isSign⟩ ⟨(by simp only [rmm]; omega), (by simp only [rmm]; omega)⟩) (x_preV (ci := 3) (T := TX3) (N := 9) hK hX _ (hX.tg g0 (by decide)) (by decide) rfl) rfl rfl hl.1 rfl (lv_room (Nat.le_of_ble_eq_true rfl)) dX3_promiseComes_166 ⟨(by simp only [rmm]; omega), (by simp only [rmm]; omega)⟩) rfl ?_
    clear e127
    refine lv_iconst (v := 2) hx hb dX3_promiseComes_169 (by decide) ?_
    obtain ⟨r137, h130, c131, s132, e129, l140, l141, e139⟩ := bdX_e hf
    refine x_doneX (val := (fun _ : Unit => none)) (vx_runV (b := o) (As := [.int r128, .int 2]) (rest := []) ⟨hx, hb, hml, hown, hts⟩ (wx_Reader_must l G hG h_126 n o r128 2 r137 h130 c131 s132 e129) (cwV 2 hts (lw_V q165 q167 qs2 q98 q168) rfl rfl rfl ⟨rfl, cdX3_must⟩ ⟨(by simp only [rmm]; omega), (by simp only [rmm]; omega)⟩) (x_preV (ci := 3) (T := TX3) (N := 9) hK hX _ (hX.tg g0 (by decide)) (by decide) rfl) rfl rfl hl.1 rfl (lv_room (Nat.le_of_ble_eq_true rfl)) dX3_promiseComes_170 ⟨(by simp only [rmm]; omega), (by simp only [rmm]; omega)⟩) hX e139 hth kc ks (fun r138 c133 s134 hf e135 e136 H locs hX => ?_)
    clear e129 l140 l141 e139
    replace kc : (ck + c131) + c133 = MC := by omega
    replace ks : (cs + s132) + s134 = MS := by omega
    clear e135 e136
    refine lv_aload_n hx hb dX3_promiseComes_173 rfl (lv_at hl 0 rfl) ?_
    refine lx_aload_n hx hb dX3_promiseComes_174 rfl (lv_at hl 1 rfl) ?_
    obtain ⟨a142, e143, hf⟩ := bd_e hf
    obtain ⟨g144, hf⟩ := gd_e hf
    refine x_getN (ci := 5) (C := RX5) (T := TX5) (N := 3) hx hb hts in_X5 hown hK.1 hX (rf_some e143) g144 (by decide) rfl 0 (Nat.le_of_ble_eq_true rfl) (hG.nw hK nq345) (fun _ h9 => h9) (hv_ref rfl) dX3_promiseComes_175 ?_
    refine lv_iconst (v := 0) hx hb dX3_promiseComes_178 (by decide) ?_
    obtain ⟨a145, e146, hf⟩ := bd_e hf
    obtain ⟨g147, hf⟩ := gd_e hf
    obtain ⟨g148, hf⟩ := gd_e hf
    refine x_aald hx hb hK.1 hX (rf_some e146) 6 g147 (by decide) rfl rfl rfl g148 dX3_promiseComes_179 ?_
    obtain ⟨a149, e150, hf⟩ := bd_e hf
    obtain ⟨g151, hf⟩ := gd_e hf
    refine x_getN (ci := 6) (C := RX6) (T := TX6) (N := 5) hx hb hts in_X6 hown hK.1 hX (rf_some e150) g151 (by decide) rfl 2 (Nat.le_of_ble_eq_true rfl) (hG.nw hK nq325) (fun _ h9 => h9) (hv_ref rfl) dX3_promiseComes_180 ?_
    obtain ⟨a152, e153, hf⟩ := bd_e hf
    obtain ⟨r155, e154, hf⟩ := bd_e hf
    refine x_least hG hx hb hml hts hown hK hX (rf_some e153) (least_ok l G hG 208 _ _ _ e154) q490 hl.1 (Nat.le_of_ble_eq_true rfl) (by simp only [rmm]; omega) (by simp only [rmm]; omega) ⟨(by simp only [rmm]; omega), (by simp only [rmm]; omega)⟩ dX3_promiseComes_183 ?_
    clear e154
    refine lv_if_le (tgt := 208) hx hb dX3_promiseComes_186 (by decide) (fun c156 => ?_) (fun c156 => ?_)
    · rw [if_pos c156] at hf
      exact B208 v1 h130 _ _ _ _ kc ks _ _ _ hX (lv_sub hl [0, 1] rfl) hf
    · rw [if_neg c156] at hf
      refine lx_aload_n hx hb dX3_promiseComes_189 rfl (lv_at hl 1 rfl) ?_
      refine x_getN (ci := 5) (C := RX5) (T := TX5) (N := 3) hx hb hts in_X5 hown hK.1 hX (rf_some e143) g144 (by decide) rfl 0 (Nat.le_of_ble_eq_true rfl) (hG.nw hK nq345) (fun _ h9 => h9) (hv_ref rfl) dX3_promiseComes_190 ?_
      refine lv_iconst (v := 1) hx hb dX3_promiseComes_193 (by decide) ?_
      obtain ⟨g275, hf⟩ := gd_e hf
      refine x_aald hx hb hK.1 hX (rf_some e146) 6 g147 (by decide) rfl rfl rfl g275 dX3_promiseComes_194 ?_
      obtain ⟨a276, e277, hf⟩ := bd_e hf
      obtain ⟨g278, hf⟩ := gd_e hf
      refine x_getN (ci := 6) (C := RX6) (T := TX6) (N := 5) hx hb hts in_X6 hown hK.1 hX (rf_some e277) g278 (by decide) rfl 2 (Nat.le_of_ble_eq_true rfl) (hG.nw hK nq325) (fun _ h9 => h9) (hv_ref rfl) dX3_promiseComes_195 ?_
      obtain ⟨a279, e280, hf⟩ := bd_e hf
      obtain ⟨r282, e281, hf⟩ := bd_e hf
      refine x_least hG hx hb hml hts hown hK hX (rf_some e280) (least_ok l G hG 208 _ _ _ e281) q490 hl.1 (Nat.le_of_ble_eq_true rfl) (by simp only [rmm]; omega) (by simp only [rmm]; omega) ⟨(by simp only [rmm]; omega), (by simp only [rmm]; omega)⟩ dX3_promiseComes_198 ?_
      clear e281
      refine lv_if_le (tgt := 208) hx hb dX3_promiseComes_201 (by decide) (fun c283 => ?_) (fun c283 => ?_)
      · rw [if_pos c283] at hf
        exact B208 v1 h130 _ _ _ _ kc ks _ _ _ hX (lv_sub hl [0, 1] rfl) hf
      · rw [if_neg c283] at hf
        refine lv_iconst (v := 1) hx hb dX3_promiseComes_204 (by decide) ?_
        refine lv_goto (tgt := 209) hx hb dX3_promiseComes_205 (by decide) ?_
        exact B209 v1 1 h130 _ _ _ _ kc ks _ _ _ hX (lv_sub hl [0, 1] rfl) hf
  have B124 : ∀ (v1 : Option Nat) (t0 : Int32) (t1 : Option Nat) (h_85 : Hp) (ck cs qc qs : Nat) (kc : ck + qc = MC) (ks : cs + qs = MS) (H : Heap) (locs : List Loc) (ls : Array Slot), XX G h s.heap h_85 H locs → lv_has ls 6 [(0, .ref o), (1, va_rf v1)] → X_Reader_promiseComes_b124 n o v1 t0 t1 h_85 = some ((res, h1), qc, qs) → W p l e (rmm (422) MC MS (13529)) s m args below meth c H locs ck cs Q (F0 m 124 ls [.int t0, va_rf t1]) := by
    intro v1 t0 t1 h_85 ck cs qc qs kc ks H locs ls hX hl hf
    rw [X_Reader_promiseComes_b124] at hf
    obtain ⟨a86, e87, hf⟩ := bd_e hf
    obtain ⟨g88, hf⟩ := gd_e hf
    obtain ⟨h89, eh89, hf⟩ := st_e hf
    refine x_putN (ci := 5) (C := RX5) (T := TX5) (N := 3) hx hb hts in_X5 tyX5 tyX5_ok nmX5 hown hK.1 hX (rf_some e87) g88 (by decide) rfl 1 (Nat.le_of_ble_eq_true rfl) (hG.nw hK nq347) (fun _ h9 => h9) rfl rfl rfl (Put1.fI (x := t0) rfl) dX3_promiseComes_124 (fun H locs hX => ?_)
    replace hX := hX.re eh89
    clear eh89
    refine lv_aload_n hx hb dX3_promiseComes_127 rfl (lv_at hl 0 rfl) ?_
    obtain ⟨r98, h91, c92, s93, e90, l101, l102, e100⟩ := bdX_e hf
    refine x_doneX (val := (fun _ : Unit => none)) (vx_runV (b := o) (As := []) (rest := []) ⟨hx, hb, hml, hown, hts⟩ (wx_Reader_next l G hG h89 n o r98 h91 c92 s93 e90) (cwV 0 hts (lw_V q152 q154 qs0 q98 q155) rfl rfl rfl ⟨rfl, cdX3_next⟩ ⟨(by simp only [rmm]; omega), (by simp only [rmm]; omega)⟩) (x_preV (ci := 3) (T := TX3) (N := 9) hK hX _ (hX.tg g0 (by decide)) (by decide) rfl) rfl rfl hl.1 rfl (lv_room (Nat.le_of_ble_eq_true rfl)) dX3_promiseComes_128 ⟨(by simp only [rmm]; omega), (by simp only [rmm]; omega)⟩) hX e100 hth kc ks (fun r99 c94 s95 hf e96 e97 H locs hX => ?_)
    clear e90 l101 l102 e100
    replace kc : (ck + c92) + c94 = MC := by omega
    replace ks : (cs + s93) + s95 = MS := by omega
    clear e96 e97
    refine lv_aload_n hx hb dX3_promiseComes_131 rfl (lv_at hl 0 rfl) ?_
    refine lx_aload_n hx hb dX3_promiseComes_132 rfl (lv_at hl 1 rfl) ?_
    obtain ⟨a103, e104, hf⟩ := bd_e hf
    obtain ⟨g105, hf⟩ := gd_e hf
    refine x_getN (ci := 5) (C := RX5) (T := TX5) (N := 3) hx hb hts in_X5 hown hK.1 hX (rf_some e104) g105 (by decide) rfl 0 (Nat.le_of_ble_eq_true rfl) (hG.nw hK nq345) (fun _ h9 => h9) (hv_ref rfl) dX3_promiseComes_133 ?_
    refine lv_iconst (v := 1) hx hb dX3_promiseComes_136 (by decide) ?_
    obtain ⟨a106, e107, hf⟩ := bd_e hf
    obtain ⟨g108, hf⟩ := gd_e hf
    obtain ⟨g109, hf⟩ := gd_e hf
    refine x_aald hx hb hK.1 hX (rf_some e107) 6 g108 (by decide) rfl rfl rfl g109 dX3_promiseComes_137 ?_
    obtain ⟨r118, h111, c112, s113, e110, l121, l122, e120⟩ := bdX_e hf
    refine x_doneX (val := (fun _ : Unit => none)) (vx_runV (b := o) (As := [va_rf (hR h91 a106 (Int32.toNatClampNeg 1))]) (rest := []) ⟨hx, hb, hml, hown, hts⟩ (wx_Reader_side l G hG h91 n o (hR h91 a106 (Int32.toNatClampNeg 1)) r118 h111 c112 s113 e110) (cwV 1 hts (lw_V q358 q360 qs7 q98 q361) rfl rfl rfl ⟨rfl, cdX3_side⟩ ⟨(by simp only [rmm]; omega), (by simp only [rmm]; omega)⟩) (x_preV (ci := 3) (T := TX3) (N := 9) hK hX _ (hX.tg g0 (by decide)) (by decide) rfl) rfl rfl hl.1 rfl (lv_room (Nat.le_of_ble_eq_true rfl)) dX3_promiseComes_138 ⟨(by simp only [rmm]; omega), (by simp only [rmm]; omega)⟩) hX e120 hth kc ks (fun r119 c114 s115 hf e116 e117 H locs hX => ?_)
    clear e110 l121 l122 e120
    replace kc : ((ck + c92) + c112) + c114 = MC := by omega
    replace ks : ((cs + s93) + s113) + s115 = MS := by omega
    clear e116 e117
    refine lv_aload_n hx hb dX3_promiseComes_141 rfl (lv_at hl 0 rfl) ?_
    refine lv_bipush (v := 126) hx hb dX3_promiseComes_142 (by decide) ?_
    obtain ⟨r124, e123, hf⟩ := bd_e hf
    refine x_doneP (va_runV (b := o) (As := [.int 126]) (rest := []) ⟨hx, hb, hml, hown, hts⟩ (wx_Reader_isSign l G hG h111 n o 126 r124 e123) (cwV 1 hts (lw_V q300 q302 qs6 q98 q303) rfl rfl rfl ⟨rfl, cdX3_isSign⟩ ⟨(by simp only [rmm]; omega), (by simp only [rmm]; omega)⟩) (x_preV (ci := 3) (T := TX3) (N := 9) hK hX _ (hX.tg g0 (by decide)) (by decide) rfl) rfl rfl hl.1 rfl (lv_room (Nat.le_of_ble_eq_true rfl)) dX3_promiseComes_144 ⟨(by simp only [rmm]; omega), (by simp only [rmm]; omega)⟩) rfl ?_
    clear e123
    refine lv_if_eq (tgt := 162) hx hb dX3_promiseComes_147 (by decide) (fun c125 => ?_) (fun c125 => ?_)
    · rw [if_pos c125] at hf
      exact B162 v1 h111 _ _ _ _ kc ks _ _ _ hX (lv_sub hl [0, 1] rfl) hf
    · rw [if_neg c125] at hf
      refine lv_aload_n hx hb dX3_promiseComes_150 rfl (lv_at hl 0 rfl) ?_
      obtain ⟨r292, h285, c286, s287, e284, l295, l296, e294⟩ := bdX_e hf
      refine x_doneX (val := (fun _ : Unit => none)) (vx_runV (b := o) (As := []) (rest := []) ⟨hx, hb, hml, hown, hts⟩ (wx_Reader_next l G hG h111 n o r292 h285 c286 s287 e284) (cwV 0 hts (lw_V q152 q154 qs0 q98 q155) rfl rfl rfl ⟨rfl, cdX3_next⟩ ⟨(by simp only [rmm]; omega), (by simp only [rmm]; omega)⟩) (x_preV (ci := 3) (T := TX3) (N := 9) hK hX _ (hX.tg g0 (by decide)) (by decide) rfl) rfl rfl hl.1 rfl (lv_room (Nat.le_of_ble_eq_true rfl)) dX3_promiseComes_151 ⟨(by simp only [rmm]; omega), (by simp only [rmm]; omega)⟩) hX e294 hth kc ks (fun r293 c288 s289 hf e290 e291 H locs hX => ?_)
      clear e284 l295 l296 e294
      replace kc : (((ck + c92) + c112) + c286) + c288 = MC := by omega
      replace ks : (((cs + s93) + s113) + s287) + s289 = MS := by omega
      clear e290 e291
      refine lx_aload_n hx hb dX3_promiseComes_154 rfl (lv_at hl 1 rfl) ?_
      refine lv_aload_n hx hb dX3_promiseComes_155 rfl (lv_at hl 0 rfl) ?_
      obtain ⟨r305, h298, c299, s300, e297, l308, l309, e307⟩ := bdX_e hf
      refine x_doneX (val := (fun r9 : Option Nat => some (va_rf r9))) (vx_runV (b := o) (As := []) (rest := [va_rf v1]) ⟨hx, hb, hml, hown, hts⟩ (wx_Reader_ors l G hG 12 (X_ors n 12) (fun o h res h1 c s e => ors_ok l G hG n 12 o h res h1 c s e) h285 n o r305 h298 c299 s300 e297) (cwV 0 hts (lw_V q400 q402 qs17 q98 q403) rfl rfl rfl ⟨rfl, cdX3_ors⟩ ⟨(by simp only [rmm]; omega), (by simp only [rmm]; omega)⟩) (x_preV (ci := 3) (T := TX3) (N := 9) hK hX _ (hX.tg g0 (by decide)) (by decide) rfl) rfl rfl hl.1 rfl (lv_room (by simp only [List.map, List.sum_cons, List.sum_nil, rf_cat, cat_i, cat_l, cat_r] <;> decide)) dX3_promiseComes_156 ⟨(by simp only [rmm]; omega), (by simp only [rmm]; omega)⟩) hX e307 hth kc ks (fun r306 c301 s302 hf e303 e304 H locs hX => ?_)
      clear e297 l308 l309 e307
      replace kc : ((((ck + c92) + c112) + c286) + c299) + c301 = MC := by omega
      replace ks : ((((cs + s93) + s113) + s287) + s300) + s302 = MS := by omega
      clear e303 e304
      obtain ⟨g310, hf⟩ := gd_e hf
      obtain ⟨h311, eh311, hf⟩ := st_e hf
      refine x_putN (ci := 5) (C := RX5) (T := TX5) (N := 3) hx hb hts in_X5 tyX5 tyX5_ok nmX5 hown hK.1 hX (rf_some e104) g310 (by decide) rfl 2 (Nat.le_of_ble_eq_true rfl) (hG.nw hK nq350) (fun _ h9 => h9) rfl (narrow_rfO _ r306) (fits_rfO _ r306) (Put1.fR (x := r306) rfl) dX3_promiseComes_159 (fun H locs hX => ?_)
      replace hX := hX.re eh311
      clear eh311
      exact B162 v1 h311 _ _ _ _ kc ks _ _ _ hX (lv_sub hl [0, 1] rfl) hf
  have B105 : ∀ (v1 : Option Nat) (t0 : Int32) (h_68 : Hp) (ck cs qc qs : Nat) (kc : ck + qc = MC) (ks : cs + qs = MS) (H : Heap) (locs : List Loc) (ls : Array Slot), XX G h s.heap h_68 H locs → lv_has ls 6 [(0, .ref o), (1, va_rf v1)] → X_Reader_promiseComes_b105 n o v1 t0 h_68 = some ((res, h1), qc, qs) → W p l e (rmm (422) MC MS (13529)) s m args below meth c H locs ck cs Q (F0 m 105 ls [.int t0, .ref o]) := by
    intro v1 t0 h_68 ck cs qc qs kc ks H locs ls hX hl hf
    rw [X_Reader_promiseComes_b105] at hf
    refine lv_iconst (v := 2) hx hb dX3_promiseComes_105 (by decide) ?_
    obtain ⟨r77, h70, c71, s72, e69, l80, l81, e79⟩ := bdX_e hf
    refine x_doneX (val := (fun _ : Unit => none)) (vx_runV (b := o) (As := [.int t0, .int 2]) (rest := []) ⟨hx, hb, hml, hown, hts⟩ (wx_Reader_must l G hG h_68 n o t0 2 r77 h70 c71 s72 e69) (cwV 2 hts (lw_V q165 q167 qs2 q98 q168) rfl rfl rfl ⟨rfl, cdX3_must⟩ ⟨(by simp only [rmm]; omega), (by simp only [rmm]; omega)⟩) (x_preV (ci := 3) (T := TX3) (N := 9) hK hX _ (hX.tg g0 (by decide)) (by decide) rfl) rfl rfl hl.1 rfl (lv_room (Nat.le_of_ble_eq_true rfl)) dX3_promiseComes_106 ⟨(by simp only [rmm]; omega), (by simp only [rmm]; omega)⟩) hX e79 hth kc ks (fun r78 c73 s74 hf e75 e76 H locs hX => ?_)
    clear e69 l80 l81 e79
    replace kc : (ck + c71) + c73 = MC := by omega
    replace ks : (cs + s72) + s74 = MS := by omega
    clear e75 e76
    refine lx_aload_n hx hb dX3_promiseComes_109 rfl (lv_at hl 1 rfl) ?_
    refine lv_aload_n hx hb dX3_promiseComes_110 rfl (lv_at hl 0 rfl) ?_
    refine lv_bipush (v := 61) hx hb dX3_promiseComes_111 (by decide) ?_
    obtain ⟨r83, e82, hf⟩ := bd_e hf
    refine x_doneP (va_runV (b := o) (As := [.int 61]) (rest := [va_rf v1]) ⟨hx, hb, hml, hown, hts⟩ (wx_Reader_isSign l G hG h70 n o 61 r83 e82) (cwV 1 hts (lw_V q300 q302 qs6 q98 q303) rfl rfl rfl ⟨rfl, cdX3_isSign⟩ ⟨(by simp only [rmm]; omega), (by simp only [rmm]; omega)⟩) (x_preV (ci := 3) (T := TX3) (N := 9) hK hX _ (hX.tg g0 (by decide)) (by decide) rfl) rfl rfl hl.1 rfl (lv_room (by simp only [List.map, List.sum_cons, List.sum_nil, rf_cat, cat_i, cat_l, cat_r] <;> decide)) dX3_promiseComes_113 ⟨(by simp only [rmm]; omega), (by simp only [rmm]; omega)⟩) rfl ?_
    clear e82
    refine lv_if_eq (tgt := 123) hx hb dX3_promiseComes_116 (by decide) (fun c84 => ?_) (fun c84 => ?_)
    · rw [if_pos c84] at hf
      refine lv_iconst (v := 1) hx hb dX3_promiseComes_123 (by decide) ?_
      exact B124 v1 1 v1 h70 _ _ _ _ kc ks _ _ _ hX (lv_sub hl [0, 1] rfl) hf
    · rw [if_neg c84] at hf
      refine lv_iconst (v := 0) hx hb dX3_promiseComes_119 (by decide) ?_
      refine lv_goto (tgt := 124) hx hb dX3_promiseComes_120 (by decide) ?_
      exact B124 v1 0 v1 h70 _ _ _ _ kc ks _ _ _ hX (lv_sub hl [0, 1] rfl) hf
  have B100 : ∀ (v1 : Option Nat) (h_67 : Hp) (ck cs qc qs : Nat) (kc : ck + qc = MC) (ks : cs + qs = MS) (H : Heap) (locs : List Loc) (ls : Array Slot), XX G h s.heap h_67 H locs → lv_has ls 6 [(0, .ref o), (1, va_rf v1)] → X_Reader_promiseComes_b100 n o v1 h_67 = some ((res, h1), qc, qs) → W p l e (rmm (422) MC MS (13529)) s m args below meth c H locs ck cs Q (F0 m 100 ls [.ref o]) := by
    intro v1 h_67 ck cs qc qs kc ks H locs ls hX hl hf
    rw [X_Reader_promiseComes_b100] at hf
    refine lv_iconst (v := 1) hx hb dX3_promiseComes_100 (by decide) ?_
    refine lv_goto (tgt := 105) hx hb dX3_promiseComes_101 (by decide) ?_
    exact B105 v1 1 h_67 _ _ _ _ kc ks _ _ _ hX (lv_sub hl [0, 1] rfl) hf
  have B59 : ∀ (t0 : Int32) (h_18 : Hp) (ck cs qc qs : Nat) (kc : ck + qc = MC) (ks : cs + qs = MS) (H : Heap) (locs : List Loc) (ls : Array Slot), XX G h s.heap h_18 H locs → lv_has ls 6 [(0, .ref o)] → X_Reader_promiseComes_b59 n o t0 h_18 = some ((res, h1), qc, qs) → W p l e (rmm (422) MC MS (13529)) s m args below meth c H locs ck cs Q (F0 m 59 ls [.int t0, .ref o]) := by
    intro t0 h_18 ck cs qc qs kc ks H locs ls hX hl hf
    rw [X_Reader_promiseComes_b59] at hf
    refine lv_iconst (v := 4) hx hb dX3_promiseComes_59 (by decide) ?_
    obtain ⟨r27, h20, c21, s22, e19, l30, l31, e29⟩ := bdX_e hf
    refine x_doneX (val := (fun _ : Unit => none)) (vx_runV (b := o) (As := [.int t0, .int 4]) (rest := []) ⟨hx, hb, hml, hown, hts⟩ (wx_Reader_must l G hG h_18 n o t0 4 r27 h20 c21 s22 e19) (cwV 2 hts (lw_V q165 q167 qs2 q98 q168) rfl rfl rfl ⟨rfl, cdX3_must⟩ ⟨(by simp only [rmm]; omega), (by simp only [rmm]; omega)⟩) (x_preV (ci := 3) (T := TX3) (N := 9) hK hX _ (hX.tg g0 (by decide)) (by decide) rfl) rfl rfl hl.1 rfl (lv_room (Nat.le_of_ble_eq_true rfl)) dX3_promiseComes_60 ⟨(by simp only [rmm]; omega), (by simp only [rmm]; omega)⟩) hX e29 hth kc ks (fun r28 c23 s24 hf e25 e26 H locs hX => ?_)
    clear e19 l30 l31 e29
    replace kc : (ck + c21) + c23 = MC := by omega
    replace ks : (cs + s22) + s24 = MS := by omega
    clear e25 e26
    obtain ⟨c32, s33, hf, e34, e35⟩ := ad_e hf
    obtain ⟨h36, eh36, hf⟩ := st_e hf
    refine x_new (ci := 5) (C := RX5) (T := TX5) (N := 3) hx hb hts in_X5 hown q150 q304 q103 hK hX (by decide) rfl tyX5_ok (fun k hk => dfl _ (dfC5 k hk)) (by simp only [rmm]; omega) (by simp only [rmm]; omega) dX3_promiseComes_63 (fun H hX => ?_)
    replace hX := hX.re eh36
    have g37 : hT h36 (hZ h20) = 6 := by rw [eh36]; exact nw_T _ _ _
    clear eh36
    replace kc : ((ck + c21) + 1) + c32 = MC := by omega
    replace ks : ((cs + s22) + 3) + s33 = MS := by omega
    clear e34 e35
    refine lv_dup hx hb dX3_promiseComes_66 rfl ?_
    obtain ⟨h39, c40, s41, c42, s43, e38, hf, e44, e45⟩ := bdAv_e hf
    refine x_done (mc := c40) (ms := s41) (va_runIN (As := []) (rest := [.ref (hZ h20)]) ⟨hx, hb, hml, hown, hts⟩ (wx_Promise_init l G hG h36 n (hZ h20) h39 c40 s41 e38) ⟨va_cnB 0 hts (lw_meth q307) rfl rfl rfl (hG.nw hK nq305) (hts _ q103) cdX5_init ⟨(by simp only [rmm]; omega), (by simp only [rmm]; omega)⟩, rfl, hts _ q306⟩ (x_preS hK hX _) rfl rfl hl.1 rfl (lv_room (Nat.le_of_ble_eq_true rfl)) dX3_promiseComes_67 ⟨(by simp only [rmm]; omega), (by simp only [rmm]; omega)⟩) hX rfl (fun H locs hX => ?_)
    clear e38
    replace kc : (((ck + c21) + 1) + c40) + c42 = MC := by omega
    replace ks : (((cs + s22) + 3) + s41) + s43 = MS := by omega
    clear e44 e45
    refine lv_astore_n (lv' := [(1, .ref (hZ h20)), (0, .ref o)]) hx hb dX3_promiseComes_70 rfl hl (by decide) rfl (fun ls hl => ?_)
    refine lv_aload_n hx hb dX3_promiseComes_71 rfl (lv_at hl 1 rfl) ?_
    refine lv_aload_n hx hb dX3_promiseComes_72 rfl (lv_at hl 0 rfl) ?_
    obtain ⟨g46, hf⟩ := gd_e hf
    refine x_getN (ci := 5) (C := RX5) (T := TX5) (N := 3) hx hb hts in_X5 hown hK.1 hX rfl g46 (by decide) rfl 0 (Nat.le_of_ble_eq_true rfl) (hG.nw hK nq345) (fun _ h9 => h9) (hv_ref rfl) dX3_promiseComes_73 ?_
    refine lv_iconst (v := 0) hx hb dX3_promiseComes_76 (by decide) ?_
    obtain ⟨a47, e48, hf⟩ := bd_e hf
    obtain ⟨g49, hf⟩ := gd_e hf
    obtain ⟨g50, hf⟩ := gd_e hf
    refine x_aald hx hb hK.1 hX (rf_some e48) 6 g49 (by decide) rfl rfl rfl g50 dX3_promiseComes_77 ?_
    obtain ⟨r59, h52, c53, s54, e51, l62, l63, e61⟩ := bdX_e hf
    refine x_doneX (val := (fun _ : Unit => none)) (vx_runV (b := o) (As := [va_rf (hR h39 a47 (Int32.toNatClampNeg 0))]) (rest := []) ⟨hx, hb, hml, hown, hts⟩ (wx_Reader_side l G hG h39 n o (hR h39 a47 (Int32.toNatClampNeg 0)) r59 h52 c53 s54 e51) (cwV 1 hts (lw_V q358 q360 qs7 q98 q361) rfl rfl rfl ⟨rfl, cdX3_side⟩ ⟨(by simp only [rmm]; omega), (by simp only [rmm]; omega)⟩) (x_preV (ci := 3) (T := TX3) (N := 9) hK hX _ (hX.tg g0 (by decide)) (by decide) rfl) rfl rfl hl.1 rfl (lv_room (Nat.le_of_ble_eq_true rfl)) dX3_promiseComes_78 ⟨(by simp only [rmm]; omega), (by simp only [rmm]; omega)⟩) hX e61 hth kc ks (fun r60 c55 s56 hf e57 e58 H locs hX => ?_)
    clear e51 l62 l63 e61
    replace kc : ((((ck + c21) + 1) + c40) + c53) + c55 = MC := by omega
    replace ks : ((((cs + s22) + 3) + s41) + s54) + s56 = MS := by omega
    clear e57 e58
    refine lv_aload_n hx hb dX3_promiseComes_81 rfl (lv_at hl 1 rfl) ?_
    refine lv_aload_n hx hb dX3_promiseComes_82 rfl (lv_at hl 1 rfl) ?_
    refine lv_bipush (v := 61) hx hb dX3_promiseComes_83 (by decide) ?_
    obtain ⟨r65, e64, hf⟩ := bd_e hf
    refine x_doneP (va_runV (b := o) (As := [.int 61]) (rest := [.ref o]) ⟨hx, hb, hml, hown, hts⟩ (wx_Reader_isSign l G hG h52 n o 61 r65 e64) (cwV 1 hts (lw_V q300 q302 qs6 q98 q303) rfl rfl rfl ⟨rfl, cdX3_isSign⟩ ⟨(by simp only [rmm]; omega), (by simp only [rmm]; omega)⟩) (x_preV (ci := 3) (T := TX3) (N := 9) hK hX _ (hX.tg g0 (by decide)) (by decide) rfl) rfl rfl hl.1 rfl (lv_room (Nat.le_of_ble_eq_true rfl)) dX3_promiseComes_85 ⟨(by simp only [rmm]; omega), (by simp only [rmm]; omega)⟩) rfl ?_
    clear e64
    refine lv_if_ne (tgt := 100) hx hb dX3_promiseComes_88 (by decide) (fun c66 => ?_) (fun c66 => ?_)
    · rw [if_neg c66] at hf
      exact B100 (some (hZ h20)) h52 _ _ _ _ kc ks _ _ _ hX (lv_sub hl [1, 0] rfl) hf
    · rw [if_pos c66] at hf
      refine lv_aload_n hx hb dX3_promiseComes_91 rfl (lv_at hl 1 rfl) ?_
      refine lv_bipush (v := 62) hx hb dX3_promiseComes_92 (by decide) ?_
      obtain ⟨r313, e312, hf⟩ := bd_e hf
      refine x_doneP (va_runV (b := o) (As := [.int 62]) (rest := [.ref o]) ⟨hx, hb, hml, hown, hts⟩ (wx_Reader_isSign l G hG h52 n o 62 r313 e312) (cwV 1 hts (lw_V q300 q302 qs6 q98 q303) rfl rfl rfl ⟨rfl, cdX3_isSign⟩ ⟨(by simp only [rmm]; omega), (by simp only [rmm]; omega)⟩) (x_preV (ci := 3) (T := TX3) (N := 9) hK hX _ (hX.tg g0 (by decide)) (by decide) rfl) rfl rfl hl.1 rfl (lv_room (Nat.le_of_ble_eq_true rfl)) dX3_promiseComes_94 ⟨(by simp only [rmm]; omega), (by simp only [rmm]; omega)⟩) rfl ?_
      clear e312
      refine lv_if_eq (tgt := 104) hx hb dX3_promiseComes_97 (by decide) (fun c314 => ?_) (fun c314 => ?_)
      · rw [if_pos c314] at hf
        refine lv_iconst (v := 0) hx hb dX3_promiseComes_104 (by decide) ?_
        exact B105 (some (hZ h20)) 0 h52 _ _ _ _ kc ks _ _ _ hX (lv_sub hl [1, 0] rfl) hf
      · rw [if_neg c314] at hf
        exact B100 (some (hZ h20)) h52 _ _ _ _ kc ks _ _ _ hX (lv_sub hl [1, 0] rfl) hf
  have B41 : ∀ (t0 : Int32) (h_3 : Hp) (ck cs qc qs : Nat) (kc : ck + qc = MC) (ks : cs + qs = MS) (H : Heap) (locs : List Loc) (ls : Array Slot), XX G h s.heap h_3 H locs → lv_has ls 6 [(0, .ref o)] → X_Reader_promiseComes_b41 n o t0 h_3 = some ((res, h1), qc, qs) → W p l e (rmm (422) MC MS (13529)) s m args below meth c H locs ck cs Q (F0 m 41 ls [.int t0, .ref o]) := by
    intro t0 h_3 ck cs qc qs kc ks H locs ls hX hl hf
    rw [X_Reader_promiseComes_b41] at hf
    refine lv_iconst (v := 2) hx hb dX3_promiseComes_41 (by decide) ?_
    obtain ⟨r12, h5, c6, s7, e4, l15, l16, e14⟩ := bdX_e hf
    refine x_doneX (val := (fun _ : Unit => none)) (vx_runV (b := o) (As := [.int t0, .int 2]) (rest := []) ⟨hx, hb, hml, hown, hts⟩ (wx_Reader_must l G hG h_3 n o t0 2 r12 h5 c6 s7 e4) (cwV 2 hts (lw_V q165 q167 qs2 q98 q168) rfl rfl rfl ⟨rfl, cdX3_must⟩ ⟨(by simp only [rmm]; omega), (by simp only [rmm]; omega)⟩) (x_preV (ci := 3) (T := TX3) (N := 9) hK hX _ (hX.tg g0 (by decide)) (by decide) rfl) rfl rfl hl.1 rfl (lv_room (Nat.le_of_ble_eq_true rfl)) dX3_promiseComes_42 ⟨(by simp only [rmm]; omega), (by simp only [rmm]; omega)⟩) hX e14 hth kc ks (fun r13 c8 s9 hf e10 e11 H locs hX => ?_)
    clear e4 l15 l16 e14
    replace kc : (ck + c6) + c8 = MC := by omega
    replace ks : (cs + s7) + s9 = MS := by omega
    clear e10 e11
    refine lv_aload_n hx hb dX3_promiseComes_45 rfl (lv_at hl 0 rfl) ?_
    refine lv_aload_n hx hb dX3_promiseComes_46 rfl (lv_at hl 0 rfl) ?_
    refine x_get (ci := 3) (C := RX3) (T := TX3) (N := 9) hx hb hts in_X3 hown hK.1 hX rfl (hX.tg g0 (by decide)) (by decide) rfl 2 (Nat.le_of_ble_eq_true rfl) (hts _ q266) (fun _ h9 => h9) (hv_int rfl) dX3_promiseComes_47 ?_
    refine lv_iconst (v := 4) hx hb dX3_promiseComes_50 (by decide) ?_
    refine lv_icmp_ge (tgt := 58) hx hb dX3_promiseComes_51 (by decide) (fun c17 => ?_) (fun c17 => ?_)
    · rw [if_pos c17] at hf
      refine lv_iconst (v := 0) hx hb dX3_promiseComes_58 (by decide) ?_
      exact B59 0 h5 _ _ _ _ kc ks _ _ _ hX (lv_sub hl [0] rfl) hf
    · rw [if_neg c17] at hf
      refine lv_iconst (v := 1) hx hb dX3_promiseComes_54 (by decide) ?_
      refine lv_goto (tgt := 59) hx hb dX3_promiseComes_55 (by decide) ?_
      exact B59 1 h5 _ _ _ _ kc ks _ _ _ hX (lv_sub hl [0] rfl) hf
  have B36 : ∀ (h_2 : Hp) (ck cs qc qs : Nat) (kc : ck + qc = MC) (ks : cs + qs = MS) (H : Heap) (locs : List Loc) (ls : Array Slot), XX G h s.heap h_2 H locs → lv_has ls 6 [(0, .ref o)] → X_Reader_promiseComes_b36 n o h_2 = some ((res, h1), qc, qs) → W p l e (rmm (422) MC MS (13529)) s m args below meth c H locs ck cs Q (F0 m 36 ls [.ref o]) := by
    intro h_2 ck cs qc qs kc ks H locs ls hX hl hf
    rw [X_Reader_promiseComes_b36] at hf
    refine lv_iconst (v := 1) hx hb dX3_promiseComes_36 (by decide) ?_
    refine lv_goto (tgt := 41) hx hb dX3_promiseComes_37 (by decide) ?_
    exact B41 1 h_2 _ _ _ _ kc ks _ _ _ hX (lv_sub hl [0] rfl) hf
  refine lv_aload_n hx hb dX3_promiseComes_0 rfl (lv_at hl 0 rfl) ?_
  refine lv_aload_n hx hb dX3_promiseComes_1 rfl (lv_at hl 0 rfl) ?_
  refine x_get (ci := 3) (C := RX3) (T := TX3) (N := 9) hx hb hts in_X3 hown hK.1 hX rfl (hX.tg g0 (by decide)) (by decide) rfl 7 (Nat.le_of_ble_eq_true rfl) (hts _ q271) (fun _ h9 => h9) (hv_int rfl) dX3_promiseComes_2 ?_
  refine lv_iconst (v := 1) hx hb dX3_promiseComes_5 (by decide) ?_
  refine lv_icmp_eq (tgt := 36) hx hb dX3_promiseComes_6 (by decide) (fun c1 => ?_) (fun c1 => ?_)
  · rw [if_pos c1] at hf
    exact B36 h _ _ _ _ kc ks _ _ _ hX (lv_sub hl [0] rfl) hf
  · rw [if_neg c1] at hf
    refine lv_aload_n hx hb dX3_promiseComes_9 rfl (lv_at hl 0 rfl) ?_
    refine lv_bipush (v := 33) hx hb dX3_promiseComes_10 (by decide) ?_
    obtain ⟨r316, e315, hf⟩ := bd_e hf
    refine x_doneP (va_runV (b := o) (As := [.int 33]) (rest := [.ref o]) ⟨hx, hb, hml, hown, hts⟩ (wx_Reader_isSign l G hG h n o 33 r316 e315) (cwV 1 hts (lw_V q300 q302 qs6 q98 q303) rfl rfl rfl ⟨rfl, cdX3_isSign⟩ ⟨(by simp only [rmm]; omega), (by simp only [rmm]; omega)⟩) (x_preV (ci := 3) (T := TX3) (N := 9) hK hX _ (hX.tg g0 (by decide)) (by decide) rfl) rfl rfl hl.1 rfl (lv_room (Nat.le_of_ble_eq_true rfl)) dX3_promiseComes_12 ⟨(by simp only [rmm]; omega), (by simp only [rmm]; omega)⟩) rfl ?_
    clear e315
    refine lv_if_ne (tgt := 36) hx hb dX3_promiseComes_15 (by decide) (fun c317 => ?_) (fun c317 => ?_)
    · rw [if_neg c317] at hf
      exact B36 h _ _ _ _ kc ks _ _ _ hX (lv_sub hl [0] rfl) hf
    · rw [if_pos c317] at hf
      refine lv_aload_n hx hb dX3_promiseComes_18 rfl (lv_at hl 0 rfl) ?_
      refine lv_bipush (v := 40) hx hb dX3_promiseComes_19 (by decide) ?_
      obtain ⟨r319, e318, hf⟩ := bd_e hf
      refine x_doneP (va_runV (b := o) (As := [.int 40]) (rest := [.ref o]) ⟨hx, hb, hml, hown, hts⟩ (wx_Reader_isSign l G hG h n o 40 r319 e318) (cwV 1 hts (lw_V q300 q302 qs6 q98 q303) rfl rfl rfl ⟨rfl, cdX3_isSign⟩ ⟨(by simp only [rmm]; omega), (by simp only [rmm]; omega)⟩) (x_preV (ci := 3) (T := TX3) (N := 9) hK hX _ (hX.tg g0 (by decide)) (by decide) rfl) rfl rfl hl.1 rfl (lv_room (Nat.le_of_ble_eq_true rfl)) dX3_promiseComes_21 ⟨(by simp only [rmm]; omega), (by simp only [rmm]; omega)⟩) rfl ?_
      clear e318
      refine lv_if_ne (tgt := 36) hx hb dX3_promiseComes_24 (by decide) (fun c320 => ?_) (fun c320 => ?_)
      · rw [if_neg c320] at hf
        exact B36 h _ _ _ _ kc ks _ _ _ hX (lv_sub hl [0] rfl) hf
      · rw [if_pos c320] at hf
        refine lv_aload_n hx hb dX3_promiseComes_27 rfl (lv_at hl 0 rfl) ?_
        refine lv_bipush (v := 123) hx hb dX3_promiseComes_28 (by decide) ?_
        obtain ⟨r322, e321, hf⟩ := bd_e hf
        refine x_doneP (va_runV (b := o) (As := [.int 123]) (rest := [.ref o]) ⟨hx, hb, hml, hown, hts⟩ (wx_Reader_isSign l G hG h n o 123 r322 e321) (cwV 1 hts (lw_V q300 q302 qs6 q98 q303) rfl rfl rfl ⟨rfl, cdX3_isSign⟩ ⟨(by simp only [rmm]; omega), (by simp only [rmm]; omega)⟩) (x_preV (ci := 3) (T := TX3) (N := 9) hK hX _ (hX.tg g0 (by decide)) (by decide) rfl) rfl rfl hl.1 rfl (lv_room (Nat.le_of_ble_eq_true rfl)) dX3_promiseComes_30 ⟨(by simp only [rmm]; omega), (by simp only [rmm]; omega)⟩) rfl ?_
        clear e321
        refine lv_if_eq (tgt := 40) hx hb dX3_promiseComes_33 (by decide) (fun c323 => ?_) (fun c323 => ?_)
        · rw [if_pos c323] at hf
          refine lv_iconst (v := 0) hx hb dX3_promiseComes_40 (by decide) ?_
          exact B41 0 h _ _ _ _ kc ks _ _ _ hX (lv_sub hl [0] rfl) hf
        · rw [if_neg c323] at hf
          exact B36 h _ _ _ _ kc ks _ _ _ hX (lv_sub hl [0] rfl) hf
theorem cdX3_all : yX3_all.cls ≠ "java/lang/invoke/MethodHandle" ∧ yX3_all.cls ≠ "java/lang/invoke/VarHandle" ∧ (parseMethodDescriptor yX3_all.desc).map (fun d => d.parameters.length) = some 0 := by decide +kernel
set_option maxHeartbeats 4000000 in
set_option maxRecDepth 100000 in
theorem wx_Reader_all (l : Launch) (G : Gt) (hG : XG G) (h : Hp) (n : Nat) (o : Nat) (res : Sum (Option Nat) Nat) (h1 : Hp) (MC MS : Nat) (hf : X_Reader_all n o h = some ((res, h1), MC, MS)) : vx_Met l yX3_all (ws_ yX3_all cX3_all 1 (some (.object "PromiseTries$Reader"))) (rmm (423) MC MS (13554)) (XP G [.ref o] h) (XQn G (fun r9 : Option Nat => some (va_rf r9)) res h h1) (XCn G res h h1) MC MS (fre h) := by
  rw [X_Reader_all] at hf
  obtain ⟨g0, hf⟩ := gd_e hf
  refine metXr l (by decide) (Nat.le_of_ble_eq_true rfl) (Or.inl ⟨_, rfl⟩) ?_
  intro p e s m args below meth c Q hx hb hts hown hnmd hml hinit hK hW hret hth ls hl
  have hown : s.vm.findClass RX3 = some m.cls := hown
  have hX := XX.start hW
  have kc : 0 + MC = MC := Nat.zero_add _
  have ks : 0 + MS = MS := Nat.zero_add _
  have hl : lv_has ls 1 [(0, .ref o)] := hl
  have B0 : ∀ (f : Nat) (h_1 : Hp) (ck cs qc qs : Nat) (kc : ck + qc = MC) (ks : cs + qs = MS) (H : Heap) (locs : List Loc) (ls : Array Slot), XX G h s.heap h_1 H locs → lv_has ls 1 [(0, .ref o)] → X_Reader_all_b0 n o f h_1 = some ((res, h1), qc, qs) → W p l e (rmm (423) MC MS (13554)) s m args below meth c H locs ck cs Q (F0 m 0 ls []) := by
    intro f
    induction f with
    | zero =>
      intro h_1 ck cs qc qs kc ks H locs ls hX hl hf
      rw [X_Reader_all_b0] at hf
      cases hf
    | succ f hK0 =>
      intro h_1 ck cs qc qs kc ks H locs ls hX hl hf
      rw [X_Reader_all_b0] at hf
      refine lv_aload_n hx hb dX3_all_0 rfl (lv_at hl 0 rfl) ?_
      refine x_get (ci := 3) (C := RX3) (T := TX3) (N := 9) hx hb hts in_X3 hown hK.1 hX rfl (hX.tg g0 (by decide)) (by decide) rfl 7 (Nat.le_of_ble_eq_true rfl) (hts _ q271) (fun _ h9 => h9) (hv_int rfl) dX3_all_1 ?_
      refine lv_if_eq (tgt := 14) hx hb dX3_all_4 (by decide) (fun c2 => ?_) (fun c2 => ?_)
      · rw [if_pos c2] at hf
        refine lv_aload_n hx hb dX3_all_14 rfl (lv_at hl 0 rfl) ?_
        obtain ⟨q1, q2⟩ := Prod.mk.inj (Option.some.inj hf)
        obtain ⟨q2, q3⟩ := Prod.mk.inj q2
        obtain ⟨q0, rfl⟩ := Prod.mk.inj q1
        refine W.cs (cells' := MC) (slots' := MS) (by omega) (by omega) ?_
        exact hret _ _ _ _ _ q0.symm hX dX3_all_15
      · rw [if_neg c2] at hf
        refine lv_aload_n hx hb dX3_all_7 rfl (lv_at hl 0 rfl) ?_
        obtain ⟨r11, h4, c5, s6, e3, l14, l15, e13⟩ := bdX_e hf
        refine x_doneX (val := (fun _ : Unit => none)) (vx_runV (b := o) (As := []) (rest := []) ⟨hx, hb, hml, hown, hts⟩ (wx_Reader_promiseComes l G hG h_1 n o r11 h4 c5 s6 e3) (cwV 0 hts (lw_V q296 q298 qs5 q98 q299) rfl rfl rfl ⟨rfl, cdX3_promiseComes⟩ ⟨(by simp only [rmm]; omega), (by simp only [rmm]; omega)⟩) (x_preV (ci := 3) (T := TX3) (N := 9) hK hX _ (hX.tg g0 (by decide)) (by decide) rfl) rfl rfl hl.1 rfl (lv_room (Nat.le_of_ble_eq_true rfl)) dX3_all_8 ⟨(by simp only [rmm]; omega), (by simp only [rmm]; omega)⟩) hX e13 hth kc ks (fun r12 c7 s8 hf e9 e10 H locs hX => ?_)
        clear e3 l14 l15 e13
        replace kc : (ck + c5) + c7 = MC := by omega
        replace ks : (cs + s6) + s8 = MS := by omega
        clear e9 e10
        refine lv_goto (tgt := 0) hx hb dX3_all_11 (by decide) ?_
        exact hK0 h4 _ _ _ _ kc ks _ _ _ hX (lv_sub hl [0] rfl) hf
  exact B0 n h _ _ _ _ kc ks _ _ _ hX (lv_sub hl [0] rfl) hf
theorem cdX0_text : yX0_text.cls ≠ "java/lang/invoke/MethodHandle" ∧ yX0_text.cls ≠ "java/lang/invoke/VarHandle" ∧ (parseMethodDescriptor yX0_text.desc).map (fun d => d.parameters.length) = some 0 := by decide +kernel
set_option maxHeartbeats 4000000 in
set_option maxRecDepth 100000 in
theorem wx_text (l : Launch) (G : Gt) (hG : XG G) (h : Hp) (n : Nat) (o : Nat) (r : Int32) (h1 : Hp) (MC MS : Nat) (hf : X_text n o h = some ((r, h1), MC, MS)) : vx_Met l yX0_text (wsW_ yX0_text cX0_text 3 (some .int) [(26, 82, 83, 65)]) (rmm (424) MC MS (13574)) (XP G [.ref o] h) (XQ G (some (.int r)) h h1) (fun _ _ _ _ => False) MC MS (fre h) := by
  rw [X_text] at hf
  obtain ⟨g0, hf⟩ := gd_e hf
  refine metHi l (by decide) (Nat.le_of_ble_eq_true rfl) ?_
  intro p e s m args below meth c Q hx hb hts hown hnmd hml hinit hK hW hret htab ls hl
  have hown : s.vm.findClass RX0 = some m.cls := hown
  have hX := XX.start hW
  have kc : 0 + MC = MC := Nat.zero_add _
  have ks : 0 + MS = MS := Nat.zero_add _
  have hl : lv_has ls 3 [(0, .ref o)] := hl
  refine lv_aload_n hx hb dX0_text_0 rfl (lv_at hl 0 rfl) ?_
  refine x_get (ci := 0) (C := RX0) (T := TX0) (N := 16) hx hb hts in_X0 hown hK.1 hX rfl (hX.tg g0 (by decide)) (by decide) rfl 1 (Nat.le_of_ble_eq_true rfl) (hts _ q909) (fun _ h9 => h9) (hv_int rfl) dX0_text_1 ?_
  obtain ⟨g1, hf⟩ := gd_e hf
  obtain ⟨g2, hf⟩ := gd_e hf
  obtain ⟨c3, s4, hf, e5, e6⟩ := ad_e hf
  obtain ⟨h7, eh7, hf⟩ := st_e hf
  refine x_newa (atype := .byte) (t := 2) hx hb (hts _ q258) rfl (by decide) hK hX rfl (fun q => q) (dfl _ ⟨by decide, by decide⟩) g1 (by show _ * _ ≤ _; first | decide | (have := g2; simp only [componentBytes, aTy]; omega)) (by simp only [rmm]; omega) (by simp only [rmm]; omega) dX0_text_4 (fun H hX => ?_)
  replace hX := hX.re eh7
  have g8 : hT h7 (hZ h) = 102 := by rw [eh7]; exact nw_T _ _ _
  clear eh7
  replace kc : (0 + 1) + c3 = MC := by omega
  replace ks : (0 + (Int32.toNatClampNeg (hI h o 1))) + s4 = MS := by omega
  clear e5 e6
  refine lv_astore_n (lv' := [(1, .ref (hZ h)), (0, .ref o)]) hx hb dX0_text_6 rfl hl (by decide) rfl (fun ls hl => ?_)
  refine lv_aload_n hx hb dX0_text_7 rfl (lv_at hl 1 rfl) ?_
  refine x_get (ci := 0) (C := RX0) (T := TX0) (N := 16) hx hb hts in_X0 hown hK.1 hX rfl (hX.tg g0 (by decide)) (by decide) rfl 0 (Nat.le_of_ble_eq_true rfl) (hts _ q908) (fun _ h9 => h9) (hv_ref rfl) dX0_text_8 ?_
  refine lv_iconst (v := 0) hx hb dX0_text_11 (by decide) ?_
  refine lv_aload_n hx hb dX0_text_12 rfl (lv_at hl 0 rfl) ?_
  refine lv_iconst (v := 0) hx hb dX0_text_13 (by decide) ?_
  refine lv_aload_n hx hb dX0_text_14 rfl (lv_at hl 1 rfl) ?_
  refine x_get (ci := 0) (C := RX0) (T := TX0) (N := 16) hx hb hts in_X0 hown hK.1 hX rfl (hX.tg g0 (by decide)) (by decide) rfl 1 (Nat.le_of_ble_eq_true rfl) (hts _ q909) (fun _ h9 => h9) (hv_int rfl) dX0_text_15 ?_
  obtain ⟨a9, e10, hf⟩ := bd_e hf
  obtain ⟨g11, hf⟩ := gd_e hf
  obtain ⟨g12, hf⟩ := gd_e hf
  obtain ⟨g13, hf⟩ := gd_e hf
  obtain ⟨g14, hf⟩ := gd_e hf
  obtain ⟨g15, hf⟩ := gd_e hf
  obtain ⟨h16, eh16, hf⟩ := st_e hf
  refine x_copy hx hb (hml.trans hl.1.symm) hown (hts _ q139) (hts _ q141) (hts _ q140) (hts _ q97) hK hX rfl (rf_some e10) 2 g11 g8 (by decide) rfl rfl rfl (by decide) (by decide) g12 g13 g14 g15 (by simp only [rmm]; omega) (by show _ ≤ _; first | decide | (simp [rmm, nativeFrameWords]; done) | (simp only [rmm]; decide)) dX0_text_18 (fun H locs hX => ?_)
  replace hX := hX.re eh16
  clear eh16
  refine lv_aload_n hx hb dX0_text_21 rfl (lv_at hl 1 rfl) ?_
  refine lv_iconst (v := 0) hx hb dX0_text_22 (by decide) ?_
  obtain ⟨h17, eh17, hf⟩ := st_e hf
  refine x_put (ci := 0) (C := RX0) (T := TX0) (N := 16) hx hb hts in_X0 tyX0 tyX0_ok nmX0 hown hK.1 hX rfl (hX.tg g0 (by decide)) (by decide) rfl 1 (Nat.le_of_ble_eq_true rfl) (hts _ q909) (fun _ h9 => h9) rfl rfl rfl (Put1.fI (x := 0) rfl) dX0_text_23 (fun H locs hX => ?_)
  replace hX := hX.re eh17
  clear eh17
  obtain ⟨c18, s19, hf, e20, e21⟩ := ad_e hf
  obtain ⟨h22, eh22, hf⟩ := st_e hf
  refine x_new (ci := 3) (C := RX3) (T := TX3) (N := 9) hx hb hts in_X3 hown q142 q143 q98 hK hX (by decide) rfl tyX3_ok (fun k hk => dfl _ (dfC3 k hk)) (by simp only [rmm]; omega) (by simp only [rmm]; omega) dX0_text_26 (fun H hX => ?_)
  replace hX := hX.re eh22
  have g23 : hT h22 (hZ h17) = 4 := by rw [eh22]; exact nw_T _ _ _
  clear eh22
  replace kc : ((0 + 1) + 1) + c18 = MC := by omega
  replace ks : ((0 + (Int32.toNatClampNeg (hI h o 1))) + 9) + s19 = MS := by omega
  clear e20 e21
  refine lv_dup hx hb dX0_text_29 rfl ?_
  refine lv_aload_n hx hb dX0_text_30 rfl (lv_at hl 0 rfl) ?_
  obtain ⟨r32, h25, c26, s27, e24, l35, l36, e34⟩ := bdH_e hf
  refine x_doneH (val := (fun _ : Unit => none)) (vx_runI (As := [.ref (hZ h)]) (rest := [.ref (hZ h17)]) ⟨hx, hb, hml, hown, hts⟩ (wx_Reader_init l G hG h22 n (hZ h17) (some (hZ h)) r32 h25 c26 s27 e24) (cwI 1 hts (lw_meth q146) rfl rfl rfl (hts _ q98) (hts _ q144) (hts _ q145) rfl cdX3_init ⟨(by simp only [rmm]; omega), (by simp only [rmm]; omega)⟩) (x_preS hK hX _) rfl rfl hl.1 rfl (lv_room (Nat.le_of_ble_eq_true rfl)) dX0_text_31 ⟨(by simp only [rmm]; omega), (by simp only [rmm]; omega)⟩) hX e34 (fun q37 c28 s29 g38 e39 H locs hX => ?_) (fun r33 c28 s29 e39 H locs hX => ?_)
  · clear e24 l35 l36 e34
    refine x_catchF hown htab rfl (by decide) (hts _ q138) (va_Nw.use rfl (hG.nw hK nq171)) hK hX g38 ?_
    obtain ⟨hf, e30, e31⟩ := e39
    replace kc : (((0 + 1) + 1) + c26) + c28 = MC := by omega
    replace ks : (((0 + (Int32.toNatClampNeg (hI h o 1))) + 9) + s27) + s29 = MS := by omega
    clear e30 e31
    refine lv_astore_n (lv' := [(2, .ref q37), (1, .ref (hZ h)), (0, .ref o)]) hx hb dX0_text_83 rfl hl (by decide) rfl (fun ls hl => ?_)
    refine lv_aload_n hx hb dX0_text_84 rfl (lv_at hl 2 rfl) ?_
    refine lv_aload_n hx hb dX0_text_85 rfl (lv_at hl 0 rfl) ?_
    refine x_getN (ci := 4) (C := RX4) (T := TX4) (N := 8) hx hb hts in_X4 hown hK.1 hX rfl g38 (by decide) rfl 6 (Nat.le_of_ble_eq_true rfl) (hG.nw hK nq238) (fun _ h9 => h9) (hv_int rfl) dX0_text_86 ?_
    obtain ⟨h40, eh40, hf⟩ := st_e hf
    refine x_put (ci := 0) (C := RX0) (T := TX0) (N := 16) hx hb hts in_X0 tyX0 tyX0_ok nmX0 hown hK.1 hX rfl (hX.tg g0 (by decide)) (by decide) rfl 2 (Nat.le_of_ble_eq_true rfl) (hts _ q910) (fun _ h9 => h9) rfl rfl rfl (Put1.fI (x := (hI h25 q37 6)) rfl) dX0_text_89 (fun H locs hX => ?_)
    replace hX := hX.re eh40
    clear eh40
    refine lv_bipush (v := (-10)) hx hb dX0_text_92 (by decide) ?_
    refine lv_aload_n hx hb dX0_text_94 rfl (lv_at hl 0 rfl) ?_
    obtain ⟨g41, hf⟩ := gd_e hf
    refine x_getN (ci := 4) (C := RX4) (T := TX4) (N := 8) hx hb hts in_X4 hown hK.1 hX rfl g41 (by decide) rfl 7 (Nat.le_of_ble_eq_true rfl) (hG.nw hK nq240) (fun _ h9 => h9) (hv_int rfl) dX0_text_95 ?_
    refine lv_isub hx hb dX0_text_98 ?_
    obtain ⟨q1, q2⟩ := Prod.mk.inj (Option.some.inj hf)
    obtain ⟨q2, q3⟩ := Prod.mk.inj q2
    obtain ⟨rfl, rfl⟩ := Prod.mk.inj q1
    refine W.cs (cells' := MC) (slots' := MS) (by omega) (by omega) ?_
    exact hret _ _ _ _ hX rfl dX0_text_99
  · clear e24 l35 l36 e34
    obtain ⟨hf, e30, e31⟩ := e39
    replace kc : (((0 + 1) + 1) + c26) + c28 = MC := by omega
    replace ks : (((0 + (Int32.toNatClampNeg (hI h o 1))) + 9) + s27) + s29 = MS := by omega
    clear e30 e31
    obtain ⟨g43, hf⟩ := gd_e hf
    obtain ⟨r51, h44, c45, s46, e42, l54, l55, e53⟩ := bdH_e hf
    refine x_doneH (val := (fun r9 : Option Nat => some (va_rf r9))) (vx_runV (b := (hZ h17)) (As := []) (rest := []) ⟨hx, hb, hml, hown, hts⟩ (wx_Reader_all l G hG h25 n (hZ h17) r51 h44 c45 s46 e42) (cwV 0 hts (lw_V q292 q293 q294 q98 q295) rfl rfl rfl ⟨rfl, cdX3_all⟩ ⟨(by simp only [rmm]; omega), (by simp only [rmm]; omega)⟩) (x_preV (ci := 3) (T := TX3) (N := 9) hK hX _ g43 (by decide) rfl) rfl rfl hl.1 rfl (lv_room (Nat.le_of_ble_eq_true rfl)) dX0_text_34 ⟨(by simp only [rmm]; omega), (by simp only [rmm]; omega)⟩) hX e53 (fun q56 c47 s48 g57 e58 H locs hX => ?_) (fun r52 c47 s48 e58 H locs hX => ?_)
    · clear e42 l54 l55 e53
      refine x_catchF hown htab rfl (by decide) (hts _ q138) (va_Nw.use rfl (hG.nw hK nq171)) hK hX g57 ?_
      obtain ⟨hf, e49, e50⟩ := e58
      replace kc : ((((0 + 1) + 1) + c26) + c45) + c47 = MC := by omega
      replace ks : ((((0 + (Int32.toNatClampNeg (hI h o 1))) + 9) + s27) + s46) + s48 = MS := by omega
      clear e49 e50
      refine lv_astore_n (lv' := [(2, .ref q56), (1, .ref (hZ h)), (0, .ref o)]) hx hb dX0_text_83 rfl hl (by decide) rfl (fun ls hl => ?_)
      refine lv_aload_n hx hb dX0_text_84 rfl (lv_at hl 2 rfl) ?_
      refine lv_aload_n hx hb dX0_text_85 rfl (lv_at hl 0 rfl) ?_
      refine x_getN (ci := 4) (C := RX4) (T := TX4) (N := 8) hx hb hts in_X4 hown hK.1 hX rfl g57 (by decide) rfl 6 (Nat.le_of_ble_eq_true rfl) (hG.nw hK nq238) (fun _ h9 => h9) (hv_int rfl) dX0_text_86 ?_
      obtain ⟨h59, eh59, hf⟩ := st_e hf
      refine x_put (ci := 0) (C := RX0) (T := TX0) (N := 16) hx hb hts in_X0 tyX0 tyX0_ok nmX0 hown hK.1 hX rfl (hX.tg g0 (by decide)) (by decide) rfl 2 (Nat.le_of_ble_eq_true rfl) (hts _ q910) (fun _ h9 => h9) rfl rfl rfl (Put1.fI (x := (hI h44 q56 6)) rfl) dX0_text_89 (fun H locs hX => ?_)
      replace hX := hX.re eh59
      clear eh59
      refine lv_bipush (v := (-10)) hx hb dX0_text_92 (by decide) ?_
      refine lv_aload_n hx hb dX0_text_94 rfl (lv_at hl 0 rfl) ?_
      obtain ⟨g60, hf⟩ := gd_e hf
      refine x_getN (ci := 4) (C := RX4) (T := TX4) (N := 8) hx hb hts in_X4 hown hK.1 hX rfl g60 (by decide) rfl 7 (Nat.le_of_ble_eq_true rfl) (hG.nw hK nq240) (fun _ h9 => h9) (hv_int rfl) dX0_text_95 ?_
      refine lv_isub hx hb dX0_text_98 ?_
      obtain ⟨q1, q2⟩ := Prod.mk.inj (Option.some.inj hf)
      obtain ⟨q2, q3⟩ := Prod.mk.inj q2
      obtain ⟨rfl, rfl⟩ := Prod.mk.inj q1
      refine W.cs (cells' := MC) (slots' := MS) (by omega) (by omega) ?_
      exact hret _ _ _ _ hX rfl dX0_text_99
    · clear e42 l54 l55 e53
      obtain ⟨hf, e49, e50⟩ := e58
      replace kc : ((((0 + 1) + 1) + c26) + c45) + c47 = MC := by omega
      replace ks : ((((0 + (Int32.toNatClampNeg (hI h o 1))) + 9) + s27) + s46) + s48 = MS := by omega
      clear e49 e50
      refine lx_astore_n (r := r52) (lv' := [(2, va_rf r52), (1, .ref (hZ h)), (0, .ref o)]) hx hb dX0_text_37 rfl hl (by decide) rfl (fun ls hl => ?_)
      refine lv_aload_n hx hb dX0_text_38 rfl (lv_at hl 2 rfl) ?_
      refine lx_aload_n hx hb dX0_text_39 rfl (lv_at hl 0 rfl) ?_
      obtain ⟨a61, e62, hf⟩ := bd_e hf
      obtain ⟨g63, hf⟩ := gd_e hf
      refine x_getN (ci := 3) (C := RX3) (T := TX3) (N := 9) hx hb hts in_X3 hown hK.1 hX (rf_some e62) g63 (by decide) rfl 1 (Nat.le_of_ble_eq_true rfl) (hG.nw hK nq264) (fun _ h9 => h9) (hv_ref rfl) dX0_text_40 ?_
      obtain ⟨h64, eh64, hf⟩ := st_e hf
      refine x_put (ci := 0) (C := RX0) (T := TX0) (N := 16) hx hb hts in_X0 tyX0 tyX0_ok nmX0 hown hK.1 hX rfl (hX.tg g0 (by decide)) (by decide) rfl 3 (Nat.le_of_ble_eq_true rfl) (hts _ q911) (fun _ h9 => h9) rfl (narrow_rfA _ (hR h44 a61 1)) (fits_rfA _ (hR h44 a61 1)) (Put1.fR (x := (hR h44 a61 1)) rfl) dX0_text_43 (fun H locs hX => ?_)
      replace hX := hX.re eh64
      clear eh64
      refine lv_aload_n hx hb dX0_text_46 rfl (lv_at hl 2 rfl) ?_
      refine lx_aload_n hx hb dX0_text_47 rfl (lv_at hl 0 rfl) ?_
      obtain ⟨g65, hf⟩ := gd_e hf
      refine x_getN (ci := 3) (C := RX3) (T := TX3) (N := 9) hx hb hts in_X3 hown hK.1 hX (rf_some e62) g65 (by decide) rfl 2 (Nat.le_of_ble_eq_true rfl) (hG.nw hK nq265) (fun _ h9 => h9) (hv_int rfl) dX0_text_48 ?_
      obtain ⟨h66, eh66, hf⟩ := st_e hf
      refine x_put (ci := 0) (C := RX0) (T := TX0) (N := 16) hx hb hts in_X0 tyX0 tyX0_ok nmX0 hown hK.1 hX rfl (hX.tg g0 (by decide)) (by decide) rfl 4 (Nat.le_of_ble_eq_true rfl) (hts _ q912) (fun _ h9 => h9) rfl rfl rfl (Put1.fI (x := (hI h64 a61 2)) rfl) dX0_text_51 (fun H locs hX => ?_)
      replace hX := hX.re eh66
      clear eh66
      refine lv_aload_n hx hb dX0_text_54 rfl (lv_at hl 2 rfl) ?_
      refine x_get (ci := 0) (C := RX0) (T := TX0) (N := 16) hx hb hts in_X0 hown hK.1 hX rfl (hX.tg g0 (by decide)) (by decide) rfl 12 (Nat.le_of_ble_eq_true rfl) (hts _ q920) (fun _ h9 => h9) (hv_ref rfl) dX0_text_55 ?_
      refine lv_iconst (v := 0) hx hb dX0_text_58 (by decide) ?_
      refine lx_null hx hb dX0_text_59 ?_
      obtain ⟨a67, e68, hf⟩ := bd_e hf
      obtain ⟨g69, hf⟩ := gd_e hf
      obtain ⟨g70, hf⟩ := gd_e hf
      obtain ⟨h71, eh71, hf⟩ := st_e hf
      refine x_aastN hx hb hK hX (rf_some e68) 10 g69 (by decide) rfl rfl rfl g70 dX0_text_60 (fun H locs hX => ?_)
      replace hX := hX.re eh71
      clear eh71
      refine lv_aload_n hx hb dX0_text_61 rfl (lv_at hl 2 rfl) ?_
      refine x_get (ci := 0) (C := RX0) (T := TX0) (N := 16) hx hb hts in_X0 hown hK.1 hX rfl (hX.tg g0 (by decide)) (by decide) rfl 12 (Nat.le_of_ble_eq_true rfl) (hts _ q920) (fun _ h9 => h9) (hv_ref rfl) dX0_text_62 ?_
      refine lv_iconst (v := 1) hx hb dX0_text_65 (by decide) ?_
      refine lx_null hx hb dX0_text_66 ?_
      obtain ⟨a72, e73, hf⟩ := bd_e hf
      obtain ⟨g74, hf⟩ := gd_e hf
      obtain ⟨g75, hf⟩ := gd_e hf
      obtain ⟨h76, eh76, hf⟩ := st_e hf
      refine x_aastN hx hb hK hX (rf_some e73) 10 g74 (by decide) rfl rfl rfl g75 dX0_text_67 (fun H locs hX => ?_)
      replace hX := hX.re eh76
      clear eh76
      refine lv_aload_n hx hb dX0_text_68 rfl (lv_at hl 2 rfl) ?_
      refine lv_iconst (v := 0) hx hb dX0_text_69 (by decide) ?_
      obtain ⟨h77, eh77, hf⟩ := st_e hf
      refine x_put (ci := 0) (C := RX0) (T := TX0) (N := 16) hx hb hts in_X0 tyX0 tyX0_ok nmX0 hown hK.1 hX rfl (hX.tg g0 (by decide)) (by decide) rfl 7 (Nat.le_of_ble_eq_true rfl) (hts _ q915) (fun _ h9 => h9) rfl rfl rfl (Put1.fI (x := 0) rfl) dX0_text_70 (fun H locs hX => ?_)
      replace hX := hX.re eh77
      clear eh77
      refine lv_aload_n hx hb dX0_text_73 rfl (lv_at hl 2 rfl) ?_
      refine lv_iconst (v := 0) hx hb dX0_text_74 (by decide) ?_
      obtain ⟨h78, eh78, hf⟩ := st_e hf
      refine x_put (ci := 0) (C := RX0) (T := TX0) (N := 16) hx hb hts in_X0 tyX0 tyX0_ok nmX0 hown hK.1 hX rfl (hX.tg g0 (by decide)) (by decide) rfl 2 (Nat.le_of_ble_eq_true rfl) (hts _ q910) (fun _ h9 => h9) rfl rfl rfl (Put1.fI (x := 0) rfl) dX0_text_75 (fun H locs hX => ?_)
      replace hX := hX.re eh78
      clear eh78
      refine lv_aload_n hx hb dX0_text_78 rfl (lv_at hl 2 rfl) ?_
      refine x_get (ci := 0) (C := RX0) (T := TX0) (N := 16) hx hb hts in_X0 hown hK.1 hX rfl (hX.tg g0 (by decide)) (by decide) rfl 4 (Nat.le_of_ble_eq_true rfl) (hts _ q912) (fun _ h9 => h9) (hv_int rfl) dX0_text_79 ?_
      obtain ⟨q1, q2⟩ := Prod.mk.inj (Option.some.inj hf)
      obtain ⟨q2, q3⟩ := Prod.mk.inj q2
      obtain ⟨rfl, rfl⟩ := Prod.mk.inj q1
      refine W.cs (cells' := MC) (slots' := MS) (by omega) (by omega) ?_
      exact hret _ _ _ _ hX rfl dX0_text_82
theorem cdX0_fault : yX0_fault.cls ≠ "java/lang/invoke/MethodHandle" ∧ yX0_fault.cls ≠ "java/lang/invoke/VarHandle" ∧ (parseMethodDescriptor yX0_fault.desc).map (fun d => d.parameters.length) = some 0 := by decide +kernel
set_option maxHeartbeats 4000000 in
set_option maxRecDepth 100000 in
theorem wx_fault (l : Launch) (G : Gt) (hG : XG G) (h : Hp) (n : Nat) (o : Nat) (r : Int32) (hf : X_fault n o h = some r) : Met l yX0_fault (ws_ yX0_fault cX0_fault 1 (some .int)) (rmm (0) 0 0 (0)) (XP G [.ref o] h) (XQp (some (.int r))) 0 0 (fun _ => False) := by
  rw [X_fault] at hf
  obtain ⟨g0, hf⟩ := gd_e hf
  refine metPi l (by decide) (Nat.le_of_ble_eq_true rfl) ?_
  intro p e s m args below meth c Q hx hb hts hown hnmd hml hinit hK hW hret ls hl
  have hown : s.vm.findClass RX0 = some m.cls := hown
  have hX := XX.start hW
  have hl : lv_has ls 1 [(0, .ref o)] := hl
  refine lv_aload_n hx hb dX0_fault_0 rfl (lv_at hl 0 rfl) ?_
  refine x_get (ci := 0) (C := RX0) (T := TX0) (N := 16) hx hb hts in_X0 hown hK.1 hX rfl g0 (by decide) rfl 2 (Nat.le_of_ble_eq_true rfl) (hts _ q910) (fun _ h9 => h9) (hv_int rfl) dX0_fault_1 ?_
  obtain rfl := Option.some.inj hf
  exact hret _ _ rfl dX0_fault_4
theorem cdX13_taking : yX13_taking.cls ≠ "java/lang/invoke/MethodHandle" ∧ yX13_taking.cls ≠ "java/lang/invoke/VarHandle" ∧ (parseMethodDescriptor yX13_taking.desc).map (fun d => d.parameters.length) = some 2 := by decide +kernel
set_option maxHeartbeats 4000000 in
set_option maxRecDepth 100000 in
theorem wx_Machine_taking (l : Launch) (G : Gt) (hG : XG G) (h : Hp) (n : Nat) (o : Nat) (p1 : Int64) (p3 : Int32) (r : Int64) (hf : X_Machine_taking n o p1 p3 h = some r) : Met l yX13_taking (ws_ yX13_taking cX13_taking 7 (some .long)) (rmm (420) 0 0 (13440)) (XP G [.ref o, .long p1, .int p3] h) (XQp (some (.long r))) 0 0 (fun _ => False) := by
  rw [X_Machine_taking] at hf
  obtain ⟨g0, hf⟩ := gd_e hf
  refine metPl l (by decide) (Nat.le_of_ble_eq_true rfl) ?_
  intro p e s m args below meth c Q hx hb hts hown hnmd hml hinit hK hW hret ls hl
  have hown : s.vm.findClass RX13 = some m.cls := hown
  have hX := XX.start hW
  have hl : lv_has ls 7 [(0, .ref o), (1, .long p1), (3, .int p3)] := hl
  have B52 : ∀ (K6 : Int64 → Int32 → Int64 → Int32 → Option (Int64)) (hK6 : ∀ (v1 : Int64) (v3 : Int32) (v4 : Int64) (v6 : Int32) (ls : Array Slot), lv_has ls 7 [(0, .ref o), (1, .long v1), (3, .int v3), (4, .long v4), (6, .int v6)] → K6 v1 v3 v4 v6 = some r → W p l e (rmm (420) 0 0 (13440)) s m args below meth c s.heap [] 0 0 Q (F0 m 6 ls [])) (v1 : Int64) (v3 : Int32) (v6 : Int32) (t0 : Int64) (t1 : Int64) (ls : Array Slot), lv_has ls 7 [(0, .ref o), (1, .long v1), (3, .int v3), (6, .int v6)] → X_Machine_taking_b52 n o K6 h v1 v3 v6 t0 t1 = some r → W p l e (rmm (420) 0 0 (13440)) s m args below meth c s.heap [] 0 0 Q (F0 m 52 ls [.long t0, .long t1]) := by
    intro K6 hK6 v1 v3 v6 t0 t1 ls hl hf
    rw [X_Machine_taking_b52] at hf
    refine lv_lor hx hb dX13_taking_52 ?_
    refine lv_lstore (lv' := [(4, .long (t1 ||| t0)), (0, .ref o), (1, .long v1), (3, .int v3), (6, .int v6)]) hx hb dX13_taking_53 hl (by decide) rfl (fun ls hl => ?_)
    refine lv_iinc (v := (v6 + 1)) (lv' := [(6, .int (v6 + 1)), (4, .long (t1 ||| t0)), (0, .ref o), (1, .long v1), (3, .int v3)]) hx hb dX13_taking_55 hl (k := 4) rfl rfl (by decide) rfl (fun ls hl => ?_)
    refine lv_goto (tgt := 6) hx hb dX13_taking_58 (by decide) ?_
    exact hK6 v1 v3 (t1 ||| t0) (v6 + 1) _ (lv_sub hl [2, 3, 4, 1, 0] rfl) hf
  have B51 : ∀ (K6 : Int64 → Int32 → Int64 → Int32 → Option (Int64)) (hK6 : ∀ (v1 : Int64) (v3 : Int32) (v4 : Int64) (v6 : Int32) (ls : Array Slot), lv_has ls 7 [(0, .ref o), (1, .long v1), (3, .int v3), (4, .long v4), (6, .int v6)] → K6 v1 v3 v4 v6 = some r → W p l e (rmm (420) 0 0 (13440)) s m args below meth c s.heap [] 0 0 Q (F0 m 6 ls [])) (v1 : Int64) (v3 : Int32) (v6 : Int32) (t0 : Int64) (ls : Array Slot), lv_has ls 7 [(0, .ref o), (1, .long v1), (3, .int v3), (6, .int v6)] → X_Machine_taking_b51 n o K6 h v1 v3 v6 t0 = some r → W p l e (rmm (420) 0 0 (13440)) s m args below meth c s.heap [] 0 0 Q (F0 m 51 ls [.long t0]) := by
    intro K6 hK6 v1 v3 v6 t0 ls hl hf
    rw [X_Machine_taking_b51] at hf
    refine lv_lconst (v := 0) hx hb dX13_taking_51 (by decide) ?_
    exact B52 K6 hK6 v1 v3 v6 0 t0 _ (lv_sub hl [0, 1, 2, 3] rfl) hf
  have B6 : ∀ (f : Nat) (v1 : Int64) (v3 : Int32) (v4 : Int64) (v6 : Int32) (ls : Array Slot), lv_has ls 7 [(0, .ref o), (1, .long v1), (3, .int v3), (4, .long v4), (6, .int v6)] → X_Machine_taking_b6 n o h f v1 v3 v4 v6 = some r → W p l e (rmm (420) 0 0 (13440)) s m args below meth c s.heap [] 0 0 Q (F0 m 6 ls []) := by
    intro f
    induction f with
    | zero =>
      intro v1 v3 v4 v6 ls hl hf
      rw [X_Machine_taking_b6] at hf
      cases hf
    | succ f hK6 =>
      intro v1 v3 v4 v6 ls hl hf
      rw [X_Machine_taking_b6] at hf
      refine lv_iload hx hb dX13_taking_6 (lv_at hl 4 rfl) ?_
      refine lv_aload_n hx hb dX13_taking_8 rfl (lv_at hl 0 rfl) ?_
      refine x_get (ci := 11) (C := RX13) (T := TX13) (N := 6) hx hb hts in_X13 hown hK.1 hX rfl g0 (by decide) rfl 2 (Nat.le_of_ble_eq_true rfl) (hts _ q550) (fun _ h9 => h9) (hv_int rfl) dX13_taking_9 ?_
      refine lv_icmp_ge (tgt := 61) hx hb dX13_taking_12 (by decide) (fun c1 => ?_) (fun c1 => ?_)
      · rw [if_pos c1] at hf
        refine lv_lload hx hb dX13_taking_61 (lv_at hl 3 rfl) ?_
        obtain rfl := Option.some.inj hf
        exact hret _ _ dX13_taking_63
      · rw [if_neg c1] at hf
        refine lv_lload hx hb dX13_taking_15 (lv_at hl 3 rfl) ?_
        refine lv_lload_n hx hb dX13_taking_17 rfl (lv_at hl 1 rfl) ?_
        refine lv_iload hx hb dX13_taking_18 (lv_at hl 4 rfl) ?_
        refine lv_lshr hx hb dX13_taking_20 rfl ?_
        refine lv_lconst (v := 1) hx hb dX13_taking_21 (by decide) ?_
        refine lv_land hx hb dX13_taking_22 ?_
        refine lv_lconst (v := 1) hx hb dX13_taking_23 (by decide) ?_
        refine W.lcmp hx hb dX13_taking_24 ?_
        refine lv_if_ne (tgt := 51) hx hb dX13_taking_25 (by decide) (fun c2 => ?_) (fun c2 => ?_)
        · rw [if_neg c2] at hf
          exact B51 (X_Machine_taking_b6 n o h f) hK6 v1 v3 v6 v4 _ (lv_sub hl [0, 1, 2, 4] rfl) hf
        · rw [if_pos c2] at hf
          refine lv_aload_n hx hb dX13_taking_28 rfl (lv_at hl 0 rfl) ?_
          refine x_get (ci := 11) (C := RX13) (T := TX13) (N := 6) hx hb hts in_X13 hown hK.1 hX rfl g0 (by decide) rfl 0 (Nat.le_of_ble_eq_true rfl) (hts _ q548) (fun _ h9 => h9) (hv_ref rfl) dX13_taking_29 ?_
          refine lv_iload hx hb dX13_taking_32 (lv_at hl 4 rfl) ?_
          obtain ⟨a3, e4, hf⟩ := bd_e hf
          obtain ⟨g5, hf⟩ := gd_e hf
          obtain ⟨g6, hf⟩ := gd_e hf
          refine x_aald hx hb hK.1 hX (rf_some e4) 5 g5 (by decide) rfl rfl rfl g6 dX13_taking_34 ?_
          refine lv_iload_n hx hb dX13_taking_35 rfl (lv_at hl 2 rfl) ?_
          obtain ⟨a7, e8, hf⟩ := bd_e hf
          obtain ⟨r9, e10, hf⟩ := bd_e hf
          refine x_at hG hx hb hml hts hown hK hX (rf_some e8) (at_ok l G hG 209 _ _ _ _ e10) q669 hl.1 (Nat.le_of_ble_eq_true rfl) (Nat.le_of_ble_eq_true rfl) (Nat.le_of_ble_eq_true rfl) ⟨(by simp only [rmm]; omega), (by simp only [rmm]; omega)⟩ dX13_taking_36 ?_
          clear e10
          refine lv_if_eq (tgt := 51) hx hb dX13_taking_41 (by decide) (fun c11 => ?_) (fun c11 => ?_)
          · rw [if_pos c11] at hf
            exact B51 (X_Machine_taking_b6 n o h f) hK6 v1 v3 v6 v4 _ (lv_sub hl [0, 1, 2, 4] rfl) hf
          · rw [if_neg c11] at hf
            refine lv_lconst (v := 1) hx hb dX13_taking_44 (by decide) ?_
            refine lv_iload hx hb dX13_taking_45 (lv_at hl 4 rfl) ?_
            refine lv_lshl hx hb dX13_taking_47 rfl ?_
            refine lv_goto (tgt := 52) hx hb dX13_taking_48 (by decide) ?_
            exact B52 (X_Machine_taking_b6 n o h f) hK6 v1 v3 v6 (1 <<< (Int32.toInt64 v6 &&& 63)) v4 _ (lv_sub hl [0, 1, 2, 4] rfl) hf
  refine lv_lconst (v := 0) hx hb dX13_taking_0 (by decide) ?_
  refine lv_lstore (lv' := [(4, .long 0), (0, .ref o), (1, .long p1), (3, .int p3)]) hx hb dX13_taking_1 hl (by decide) rfl (fun ls hl => ?_)
  refine lv_iconst (v := 0) hx hb dX13_taking_3 (by decide) ?_
  refine lv_istore (lv' := [(6, .int 0), (4, .long 0), (0, .ref o), (1, .long p1), (3, .int p3)]) hx hb dX13_taking_4 hl (by decide) rfl (fun ls hl => ?_)
  exact B6 n p1 p3 0 0 _ (lv_sub hl [2, 3, 4, 1, 0] rfl) hf
theorem cdX13_behindAll : yX13_behindAll.cls ≠ "java/lang/invoke/MethodHandle" ∧ yX13_behindAll.cls ≠ "java/lang/invoke/VarHandle" ∧ (parseMethodDescriptor yX13_behindAll.desc).map (fun d => d.parameters.length) = some 1 := by decide +kernel
set_option maxHeartbeats 4000000 in
set_option maxRecDepth 100000 in
theorem wx_Machine_behindAll (l : Launch) (G : Gt) (hG : XG G) (h : Hp) (n : Nat) (o : Nat) (p1 : Int64) (r : Int64) (hf : X_Machine_behindAll n o p1 h = some r) : Met l yX13_behindAll (ws_ yX13_behindAll cX13_behindAll 6 (some .long)) (rmm (0) 0 0 (0)) (XP G [.ref o, .long p1] h) (XQp (some (.long r))) 0 0 (fun _ => False) := by
  rw [X_Machine_behindAll] at hf
  obtain ⟨g0, hf⟩ := gd_e hf
  refine metPl l (by decide) (Nat.le_of_ble_eq_true rfl) ?_
  intro p e s m args below meth c Q hx hb hts hown hnmd hml hinit hK hW hret ls hl
  have hown : s.vm.findClass RX13 = some m.cls := hown
  have hX := XX.start hW
  have hl : lv_has ls 6 [(0, .ref o), (1, .long p1)] := hl
  have B37 : ∀ (K5 : Int64 → Int64 → Int32 → Option (Int64)) (hK5 : ∀ (v1 : Int64) (v3 : Int64) (v5 : Int32) (ls : Array Slot), lv_has ls 6 [(0, .ref o), (1, .long v1), (3, .long v3), (5, .int v5)] → K5 v1 v3 v5 = some r → W p l e (rmm (0) 0 0 (0)) s m args below meth c s.heap [] 0 0 Q (F0 m 5 ls [])) (v1 : Int64) (v5 : Int32) (t0 : Int64) (t1 : Int64) (ls : Array Slot), lv_has ls 6 [(0, .ref o), (1, .long v1), (5, .int v5)] → X_Machine_behindAll_b37 n o K5 h v1 v5 t0 t1 = some r → W p l e (rmm (0) 0 0 (0)) s m args below meth c s.heap [] 0 0 Q (F0 m 37 ls [.long t0, .long t1]) := by
    intro K5 hK5 v1 v5 t0 t1 ls hl hf
    rw [X_Machine_behindAll_b37] at hf
    refine lv_lor hx hb dX13_behindAll_37 ?_
    refine lv_lstore_n (lv' := [(3, .long (t1 ||| t0)), (0, .ref o), (1, .long v1), (5, .int v5)]) hx hb dX13_behindAll_38 rfl hl (by decide) rfl (fun ls hl => ?_)
    refine lv_iinc (v := (v5 + 1)) (lv' := [(5, .int (v5 + 1)), (3, .long (t1 ||| t0)), (0, .ref o), (1, .long v1)]) hx hb dX13_behindAll_39 hl (k := 3) rfl rfl (by decide) rfl (fun ls hl => ?_)
    refine lv_goto (tgt := 5) hx hb dX13_behindAll_42 (by decide) ?_
    exact hK5 v1 (t1 ||| t0) (v5 + 1) _ (lv_sub hl [2, 3, 1, 0] rfl) hf
  have B5 : ∀ (f : Nat) (v1 : Int64) (v3 : Int64) (v5 : Int32) (ls : Array Slot), lv_has ls 6 [(0, .ref o), (1, .long v1), (3, .long v3), (5, .int v5)] → X_Machine_behindAll_b5 n o h f v1 v3 v5 = some r → W p l e (rmm (0) 0 0 (0)) s m args below meth c s.heap [] 0 0 Q (F0 m 5 ls []) := by
    intro f
    induction f with
    | zero =>
      intro v1 v3 v5 ls hl hf
      rw [X_Machine_behindAll_b5] at hf
      cases hf
    | succ f hK5 =>
      intro v1 v3 v5 ls hl hf
      rw [X_Machine_behindAll_b5] at hf
      refine lv_iload hx hb dX13_behindAll_5 (lv_at hl 3 rfl) ?_
      refine lv_aload_n hx hb dX13_behindAll_7 rfl (lv_at hl 0 rfl) ?_
      refine x_get (ci := 11) (C := RX13) (T := TX13) (N := 6) hx hb hts in_X13 hown hK.1 hX rfl g0 (by decide) rfl 2 (Nat.le_of_ble_eq_true rfl) (hts _ q550) (fun _ h9 => h9) (hv_int rfl) dX13_behindAll_8 ?_
      refine lv_icmp_ge (tgt := 45) hx hb dX13_behindAll_11 (by decide) (fun c1 => ?_) (fun c1 => ?_)
      · rw [if_pos c1] at hf
        refine lv_lload_n hx hb dX13_behindAll_45 rfl (lv_at hl 2 rfl) ?_
        obtain rfl := Option.some.inj hf
        exact hret _ _ dX13_behindAll_46
      · rw [if_neg c1] at hf
        refine lv_lload_n hx hb dX13_behindAll_14 rfl (lv_at hl 2 rfl) ?_
        refine lv_lload_n hx hb dX13_behindAll_15 rfl (lv_at hl 1 rfl) ?_
        refine lv_iload hx hb dX13_behindAll_16 (lv_at hl 3 rfl) ?_
        refine lv_lshr hx hb dX13_behindAll_18 rfl ?_
        refine lv_lconst (v := 1) hx hb dX13_behindAll_19 (by decide) ?_
        refine lv_land hx hb dX13_behindAll_20 ?_
        refine lv_lconst (v := 1) hx hb dX13_behindAll_21 (by decide) ?_
        refine W.lcmp hx hb dX13_behindAll_22 ?_
        refine lv_if_ne (tgt := 36) hx hb dX13_behindAll_23 (by decide) (fun c2 => ?_) (fun c2 => ?_)
        · rw [if_neg c2] at hf
          refine lv_lconst (v := 0) hx hb dX13_behindAll_36 (by decide) ?_
          exact B37 (X_Machine_behindAll_b5 n o h f) hK5 v1 v5 0 v3 _ (lv_sub hl [0, 1, 3] rfl) hf
        · rw [if_pos c2] at hf
          refine lv_aload_n hx hb dX13_behindAll_26 rfl (lv_at hl 0 rfl) ?_
          refine x_get (ci := 11) (C := RX13) (T := TX13) (N := 6) hx hb hts in_X13 hown hK.1 hX rfl g0 (by decide) rfl 1 (Nat.le_of_ble_eq_true rfl) (hts _ q549) (fun _ h9 => h9) (hv_ref rfl) dX13_behindAll_27 ?_
          refine lv_iload hx hb dX13_behindAll_30 (lv_at hl 3 rfl) ?_
          obtain ⟨a3, e4, hf⟩ := bd_e hf
          obtain ⟨g5, hf⟩ := gd_e hf
          obtain ⟨g6, hf⟩ := gd_e hf
          refine x_lald hx hb hK.1 hX (rf_some e4) g5 g6 dX13_behindAll_32 ?_
          refine lv_goto (tgt := 37) hx hb dX13_behindAll_33 (by decide) ?_
          exact B37 (X_Machine_behindAll_b5 n o h f) hK5 v1 v5 (hL h a3 (Int32.toNatClampNeg v5)) v3 _ (lv_sub hl [0, 1, 3] rfl) hf
  refine lv_lconst (v := 0) hx hb dX13_behindAll_0 (by decide) ?_
  refine lv_lstore_n (lv' := [(3, .long 0), (0, .ref o), (1, .long p1)]) hx hb dX13_behindAll_1 rfl hl (by decide) rfl (fun ls hl => ?_)
  refine lv_iconst (v := 0) hx hb dX13_behindAll_2 (by decide) ?_
  refine lv_istore (lv' := [(5, .int 0), (3, .long 0), (0, .ref o), (1, .long p1)]) hx hb dX13_behindAll_3 hl (by decide) rfl (fun ls hl => ?_)
  exact B5 n p1 0 0 _ (lv_sub hl [2, 3, 1, 0] rfl) hf
