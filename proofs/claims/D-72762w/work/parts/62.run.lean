/-! run -/
theorem metRz (l : Launch) {y : MethodName} {cc : ByteArray} {maxL : Nat} {rm : Room} {G : Gt} {h h1 : Hp} {vs : List Value} {r : Int32} {mc ms : Nat} (hy : plainName y.cls = true) (hn : (lg_sl vs).length ≤ maxL)
    (body : ∀ (p : Program) (e : Env) (s : State) (m : MethodId) (args : Array Value) (below : List Frame) (meth : Method) (c : Code) (Q : State → Prop), p.tables.exec = Jvm.exec → c.code = cc → (∀ w ∈ lw_all, w.before args s = true) → s.vm.findClass y.cls = some m.cls → c.maxLocals = maxL → meth.locks = false → KK G s → XW G h s.heap →
      (∀ (z : Nat) (H : Heap) (locs : List Loc) (cells slots pc : Nat) (ls : Array Slot), XX G h s.heap (hzz h1 z) H locs → cells ≤ mc → slots ≤ ms → decode cc pc = .ok (.ireturn, 1) → W p l e rm s m args below meth c H locs cells slots Q (F0 m pc ls [.int r])) →
      ∀ ls : Array Slot, lv_has ls maxL (lv_args 0 vs) → W p l e rm s m args below meth c s.heap [] 0 0 Q (F0 m 0 ls [])) : vx_Met l y (ws_ y cc maxL (some .int)) rm (XP G vs h) (XQz G r h h1) (fun _ _ _ _ => False) mc ms (fre h) := by
  refine vx_ofW (cc := cc) (maxL := maxL) (ret := (some .int)) hy rfl ?_
  intro p e s m args below meth c s₁ B hml hT0 hv
  obtain ⟨rfl, hK, hW⟩ := hv
  have hx := B.exec
  have hb := B.bytes
  have hr := B.returns
  have hlocks := B.notSynchronized
  have hts := atoms_spec (ws := ws_ y cc maxL (some .int)) B.pre
  have hl := lv_entry vs hn
  rw [lg_entry_eq]
  refine body p e s m _ below meth c _ hx hb (fun w h => hts w (List.mem_cons_of_mem _ h)) (findClass_of_methodNamed B.named) hml hlocks hK hW ?_ _ hl
  intro z H locs cells slots pc ls hX h1 h2 hdg
  refine W.widen h1 h2 ?_
  exact vx_ret (W.zret (v := r) (ty := .int) hx hb hr rfl (fun t ht hW9 => ⟨rfl, z, by rw [ht]; exact hX.1, hX.2.1, hX.2.2.F ht⟩) hX.2.2.2.2 hdg hlocks)
theorem x_doneZ {p : Program} {l : Launch} {e : Env} {R : Room} {s : State} {m : MethodId} {args : Array Value} {below : List Frame} {meth : Method} {c : Code} {H : Heap} {locs : List Loc} {cells slots : Nat} {Q : State → Prop} {pc : Nat} {ls : Array Slot} {rest st0 : List Value} {G : Gt} {h h0 h1 : Hp} {H0 : Heap} {mc ms : Nat} {r : Int32} {A : Array Value} (hr : vx_Run p l e R s m args below meth c H locs cells slots mc ms (F0 m pc ls st0) rest (XQz G r h h1 A) (fun _ _ _ _ => False) (fre h)) (hX : XX G h0 H0 h H locs)
    (kk : ∀ (z : Nat) (H1 : Heap) (locs1 : List Loc), XX G h0 H0 (hzz h1 z) H1 locs1 → W p l e R s m args below meth c H1 locs1 (cells + mc) (slots + ms) Q (F0 m (pc + 3) ls (.int r :: rest))) : W p l e R s m args below meth c H locs cells slots Q (F0 m pc ls st0) := by
  intro T hT X
  rcases hr T hT X with ⟨v, st₀, t, T', L, h0', X', hL, e1, e2, ⟨hv, z, hw, he, hz, hk⟩, st⟩ | ⟨q, st₀, t, T', L, E, ce, h0', X', hL, e1, e2, hF, hce, hcv, hcl, st⟩
  · cases hv
    rw [h0'] at hz hk
    obtain ⟨t2, a1, b1⟩ := kk z T'.heap (locs ++ L) ⟨by rw [e1]; exact hw, hX.2.1.tr he, ⟨Nat.le_trans hX.2.2.1 (by rw [e1]; exact hz), fun q q1 q2 => by rw [e1, hk q (Nat.lt_of_lt_of_le q1 hX.2.2.1) (fun z => q2 (hX.2.1.fre z))]; exact hX.2.2.2.1 q q1 q2, fun q hq => by
      rcases List.mem_append.mp hq with z | z
      · exact hX.2.2.2.2 q z
      · exact hX.2.1.fre (hL q z)⟩⟩ T' rfl X'
    exact ⟨t2, st t2 a1, b1⟩
  · exact hF.elim
theorem cdX0_comesBy : yX0_comesBy.cls ≠ "java/lang/invoke/MethodHandle" ∧ yX0_comesBy.cls ≠ "java/lang/invoke/VarHandle" ∧ (parseMethodDescriptor yX0_comesBy.desc).map (fun d => d.parameters.length) = some 4 := by decide +kernel
def X_run (n o : Nat) (k lane f nn : Int32) (h : Hp) : Option (Int32 × Hp) := gd (hT h o = 1) <| bd (X_isSheet n k lane) fun r => if r = 0 then some (-1, h) else bd (X_isIn n nn.toInt64 0 20) fun r2 => if r2 = 0 then some (-1, h) else bd (hR h o 13) fun a => gd (hT h a = 108) <| gd (¬ (k < 0 ∨ hN h a ≤ k.toNatClampNeg)) <| bd (hR h a k.toNatClampNeg) fun s => gd (hT h s = 2) <| bd (hR h o 14) fun b => gd (hT h b = 109) <| gd (¬ (lane < 0 ∨ hN h b ≤ lane.toNatClampNeg)) <| X_comesBy n o (hR h s 0) (hR h b lane.toNatClampNeg) f nn h
set_option maxHeartbeats 4000000 in
set_option maxRecDepth 100000 in
theorem wx_run (l : Launch) (hl0 : l.stackTraces = false) (G : Gt) (hG : XG G) (h : Hp) (n o : Nat) (k lane f nn r : Int32) (h1 : Hp) (hf : X_run n o k lane f nn h = some (r, h1)) : vx_Met l yX0_run (ws_ yX0_run cX0_run 5 (some .int)) (rmm 13 66 22220 10600) (XP G [.ref o, .int k, .int lane, .int f, .int nn] h) (XQz G r h h1) (fun _ _ _ _ => False) 66 22220 (fre h) := by
  unfold X_run at hf
  obtain ⟨g0, hf1⟩ := gd_e hf
  obtain ⟨r1, e1, hf2⟩ := bd_e hf1
  refine metRz l (by decide) (Nat.le_of_ble_eq_true rfl) ?_
  intro p e s m args below meth c Q hx hb hts hown hml hlocks hK hW hret ls hl
  have hown : s.vm.findClass RX0 = some m.cls := hown
  have hX := XX.start hW
  have hl : lv_has ls 5 [(0, .ref o), (1, .int k), (2, .int lane), (3, .int f), (4, .int nn)] := hl
  have bad : some ((-1 : Int32), h) = some (r, h1) → W p l e (rmm 13 66 22220 10600) s m args below meth c s.heap [] 0 0 Q (F0 m 21 ls []) := by
    intro he
    obtain ⟨rfl, rfl⟩ := Prod.mk.inj (Option.some.inj he)
    refine lv_iconst (v := (-1)) hx hb dX0_run_21 (by decide) ?_
    exact hret (hZ h) s.heap [] 0 0 22 ls hX (by decide) (by decide) dX0_run_22
  refine lv_iload_n hx hb dX0_run_0 rfl (lv_at hl 1 rfl) ?_
  refine lv_iload_n hx hb dX0_run_1 rfl (lv_at hl 2 rfl) ?_
  refine x_doneP (va_runS (As := [.int k, .int lane]) (rest := []) ⟨hx, hb, hml, hown, hts⟩ (wx_isSheet l G hG h n k lane r1 e1) (va_cwS 2 hts (lw_S q988 q989 q94 q990) rfl rfl rfl cdX0_isSheet ⟨(Nat.le_of_ble_eq_true rfl), (Nat.le_of_ble_eq_true rfl)⟩) (x_preS hK hX _) rfl rfl hl.1 rfl (lv_room (Nat.le_of_ble_eq_true rfl)) dX0_run_2 ⟨(Nat.le_of_ble_eq_true rfl), (Nat.le_of_ble_eq_true rfl)⟩) rfl ?_
  refine lv_if_eq (tgt := 21) hx hb dX0_run_5 (by decide) (fun c1 => ?_) (fun c1 => ?_)
  · rw [if_pos c1] at hf2
    exact bad hf2
  · rw [if_neg c1] at hf2
    obtain ⟨r2, e2, hf3⟩ := bd_e hf2
    refine lv_iload hx hb dX0_run_8 (lv_at hl 4 rfl) ?_
    refine lv_i2l hx hb dX0_run_10 rfl ?_
    refine lv_lconst (v := 0) hx hb dX0_run_11 (by decide) ?_
    refine lv_ldc2 (v := 20) hx hb hown (hts _ q828) dX0_run_12 ?_
    refine x_doneP (va_runS (As := [.long nn.toInt64, .long 0, .long 20]) (rest := []) ⟨hx, hb, hml, hown, hts⟩ (wx_isIn l G hG h n nn.toInt64 0 20 r2 e2) (va_cwS 3 hts (lw_S q127 q128 q94 q129) rfl rfl rfl cdX0_isIn ⟨(Nat.le_of_ble_eq_true rfl), (Nat.le_of_ble_eq_true rfl)⟩) (x_preS hK hX _) rfl rfl hl.1 rfl (lv_room (Nat.le_of_ble_eq_true rfl)) dX0_run_15 ⟨(Nat.le_of_ble_eq_true rfl), (Nat.le_of_ble_eq_true rfl)⟩) rfl ?_
    refine lv_if_ne (tgt := 23) hx hb dX0_run_18 (by decide) (fun c2 => ?_) (fun c2 => ?_)
    · rw [if_neg c2] at hf3
      obtain ⟨a, ea, hf4⟩ := bd_e hf3
      obtain ⟨g1, hf5⟩ := gd_e hf4
      obtain ⟨g2, hf6⟩ := gd_e hf5
      obtain ⟨sa, es, hf7⟩ := bd_e hf6
      obtain ⟨g3, hf8⟩ := gd_e hf7
      obtain ⟨b, eb, hf9⟩ := bd_e hf8
      obtain ⟨g4, hf10⟩ := gd_e hf9
      obtain ⟨g5, hf11⟩ := gd_e hf10
      refine lv_aload_n hx hb dX0_run_23 rfl (lv_at hl 0 rfl) ?_
      refine lv_aload_n hx hb dX0_run_24 rfl (lv_at hl 0 rfl) ?_
      refine x_get (ci := 0) (C := RX0) (T := TX0) (N := 16) hx hb hts in_X0 hown hK.1 hX rfl g0 (by decide) rfl 13 (Nat.le_of_ble_eq_true rfl) (hts _ q921) (fun _ h9 => h9) (hv_ref rfl) dX0_run_25 ?_
      refine lv_iload_n hx hb dX0_run_28 rfl (lv_at hl 1 rfl) ?_
      refine x_aald hx hb hK.1 hX (rf_some ea) 8 g1 (by decide) rfl rfl rfl g2 dX0_run_29 ?_
      refine x_getN (ci := 1) (C := RX1) (T := TX1) (N := 2) hx hb hts in_X1 hown hK.1 hX (rf_some es) g3 (by decide) rfl 0 (Nat.le_of_ble_eq_true rfl) (hG.nw hK nq891) (fun _ h9 => h9) (hv_ref rfl) dX0_run_30 ?_
      refine lv_aload_n hx hb dX0_run_33 rfl (lv_at hl 0 rfl) ?_
      refine x_get (ci := 0) (C := RX0) (T := TX0) (N := 16) hx hb hts in_X0 hown hK.1 hX rfl g0 (by decide) rfl 14 (Nat.le_of_ble_eq_true rfl) (hts _ q922) (fun _ h9 => h9) (hv_ref rfl) dX0_run_34 ?_
      refine lv_iload_n hx hb dX0_run_37 rfl (lv_at hl 2 rfl) ?_
      refine x_aald hx hb hK.1 hX (rf_some eb) 9 g4 (by decide) rfl rfl rfl g5 dX0_run_38 ?_
      refine lv_iload_n hx hb dX0_run_39 rfl (lv_at hl 3 rfl) ?_
      refine lv_iload hx hb dX0_run_40 (lv_at hl 4 rfl) ?_
      refine x_doneZ (vx_runVX (b := o) (As := [va_rf (hR h sa 0), va_rf (hR h b lane.toNatClampNeg), .int f, .int nn]) (rest := []) ⟨hx, hb, hml, hown, hts⟩ (wx_comesBy l hl0 G hG h n o _ _ f nn r h1 hf11) (vx_cwVW 4 hts (lw_VW q1048 q1050 qs41 q94 q1051) rfl rfl rfl ⟨rfl, cdX0_comesBy⟩ ⟨(Nat.le_of_ble_eq_true rfl), (Nat.le_of_ble_eq_true rfl)⟩) (x_preV (ci := 0) (T := TX0) (N := 16) hK hX _ g0 (by decide) rfl) rfl rfl hl.1 rfl (lv_room (Nat.le_of_ble_eq_true rfl)) dX0_run_42 ⟨by decide, by decide⟩) hX (fun z H1 locs1 hX1 => ?_)
      exact hret z H1 locs1 _ _ 45 ls hX1 (by decide) (by decide) dX0_run_45
    · rw [if_pos c2] at hf3
      exact bad hf3
