/-! lay -/
def X_lay (n o : Nat) (k i v : Int32) (h : Hp) : Option (Int32 × Hp) := gd (hT h o = 1) <| bd (X_isSheet n k 0) fun r => if r = 0 then some (-1, h) else bd (hR h o 13) fun a => gd (hT h a = 108) <| gd (¬ (k < 0 ∨ hN h a ≤ k.toNatClampNeg)) <| bd (hR h a k.toNatClampNeg) fun s => gd (hT h s = 2) <| gd (rowB h (hR h s 0) = true) <| match hR h s 0 with
  | none => some (-11, h)
  | some w => if i < 0 ∨ hN h w ≤ i.toNatClampNeg then some (-13, h) else if hT h w = 102 then some (1, sI h w i.toNatClampNeg (vp_nar .byte (Int8.toInt32 (Int32.toInt8 v)))) else if hT h w = 103 then some (1, sI h w i.toNatClampNeg (vp_nar .char (UInt32.toInt32 (Int32.toUInt32 v % 65536)))) else some (1, sI h w i.toNatClampNeg v)
set_option maxHeartbeats 4000000 in
set_option maxRecDepth 100000 in
theorem wx_lay (l : Launch) (hl0 : l.stackTraces = false) (G : Gt) (hG : XG G) (h : Hp) (n o : Nat) (k i v r : Int32) (h1 : Hp) (hf : X_lay n o k i v h = some (r, h1)) : vx_Met l yX0_lay (wsW_ yX0_lay cX0_lay 6 (some .int) [(21, 70, 71, 307), (21, 70, 76, 309)]) (rmm 12 66 22220 10500) (XP G [.ref o, .int k, .int i, .int v] h) (XQz G r h h1) (fun _ _ _ _ => False) 66 22220 (fre h) := by
  unfold X_lay at hf
  obtain ⟨g0, hf1⟩ := gd_e hf
  obtain ⟨r1, e1, hf2⟩ := bd_e hf1
  refine metHz l (by decide) (Nat.le_of_ble_eq_true rfl) ?_
  intro p e s m args below meth c Q hx hb hts hown hml hlocks hK hW hret htab ls hl
  have hown : s.vm.findClass RX0 = some m.cls := hown
  have hX := XX.start hW
  have hl : lv_has ls 6 [(0, .ref o), (1, .int k), (2, .int i), (3, .int v)] := hl
  have fin : ∀ (z : Nat) (H : Heap) (locs : List Loc) (cells slots pc : Nat) (ls : Array Slot) (w : Int32) (h9 : Hp), some (w, h9) = some (r, h1) → XX G h s.heap (hzz h9 z) H locs → cells ≤ 66 → slots ≤ 22220 → decode cX0_lay pc = .ok (.ireturn, 1) → W p l e (rmm 12 66 22220 10500) s m args below meth c H locs cells slots Q (F0 m pc ls [.int w]) := by
    intro z H locs cells slots pc ls w h9 he hX h2 h3 hd
    obtain ⟨rfl, rfl⟩ := Prod.mk.inj (Option.some.inj he)
    exact hret z H locs cells slots pc ls hX h2 h3 hd
  refine lv_iload_n hx hb dX0_lay_0 rfl (lv_at hl 1 rfl) ?_
  refine lv_iconst (v := 0) hx hb dX0_lay_1 (by decide) ?_
  refine x_doneP (va_runS (As := [.int k, .int 0]) (rest := []) ⟨hx, hb, hml, hown, hts⟩ (wx_isSheet l G hG h n k 0 r1 e1) (va_cwS 2 hts (lw_S q988 q989 q94 q990) rfl rfl rfl cdX0_isSheet ⟨(Nat.le_of_ble_eq_true rfl), (Nat.le_of_ble_eq_true rfl)⟩) (x_preS hK hX _) rfl rfl hl.1 rfl (lv_room (Nat.le_of_ble_eq_true rfl)) dX0_lay_2 ⟨(Nat.le_of_ble_eq_true rfl), (Nat.le_of_ble_eq_true rfl)⟩) rfl ?_
  refine lv_if_ne (tgt := 10) hx hb dX0_lay_5 (by decide) (fun c1 => ?_) (fun c1 => ?_)
  · rw [if_neg c1] at hf2
    obtain ⟨a, ea, hf3⟩ := bd_e hf2
    obtain ⟨g1, hf4⟩ := gd_e hf3
    obtain ⟨g2, hf5⟩ := gd_e hf4
    obtain ⟨sa, es, hf6⟩ := bd_e hf5
    obtain ⟨g3, hf7⟩ := gd_e hf6
    obtain ⟨g4, hf8⟩ := gd_e hf7
    refine lv_aload_n hx hb dX0_lay_10 rfl (lv_at hl 0 rfl) ?_
    refine x_get (ci := 0) (C := RX0) (T := TX0) (N := 16) hx hb hts in_X0 hown hK.1 hX rfl g0 (by decide) rfl 13 (Nat.le_of_ble_eq_true rfl) (hts _ q921) (fun _ h9 => h9) (hv_ref rfl) dX0_lay_11 ?_
    refine lv_iload_n hx hb dX0_lay_14 rfl (lv_at hl 1 rfl) ?_
    refine x_aald hx hb hK.1 hX (rf_some ea) 8 g1 (by decide) rfl rfl rfl g2 dX0_lay_15 ?_
    refine x_getN (ci := 1) (C := RX1) (T := TX1) (N := 2) hx hb hts in_X1 hown hK.1 hX (rf_some es) g3 (by decide) rfl 0 (Nat.le_of_ble_eq_true rfl) (hG.nw hK nq891) (fun _ h9 => h9) (hv_ref rfl) dX0_lay_16 ?_
    refine lx_astore (r := hR h sa 0) (lv' := [(4, va_rf (hR h sa 0)), (0, .ref o), (1, .int k), (2, .int i), (3, .int v)]) hx hb dX0_lay_19 hl (by decide) rfl (fun ls hl => ?_)
    have hrow := rowB_ok g4
    have hnc := hG.c hK
    refine lx_aload hx hb dX0_lay_21 (lv_at hl 0 rfl) ?_
    generalize hR h sa 0 = row at hf8 hl hrow ⊢
    have hs9 : ls.size = c.maxLocals := by rw [hml]; exact hl.1
    have cN : ∀ (pc : Nat) (rest : List Value), covers { startPc := 21, endPc := 70, handlerPc := 71, catchType := 307 } pc = true → some ((-11 : Int32), h) = some (r, h1) → ∀ (H1 : Heap) (q9 : Addr) (ce : Cell), XX G h s.heap (hzz h H1.size) H1 [] → H1[q9]? = some ce → ce.vm = .none → s.vm.findClass "java/lang/NullPointerException" = some ce.cls → vx_W p l e (rmm 12 66 22220 10500) s m args below meth c H1 [] (0 + 3) (0 + 1010) Q (F0 m pc ls rest) q9 := by
      intro pc rest hc9 he H1 q9 ce hX1 q1 q2 q3
      refine vx_catch (name := "java/lang/NullPointerException") hown [] _ [_] htab (fun _ z => by cases z) hc9 (by decide) (hts _ q1000) (va_Nw.use rfl (hG.nw hK nq1022)) q1 q2 q3 ?_
      refine lv_astore (lv' := [(5, .ref q9), (0, .ref o)]) hx hb dX0_lay_71 (lv_sub hl [1] rfl) (by decide) rfl (fun ls hl => ?_)
      refine lv_bipush (v := (-11)) hx hb dX0_lay_73 (by decide) ?_
      exact fin H1.size H1 [] _ _ _ ls (-11) h he hX1 (by decide) (by decide) dX0_lay_75
    have cO : ∀ (pc : Nat) (rest : List Value), covers { startPc := 21, endPc := 70, handlerPc := 76, catchType := 309 } pc = true → some ((-13 : Int32), h) = some (r, h1) → ∀ (H1 : Heap) (q9 : Addr) (ce : Cell), XX G h s.heap (hzz h H1.size) H1 [] → H1[q9]? = some ce → ce.vm = .none → s.vm.findClass "java/lang/ArrayIndexOutOfBoundsException" = some ce.cls → vx_W p l e (rmm 12 66 22220 10500) s m args below meth c H1 [] (0 + 3) (0 + 1010) Q (F0 m pc ls rest) q9 := by
      intro pc rest hc9 he H1 q9 ce hX1 q1 q2 q3
      refine vx_catch (name := "java/lang/ArrayIndexOutOfBoundsException") hown [_] _ [] htab (fun x9 z9 => by
        simp only [List.mem_cons, List.not_mem_nil, or_false] at z9
        subst z9
        exact Or.inr ⟨by decide, "java/lang/NullPointerException", hts _ q1000, hnc (_, _) (by decide)⟩) hc9 (by decide) (hts _ q1025) (va_Nw.use rfl (hG.nw hK nq1040)) q1 q2 q3 ?_
      refine lv_astore (lv' := [(5, .ref q9), (0, .ref o)]) hx hb dX0_lay_76 (lv_sub hl [1] rfl) (by decide) rfl (fun ls hl => ?_)
      refine lv_bipush (v := (-13)) hx hb dX0_lay_78 (by decide) ?_
      exact fin H1.size H1 [] _ _ _ ls (-13) h he hX1 (by decide) (by decide) dX0_lay_80
    cases row with
    | none =>
      refine lv_instN hx hb dX0_lay_23 ?_
      refine lv_if_eq (tgt := 41) hx hb dX0_lay_26 (by decide) (fun c2 => ?_) (fun c2 => absurd rfl c2)
      refine lx_aload hx hb dX0_lay_41 (lv_at hl 0 rfl) ?_
      refine lv_instN hx hb dX0_lay_43 ?_
      refine lv_if_eq (tgt := 61) hx hb dX0_lay_46 (by decide) (fun c3 => ?_) (fun c3 => absurd rfl c3)
      refine lx_aload hx hb dX0_lay_61 (lv_at hl 0 rfl) ?_
      refine lv_castN hx hb dX0_lay_63 ?_
      refine lv_iload_n hx hb dX0_lay_66 rfl (lv_at hl 3 rfl) ?_
      refine lv_iload_n hx hb dX0_lay_67 rfl (lv_at hl 4 rfl) ?_
      refine vx_iastoreN hx hb dX0_lay_68 ?_
      exact x_npe hG hx hl0 hts hK hW hX hlocks hs9 (by decide) (by decide) (by decide) (by decide) (fun H1 q9 ce => cN _ _ rfl hf8 H1 q9 ce)
    | some w =>
      obtain ⟨ht3, hn⟩ := hrow w rfl
      replace hf8 : (if i < 0 ∨ hN h w ≤ i.toNatClampNeg then some ((-13 : Int32), h) else if hT h w = 102 then some (1, sI h w i.toNatClampNeg (vp_nar .byte (Int8.toInt32 (Int32.toInt8 v)))) else if hT h w = 103 then some (1, sI h w i.toNatClampNeg (vp_nar .char (UInt32.toInt32 (Int32.toUInt32 v % 65536)))) else some (1, sI h w i.toNatClampNeg v)) = some (r, h1) := hf8
      have good : ∀ (H : Heap) (locs : List Loc) (ls : Array Slot) (h9 : Hp), some ((1 : Int32), h9) = some (r, h1) → XX G h s.heap h9 H locs → W p l e (rmm 12 66 22220 10500) s m args below meth c H locs 0 0 Q (F0 m 69 ls []) := by
        intro H locs ls h9 he hX
        refine lv_iconst (v := 1) hx hb dX0_lay_69 (by decide) ?_
        exact fin (hZ h9) H locs 0 0 70 ls 1 h9 he hX (by decide) (by decide) dX0_lay_70
      by_cases t2 : hT h w = 102
      · refine x_instY hx hb hown (t := 2) (by decide) (hts _ q902) hK hX rfl t2 dX0_lay_23 ?_
        refine lv_if_eq (tgt := 41) hx hb dX0_lay_26 (by decide) (fun c2 => absurd c2 (by decide)) (fun c2 => ?_)
        refine lx_aload hx hb dX0_lay_29 (lv_at hl 0 rfl) ?_
        refine x_castY hx hb hown (t := 2) (by decide) (hts _ q902) hK hX rfl t2 dX0_lay_31 ?_
        refine lv_iload_n hx hb dX0_lay_34 rfl (lv_at hl 3 rfl) ?_
        refine lv_iload_n hx hb dX0_lay_35 rfl (lv_at hl 4 rfl) ?_
        refine lv_i2b hx hb dX0_lay_36 rfl ?_
        by_cases hin : i < 0 ∨ hN h w ≤ i.toNatClampNeg
        · rw [if_pos hin] at hf8
          refine x_bastoreZ hx hb hK hX rfl t2 hin dX0_lay_37 ?_
          exact x_oob hG hx hl0 hts hK hW hX hlocks hs9 i (hN h w) hn (by decide) (by decide) (by decide) (by decide) (fun H1 q9 ce => cO _ _ rfl hf8 H1 q9 ce)
        · rw [if_neg hin, if_pos t2] at hf8
          refine x_bast hx hb hK.1 hX rfl t2 hin dX0_lay_37 (fun H locs hX => ?_)
          refine lv_goto (tgt := 69) hx hb dX0_lay_38 (by decide) ?_
          exact good H locs ls _ hf8 hX
      by_cases t3 : hT h w = 103
      · refine x_instNo hG hx hb hown (t := 3) (t2 := 2) (by decide) (by decide) (by decide) (hts _ q902) hK hX rfl t3 dX0_lay_23 ?_
        refine lv_if_eq (tgt := 41) hx hb dX0_lay_26 (by decide) (fun c2 => ?_) (fun c2 => absurd rfl c2)
        refine lx_aload hx hb dX0_lay_41 (lv_at hl 0 rfl) ?_
        refine x_instY hx hb hown (t := 3) (by decide) (hts _ q905) hK hX rfl t3 dX0_lay_43 ?_
        refine lv_if_eq (tgt := 61) hx hb dX0_lay_46 (by decide) (fun c3 => absurd c3 (by decide)) (fun c3 => ?_)
        refine lx_aload hx hb dX0_lay_49 (lv_at hl 0 rfl) ?_
        refine x_castY hx hb hown (t := 3) (by decide) (hts _ q905) hK hX rfl t3 dX0_lay_51 ?_
        refine lv_iload_n hx hb dX0_lay_54 rfl (lv_at hl 3 rfl) ?_
        refine lv_iload_n hx hb dX0_lay_55 rfl (lv_at hl 4 rfl) ?_
        refine lv_i2c hx hb dX0_lay_56 rfl ?_
        by_cases hin : i < 0 ∨ hN h w ≤ i.toNatClampNeg
        · rw [if_pos hin] at hf8
          refine x_castoreZ hx hb hK hX rfl t3 hin dX0_lay_57 ?_
          exact x_oob hG hx hl0 hts hK hW hX hlocks hs9 i (hN h w) hn (by decide) (by decide) (by decide) (by decide) (fun H1 q9 ce => cO _ _ rfl hf8 H1 q9 ce)
        · rw [if_neg hin, if_neg t2, if_pos t3] at hf8
          refine x_cast hx hb hK.1 hX rfl t3 hin dX0_lay_57 (fun H locs hX => ?_)
          refine lv_goto (tgt := 69) hx hb dX0_lay_58 (by decide) ?_
          exact good H locs ls _ hf8 hX
      have t0 : hT h w = 100 := by omega
      refine x_instNo hG hx hb hown (t := 0) (t2 := 2) (by decide) (by decide) (by decide) (hts _ q902) hK hX rfl t0 dX0_lay_23 ?_
      refine lv_if_eq (tgt := 41) hx hb dX0_lay_26 (by decide) (fun c2 => ?_) (fun c2 => absurd rfl c2)
      refine lx_aload hx hb dX0_lay_41 (lv_at hl 0 rfl) ?_
      refine x_instNo hG hx hb hown (t := 0) (t2 := 3) (by decide) (by decide) (by decide) (hts _ q905) hK hX rfl t0 dX0_lay_43 ?_
      refine lv_if_eq (tgt := 61) hx hb dX0_lay_46 (by decide) (fun c3 => ?_) (fun c3 => absurd rfl c3)
      refine lx_aload hx hb dX0_lay_61 (lv_at hl 0 rfl) ?_
      refine x_castY hx hb hown (t := 0) (by decide) (hts _ q883) hK hX rfl t0 dX0_lay_63 ?_
      refine lv_iload_n hx hb dX0_lay_66 rfl (lv_at hl 3 rfl) ?_
      refine lv_iload_n hx hb dX0_lay_67 rfl (lv_at hl 4 rfl) ?_
      by_cases hin : i < 0 ∨ hN h w ≤ i.toNatClampNeg
      · rw [if_pos hin] at hf8
        refine x_iastoreZ hx hb hK hX rfl t0 hin dX0_lay_68 ?_
        exact x_oob hG hx hl0 hts hK hW hX hlocks hs9 i (hN h w) hn (by decide) (by decide) (by decide) (by decide) (fun H1 q9 ce => cO _ _ rfl hf8 H1 q9 ce)
      · rw [if_neg hin, if_neg t2, if_neg t3] at hf8
        refine x_iast hx hb hK.1 hX rfl t0 hin dX0_lay_68 (fun H locs hX => ?_)
        exact good H locs ls _ hf8 hX
  · rw [if_pos c1] at hf2
    refine lv_iconst (v := (-1)) hx hb dX0_lay_8 (by decide) ?_
    exact fin (hZ h) s.heap [] 0 0 9 ls (-1) h hf2 hX (by decide) (by decide) dX0_lay_9
