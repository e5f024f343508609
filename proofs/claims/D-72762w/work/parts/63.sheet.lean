/-! sheet -/
def eNAS : String := "java/lang/NegativeArraySizeException"
set_option maxHeartbeats 1000000 in
theorem wx_newRowN (l : Launch) (hl0 : l.stackTraces = false) (G : Gt) (hG : XG G) (h : Hp) (lane n : Int32) (hn : n < 0) : vx_Met l yX0_newRow (ws_ yX0_newRow cX0_newRow 2 (some (.object "java/lang/Object"))) (rmm 8 3 1010 10300) (XP G [.int lane, .int n] h) (fun _ _ _ _ => False) (XCy G (.inr eNAS) h) 3 1010 (fre h) := by
  refine vx_ofW (cc := cX0_newRow) (maxL := 2) (ret := some (.object "java/lang/Object")) (by decide) rfl ?_
  intro p e s m args below meth c s₁ B hml hT0 hv
  obtain ⟨rfl, hK, hW⟩ := hv
  have hx := B.exec
  have hb := B.bytes
  have hlocks := B.notSynchronized
  have hts0 := atoms_spec (ws := ws_ yX0_newRow cX0_newRow 2 (some (.object "java/lang/Object"))) B.pre
  have hts : ∀ w ∈ lw_all, w.before [.int lane, .int n].toArray s = true := fun w h => hts0 w (List.mem_cons_of_mem _ h)
  have hl := lv_entry (n := 2) [.int lane, .int n] (Nat.le_of_ble_eq_true rfl)
  rw [lg_entry_eq]
  have hl : lv_has _ 2 [(0, .int lane), (1, .int n)] := hl
  generalize ((lg_sl [.int lane, .int n]) ++ List.replicate (2 - (lg_sl [.int lane, .int n]).length) Slot.unset).toArray = ls at hl ⊢
  have hX := XX.start hW
  have hs9 : ls.size = c.maxLocals := by rw [hml]; exact hl.1
  have leave : ∀ (H1 : Heap) (q9 : Addr) (ce : Cell) (pc : Nat) (rest : List Value), XX G h s.heap (hzz h H1.size) H1 [] → H1[q9]? = some ce → ce.vm = .none → s.vm.findClass eNAS = some ce.cls → vx_W p l e (rmm 8 3 1010 10300) s m [.int lane, .int n].toArray below meth c H1 [] (0 + 3) (0 + 1010) (vx_MQ below (fun _ _ _ _ => False) (XCy G (.inr eNAS) h) [.int lane, .int n].toArray s 3 1010 (fre h)) (F0 m pc ls rest) q9 :=
    fun H1 q9 ce pc rest hX1 h1 h2 h3 => vx_out (fun x hx => (hT0 x hx).elim) hlocks h1 h2 h3 (fun t ht hA => ⟨rfl, H1.size, by rw [ht]; exact hX1.1, hX1.2.1, hX1.2.2.F ht⟩) (fun _ h9 => by cases h9) (by decide) (by decide)
  have neg := fun (pc : Nat) => x_neg hG hx hl0 hts hK hW hX hlocks hs9 n hn (R := rmm 8 3 1010 10300) (rest := []) (pc := pc) (cells := 0) (slots := 0) (by decide) (by decide) (by decide) (by decide) (fun H1 q9 ce hX1 h1 h2 h3 => leave H1 q9 ce pc [] hX1 h1 h2 h3)
  refine lv_iload_n hx hb dX0_newRow_0 rfl (lv_at hl 0 rfl) ?_
  by_cases c0 : lane = 0
  · refine lv_lookup (off := 27) (tgt := 28) hx hb dX0_newRow_1 (by decide) (by rw [c0]; decide) (by decide) ?_
    refine lv_iload_n hx hb dX0_newRow_28 rfl (lv_at hl 1 rfl) ?_
    exact vx_newarrayZ hx hb hn dX0_newRow_29 (fun tx htx => by subst htx; exact neg 29)
  by_cases c1 : lane = 1
  · refine lv_lookup (off := 31) (tgt := 32) hx hb dX0_newRow_1 (by decide) (by rw [c1]; decide) (by decide) ?_
    refine lv_iload_n hx hb dX0_newRow_32 rfl (lv_at hl 1 rfl) ?_
    exact vx_newarrayZ hx hb hn dX0_newRow_33 (fun tx htx => by subst htx; exact neg 33)
  refine lv_lookup (off := 35) (tgt := 36) hx hb dX0_newRow_1 (by decide) ((lv_osw c0 (by decide)).trans <| (lv_osw c1 (by decide)).trans <| rfl) (by decide) ?_
  refine lv_iload_n hx hb dX0_newRow_36 rfl (lv_at hl 1 rfl) ?_
  exact vx_newarrayZ hx hb hn dX0_newRow_37 (fun tx htx => by subst htx; exact neg 37)
def X_sheet (n9 o : Nat) (k lane n : Int32) (h : Hp) : Option (Int32 × Hp) := gd (hT h o = 1) <| bd (X_isSheet n9 k lane) fun r => if r = 0 then some (-1, h) else if n ≤ 40 then bd (hR h o 13) fun a => gd (hT h a = 108) <| gd (¬ (k < 0 ∨ hN h a ≤ k.toNatClampNeg)) <| bd (hR h a k.toNatClampNeg) fun s => if n < 0 then some (-14, h) else bd (X_newRow n9 lane n h) fun w => gd (w.2.1 ≤ 66 ∧ w.2.2 ≤ 22220) <| gd (hT w.1.2 s = 2) <| st (sR w.1.2 s 0 w.1.1) fun h3 => gd (hT h3 o = 1) <| bd (hR h3 o 13) fun a3 => gd (hT h3 a3 = 108) <| gd (¬ (k < 0 ∨ hN h3 a3 ≤ k.toNatClampNeg)) <| bd (hR h3 a3 k.toNatClampNeg) fun s3 => gd (hT h3 s3 = 2) <| some (1, sI h3 s3 1 n) else some (-1, h)
set_option maxHeartbeats 4000000 in
set_option maxRecDepth 100000 in
theorem wx_sheet (l : Launch) (hl0 : l.stackTraces = false) (G : Gt) (hG : XG G) (h : Hp) (n9 o : Nat) (k lane n r : Int32) (h1 : Hp) (hf : X_sheet n9 o k lane n h = some (r, h1)) : vx_Met l yX0_sheet (wsW_ yX0_sheet cX0_sheet 5 (some .int) [(16, 41, 42, 302)]) (rmm 13 66 22220 10600) (XP G [.ref o, .int k, .int lane, .int n] h) (XQz G r h h1) (fun _ _ _ _ => False) 66 22220 (fre h) := by
  unfold X_sheet at hf
  obtain ⟨g0, hf1⟩ := gd_e hf
  obtain ⟨r1, e1, hf2⟩ := bd_e hf1
  refine metHz l (by decide) (Nat.le_of_ble_eq_true rfl) ?_
  intro p e s m args below meth c Q hx hb hts hown hml hlocks hK hW hret htab ls hl
  have hown : s.vm.findClass RX0 = some m.cls := hown
  have hX := XX.start hW
  have hl : lv_has ls 5 [(0, .ref o), (1, .int k), (2, .int lane), (3, .int n)] := hl
  have fin : ∀ (z : Nat) (H : Heap) (locs : List Loc) (cells slots pc : Nat) (ls : Array Slot) (w : Int32) (h9 : Hp), some (w, h9) = some (r, h1) → XX G h s.heap (hzz h9 z) H locs → cells ≤ 66 → slots ≤ 22220 → decode cX0_sheet pc = .ok (.ireturn, 1) → W p l e (rmm 13 66 22220 10600) s m args below meth c H locs cells slots Q (F0 m pc ls [.int w]) := by
    intro z H locs cells slots pc ls w h9 he hX h2 h3 hd
    obtain ⟨rfl, rfl⟩ := Prod.mk.inj (Option.some.inj he)
    exact hret z H locs cells slots pc ls hX h2 h3 hd
  have bad : some ((-1 : Int32), h) = some (r, h1) → W p l e (rmm 13 66 22220 10600) s m args below meth c s.heap [] 0 0 Q (F0 m 14 ls []) := by
    intro he
    refine lv_iconst (v := (-1)) hx hb dX0_sheet_14 (by decide) ?_
    exact fin (hZ h) s.heap [] 0 0 15 ls (-1) h he hX (by decide) (by decide) dX0_sheet_15
  refine lv_iload_n hx hb dX0_sheet_0 rfl (lv_at hl 1 rfl) ?_
  refine lv_iload_n hx hb dX0_sheet_1 rfl (lv_at hl 2 rfl) ?_
  refine x_doneP (va_runS (As := [.int k, .int lane]) (rest := []) ⟨hx, hb, hml, hown, hts⟩ (wx_isSheet l G hG h n9 k lane r1 e1) (va_cwS 2 hts (lw_S q988 q989 q94 q990) rfl rfl rfl cdX0_isSheet ⟨(Nat.le_of_ble_eq_true rfl), (Nat.le_of_ble_eq_true rfl)⟩) (x_preS hK hX _) rfl rfl hl.1 rfl (lv_room (Nat.le_of_ble_eq_true rfl)) dX0_sheet_2 ⟨(Nat.le_of_ble_eq_true rfl), (Nat.le_of_ble_eq_true rfl)⟩) rfl ?_
  refine lv_if_eq (tgt := 14) hx hb dX0_sheet_5 (by decide) (fun c1 => ?_) (fun c1 => ?_)
  · rw [if_pos c1] at hf2
    exact bad hf2
  rw [if_neg c1] at hf2
  refine lv_iload_n hx hb dX0_sheet_8 rfl (lv_at hl 3 rfl) ?_
  refine lv_bipush (v := 40) hx hb dX0_sheet_9 (by decide) ?_
  refine lv_icmp_le (tgt := 16) hx hb dX0_sheet_11 (by decide) (fun c2 => ?_) (fun c2 => ?_)
  · rw [if_pos c2] at hf2
    obtain ⟨a, ea, hf4⟩ := bd_e hf2
    obtain ⟨g1, hf5⟩ := gd_e hf4
    obtain ⟨g2, hf6⟩ := gd_e hf5
    obtain ⟨sa, es, hf7⟩ := bd_e hf6
    refine lv_aload_n hx hb dX0_sheet_16 rfl (lv_at hl 0 rfl) ?_
    refine x_get (ci := 0) (C := RX0) (T := TX0) (N := 16) hx hb hts in_X0 hown hK.1 hX rfl g0 (by decide) rfl 13 (Nat.le_of_ble_eq_true rfl) (hts _ q921) (fun _ h9 => h9) (hv_ref rfl) dX0_sheet_17 ?_
    refine lv_iload_n hx hb dX0_sheet_20 rfl (lv_at hl 1 rfl) ?_
    refine x_aald hx hb hK.1 hX (rf_some ea) 8 g1 (by decide) rfl rfl rfl g2 dX0_sheet_21 ?_
    rw [rf_some es]
    refine lv_iload_n hx hb dX0_sheet_22 rfl (lv_at hl 2 rfl) ?_
    refine lv_iload_n hx hb dX0_sheet_23 rfl (lv_at hl 3 rfl) ?_
    by_cases hn : n < 0
    · rw [if_pos hn] at hf7
      intro T hTt X
      rcases vx_runS (As := [.int lane, .int n]) (rest := [.ref sa]) ⟨hx, hb, hml, hown, hts⟩ (wx_newRowN l hl0 G hG h lane n hn) (va_cwS 2 hts (lw_S q992 q993 q94 q994) rfl rfl rfl cdX0_newRow ⟨(Nat.le_of_ble_eq_true rfl), (Nat.le_of_ble_eq_true rfl)⟩) (x_preS hK hX _) rfl rfl hl.1 rfl (lv_room (Nat.le_of_ble_eq_true rfl)) dX0_sheet_24 ⟨by decide, by decide⟩ T hTt X with ⟨v, st₀, t, T', L, h0', X', hL, e1', e2', hF, st⟩ | ⟨q, st₀, t, T', L, E, ce, h0', X', hL, e1', e2', ⟨hE, z, q1, q2, q3⟩, hce, hcv, hcl, st⟩
      · exact hF.elim
      · cases hE
        obtain ⟨z1, z2⟩ := q3
        rw [h0'] at z1 z2
        have hX1 : XX G h s.heap (hzz h z) T'.heap ([] ++ L) := ⟨by rw [e1']; exact q1, q2, ⟨by rw [e1']; exact z1, fun x x1 x2 => by rw [e1']; exact z2 x x1 x2, fun x hx => hL x (by simpa using hx)⟩⟩
        have kx : vx_W p l e (rmm 13 66 22220 10600) s m args below meth c T'.heap ([] ++ L) (0 + 3) (0 + 1010) Q (F0 m 24 ls [.ref sa]) q := by
          refine vx_catch (name := "java/lang/NegativeArraySizeException") hown [] _ [] htab (fun _ z => by cases z) rfl (by decide) (hts _ q961) (va_Nw.use rfl (hG.nw hK nq981)) (by rw [e1']; exact hce) hcv hcl ?_
          refine lv_astore (lv' := [(4, .ref q), (0, .ref o)]) hx hb dX0_sheet_42 (lv_sub hl [0] rfl) (by decide) rfl (fun ls hl => ?_)
          refine lv_bipush (v := (-14)) hx hb dX0_sheet_44 (by decide) ?_
          exact fin z T'.heap _ _ _ _ ls (-14) h hf7 hX1 (by decide) (by decide) dX0_sheet_46
        obtain ⟨t2, a1, b1⟩ := kx T' rfl X'
        exact ⟨t2, st.trans a1, b1⟩
    · rw [if_neg hn] at hf7
      obtain ⟨⟨⟨w, h2⟩, mc, ms⟩, ew, hf8⟩ := bd_e hf7
      obtain ⟨⟨gc, gs⟩, hf9⟩ := gd_e hf8
      obtain ⟨g3, hf10⟩ := gd_e hf9
      obtain ⟨h3, e3, hf11⟩ := st_e hf10
      obtain ⟨g4, hf12⟩ := gd_e hf11
      obtain ⟨a3, ea3, hf13⟩ := bd_e hf12
      obtain ⟨g5, hf14⟩ := gd_e hf13
      obtain ⟨g6, hf15⟩ := gd_e hf14
      obtain ⟨s3, es3, hf16⟩ := bd_e hf15
      obtain ⟨g7, hf17⟩ := gd_e hf16
      replace gc : mc ≤ 66 := gc
      replace gs : ms ≤ 22220 := gs
      refine x_done (mc := mc) (ms := ms) (va_runS (As := [.int lane, .int n]) (rest := [.ref sa]) ⟨hx, hb, hml, hown, hts⟩ (wx_newRow l G hG h n9 lane n w h2 mc ms ew) (va_cwS 2 hts (lw_S q992 q993 q94 q994) rfl rfl rfl cdX0_newRow ⟨(Nat.le_of_ble_eq_true rfl), (Nat.le_of_ble_eq_true rfl)⟩) (x_preS hK hX _) rfl rfl hl.1 rfl (lv_room (Nat.le_of_ble_eq_true rfl)) dX0_sheet_24 ⟨by show 0 + mc ≤ 66; omega, by show 0 + ms ≤ 22220; omega⟩) hX rfl (fun H locs hX => ?_)
      refine x_putN (ci := 1) (C := RX1) (T := TX1) (N := 2) hx hb hts in_X1 tyX1 tyX1_ok nmX1 hown hK.1 hX rfl g3 (by decide) rfl 0 (Nat.le_of_ble_eq_true rfl) (hG.nw hK nq891) (fun _ h9 => h9) rfl (narrow_rfO _ w) (fits_rfO _ w) (Put1.fR (x := w) rfl) dX0_sheet_27 (fun H locs hX => ?_)
      replace hX := hX.re e3
      refine lv_aload_n hx hb dX0_sheet_30 rfl (lv_at hl 0 rfl) ?_
      refine x_get (ci := 0) (C := RX0) (T := TX0) (N := 16) hx hb hts in_X0 hown hK.1 hX rfl g4 (by decide) rfl 13 (Nat.le_of_ble_eq_true rfl) (hts _ q921) (fun _ h9 => h9) (hv_ref rfl) dX0_sheet_31 ?_
      refine lv_iload_n hx hb dX0_sheet_34 rfl (lv_at hl 1 rfl) ?_
      refine x_aald hx hb hK.1 hX (rf_some ea3) 8 g5 (by decide) rfl rfl rfl g6 dX0_sheet_35 ?_
      refine lv_iload_n hx hb dX0_sheet_36 rfl (lv_at hl 3 rfl) ?_
      refine x_putN (ci := 1) (C := RX1) (T := TX1) (N := 2) hx hb hts in_X1 tyX1 tyX1_ok nmX1 hown hK.1 hX (rf_some es3) g7 (by decide) rfl 1 (Nat.le_of_ble_eq_true rfl) (hG.nw hK nq892) (fun _ h9 => h9) rfl rfl rfl (Put1.fI (x := n) rfl) dX0_sheet_37 (fun H locs hX => ?_)
      refine lv_iconst (v := 1) hx hb dX0_sheet_40 (by decide) ?_
      exact fin (hZ (sI h3 s3 1 n)) H locs _ _ 41 ls 1 (sI h3 s3 1 n) hf17 hX (by omega) (by omega) dX0_sheet_41
  · rw [if_neg c2] at hf2
    exact bad hf2
