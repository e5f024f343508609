/-! EXCEPTIONS THAT THE MACHINE MAKES: the heap has only grown -/
def hzz (h : Hp) (z : Nat) : Hp := (hT h, hN h, hI h, hL h, hR h, z)
def nmN : List String := ["java/lang/RuntimeException", "java/lang/Exception"]
def nmI : List String := ["java/lang/IndexOutOfBoundsException", "java/lang/RuntimeException", "java/lang/Exception"]
theorem exn_in {L : List Cond} (h : (L.filter goodWord).all (fun w => lw_tbl.contains w) = true) (g : (L.filter fun w => !goodWord w).all (fun w => nws.contains w) = true) {args : Array Value} {s : State} {G : Gt} (hG : XG G) (hK : KK G s) (hts : ∀ w ∈ lw_all, w.before args s = true) : ∀ w ∈ L, w.before args s = true := by
  refine vx_hat (B := L.filter fun w => !goodWord w) (fun w hw => ?_) (fun w hw => hw) (fun w hw => ?_)
  · refine hts w (lw_g ?_ (List.mem_filter.mp hw).2)
    exact List.contains_iff_mem.mp (List.all_eq_true.mp h w hw)
  · have h1 := List.all_eq_true.mp g w hw
    exact va_Nw.use (List.all_eq_true.mp (show nws.all Cond.onTables = true by decide +kernel) w (List.contains_iff_mem.mp h1)) (hG.nw hK (List.contains_iff_mem.mp h1))
theorem exnA : ((vx_atM "java/lang/NegativeArraySizeException" nmN).filter goodWord).all (fun w => lw_tbl.contains w) = true := by decide +kernel
theorem exnA' : ((vx_atM "java/lang/NegativeArraySizeException" nmN).filter fun w => !goodWord w).all (fun w => nws.contains w) = true := by decide +kernel
theorem exnB : ((vx_atM "java/lang/ArrayIndexOutOfBoundsException" nmI).filter goodWord).all (fun w => lw_tbl.contains w) = true := by decide +kernel
theorem exnB' : ((vx_atM "java/lang/ArrayIndexOutOfBoundsException" nmI).filter fun w => !goodWord w).all (fun w => nws.contains w) = true := by decide +kernel
theorem exnC : ((vx_atM "java/lang/ClassCastException" nmN).filter goodWord).all (fun w => lw_tbl.contains w) = true := by decide +kernel
theorem exnC' : ((vx_atM "java/lang/ClassCastException" nmN).filter fun w => !goodWord w).all (fun w => nws.contains w) = true := by decide +kernel
theorem exnN : ((vx_atN 8).filter goodWord).all (fun w => lw_tbl.contains w) = true := by decide +kernel
theorem exnN' : ((vx_atN 8).filter fun w => !goodWord w).all (fun w => nws.contains w) = true := by decide +kernel
theorem exnO : ((vx_atM "java/lang/NegativeArraySizeException" nmN ++ vx_atM "java/lang/ArrayIndexOutOfBoundsException" nmI) ++ (vx_atM "java/lang/ClassCastException" nmN ++ vx_atN 8)).all vx_ot = true := by decide +kernel
theorem exnOA : ∀ w ∈ vx_atM "java/lang/NegativeArraySizeException" nmN, vx_ot w = true := fun w hw => List.all_eq_true.mp exnO w (List.mem_append_left _ (List.mem_append_left _ hw))
theorem exnOB : ∀ w ∈ vx_atM "java/lang/ArrayIndexOutOfBoundsException" nmI, vx_ot w = true := fun w hw => List.all_eq_true.mp exnO w (List.mem_append_left _ (List.mem_append_right _ hw))
theorem exnOC : ∀ w ∈ vx_atM "java/lang/ClassCastException" nmN, vx_ot w = true := fun w hw => List.all_eq_true.mp exnO w (List.mem_append_right _ (List.mem_append_left _ hw))
theorem exnON : ∀ w ∈ vx_atN 8, vx_ot w = true := fun w hw => List.all_eq_true.mp exnO w (List.mem_append_right _ (List.mem_append_right _ hw))
section XE
variable {p : Program} {l : Launch} {e : Env} {R : Room} {s : State} {m : MethodId} {args : Array Value} {below : List Frame} {meth : Method} {c : Code} {H : Heap} {locs : List Loc} {cells slots : Nat} {Q : State → Prop}
variable {cc : ByteArray} {pc nL : Nat} {ls : Array Slot} {rest : List Value} {G : Gt} {h h0 : Hp} {H0 : Heap} {a : Nat} {v : Value}
theorem XX.hz {H1 : Heap} (hX : XX G h0 H0 h H locs) (z : H.size ≤ H1.size) (oq : ∀ q : Nat, q < H.size → H1[q]? = H[q]?) : XX G h0 H0 (hzz h H1.size) H1 locs := by
  refine hX.grow (H1.size - H.size) (by show H1.size = _; have := hX.1.1; omega) (fun _ _ => rfl) (fun _ _ => rfl) (fun _ _ _ => rfl) (fun _ _ _ => rfl) (fun _ _ _ => rfl) (by omega) oq (fun b hb hne => ?_)
  exact absurd (hX.1.lt (show hT h b ≠ 0 from hne)) (by omega)
theorem zq_of (hG : XG G) (hK : KK G s) {h : Hp} (hW : XW G h s.heap) : vx_Zq Bundle.tN "UNASSIGNED_STACK" Bundle.steD (fre h) s s.heap ∧ vx_Zq Bundle.tN "SUPPRESSED_SENTINEL" Bundle.listD (fre h) s s.heap := by
  have nar : ∀ q, fre h q → gA G q := fun q hq => by
    rcases hq with ⟨q1, q2⟩ | q1
    · exact (hW.2.2.2 q q1).1 q2
    · exact Nat.le_trans hW.2.1 (by rw [← hW.1]; exact q1)
  exact ⟨((hG.i hK).2.2.1.kept (fun a ha _ => hW.2.2.1 a ha)).narrow nar, ((hG.i hK).2.2.2.kept (fun a ha _ => hW.2.2.1 a ha)).narrow nar⟩
/-- the machine throws cls with a text -/
theorem x_vm (hG : XG G) (hexec : p.tables.exec = Jvm.exec) (hl : l.stackTraces = false) (hts : ∀ w ∈ lw_all, w.before args s = true) (hK : KK G s) (hW : XW G h0 s.heap) (hX : XX G h0 s.heap h H locs) (hlocks : meth.locks = false) {cls text : String} {names : List String} (hcls : Bundle.fit cls = true) (hnames : ∀ n ∈ names, Bundle.fit n = true) (hsoe : (cls == "java/lang/StackOverflowError") = false) (hoom : (cls == "java/lang/OutOfMemoryError") = false)
    (h1 : ((vx_atM cls names).filter goodWord).all (fun w => lw_tbl.contains w) = true) (h2 : ((vx_atM cls names).filter fun w => !goodWord w).all (fun w => nws.contains w) = true) (h3 : ∀ w ∈ vx_atM cls names, vx_ot w = true) (htext : (text == notModelled) = false) (hnb : (stringBytes (stringToUtf16 text)).size ≤ 1000) (hsize : ls.size = c.maxLocals) (hnl : names.length ≤ 3)
    (hRf : 8 ≤ R.frames) (hRl : (rest.map fun v => v.category).sum + 10240 ≤ R.locals) (hRc : cells + 3 ≤ R.cells) (hRs : slots + 1010 ≤ R.slots)
    (k : ∀ (H1 : Heap) (q9 : Addr) (ce : Cell), XX G h0 s.heap (hzz h H1.size) H1 locs → H1[q9]? = some ce → ce.vm = .none → s.vm.findClass cls = some ce.cls → vx_W p l e R s m args below meth c H1 locs (cells + 3) (slots + 1010) Q (F0 m pc ls rest) q9) : vx_Note p l e R s m args below meth c H locs cells slots Q (F0 m pc ls rest) cls text := by
  obtain ⟨z1, z2⟩ := zq_of hG hK hW
  exact vx_vm hexec hl (names := names) (nb := 1000) hcls hnames hsoe hoom (exn_in h1 h2 hG hK hts) h3 z1 z2 hX.2.2 hsize htext hnb (Nat.le_refl _) (by omega) hRl (by omega) hRc hRs hlocks (fun H1 q9 ce e1 e2 _ e4 e5 e6 => k H1 q9 ce (hX.hz e1 e2) e4 e5 e6)
theorem x_npe (hG : XG G) (hexec : p.tables.exec = Jvm.exec) (hl : l.stackTraces = false) (hts : ∀ w ∈ lw_all, w.before args s = true) (hK : KK G s) (hW : XW G h0 s.heap) (hX : XX G h0 s.heap h H locs) (hlocks : meth.locks = false) (hsize : ls.size = c.maxLocals)
    (hRf : 8 ≤ R.frames) (hRl : (rest.map fun v => v.category).sum + 10240 ≤ R.locals) (hRc : cells + 3 ≤ R.cells) (hRs : slots + 1010 ≤ R.slots)
    (k : ∀ (H1 : Heap) (q9 : Addr) (ce : Cell), XX G h0 s.heap (hzz h H1.size) H1 locs → H1[q9]? = some ce → ce.vm = .none → s.vm.findClass "java/lang/NullPointerException" = some ce.cls → vx_W p l e R s m args below meth c H1 locs (cells + 3) (slots + 1010) Q (F0 m pc ls rest) q9) : vx_NoteN p l e R s m args below meth c H locs cells slots Q (F0 m pc ls rest) := by
  obtain ⟨z1, z2⟩ := zq_of hG hK hW
  exact vx_npe hexec hl (nb := 8) (exn_in exnN exnN' hG hK hts) exnON z1 z2 hX.2.2 hsize (by omega) hRl (by omega) (by omega) hlocks (fun H1 q9 ce e1 e2 _ e4 e5 e6 => vx_widen (by omega) (by omega) (k H1 q9 ce (hX.hz e1 e2) e4 e5 e6))
/-- an index out of bounds; a negative length -/
theorem x_oob (hG : XG G) (hexec : p.tables.exec = Jvm.exec) (hl : l.stackTraces = false) (hts : ∀ w ∈ lw_all, w.before args s = true) (hK : KK G s) (hW : XW G h0 s.heap) (hX : XX G h0 s.heap h H locs) (hlocks : meth.locks = false) (hsize : ls.size = c.maxLocals) (i : Int32) (n : Nat) (hn : n < 2 ^ 31)
    (hRf : 8 ≤ R.frames) (hRl : (rest.map fun v => v.category).sum + 10240 ≤ R.locals) (hRc : cells + 3 ≤ R.cells) (hRs : slots + 1010 ≤ R.slots)
    (k : ∀ (H1 : Heap) (q9 : Addr) (ce : Cell), XX G h0 s.heap (hzz h H1.size) H1 locs → H1[q9]? = some ce → ce.vm = .none → s.vm.findClass "java/lang/ArrayIndexOutOfBoundsException" = some ce.cls → vx_W p l e R s m args below meth c H1 locs (cells + 3) (slots + 1010) Q (F0 m pc ls rest) q9) : vx_Note p l e R s m args below meth c H locs cells slots Q (F0 m pc ls rest) "java/lang/ArrayIndexOutOfBoundsException" (toString "Index " ++ toString i ++ toString " out of bounds for length " ++ toString n : String) :=
  x_vm hG hexec hl hts hK hW hX hlocks (names := nmI) (by decide +kernel) (by decide +kernel) (by decide) (by decide) exnB exnB' exnOB (index_text_modelled i n) (Nat.le_trans (index_text_bytes i hn) (by decide)) hsize (by decide) hRf hRl hRc hRs k
theorem x_neg (hG : XG G) (hexec : p.tables.exec = Jvm.exec) (hl : l.stackTraces = false) (hts : ∀ w ∈ lw_all, w.before args s = true) (hK : KK G s) (hW : XW G h0 s.heap) (hX : XX G h0 s.heap h H locs) (hlocks : meth.locks = false) (hsize : ls.size = c.maxLocals) (n : Int32) (hn : n < 0)
    (hRf : 8 ≤ R.frames) (hRl : (rest.map fun v => v.category).sum + 10240 ≤ R.locals) (hRc : cells + 3 ≤ R.cells) (hRs : slots + 1010 ≤ R.slots)
    (k : ∀ (H1 : Heap) (q9 : Addr) (ce : Cell), XX G h0 s.heap (hzz h H1.size) H1 locs → H1[q9]? = some ce → ce.vm = .none → s.vm.findClass "java/lang/NegativeArraySizeException" = some ce.cls → vx_W p l e R s m args below meth c H1 locs (cells + 3) (slots + 1010) Q (F0 m pc ls rest) q9) : vx_Note p l e R s m args below meth c H locs cells slots Q (F0 m pc ls rest) "java/lang/NegativeArraySizeException" (toString n) :=
  x_vm hG hexec hl hts hK hW hX hlocks (names := nmN) (by decide +kernel) (by decide +kernel) (by decide) (by decide) exnA exnA' exnOA (negative_text_modelled hn) (Nat.le_trans (negative_text_bytes n) (by decide)) hsize (by decide) hRf hRl hRc hRs k
end XE
