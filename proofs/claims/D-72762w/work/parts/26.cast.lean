/-! CASTS between arrays of bytes, chars, ints -/
def ctA (a b : String) : String := toString "class " ++ toString (dotted a) ++ toString " cannot be cast to class " ++ toString (dotted b) ++ toString " (" ++ toString (toString (dotted a) ++ toString " and " ++ toString (dotted b) ++ toString " are in " ++ toString ("module " ++ "java.base" ++ " of loader " ++ "'bootstrap'")) ++ toString ")"
def ctB (a b : String) : String := toString "class " ++ toString (dotted a) ++ toString " cannot be cast to class " ++ toString (dotted b) ++ toString " (" ++ toString (toString (dotted a) ++ toString " and " ++ toString (dotted b) ++ toString " are in " ++ toString ("unnamed module" ++ " of loader " ++ "'bootstrap'")) ++ toString ")"
theorem ct_text {vm : Vm} {ks kt : Class} {a b : String} (h1 : ks.name = a) (h2 : ks.hidden = none) (h3 : ks.loader = none) (h4 : ks.ofPrimitives = true) (g1 : kt.name = b) (g2 : kt.hidden = none) (g3 : kt.loader = none) (g4 : kt.ofPrimitives = true) : checkcast.message vm ks kt = ctA a b ∨ checkcast.message vm ks kt = ctB a b := by
  have m1 : vm.moduleOf ks = vm.modules.find? (·.name == "java.base") := by unfold Vm.moduleOf; rw [h4]; rfl
  have m2 : vm.moduleOf kt = vm.modules.find? (·.name == "java.base") := by unfold Vm.moduleOf; rw [g4]; rfl
  unfold checkcast.message Vm.homes Vm.sameModule Vm.home Class.shown
  rw [m1, m2, h1, h2, h3, g1, g2, g3]
  cases hm : vm.modules.find? (·.name == "java.base") with
  | none => exact Or.inr rfl
  | some x =>
    have hx : x.name = "java.base" := by
      have := List.find?_some hm
      simpa using this
    left
    simp only [beq_self_eq_true, if_true]
    rw [hx]
    rfl
theorem ct_ok : ∀ a ∈ ["[B", "[C", "[I"], ∀ b ∈ ["[B", "[C", "[I"], ((stringBytes (stringToUtf16 (ctA a b))).size ≤ 1000 ∧ (ctA a b == notModelled) = false) ∧ ((stringBytes (stringToUtf16 (ctB a b))).size ≤ 1000 ∧ (ctB a b == notModelled) = false) := by decide +kernel
def nmA (t : Nat) : String := match t with
  | 2 => "[B"
  | 3 => "[C"
  | _ => "[I"
section XC3
variable {p : Program} {l : Launch} {e : Env} {R : Room} {s : State} {m : MethodId} {args : Array Value} {below : List Frame} {meth : Method} {c : Code} {H : Heap} {locs : List Loc} {cells slots : Nat} {Q : State → Prop}
variable {cc : ByteArray} {pc : Nat} {ls : Array Slot} {rest : List Value} {G : Gt} {h h0 : Hp} {H0 : Heap} {a : Nat} {v : Value}
theorem nmA_ok (hK : KK G s) {t : Nat} (ht : t = 0 ∨ t = 2 ∨ t = 3) : s.vm.findClass (nmA t) = some (gL G (100 + t)) := by
  rcases ht with rfl | rfl | rfl
  · exact (show s.vm.findClass ("[" ++ FieldType.int.toString) = some (gL G 100) from (hK.1.2 0 _ rfl).2)
  · exact (show s.vm.findClass ("[" ++ FieldType.byte.toString) = some (gL G 102) from (hK.1.2 2 _ rfl).2)
  · exact (show s.vm.findClass ("[" ++ FieldType.char.toString) = some (gL G 103) from (hK.1.2 3 _ rfl).2)
theorem nmA_cl {vm : Vm} {t : Nat} {cA : ClassId} (h : vm.findClass (nmA t) = some cA) {k : Class} (hk : vm.classes[cA]? = some k) (ha : ∃ comp ty, k.kind = .array comp ty) : k.name = nmA t ∧ k.hidden = none ∧ k.loader = none ∧ k.ofPrimitives = true := by
  obtain ⟨hlt, hp, -⟩ := Array.findIdx?_eq_some_iff_getElem.mp h
  have e : vm.classes[cA] = k := by
    have := Array.getElem?_eq_getElem hlt
    rw [this] at hk
    exact Option.some.inj hk
  rw [e] at hp
  simp only [Bool.and_eq_true, beq_iff_eq, Option.isNone_iff_eq_none] at hp
  obtain ⟨comp, ty, hk9⟩ := ha
  refine ⟨hp.1.1.1, hp.1.1.2, hp.2, ?_⟩
  unfold Class.ofPrimitives
  rw [hk9, hp.1.1.1]
  show ((withoutBrackets (nmA t)).length == 1) = true
  unfold nmA
  split <;> decide +kernel
theorem x_arrcls (hK : KK G s) {t : Nat} (ht : t = 0 ∨ t = 2 ∨ t = 3) : ∃ k : Class, s.vm.classes[gL G (100 + t)]? = some k ∧ ∃ comp ty, k.kind = .array comp ty := by
  have htt : (tysG G)[t]? = some (gL G (100 + t), aTy t) := by rcases ht with rfl | rfl | rfl <;> rfl
  obtain ⟨-, k, hk, comp, hkind⟩ := (hK.1.2 t _ htt).1 0 (fun _ => .null)
  exact ⟨k, hk, comp, _, hkind⟩
theorem x_castY (hexec : p.tables.exec = Jvm.exec) (hb : c.code = cc) {own : String} {index : Nat} (hown : s.vm.findClass own = some m.cls) {t : Nat} (ht3 : t = 0 ∨ t = 2 ∨ t = 3) (hlink : (Cond.classLink own index (nmA t)).before args s = true) (hK : KK G s) (hX : XX G h0 H0 h H locs) (hva : v = .ref a) (ht : hT h a = 100 + t) (hdg : decode cc pc = .ok (.checkcast index, 3))
    (kk : W p l e R s m args below meth c H locs cells slots Q (F0 m (pc + 3) ls (v :: rest))) : W p l e R s m args below meth c H locs cells slots Q (F0 m pc ls (v :: rest)) := by
  subst hva
  have hA := hX.1.arr ht (by omega)
  exact va_castE hexec hb hown hlink ⟨_, hA, rfl, nmA_ok hK ht3⟩ hdg kk
theorem x_instY (hexec : p.tables.exec = Jvm.exec) (hb : c.code = cc) {own : String} {index : Nat} (hown : s.vm.findClass own = some m.cls) {t : Nat} (ht3 : t = 0 ∨ t = 2 ∨ t = 3) (hlink : (Cond.classLink own index (nmA t)).before args s = true) (hK : KK G s) (hX : XX G h0 H0 h H locs) (hva : v = .ref a) (ht : hT h a = 100 + t) (hdg : decode cc pc = .ok (.instanceof index, 3))
    (kk : W p l e R s m args below meth c H locs cells slots Q (F0 m (pc + 3) ls (.int 1 :: rest))) : W p l e R s m args below meth c H locs cells slots Q (F0 m pc ls (v :: rest)) := by
  subst hva
  have hA := hX.1.arr ht (by omega)
  exact va_instE hexec hb hown hlink ⟨_, hA, rfl, nmA_ok hK ht3⟩ hdg kk
theorem nc_of (hG : XG G) (hK : KK G s) {t t2 : Nat} (ht : t = 0 ∨ t = 2 ∨ t = 3) (ht2 : t2 = 0 ∨ t2 = 2 ∨ t2 = 3) (hne : t ≠ t2) : va_Nc (nmA t) (nmA t2) s := by
  have hc := hG.c hK
  rcases ht with rfl | rfl | rfl <;> rcases ht2 with rfl | rfl | rfl <;> first | exact absurd rfl hne | exact hc (_, _) (by decide)
theorem x_instNo (hG : XG G) (hexec : p.tables.exec = Jvm.exec) (hb : c.code = cc) {own : String} {index : Nat} (hown : s.vm.findClass own = some m.cls) {t t2 : Nat} (ht3 : t = 0 ∨ t = 2 ∨ t = 3) (ht2 : t2 = 0 ∨ t2 = 2 ∨ t2 = 3) (hne : t ≠ t2) (hlink : (Cond.classLink own index (nmA t2)).before args s = true) (hK : KK G s) (hX : XX G h0 H0 h H locs) (hva : v = .ref a) (ht : hT h a = 100 + t) (hdg : decode cc pc = .ok (.instanceof index, 3))
    (kk : W p l e R s m args below meth c H locs cells slots Q (F0 m (pc + 3) ls (.int 0 :: rest))) : W p l e R s m args below meth c H locs cells slots Q (F0 m pc ls (v :: rest)) := by
  subst hva
  have hA := hX.1.arr ht (by omega)
  exact va_instNo hexec hb hown hlink (nc_of hG hK ht3 ht2 hne) ⟨_, hA, rfl, nmA_ok hK ht3⟩ hdg kk
/-- a cast that fails -/
theorem x_castNo (hG : XG G) (hexec : p.tables.exec = Jvm.exec) (hb : c.code = cc) {own : String} {index : Nat} (hown : s.vm.findClass own = some m.cls) {t t2 : Nat} (ht3 : t = 0 ∨ t = 2 ∨ t = 3) (ht2 : t2 = 0 ∨ t2 = 2 ∨ t2 = 3) (hne : t ≠ t2) (hlink : (Cond.classLink own index (nmA t2)).before args s = true) (hK : KK G s) (hX : XX G h0 H0 h H locs) (hva : v = .ref a) (ht : hT h a = 100 + t) (hdg : decode cc pc = .ok (.checkcast index, 3))
    (kk : ∀ text : String, (text == notModelled) = false → (stringBytes (stringToUtf16 text)).size ≤ 1000 → vx_Note p l e R s m args below meth c H locs cells slots Q (F0 m pc ls (v :: rest)) "java/lang/ClassCastException" text) : W p l e R s m args below meth c H locs cells slots Q (F0 m pc ls (v :: rest)) := by
  subst hva
  have hA := hX.1.arr ht (by omega)
  obtain ⟨c0, t0, f1, f2, f3⟩ := nc_of hG hK ht3 ht2 hne
  cases (nmA_ok hK ht3).symm.trans f1
  cases (nmA_ok hK ht2).symm.trans f2
  intro T hTt X
  have hpl : e.platform.magicAccessors = ({} : Platform).magicAccessors := by rw [X.admits.platform]
  obtain ⟨c', hc', hcl⟩ := Cond.classLink_spec hown hlink e.platform hpl
  cases f2.symm.trans hc'
  obtain ⟨dk, _, _, kt, hd, _, _, _, _, hkt, _, hopen⟩ := hcl.here
  have hcl₀ := X.warmed.classLinks hcl
  have hW' : s.WarmedH (T.vm.noted m.cls index (.cls (gL G (100 + t2)))) := X.warmed.noted hd hopen (State.rightAt_cls hcl)
  obtain ⟨ks, hks, ka⟩ := x_arrcls hK ht3
  obtain ⟨kt2, hkt2, kb⟩ := x_arrcls hK ht2
  cases hkt.symm.trans hkt2
  obtain ⟨ks', hks', eks⟩ := hW'.alike.2.2 _ _ hks
  obtain ⟨kt', hkt', ekt⟩ := hW'.alike.2.2 _ _ hkt
  have n1 := nmA_cl (vm := T.vm.noted m.cls index (.cls (gL G (100 + t2)))) (by rw [hW'.alike.findClass]; exact nmA_ok hK ht3) hks' (by rw [eks]; exact ka)
  have n2 := nmA_cl (vm := T.vm.noted m.cls index (.cls (gL G (100 + t2)))) (by rw [hW'.alike.findClass]; exact nmA_ok hK ht2) hkt' (by rw [ekt]; exact kb)
  have hm : ∀ t, t = 0 ∨ t = 2 ∨ t = 3 → nmA t ∈ ["[B", "[C", "[I"] := fun t h => by rcases h with rfl | rfl | rfl <;> decide
  have htx : (checkcast.message (T.vm.noted m.cls index (.cls (gL G (100 + t2)))) ks' kt' == notModelled) = false ∧ (stringBytes (stringToUtf16 (checkcast.message (T.vm.noted m.cls index (.cls (gL G (100 + t2)))) ks' kt'))).size ≤ 1000 := by
    have hok := ct_ok _ (hm t ht3) _ (hm t2 ht2)
    rcases ct_text (vm := T.vm.noted m.cls index (.cls (gL G (100 + t2)))) n1.1 n1.2.1 n1.2.2.1 n1.2.2.2 n2.1 n2.2.1 n2.2.2.1 n2.2.2.2 with z | z
    · rw [z]; exact ⟨hok.1.2, hok.1.1⟩
    · rw [z]; exact ⟨hok.2.2, hok.2.1⟩
  obtain ⟨t9, a1, b1⟩ := kk _ htx.1 htx.2 (T.setVm (T.vm.noted m.cls index (.cls (gL G (100 + t2))))) hTt (X.noted hW')
  refine ⟨t9, ?_, b1⟩
  have hdg' : decode c.code pc = .ok (.checkcast index, 3) := by rw [hb]; exact hdg
  have hasg : (T.vm.noted m.cls index (Resolved.cls (gL G (100 + t2)))).assignable (gL G (100 + t)) (gL G (100 + t2)) = false := by rw [hW'.alike.assignable]; exact f3
  jvm_step X.here [hexec, hdg', checkcast.wp_cold (e := e) (s := T) (f := F0 m pc ls (.ref a :: rest)) X.here.top rfl (resolveClass_links e.toSetting hcl₀) hcl₀.ready,
    checkcast.wp_ready (e := e) (s := T.setVm (T.vm.noted m.cls index (.cls (gL G (100 + t2))))) (f := F0 m pc ls (.ref a :: rest)) X.here.top hcl₀.ready rfl]
  refine ⟨_, by rw [hTt]; exact hA, (fun q z => by cases z), ks', hks', kt', hkt', ?_⟩
  rw [if_neg (by show ¬ (T.vm.noted m.cls index (Resolved.cls (gL G (100 + t2)))).assignable (gL G (100 + t)) (gL G (100 + t2)) = true; rw [hasg]; decide)]
  exact a1
end XC3
