/-! rows of the system's own shapes: lambdas, conditions, nodes, kinds, statics -/
/-- the interface call Holds.at(b) on the cell a answers r, within D levels -/
def AtOK (l : Launch) (G : Gt) (h : Hp) (a : Nat) (b r : Int32) (D : Nat) : Prop := (r = 0 ∨ r = 1) ∧ ∃ F Lo : Nat, F + 2 ≤ 2 * D ∧ Lo + 48 ≤ 64 * D ∧
  ((hT h a = 200 ∧ Met l yX3_lambda_wire_0 (ws_ yX3_lambda_wire_0 cX3_lambda_wire_0 2 (some .boolean)) (rmm F 0 0 Lo) (XP G [.int (hI h a 0), .int b] h) (XQp (some (.int r))) 0 0 (fun _ => False)) ∨
   (hT h a = 201 ∧ Met l yX3_lambda_condition_1 (ws_ yX3_lambda_condition_1 cX3_lambda_condition_1 2 (some .boolean)) (rmm F 0 0 Lo) (XP G [va_rf (hR h a 0), .int b] h) (XQp (some (.int r))) 0 0 (fun _ => False)) ∨
   (hT h a = 202 ∧ Met l yX3_lambda_ors_2 (ws_ yX3_lambda_ors_2 cX3_lambda_ors_2 3 (some .boolean)) (rmm F 0 0 Lo) (XP G [va_rf (hR h a 0), va_rf (hR h a 1), .int b] h) (XQp (some (.int r))) 0 0 (fun _ => False)) ∨
   (hT h a = 203 ∧ Met l yX3_lambda_ands_3 (ws_ yX3_lambda_ands_3 cX3_lambda_ands_3 3 (some .boolean)) (rmm F 0 0 Lo) (XP G [va_rf (hR h a 0), va_rf (hR h a 1), .int b] h) (XQp (some (.int r))) 0 0 (fun _ => False)))
/-- Node.weight(), least(), most() on the cell a answer r -/
def WeightOK (l : Launch) (G : Gt) (h : Hp) (a : Nat) (r : Int32) (D : Nat) : Prop := ∃ F Lo : Nat, F + 1 ≤ D + 3 ∧ Lo + 32 ≤ 64 * (D + 1) ∧
  ((hT h a = 8 ∧ Met l yX8_weight (ws_ yX8_weight cX8_weight 1 (some .int)) (rmm F 0 0 Lo) (XP G [.ref a] h) (XQp (some (.int r))) 0 0 (fun _ => False)) ∨
   (hT h a = 9 ∧ Met l yX9_weight (ws_ yX9_weight cX9_weight 1 (some .int)) (rmm F 0 0 Lo) (XP G [.ref a] h) (XQp (some (.int r))) 0 0 (fun _ => False)) ∨
   (hT h a = 10 ∧ Met l yX11_weight (ws_ yX11_weight cX11_weight 1 (some .int)) (rmm F 0 0 Lo) (XP G [.ref a] h) (XQp (some (.int r))) 0 0 (fun _ => False)) ∨
   (hT h a = 11 ∧ Met l yX12_weight (ws_ yX12_weight cX12_weight 1 (some .int)) (rmm F 0 0 Lo) (XP G [.ref a] h) (XQp (some (.int r))) 0 0 (fun _ => False)))
def LeastOK (l : Launch) (G : Gt) (h : Hp) (a : Nat) (r : Int32) (D : Nat) : Prop := ∃ F Lo : Nat, F + 1 ≤ D + 3 ∧ Lo + 32 ≤ 64 * (D + 1) ∧
  ((hT h a = 8 ∧ Met l yX8_least (ws_ yX8_least cX8_least 1 (some .int)) (rmm F 0 0 Lo) (XP G [.ref a] h) (XQp (some (.int r))) 0 0 (fun _ => False)) ∨
   (hT h a = 9 ∧ Met l yX9_least (ws_ yX9_least cX9_least 1 (some .int)) (rmm F 0 0 Lo) (XP G [.ref a] h) (XQp (some (.int r))) 0 0 (fun _ => False)) ∨
   (hT h a = 10 ∧ Met l yX11_least (ws_ yX11_least cX11_least 1 (some .int)) (rmm F 0 0 Lo) (XP G [.ref a] h) (XQp (some (.int r))) 0 0 (fun _ => False)) ∨
   (hT h a = 11 ∧ Met l yX12_least (ws_ yX12_least cX12_least 1 (some .int)) (rmm F 0 0 Lo) (XP G [.ref a] h) (XQp (some (.int r))) 0 0 (fun _ => False)))
def MostOK (l : Launch) (G : Gt) (h : Hp) (a : Nat) (r : Int32) (D : Nat) : Prop := ∃ F Lo : Nat, F + 1 ≤ D + 3 ∧ Lo + 32 ≤ 64 * (D + 1) ∧
  ((hT h a = 8 ∧ Met l yX8_most (ws_ yX8_most cX8_most 1 (some .int)) (rmm F 0 0 Lo) (XP G [.ref a] h) (XQp (some (.int r))) 0 0 (fun _ => False)) ∨
   (hT h a = 9 ∧ Met l yX9_most (ws_ yX9_most cX9_most 1 (some .int)) (rmm F 0 0 Lo) (XP G [.ref a] h) (XQp (some (.int r))) 0 0 (fun _ => False)) ∨
   (hT h a = 10 ∧ Met l yX11_most (ws_ yX11_most cX11_most 1 (some .int)) (rmm F 0 0 Lo) (XP G [.ref a] h) (XQp (some (.int r))) 0 0 (fun _ => False)) ∨
   (hT h a = 11 ∧ Met l yX12_most (ws_ yX12_most cX12_most 1 (some .int)) (rmm F 0 0 Lo) (XP G [.ref a] h) (XQp (some (.int r))) 0 0 (fun _ => False)))
/-- Node.built(m) on the cell a answers r; the heap becomes h1; k cells of n slots are made -/
def BuiltOK (l : Launch) (G : Gt) (h : Hp) (a : Nat) (mm r : Option Nat) (h1 : Hp) (k n D : Nat) : Prop := ∃ F Lo : Nat, F + 1 ≤ D + 3 ∧ Lo + 32 ≤ 64 * (D + 1) ∧
  ((hT h a = 8 ∧ Met l yX8_built (ws_ yX8_built cX8_built 2 (some (.object "PromiseTries$Part"))) (rmm F k n Lo) (XP G [.ref a, va_rf mm] h) (XQ G (some (va_rf r)) h h1) k n (fre h)) ∨
   (hT h a = 9 ∧ Met l yX9_built (ws_ yX9_built cX9_built 5 (some (.object "PromiseTries$Part"))) (rmm F k n Lo) (XP G [.ref a, va_rf mm] h) (XQ G (some (va_rf r)) h h1) k n (fre h)) ∨
   (hT h a = 10 ∧ Met l yX11_built (ws_ yX11_built cX11_built 3 (some (.object "PromiseTries$Part"))) (rmm F k n Lo) (XP G [.ref a, va_rf mm] h) (XQ G (some (va_rf r)) h h1) k n (fre h)) ∨
   (hT h a = 11 ∧ Met l yX12_built (ws_ yX12_built cX12_built 4 (some (.object "PromiseTries$Part"))) (rmm F k n Lo) (XP G [.ref a, va_rf mm] h) (XQ G (some (va_rf r)) h h1) k n (fre h)))
section XZ
variable {p : Program} {l : Launch} {e : Env} {R : Room} {s : State} {m : MethodId} {args : Array Value} {below : List Frame} {meth : Method} {c : Code} {H : Heap} {locs : List Loc} {cells slots : Nat} {Q : State → Prop}
variable {cc : ByteArray} {pc nL : Nat} {ls : Array Slot} {rest : List Value} {G : Gt} {h h0 : Hp} {H0 : Heap} {a : Nat} {v : Value}
theorem x_gets (hexec : p.tables.exec = Jvm.exec) (hb : c.code = cc) (hK : KK G s) (hX : XX G h0 H0 h H locs) {C n d own ref : String} {k index : Nat} (hk : k < 7) (hZ : va_Z C n d (va_rf (gK G k)) (gA G) s (gH G)) (h40 : hT h 0 = 400) (hown : s.vm.findClass own = some m.cls) (hlink : (Cond.fieldLink own index ref n d).before args s = true) (hsame : ∀ x, s.fieldFound? C n d = some x → s.fieldFound? ref n d = some x) (hdg : decode cc pc = .ok (.getstatic index, 3))
    (kk : W p l e R s m args below meth c H locs cells slots Q (F0 m (pc + 3) ls (va_rf (hR h 0 k) :: rest))) : W p l e R s m args below meth c H locs cells slots Q (F0 m pc ls rest) := by
  obtain ⟨cf, kf, fi, f, a, cell, h1, h2, h3, h4, h5, h6, h7, h8⟩ := hZ
  have ha : a < (gH G).size := (Array.getElem?_eq_some_iff.mp h5).1
  obtain ⟨-, -, -, -, -, c5⟩ := hX.1.2.2.2 0 (by omega)
  refine W.gets hexec hb hown hlink (hsame _ h1) h2 h3 h4 (by rw [hX.1.2.2.1 a ha]; exact h5) (fun e => by rw [e] at h6; cases h6) h7 rfl hdg ?_
  rw [← (c5 (by omega)).2 k hk]
  exact kk
theorem x_aastO (hexec : p.tables.exec = Jvm.exec) (hb : c.code = cc) (hK : KK G s) (hX : XX G h0 H0 h H locs) (hva : v = .ref a) (t : Nat) (ht : hT h a = 100 + t) (ht9 : t < 100) {C : String} (hty : aTy t = .object C) (htt : (tysG G)[t]? = some (gL G (100 + t), aTy t)) {w : Value} {q ci : Nat} {T : u_T} {N : Nat} (hwq : w = .ref q) (hci : ci < 99) (hc : vwCl[ci]? = some (C, T, N)) (hq : hT h q = ci + 1) {j : Int32} (hin : ¬ (j < 0 ∨ hN h a ≤ j.toNatClampNeg)) (hdg : decode cc pc = .ok (.aastore, 1))
    (kk : ∀ (H1 : Heap) (locs1 : List Loc), XX G h0 H0 (sR h a j.toNatClampNeg (some q)) H1 locs1 → W p l e R s m args below meth c H1 locs1 cells slots Q (F0 m (pc + 1) ls rest)) : W p l e R s m args below meth c H locs cells slots Q (F0 m pc ls (w :: .int j :: v :: rest)) := by
  subst hwq
  obtain ⟨cellV, g1, g2, g3, -⟩ := hX.1.obj hq hci hc
  have hcls := (hK.1.1 ci _ hc).2
  have h9 := (hK.1.2 t _ htt).2
  rw [hty] at h9
  obtain ⟨kA, comp, k1, k2, k3, -⟩ := h9
  have hcomp : comp = G.1.1 ci := Option.some.inj (k3.symm.trans hcls.1)
  subst hcomp
  obtain ⟨kC, hkC, -⟩ := hcls.2
  exact x_aast hexec hb hK hX hva t ht ht9 (by rw [hty]; rfl) (by rw [hty]; rfl) k1 (by rw [hty]; exact k2) hkC g1 (by rw [g3]; rfl) (by rw [g2]; exact hkC) (by rw [g2]; exact va_assign hcls) hin hdg kk
theorem Ext.nwX {t n : Nat} (hX : XX G h0 H0 h H locs) (ht : t ≠ 0) : Ext h (nw h t n) := by
  refine ⟨fun x hx => ?_, fun x hx => ?_, Nat.le_succ _⟩
  · show (if x = hZ h then t else hT h x) = _
    rw [if_neg (Nat.ne_of_lt (hX.1.lt hx))]
  · by_cases q : x = hZ h
    · exact Or.inr (by rw [q]; exact Nat.le_refl _)
    · have : hT (nw h t n) x = hT h x := by show (if x = hZ h then t else hT h x) = _; rw [if_neg q]
      rw [this] at hx
      exact Or.inl hx
end XZ
