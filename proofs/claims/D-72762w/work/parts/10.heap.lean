/-! THE WORLD AS A PLAIN HEAP: an address has a tag (0: none, c + 1: an object of the class c of vwCl, 100 + t: an array of the type aTy t, 200 + i: a lambda of site i, from 300 on: constants that nobody writes), a length, and cells of ints, longs, references by address and place -/
abbrev vwCl : List vw_C := [(RX0, TX0, 16), (RX1, TX1, 2), (RX2, TX2, 52), (RX3, TX3, 9), (RX4, TX4, 8), (RX5, TX5, 3), (RX6, TX6, 5), (RX8, TX8, 2), (RX9, TX9, 3), (RX11, TX11, 2), (RX12, TX12, 2), (RX13, TX13, 6), (RX14, TX14, 3)]
def fTy (ci k : Nat) : FieldType := match ci with
  | 0 => tyX0 k
  | 1 => tyX1 k
  | 2 => tyX2 k
  | 3 => tyX3 k
  | 4 => tyX4 k
  | 5 => tyX5 k
  | 6 => tyX6 k
  | 7 => tyX8 k
  | 8 => tyX9 k
  | 9 => tyX11 k
  | 10 => tyX12 k
  | 11 => tyX13 k
  | _ => tyX14 k
def aTy (t : Nat) : FieldType := match t with
  | 0 => .int
  | 1 => .long
  | 2 => .byte
  | 3 => .char
  | 4 => .boolean
  | 5 => .object "PromiseTries$Holds"
  | 6 => .object "PromiseTries$Side"
  | 7 => .object "PromiseTries$Promise"
  | 8 => .object "PromiseTries$Sheet"
  | 9 => .object "PromiseTries$Cells"
  | 10 => .array .int
  | _ => .array .long
def kd (t : FieldType) : Nat := match t with
  | .int => 0
  | .boolean => 0
  | .byte => 0
  | .char => 0
  | .short => 0
  | .long => 1
  | _ => 2
abbrev Hp : Type := (Nat → Nat) × (Nat → Nat) × (Nat → Nat → Int32) × (Nat → Nat → Int64) × (Nat → Nat → Option Nat) × Nat
def hT (h : Hp) : Nat → Nat := h.1
def hN (h : Hp) : Nat → Nat := h.2.1
def hI (h : Hp) : Nat → Nat → Int32 := h.2.2.1
def hL (h : Hp) : Nat → Nat → Int64 := h.2.2.2.1
def hR (h : Hp) : Nat → Nat → Option Nat := h.2.2.2.2.1
def hZ (h : Hp) : Nat := h.2.2.2.2.2
def up2 {α : Type} (f : Nat → Nat → α) (a k : Nat) (v : α) : Nat → Nat → α := fun a' k' => if a' = a ∧ k' = k then v else f a' k'
def sI (h : Hp) (a k : Nat) (v : Int32) : Hp := (hT h, hN h, up2 (hI h) a k v, hL h, hR h, hZ h)
def sL (h : Hp) (a k : Nat) (v : Int64) : Hp := (hT h, hN h, hI h, up2 (hL h) a k v, hR h, hZ h)
def sR (h : Hp) (a k : Nat) (v : Option Nat) : Hp := (hT h, hN h, hI h, hL h, up2 (hR h) a k v, hZ h)
def nw (h : Hp) (t n : Nat) : Hp := (fun a => if a = hZ h then t else hT h a, fun a => if a = hZ h then n else hN h a, fun a k => if a = hZ h then 0 else hI h a k, fun a k => if a = hZ h then 0 else hL h a k, fun a k => if a = hZ h then none else hR h a k, hZ h + 1)
def hv (t : FieldType) (h : Hp) (a k : Nat) : Value := match kd t with
  | 0 => .int (hI h a k)
  | 1 => .long (hL h a k)
  | _ => va_rf (hR h a k)
/-- the tables' part: classes, class numbers by tag, the heap at the law's start, addresses of constants -/
abbrev Gt : Type := va_G × (Nat → ClassId) × Heap × (Nat → Option Nat) × (State → Prop)
def gL (G : Gt) : Nat → ClassId := G.2.1
def gH (G : Gt) : Heap := G.2.2.1
def gK (G : Gt) : Nat → Option Nat := G.2.2.2.1
def gW (G : Gt) : State → Prop := G.2.2.2.2
def lamCell (G : Gt) (h : Hp) (a : Nat) : Cell := { cls := gL G (hT h a), slots := (if hT h a = 200 then [Value.int (hI h a 0)] else if hT h a = 201 then [va_rf (hR h a 0)] else [va_rf (hR h a 0), va_rf (hR h a 1)]).toArray, vm := .none }
def cOk (G : Gt) (h : Hp) (a : Nat) (H : Heap) : Prop :=
  (hT h a < 100 → ∃ r : vw_C, vwCl[hT h a - 1]? = some r ∧ t_OB a (G.1.1 (hT h a - 1)) r.2.2 (G.1.2 (hT h a - 1)) H (fun k => hv (fTy (hT h a - 1) k) h a k)) ∧
  (100 ≤ hT h a → hT h a < 200 → H[a]? = some (arrV (gL G (hT h a)) (hN h a) (fun j => hv (aTy (hT h a - 100)) h a j))) ∧
  (200 ≤ hT h a → hT h a < 300 → H[a]? = some (lamCell G h a)) ∧
  (300 ≤ hT h a → hT h a < 400 → ∃ cell : Cell, H[a]? = some cell ∧ cell.vm = .none ∧ cell.cls = gL G (hT h a)) ∧
  (400 ≤ hT h a → a < H.size ∧ ∀ k, k < 7 → hR h a k = gK G k)
def XW (G : Gt) (h : Hp) (H : Heap) : Prop := hZ h = H.size ∧ (gH G).size ≤ H.size ∧ (∀ q : Nat, q < (gH G).size → H[q]? = (gH G)[q]?) ∧ ∀ a : Nat, hT h a ≠ 0 → (hT h a < 300 → (gH G).size ≤ a) ∧ cOk G h a H
/-- which cells a method may change -/
def fre (h : Hp) : Nat → Prop := fun a => (hT h a ≠ 0 ∧ hT h a < 300) ∨ hZ h ≤ a
def Ext (h h' : Hp) : Prop := (∀ a, hT h a ≠ 0 → hT h' a = hT h a) ∧ (∀ a, hT h' a ≠ 0 → hT h a ≠ 0 ∨ hZ h ≤ a) ∧ hZ h ≤ hZ h'
theorem Ext.rf {h : Hp} : Ext h h := ⟨fun _ _ => rfl, fun _ q => Or.inl q, Nat.le_refl _⟩
theorem Ext.tr {h h1 h2 : Hp} (a : Ext h h1) (b : Ext h1 h2) : Ext h h2 := by
  refine ⟨fun x hx => ?_, fun x hx => ?_, Nat.le_trans a.2.2 b.2.2⟩
  · have h1 := a.1 x hx
    rw [b.1 x (by rw [h1]; exact hx), h1]
  · rcases b.2.1 x hx with q | q
    · exact a.2.1 x q
    · exact Or.inr (Nat.le_trans a.2.2 q)
theorem Ext.fre {h h1 : Hp} (a : Ext h h1) {q : Nat} (hq : fre h1 q) : fre h q := by
  rcases hq with ⟨q1, q2⟩ | q1
  · rcases a.2.1 q q1 with z | z
    · exact Or.inl ⟨z, by rw [← a.1 q z]; exact q2⟩
    · exact Or.inr z
  · exact Or.inr (Nat.le_trans a.2.2 q1)
/-- the walk's world: the heap is h, it came from h0, nothing else was written since H0 -/
def XX (G : Gt) (h0 : Hp) (H0 : Heap) (h : Hp) (H : Heap) (locs : List Loc) : Prop := XW G h H ∧ Ext h0 h ∧ va_S (fre h0) H0 H locs
theorem XX.start {G : Gt} {h : Hp} {H : Heap} (hW : XW G h H) : XX G h H h H [] := ⟨hW, Ext.rf, va_S.rf⟩
theorem XW.lt {G : Gt} {h : Hp} {H : Heap} (hW : XW G h H) {a : Nat} (ha : hT h a ≠ 0) : a < hZ h := by
  rw [hW.1]
  obtain ⟨-, c1, c2, c3, c4, c5⟩ := hW.2.2.2 a ha
  rcases Nat.lt_or_ge (hT h a) 100 with q | q
  · obtain ⟨r, -, cell, h1, -⟩ := c1 q
    exact (Array.getElem?_eq_some_iff.mp h1).1
  · rcases Nat.lt_or_ge (hT h a) 200 with q2 | q2
    · exact (Array.getElem?_eq_some_iff.mp (c2 q q2)).1
    · rcases Nat.lt_or_ge (hT h a) 300 with q3 | q3
      · exact (Array.getElem?_eq_some_iff.mp (c3 q2 q3)).1
      · rcases Nat.lt_or_ge (hT h a) 400 with q4 | q4
        · obtain ⟨cell, h1, -⟩ := c4 q3 q4
          exact (Array.getElem?_eq_some_iff.mp h1).1
        · exact (c5 q4).1
theorem XW.obj {G : Gt} {h : Hp} {H : Heap} (hW : XW G h H) {a ci : Nat} (ht : hT h a = ci + 1) (hc : ci < 99) {C : String} {T : u_T} {N : Nat} (hcl : vwCl[ci]? = some (C, T, N)) : t_OB a (G.1.1 ci) N (G.1.2 ci) H (fun k => hv (fTy ci k) h a k) := by
  obtain ⟨-, c1, -⟩ := hW.2.2.2 a (by rw [ht]; exact Nat.succ_ne_zero _)
  obtain ⟨r, h1, h2⟩ := c1 (by omega)
  have e : hT h a - 1 = ci := by omega
  rw [e] at h1 h2
  rw [hcl] at h1
  cases h1
  exact h2
theorem XW.arr {G : Gt} {h : Hp} {H : Heap} (hW : XW G h H) {a t : Nat} (ht : hT h a = 100 + t) (hc : t < 100) : H[a]? = some (arrV (gL G (100 + t)) (hN h a) (fun j => hv (aTy t) h a j)) := by
  obtain ⟨-, -, c2, -⟩ := hW.2.2.2 a (by omega)
  have := c2 (by omega) (by omega)
  rw [ht] at this
  rw [this]
  simp
/-- a cell's contents are what h says of it: nothing else of h counts -/
theorem cOk.moved {G : Gt} {h h1 : Hp} {a : Nat} {H H1 : Heap} (c : cOk G h a H) (eT : hT h1 a = hT h a) (eN : hN h1 a = hN h a) (eI : ∀ k, hI h1 a k = hI h a k) (eL : ∀ k, hL h1 a k = hL h a k) (eR : ∀ k, hR h1 a k = hR h a k) (eH : H1[a]? = H[a]?) (eS : H.size ≤ H1.size) : cOk G h1 a H1 := by
  have ev : ∀ t k, hv t h1 a k = hv t h a k := fun t k => by unfold hv; rw [eI, eL, eR]
  have el : lamCell G h1 a = lamCell G h a := by unfold lamCell; rw [eT, eI, eR, eR]
  obtain ⟨c1, c2, c3, c4, c5⟩ := c
  refine ⟨fun q => ?_, fun q1 q2 => ?_, fun q1 q2 => ?_, fun q1 q2 => ?_, fun q => ?_⟩
  · rw [eT] at q ⊢
    obtain ⟨r, h1, h2⟩ := c1 q
    exact ⟨r, h1, (h2.kept eH).to fun k _ => (ev _ k).symm⟩
  · rw [eT] at q1 q2 ⊢
    rw [eH, c2 q1 q2, eN]
    congr 2
    funext j
    exact (ev _ j).symm
  · rw [eT] at q1 q2
    rw [eH, c3 q1 q2, el]
  · rw [eT] at q1 q2 ⊢
    rw [eH]
    exact c4 q1 q2
  · rw [eT] at q
    exact ⟨Nat.lt_of_lt_of_le (c5 q).1 eS, fun k hk => by rw [eR]; exact (c5 q).2 k hk⟩
def hvU (t : FieldType) (v : Value) : Prop := match kd t with
  | 0 => ∃ x, v = .int x
  | 1 => ∃ x, v = .long x
  | _ => ∃ x, v = va_rf x
/-- one cell written at one place, with a value of its kind -/
theorem XW.put {G : Gt} {h h1 : Hp} {H H1 : Heap} (hW : XW G h H) {a : Nat} (ha : hT h a ≠ 0) (eT : hT h1 = hT h) (eN : hN h1 = hN h) (eZ : hZ h1 = hZ h) (eI : ∀ b k, b ≠ a → hI h1 b k = hI h b k) (eL : ∀ b k, b ≠ a → hL h1 b k = hL h b k) (eR : ∀ b k, b ≠ a → hR h1 b k = hR h b k) (z : H1.size = H.size) (oq : ∀ q : Nat, q ≠ a → H1[q]? = H[q]?) (hlt : hT h a < 300) (hc : cOk G h1 a H1) : XW G h1 H1 := by
  refine ⟨by rw [eZ, z]; exact hW.1, by rw [z]; exact hW.2.1, fun q hq => ?_, fun b hb => ?_⟩
  · have : q ≠ a := fun e => by
      subst e
      have := (hW.2.2.2 q ha).1 hlt
      omega
    rw [oq q this]
    exact hW.2.2.1 q hq
  · rw [eT] at hb ⊢
    refine ⟨(hW.2.2.2 b hb).1, ?_⟩
    by_cases hba : b = a
    · subst hba; exact hc
    · exact (hW.2.2.2 b hb).2.moved (by rw [eT]) (by rw [eN]) (fun k => eI b k hba) (fun k => eL b k hba) (fun k => eR b k hba) (oq b hba) (by rw [z]; exact Nat.le_refl _)
theorem XX.put {G : Gt} {h0 h h1 : Hp} {H0 H H1 : Heap} {locs : List Loc} (hX : XX G h0 H0 h H locs) {a k : Nat} (ha : hT h a ≠ 0) (eT : hT h1 = hT h) (eN : hN h1 = hN h) (eZ : hZ h1 = hZ h) (eI : ∀ b k, b ≠ a → hI h1 b k = hI h b k) (eL : ∀ b k, b ≠ a → hL h1 b k = hL h b k) (eR : ∀ b k, b ≠ a → hR h1 b k = hR h b k) (z : H1.size = H.size) (oq : ∀ q : Nat, q ≠ a → H1[q]? = H[q]?) (hlt : hT h a < 300) (hc : cOk G h1 a H1) : XX G h0 H0 h1 H1 (locs ++ [⟨a, k⟩]) := by
  refine ⟨hX.1.put ha eT eN eZ eI eL eR z oq hlt hc, ⟨fun x hx => by rw [eT]; exact hX.2.1.1 x hx, fun x hx => hX.2.1.2.1 x (by rw [← eT]; exact hx), by rw [eZ]; exact hX.2.1.2.2⟩, hX.2.2.put z oq (hX.2.1.fre (Or.inl ⟨ha, hlt⟩))⟩
theorem XX.new {G : Gt} {h0 h : Hp} {H0 H H1 : Heap} {locs : List Loc} (hX : XX G h0 H0 h H locs) {t n : Nat} (ht : t ≠ 0) (z : H1.size = H.size + 1) (oq : ∀ q : Nat, q < H.size → H1[q]? = H[q]?) (hc : cOk G (nw h t n) H.size H1) : XX G h0 H0 (nw h t n) H1 locs := by
  have eZ := hX.1.1
  have nwT : ∀ b, b ≠ H.size → hT (nw h t n) b = hT h b := fun b hb => by show (if b = hZ h then t else hT h b) = _; rw [if_neg (by rw [eZ]; exact hb)]
  have nwN : ∀ b, b ≠ H.size → hN (nw h t n) b = hN h b := fun b hb => by show (if b = hZ h then n else hN h b) = _; rw [if_neg (by rw [eZ]; exact hb)]
  have nwI : ∀ b k, b ≠ H.size → hI (nw h t n) b k = hI h b k := fun b k hb => by show (if b = hZ h then 0 else hI h b k) = _; rw [if_neg (by rw [eZ]; exact hb)]
  have nwL : ∀ b k, b ≠ H.size → hL (nw h t n) b k = hL h b k := fun b k hb => by show (if b = hZ h then 0 else hL h b k) = _; rw [if_neg (by rw [eZ]; exact hb)]
  have nwR : ∀ b k, b ≠ H.size → hR (nw h t n) b k = hR h b k := fun b k hb => by show (if b = hZ h then none else hR h b k) = _; rw [if_neg (by rw [eZ]; exact hb)]
  have tz : hT (nw h t n) H.size = t := by show (if H.size = hZ h then t else _) = _; rw [if_pos eZ.symm]
  refine ⟨⟨by show hZ h + 1 = _; rw [z, eZ], by rw [z]; have := hX.1.2.1; omega, fun q hq => ?_, fun b hb => ?_⟩, ⟨fun x hx => ?_, fun x hx => ?_, by show hZ h0 ≤ hZ h + 1; have := hX.2.1.2.2; omega⟩, ?_⟩
  · rw [oq q (by have := hX.1.2.1; omega)]
    exact hX.1.2.2.1 q hq
  · by_cases hbz : b = H.size
    · subst hbz
      exact ⟨fun _ => hX.1.2.1, hc⟩
    · rw [nwT b hbz] at hb ⊢
      refine ⟨(hX.1.2.2.2 b hb).1, (hX.1.2.2.2 b hb).2.moved (nwT b hbz) (nwN b hbz) (fun k => nwI b k hbz) (fun k => nwL b k hbz) (fun k => nwR b k hbz) (oq b ?_) (by rw [z]; exact Nat.le_succ _)⟩
      have := hX.1.lt hb
      rw [eZ] at this
      exact this
  · have h1 := hX.2.1.1 x hx
    have h2 : x ≠ H.size := fun e => by
      have := hX.1.lt (a := x) (by rw [h1]; exact hx)
      rw [eZ] at this
      omega
    rw [nwT x h2]
    exact h1
  · by_cases hbz : x = H.size
    · subst hbz
      have := hX.2.1.2.2
      exact Or.inr (by rw [eZ] at this; exact this)
    · rw [nwT x hbz] at hx
      exact hX.2.1.2.1 x hx
  · exact ⟨by rw [z]; have := hX.2.2.1; omega, fun x h1 h2 => (oq x (Nat.lt_of_lt_of_le h1 hX.2.2.1)).trans (hX.2.2.2.1 x h1 h2), hX.2.2.2.2⟩
