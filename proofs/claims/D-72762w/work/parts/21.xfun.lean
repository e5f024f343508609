/-! the system's methods as Lean functions (by program) -/
def X_begin (a : Nat) (u : Int32) (h : Hp) : Option Int32 := if hT h a = 300 then some u else if hT h a = 301 then some (u + 1) else none
def X_Throwable_init_b41 (n : Nat) (o : Nat) (v1 : Option Nat) (v2 : Option Nat) (v3 : Int32) (h_8 : Hp) : Option (Hp) :=
  st (sR h_8 o 3 v1) fun h9 =>
  st (sR h9 o 0 v2) fun h10 =>
  if v3 = 0 then
    st (sR h10 o 2 none) fun h12 =>
    some h12
  else
    some h10
def X_Throwable_init (n : Nat) (o : Nat) (p1 : Option Nat) (p2 : Option Nat) (p3 : Int32) (p4 : Int32) (h : Hp) : Option (Hp) :=
  gd (hT h o = 5) <|
  st (sR h o 0 (some o)) fun h1 =>
  gd (hT h1 0 = 400) <|
  st (sR h1 o 1 (hR h1 0 5)) fun h3 =>
  gd (hT h3 0 = 400) <|
  st (sR h3 o 2 (hR h3 0 6)) fun h5 =>
  if p4 = 0 then
    st (sR h5 o 1 none) fun h7 =>
    X_Throwable_init_b41 n o p1 p2 p3 h7
  else
    none
def X_Exception_init (n : Nat) (o : Nat) (p1 : Option Nat) (p2 : Option Nat) (p3 : Int32) (p4 : Int32) (h : Hp) : Option (Hp) :=
  bd (X_Throwable_init n o p1 p2 p3 p4 h) fun h2 =>
  some h2
def X_RuntimeException_init (n : Nat) (o : Nat) (p1 : Option Nat) (p2 : Option Nat) (p3 : Int32) (p4 : Int32) (h : Hp) : Option (Hp) :=
  bd (X_Exception_init n o p1 p2 p3 p4 h) fun h2 =>
  some h2
def X_isIn_b17 (n : Nat) : Option (Int32) :=
  some 0
def X_isIn (n : Nat) (p0 : Int64) (p2 : Int64) (p4 : Int64) : Option (Int32) :=
  if (lg_cmp p0 p2) < 0 then
    X_isIn_b17 n
  else
    if 0 < (lg_cmp p0 p4) then
      X_isIn_b17 n
    else
      some 1
def X_feed (n : Nat) (o : Nat) (p1 : Int32) (h : Hp) : Option (Int32 × Hp) :=
  gd (hT h o = 1) <|
  bd (X_isIn n (Int32.toInt64 p1) 0 127) fun r2 =>
  if r2 = 0 then
    some ((-1), h)
  else
    if (hI h o 1) = 200 then
      some ((-3), h)
    else
      bd (hR h o 0) fun a5 =>
      gd (hT h a5 = 102) <|
      gd (¬ ((hI h o 1) < 0 ∨ hN h a5 ≤ Int32.toNatClampNeg (hI h o 1))) <|
      st (sI h a5 (Int32.toNatClampNeg (hI h o 1)) (vp_nar .byte (Int8.toInt32 (Int32.toInt8 p1)))) fun h9 =>
      st (sI h9 o 1 ((hI h9 o 1) + 1)) fun h10 =>
      some ((hI h10 o 1), h10)
def X_end (n : Nat) (o : Nat) (p1 : Int32) (h : Hp) : Option (Int32 × Hp) :=
  gd (hT h o = 1) <|
  bd (X_isIn n (Int32.toInt64 p1) 0 (Int32.toInt64 (hI h o 1))) fun r2 =>
  if r2 = 0 then
    some ((-1), h)
  else
    st (sI h o 1 p1) fun h4 =>
    some ((hI h o 1), h4)
def X_Reader_at (n : Nat) (o : Nat) (p1 : Int32) (h : Hp) : Option (Int32) :=
  gd (hT h o = 4) <|
  bd (hR h o 0) fun a1 =>
  gd (hT h a1 = 102) <|
  if (nI (hN h a1)) ≤ p1 then
    some (-4)
  else
    gd (¬ (p1 < 0 ∨ hN h a1 ≤ Int32.toNatClampNeg p1)) <|
    some (hI h a1 (Int32.toNatClampNeg p1))
def X_Fault_init (n : Nat) (o : Nat) (p1 : Int32) (p2 : Int32) (h : Hp) : Option (Hp) :=
  gd (hT h o = 5) <|
  bd (X_RuntimeException_init n o none none 0 0 h) fun h2 =>
  st (sI h2 o 6 p1) fun h3 =>
  st (sI h3 o 7 p2) fun h4 =>
  some h4
def X_Reader_must (n : Nat) (o : Nat) (p1 : Int32) (p2 : Int32) (h : Hp) : Option ((Sum (Unit) Nat × Hp) × Nat × Nat) :=
  gd (hT h o = 4) <|
  if p1 = 0 then
    ad 1 8 <|
    st (nw h 5 0) fun h6 =>
    bd (X_Fault_init n (hZ h) p2 (hI h6 o 5) h6) fun h9 =>
    gd (hT h9 (hZ h) = 5) <|
    some ((.inr (hZ h), h9), 0, 0)
  else
    some ((.inl (), h), 0, 0)
def X_Reader_isMark_b124 (n : Nat) : Option (Int32) :=
  some 1
def X_Reader_isMark (n : Nat) (p0 : Int32) : Option (Int32) :=
  if p0 = 33 then
    X_Reader_isMark_b124 n
  else
    if p0 = 38 then
      X_Reader_isMark_b124 n
    else
      if p0 = 40 then
        X_Reader_isMark_b124 n
      else
        if p0 = 41 then
          X_Reader_isMark_b124 n
        else
          if p0 = 42 then
            X_Reader_isMark_b124 n
          else
            if p0 = 44 then
              X_Reader_isMark_b124 n
            else
              if p0 = 47 then
                X_Reader_isMark_b124 n
              else
                if p0 = 59 then
                  X_Reader_isMark_b124 n
                else
                  if p0 = 61 then
                    X_Reader_isMark_b124 n
                  else
                    if p0 = 62 then
                      X_Reader_isMark_b124 n
                    else
                      if p0 = 123 then
                        X_Reader_isMark_b124 n
                      else
                        if p0 = 124 then
                          X_Reader_isMark_b124 n
                        else
                          if p0 = 125 then
                            X_Reader_isMark_b124 n
                          else
                            if p0 = 126 then
                              X_Reader_isMark_b124 n
                            else
                              some 0
def X_Reader_next_b225 (n : Nat) (o : Nat) (t0 : Int32) (h_42 : Hp) : Option ((Sum (Unit) Nat × Hp) × Nat × Nat) :=
  bdX (X_Reader_must n o t0 1 h_42) fun _ h44 =>
  st (sI h44 o 7 2) fun h56 =>
  some ((.inl (), h56), 0, 0)
def X_Reader_next_b190 (n : Nat) (o : Nat) (K129 : Hp → Option ((Sum (Unit) Nat × Hp) × Nat × Nat)) (t0 : Int32) (h_58 : Hp) : Option ((Sum (Unit) Nat × Hp) × Nat × Nat) :=
  st (sI h_58 o 8 t0) fun h59 =>
  st (sI h59 o 6 ((hI h59 o 6) + 1)) fun h60 =>
  K129 h60
def X_Reader_next_b129 (n : Nat) (o : Nat) : Nat → Hp → Option ((Sum (Unit) Nat × Hp) × Nat × Nat)
  | 0, _ => none
  | f + 1, h_35 =>
    bd (X_Reader_at n o (hI h_35 o 6) h_35) fun r37 =>
    bd (X_isIn n (Int32.toInt64 r37) 48 57) fun r39 =>
    if r39 = 0 then
      if 2 < ((hI h_35 o 6) - (hI h_35 o 5)) then
        X_Reader_next_b225 n o 0 h_35
      else
        X_Reader_next_b225 n o 1 h_35
    else
      if 2 ≤ ((hI h_35 o 6) - (hI h_35 o 5)) then
        X_Reader_next_b190 n o (X_Reader_next_b129 n o f) (hI h_35 o 8) h_35
      else
        bd (X_Reader_at n o (hI h_35 o 6) h_35) fun r62 =>
        X_Reader_next_b190 n o (X_Reader_next_b129 n o f) (((10 * (hI h_35 o 8)) + r62) - 48) h_35
def X_Reader_next_b8 (n : Nat) (o : Nat) : Nat → Hp → Option ((Sum (Unit) Nat × Hp) × Nat × Nat)
  | 0, _ => none
  | f + 1, h_2 =>
    bd (X_Reader_at n o (hI h_2 o 5) h_2) fun r4 =>
    if r4 = 32 then
      st (sI h_2 o 5 ((hI h_2 o 5) + 1)) fun h66 =>
      (X_Reader_next_b8 n o f) h66
    else
      bd (X_Reader_at n o (hI h_2 o 5) h_2) fun r7 =>
      st (sI h_2 o 6 ((hI h_2 o 5) + 1)) fun h8 =>
      st (sI h8 o 8 r7) fun h9 =>
      if r7 = (-4) then
        st (sI h9 o 6 (hI h9 o 5)) fun h64 =>
        st (sI h64 o 7 0) fun h65 =>
        some ((.inl (), h65), 0, 0)
      else
        bd (X_isIn n (Int32.toInt64 r7) 97 104) fun r12 =>
        if r12 = 0 then
          bd (X_isIn n (Int32.toInt64 r7) 48 57) fun r15 =>
          if r15 = 0 then
            bd (X_Reader_isMark n r7) fun r18 =>
            bdX (X_Reader_must n o r18 1 h9) fun _ h20 =>
            st (sI h20 o 7 3) fun h32 =>
            some ((.inl (), h32), 0, 0)
          else
            st (sI h9 o 6 (hI h9 o 5)) fun h33 =>
            st (sI h33 o 8 0) fun h34 =>
            X_Reader_next_b129 n o n h34
        else
          st (sI h9 o 7 1) fun h63 =>
          some ((.inl (), h63), 0, 0)
def X_Reader_next (n : Nat) (o : Nat) (h : Hp) : Option ((Sum (Unit) Nat × Hp) × Nat × Nat) :=
  gd (hT h o = 4) <|
  st (sI h o 5 (hI h o 6)) fun h1 =>
  X_Reader_next_b8 n o n h1
def X_Reader_init (n : Nat) (o : Nat) (p1 : Option Nat) (h : Hp) : Option ((Sum (Unit) Nat × Hp) × Nat × Nat) :=
  gd (hT h o = 4) <|
  ad 1 (Int32.toNatClampNeg 4) <|
  st (nw h 107 (Int32.toNatClampNeg 4)) fun h5 =>
  st (sR h5 o 1 (some (hZ h))) fun h7 =>
  st (sR h7 o 0 p1) fun h8 =>
  bdX (X_Reader_next n o h8) fun _ h10 =>
  some ((.inl (), h10), 0, 0)
def X_Reader_isSign_b20 (n : Nat) (o : Nat) (h : Hp) : Option (Int32) :=
  some 0
def X_Reader_isSign (n : Nat) (o : Nat) (p1 : Int32) (h : Hp) : Option (Int32) :=
  gd (hT h o = 4) <|
  if (hI h o 7) = 3 then
    if (hI h o 8) = p1 then
      some 1
    else
      X_Reader_isSign_b20 n o h
  else
    X_Reader_isSign_b20 n o h
def X_Side_init (n : Nat) (o : Nat) (h : Hp) : Option ((Hp) × Nat × Nat) :=
  gd (hT h o = 7) <|
  ad 1 (Int32.toNatClampNeg 41) <|
  st (nw h 105 (Int32.toNatClampNeg 41)) fun h5 =>
  st (sR h5 o 0 (some (hZ h))) fun h7 =>
  ad (1 + (Int32.toNatClampNeg 48)) ((Int32.toNatClampNeg 48) + (Int32.toNatClampNeg 48) * (Int32.toNatClampNeg 48)) <|
  st (nwM h7 111 101 (Int32.toNatClampNeg 48) (Int32.toNatClampNeg 48)) fun h12 =>
  st (sR h12 o 4 (some (hZ h7))) fun h13 =>
  some (h13, 0, 0)
def X_Promise_init (n : Nat) (o : Nat) (h : Hp) : Option ((Hp) × Nat × Nat) :=
  gd (hT h o = 6) <|
  ad 1 (Int32.toNatClampNeg 2) <|
  st (nw h 106 (Int32.toNatClampNeg 2)) fun h5 =>
  ad 1 5 <|
  st (nw h5 7 0) fun h11 =>
  bdAv (X_Side_init n (hZ h5) h11) fun h14 =>
  gd (hT h14 (hZ h) = 106) <|
  gd (hT h14 (hZ h5) = 7) <|
  gd (¬ ((0 : Int32) < 0 ∨ hN h14 (hZ h) ≤ Int32.toNatClampNeg 0)) <|
  st (sR h14 (hZ h) (Int32.toNatClampNeg 0) (some (hZ h5))) fun h24 =>
  ad 1 5 <|
  st (nw h24 7 0) fun h29 =>
  bdAv (X_Side_init n (hZ h24) h29) fun h32 =>
  gd (hT h32 (hZ h) = 106) <|
  gd (hT h32 (hZ h24) = 7) <|
  gd (¬ ((1 : Int32) < 0 ∨ hN h32 (hZ h) ≤ Int32.toNatClampNeg 1)) <|
  st (sR h32 (hZ h) (Int32.toNatClampNeg 1) (some (hZ h24))) fun h42 =>
  st (sR h42 o 0 (some (hZ h))) fun h43 =>
  some (h43, 0, 0)
def X_Reader_opens_b15 (n : Nat) (o : Nat) (t0 : Int32) (h_2 : Hp) : Option ((Sum (Unit) Nat × Hp) × Nat × Nat) :=
  bdX (X_Reader_must n o t0 4 h_2) fun _ h4 =>
  st (sI h4 o 4 ((hI h4 o 4) + 1)) fun h16 =>
  bdX (X_Reader_next n o h16) fun _ h18 =>
  some ((.inl (), h18), 0, 0)
def X_Reader_opens (n : Nat) (o : Nat) (h : Hp) : Option ((Sum (Unit) Nat × Hp) × Nat × Nat) :=
  gd (hT h o = 4) <|
  if 8 ≤ (hI h o 4) then
    X_Reader_opens_b15 n o 0 h
  else
    X_Reader_opens_b15 n o 1 h
def X_Reader_closes (n : Nat) (o : Nat) (p1 : Int32) (h : Hp) : Option ((Sum (Unit) Nat × Hp) × Nat × Nat) :=
  gd (hT h o = 4) <|
  bd (X_Reader_isSign n o p1 h) fun r2 =>
  bdX (X_Reader_must n o r2 2 h) fun _ h4 =>
  st (sI h4 o 4 ((hI h4 o 4) - 1)) fun h16 =>
  bdX (X_Reader_next n o h16) fun _ h18 =>
  some ((.inl (), h18), 0, 0)
def X_Reader_wire (n : Nat) (o : Nat) (h : Hp) : Option ((Sum (Option Nat) Nat × Hp) × Nat × Nat) :=
  gd (hT h o = 4) <|
  bdX (X_Reader_next n o h) fun _ h2 =>
  ad 1 1 <|
  st (sI (nw h2 200 0) (hZ h2) 0 ((hI h o 8) - 97)) fun h18 =>
  some ((.inl (some (hZ h2)), h18), 0, 0)
def X_Reader_bracket (n : Nat) (fo : Nat → Hp → Option ((Sum (Option Nat) Nat × Hp) × Nat × Nat)) (o : Nat) (h : Hp) : Option ((Sum (Option Nat) Nat × Hp) × Nat × Nat) :=
  gd (hT h o = 4) <|
  bdX (X_Reader_opens n o h) fun _ h2 =>
  bdX (fo o h2) fun r23 h15 =>
  bdX (X_Reader_closes n o 41 h15) fun _ h28 =>
  some ((.inl r23, h28), 0, 0)
def X_Reader_condition_b74 (n : Nat) (fo : Nat → Hp → Option ((Sum (Option Nat) Nat × Hp) × Nat × Nat)) (o : Nat) (v1 : Int32) (t0 : Option Nat) (h_35 : Hp) : Option ((Sum (Option Nat) Nat × Hp) × Nat × Nat) :=
  if v1 = 0 then
    some ((.inl t0, h_35), 0, 0)
  else
    ad 1 1 <|
    st (sR (nw h_35 201 0) (hZ h_35) 0 t0) fun h41 =>
    some ((.inl (some (hZ h_35)), h41), 0, 0)
def X_Reader_condition_b51 (n : Nat) (fo : Nat → Hp → Option ((Sum (Option Nat) Nat × Hp) × Nat × Nat)) (o : Nat) (v1 : Int32) (t0 : Int32) (h_7 : Hp) : Option ((Sum (Option Nat) Nat × Hp) × Nat × Nat) :=
  bdX (X_Reader_must n o t0 2 h_7) fun _ h9 =>
  if (hI h9 o 7) = 1 then
    bdX (X_Reader_wire n o h9) fun r51 h43 =>
    X_Reader_condition_b74 n fo o v1 r51 h43
  else
    bdX (X_Reader_bracket n fo o h9) fun r31 h23 =>
    X_Reader_condition_b74 n fo o v1 r31 h23
def X_Reader_condition_b46 (n : Nat) (fo : Nat → Hp → Option ((Sum (Option Nat) Nat × Hp) × Nat × Nat)) (o : Nat) (v1 : Int32) (h_6 : Hp) : Option ((Sum (Option Nat) Nat × Hp) × Nat × Nat) :=
  X_Reader_condition_b51 n fo o v1 1 h_6
def X_Reader_condition_b20 (n : Nat) (fo : Nat → Hp → Option ((Sum (Option Nat) Nat × Hp) × Nat × Nat)) (o : Nat) (K2 : Int32 → Hp → Option ((Sum (Option Nat) Nat × Hp) × Nat × Nat)) (t0 : Int32) (h_59 : Hp) : Option ((Sum (Option Nat) Nat × Hp) × Nat × Nat) :=
  bdX (X_Reader_next n o h_59) fun _ h61 =>
  K2 t0 h61
def X_Reader_condition_b2 (n : Nat) (fo : Nat → Hp → Option ((Sum (Option Nat) Nat × Hp) × Nat × Nat)) (o : Nat) : Nat → Int32 → Hp → Option ((Sum (Option Nat) Nat × Hp) × Nat × Nat)
  | 0, _, _ => none
  | f + 1, v1, h_1 =>
    bd (X_Reader_isSign n o 33 h_1) fun r3 =>
    if r3 = 0 then
      if (hI h_1 o 7) = 1 then
        X_Reader_condition_b46 n fo o v1 h_1
      else
        bd (X_Reader_isSign n o 40 h_1) fun r56 =>
        if r56 = 0 then
          X_Reader_condition_b51 n fo o v1 0 h_1
        else
          X_Reader_condition_b46 n fo o v1 h_1
    else
      if v1 = 0 then
        X_Reader_condition_b20 n fo o (X_Reader_condition_b2 n fo o f) 1 h_1
      else
        X_Reader_condition_b20 n fo o (X_Reader_condition_b2 n fo o f) 0 h_1
def X_Reader_condition (n : Nat) (fo : Nat → Hp → Option ((Sum (Option Nat) Nat × Hp) × Nat × Nat)) (o : Nat) (h : Hp) : Option ((Sum (Option Nat) Nat × Hp) × Nat × Nat) :=
  gd (hT h o = 4) <|
  X_Reader_condition_b2 n fo o n 0 h
def X_Node_init (n : Nat) (o : Nat) (h : Hp) : Option (Unit) :=
  some ()
def X_Atom_init (n : Nat) (o : Nat) (p1 : Int32) (p2 : Option Nat) (h : Hp) : Option (Hp) :=
  gd (hT h o = 8) <|
  bd (X_Node_init n o h) fun _ =>
  st (sI h o 0 p1) fun h2 =>
  st (sR h2 o 1 p2) fun h3 =>
  some h3
def X_Reader_ands_b5 (n : Nat) (fo : Nat → Hp → Option ((Sum (Option Nat) Nat × Hp) × Nat × Nat)) (o : Nat) : Nat → Option Nat → Hp → Option ((Sum (Option Nat) Nat × Hp) × Nat × Nat)
  | 0, _, _ => none
  | f + 1, v1, h_14 =>
    bd (X_Reader_isSign n o 38 h_14) fun r16 =>
    if r16 = 0 then
      some ((.inl v1, h_14), 0, 0)
    else
      bdX (X_Reader_next n o h_14) fun _ h19 =>
      bdX (X_Reader_condition n fo o h19) fun r40 h32 =>
      ad 1 2 <|
      st (sR (sR (nw h32 203 0) (hZ h32) 0 v1) (hZ h32) 1 r40) fun h48 =>
      (X_Reader_ands_b5 n fo o f) (some (hZ h32)) h48
def X_Reader_ands (n : Nat) (fo : Nat → Hp → Option ((Sum (Option Nat) Nat × Hp) × Nat × Nat)) (o : Nat) (h : Hp) : Option ((Sum (Option Nat) Nat × Hp) × Nat × Nat) :=
  gd (hT h o = 4) <|
  bdX (X_Reader_condition n fo o h) fun r10 h2 =>
  X_Reader_ands_b5 n fo o n r10 h2
def X_Reader_ors_b5 (n : Nat) (fo : Nat → Hp → Option ((Sum (Option Nat) Nat × Hp) × Nat × Nat)) (o : Nat) : Nat → Option Nat → Hp → Option ((Sum (Option Nat) Nat × Hp) × Nat × Nat)
  | 0, _, _ => none
  | f + 1, v1, h_14 =>
    bd (X_Reader_isSign n o 124 h_14) fun r16 =>
    if r16 = 0 then
      some ((.inl v1, h_14), 0, 0)
    else
      bdX (X_Reader_next n o h_14) fun _ h19 =>
      bdX (X_Reader_ands n fo o h19) fun r40 h32 =>
      ad 1 2 <|
      st (sR (sR (nw h32 202 0) (hZ h32) 0 v1) (hZ h32) 1 r40) fun h48 =>
      (X_Reader_ors_b5 n fo o f) (some (hZ h32)) h48
def X_Reader_ors (n : Nat) (fo : Nat → Hp → Option ((Sum (Option Nat) Nat × Hp) × Nat × Nat)) (o : Nat) (h : Hp) : Option ((Sum (Option Nat) Nat × Hp) × Nat × Nat) :=
  gd (hT h o = 4) <|
  bdX (X_Reader_ands n fo o h) fun r10 h2 =>
  X_Reader_ors_b5 n fo o n r10 h2
def X_ors (n : Nat) : Nat → Nat → Hp → Option ((Sum (Option Nat) Nat × Hp) × Nat × Nat)
  | 0, _, _ => none
  | d + 1, o, h => X_Reader_ors n (X_ors n d) o h
def X_Reader_atom_b55 (n : Nat) (fo : Nat → Hp → Option ((Sum (Option Nat) Nat × Hp) × Nat × Nat)) (o : Nat) (v1 : Int32) (v2 : Option Nat) (h_21 : Hp) : Option ((Sum (Option Nat) Nat × Hp) × Nat × Nat) :=
  bd (hR h_21 o 3) fun a22 =>
  gd (hT h_21 a22 = 7) <|
  st (sI h_21 a22 1 ((hI h_21 a22 1) + 1)) fun h25 =>
  ad 1 2 <|
  st (nw h25 8 0) fun h30 =>
  bd (X_Atom_init n (hZ h25) v1 v2 h30) fun h33 =>
  some ((.inl (some (hZ h25)), h33), 0, 0)
def X_Reader_atom (n : Nat) (fo : Nat → Hp → Option ((Sum (Option Nat) Nat × Hp) × Nat × Nat)) (o : Nat) (h : Hp) : Option ((Sum (Option Nat) Nat × Hp) × Nat × Nat) :=
  gd (hT h o = 4) <|
  bd (X_Reader_isSign n o 123 h) fun r2 =>
  if r2 = 0 then
    bd (hR h o 3) fun a4 =>
    gd (hT h a4 = 7) <|
    bdX (X_Reader_condition n (X_ors n 12) o h) fun r16 h8 =>
    if 40 < (hI h a4 1) then
      X_Reader_atom_b55 n fo o (hI h a4 1) r16 h8
    else
      bd (hR h8 o 3) fun a34 =>
      gd (hT h8 a34 = 7) <|
      bd (hR h8 a34 0) fun a37 =>
      gd (hT h8 a37 = 105) <|
      bd r16 fun a40 =>
      gd (200 ≤ hT h8 a40 ∧ hT h8 a40 < 204) <|
      gd (¬ ((hI h a4 1) < 0 ∨ hN h8 a37 ≤ Int32.toNatClampNeg (hI h a4 1))) <|
      st (sR h8 a37 (Int32.toNatClampNeg (hI h a4 1)) (some a40)) fun h44 =>
      X_Reader_atom_b55 n fo o (hI h a4 1) r16 h44
  else
    bdX (X_Reader_opens n o h) fun _ h46 =>
    bdX (fo o h46) fun r67 h59 =>
    bdX (X_Reader_closes n o 125 h59) fun _ h72 =>
    some ((.inl r67, h72), 0, 0)
def X_Reader_number_b14 (n : Nat) (o : Nat) (v1 : Int32) (v2 : Int32) (t0 : Int32) (h_2 : Hp) : Option ((Sum (Int32) Nat × Hp) × Nat × Nat) :=
  bdX (X_Reader_must n o t0 2 h_2) fun _ h4 =>
  bd (X_isIn n (Int32.toInt64 (hI h4 o 8)) (Int32.toInt64 v1) (Int32.toInt64 v2)) fun r17 =>
  bdX (X_Reader_must n o r17 3 h4) fun _ h19 =>
  bdX (X_Reader_next n o h19) fun _ h32 =>
  some ((.inl (hI h19 o 8), h32), 0, 0)
def X_Reader_number (n : Nat) (o : Nat) (p1 : Int32) (p2 : Int32) (h : Hp) : Option ((Sum (Int32) Nat × Hp) × Nat × Nat) :=
  gd (hT h o = 4) <|
  if (hI h o 7) = 2 then
    X_Reader_number_b14 n o p1 p2 1 h
  else
    X_Reader_number_b14 n o p1 p2 0 h
def X_Times_init (n : Nat) (o : Nat) (p1 : Option Nat) (p2 : Int32) (p3 : Int32) (h : Hp) : Option (Hp) :=
  gd (hT h o = 9) <|
  bd (X_Node_init n o h) fun _ =>
  st (sR h o 0 p1) fun h2 =>
  st (sI h2 o 1 p2) fun h3 =>
  st (sI h3 o 2 p3) fun h4 =>
  some h4
def X_Reader_repeated (n : Nat) (fo : Nat → Hp → Option ((Sum (Option Nat) Nat × Hp) × Nat × Nat)) (o : Nat) (h : Hp) : Option ((Sum (Option Nat) Nat × Hp) × Nat × Nat) :=
  gd (hT h o = 4) <|
  bdX (X_Reader_atom n fo o h) fun r10 h2 =>
  bd (X_Reader_isSign n o 42 h2) fun r15 =>
  if r15 = 0 then
    some ((.inl r10, h2), 0, 0)
  else
    bdX (X_Reader_next n o h2) fun _ h18 =>
    bdX (X_Reader_number n o 0 9 h18) fun r39 h31 =>
    ad 1 3 <|
    st (nw h31 9 0) fun h47 =>
    bdX (X_Reader_number n o (if 1 < r39 then r39 else 1) 9 h47) fun r58 h50 =>
    bd (X_Times_init n (hZ h31) r10 r39 r58 h50) fun h63 =>
    some ((.inl (some (hZ h31)), h63), 0, 0)
def X_Two_init_Then (n : Nat) (o : Nat) (p1 : Option Nat) (p2 : Option Nat) (h : Hp) : Option (Hp) :=
  gd (hT h o = 10) <|
  bd (X_Node_init n o h) fun _ =>
  st (sR h o 0 p1) fun h2 =>
  st (sR h2 o 1 p2) fun h3 =>
  some h3
def X_Then_init (n : Nat) (o : Nat) (p1 : Option Nat) (p2 : Option Nat) (h : Hp) : Option (Hp) :=
  bd (X_Two_init_Then n o p1 p2 h) fun h2 =>
  some h2
def X_Reader_thens_b5 (n : Nat) (fo : Nat → Hp → Option ((Sum (Option Nat) Nat × Hp) × Nat × Nat)) (o : Nat) : Nat → Option Nat → Hp → Option ((Sum (Option Nat) Nat × Hp) × Nat × Nat)
  | 0, _, _ => none
  | f + 1, v1, h_14 =>
    bd (X_Reader_isSign n o 44 h_14) fun r16 =>
    if r16 = 0 then
      some ((.inl v1, h_14), 0, 0)
    else
      bdX (X_Reader_next n o h_14) fun _ h19 =>
      ad 1 2 <|
      st (nw h19 10 0) fun h35 =>
      bdX (X_Reader_repeated n fo o h35) fun r46 h38 =>
      bd (X_Then_init n (hZ h19) v1 r46 h38) fun h51 =>
      (X_Reader_thens_b5 n fo o f) (some (hZ h19)) h51
def X_Reader_thens (n : Nat) (fo : Nat → Hp → Option ((Sum (Option Nat) Nat × Hp) × Nat × Nat)) (o : Nat) (h : Hp) : Option ((Sum (Option Nat) Nat × Hp) × Nat × Nat) :=
  gd (hT h o = 4) <|
  bdX (X_Reader_repeated n fo o h) fun r10 h2 =>
  X_Reader_thens_b5 n fo o n r10 h2
def X_Two_init_Either (n : Nat) (o : Nat) (p1 : Option Nat) (p2 : Option Nat) (h : Hp) : Option (Hp) :=
  gd (hT h o = 11) <|
  bd (X_Node_init n o h) fun _ =>
  st (sR h o 0 p1) fun h2 =>
  st (sR h2 o 1 p2) fun h3 =>
  some h3
def X_Either_init (n : Nat) (o : Nat) (p1 : Option Nat) (p2 : Option Nat) (h : Hp) : Option (Hp) :=
  bd (X_Two_init_Either n o p1 p2 h) fun h2 =>
  some h2
def X_Reader_sequence_b5 (n : Nat) (fo : Nat → Hp → Option ((Sum (Option Nat) Nat × Hp) × Nat × Nat)) (o : Nat) : Nat → Option Nat → Hp → Option ((Sum (Option Nat) Nat × Hp) × Nat × Nat)
  | 0, _, _ => none
  | f + 1, v1, h_14 =>
    bd (X_Reader_isSign n o 47 h_14) fun r16 =>
    if r16 = 0 then
      some ((.inl v1, h_14), 0, 0)
    else
      bdX (X_Reader_next n o h_14) fun _ h19 =>
      ad 1 2 <|
      st (nw h19 11 0) fun h35 =>
      bdX (X_Reader_thens n fo o h35) fun r46 h38 =>
      bd (X_Either_init n (hZ h19) v1 r46 h38) fun h51 =>
      (X_Reader_sequence_b5 n fo o f) (some (hZ h19)) h51
def X_Reader_sequence (n : Nat) (fo : Nat → Hp → Option ((Sum (Option Nat) Nat × Hp) × Nat × Nat)) (o : Nat) (h : Hp) : Option ((Sum (Option Nat) Nat × Hp) × Nat × Nat) :=
  gd (hT h o = 4) <|
  bdX (X_Reader_thens n fo o h) fun r10 h2 =>
  X_Reader_sequence_b5 n fo o n r10 h2
def X_seq (n : Nat) : Nat → Nat → Hp → Option ((Sum (Option Nat) Nat × Hp) × Nat × Nat)
  | 0, _, _ => none
  | d + 1, o, h => X_Reader_sequence n (X_seq n d) o h
def X_Reader_side (n : Nat) (o : Nat) (p1 : Option Nat) (h : Hp) : Option ((Sum (Unit) Nat × Hp) × Nat × Nat) :=
  gd (hT h o = 4) <|
  st (sR h o 3 p1) fun h1 =>
  bdX (X_Reader_sequence n (X_seq n 12) o h1) fun r11 h3 =>
  bd p1 fun a15 =>
  gd (hT h3 a15 = 7) <|
  st (sR h3 a15 2 r11) fun h18 =>
  some ((.inl (), h18), 0, 0)
def X_Machine_init (n : Nat) (o : Nat) (h : Hp) : Option ((Hp) × Nat × Nat) :=
  gd (hT h o = 12) <|
  ad 1 (Int32.toNatClampNeg 40) <|
  st (nw h 105 (Int32.toNatClampNeg 40)) fun h5 =>
  st (sR h5 o 0 (some (hZ h))) fun h7 =>
  ad 1 (Int32.toNatClampNeg 40) <|
  st (nw h7 101 (Int32.toNatClampNeg 40)) fun h12 =>
  st (sR h12 o 1 (some (hZ h7))) fun h14 =>
  some (h14, 0, 0)
def X_Reader_lambda_wire_0 (n : Nat) (p0 : Int32) (p1 : Int32) : Option (Int32) :=
  if ((p1 >>> (p0 &&& 31)) &&& 1) = 1 then
    some 1
  else
    some 0
def X_Reader_lambda_ands_3_b24 (n : Nat) (fat : Nat → Int32 → Option Int32) (h : Hp) : Option (Int32) :=
  some 0
def X_Reader_lambda_ands_3 (n : Nat) (fat : Nat → Int32 → Option Int32) (p0 : Option Nat) (p1 : Option Nat) (p2 : Int32) (h : Hp) : Option (Int32) :=
  bd p0 fun a1 =>
  bd (fat a1 p2) fun r3 =>
  if r3 = 0 then
    X_Reader_lambda_ands_3_b24 n fat h
  else
    bd p1 fun a6 =>
    bd (fat a6 p2) fun r8 =>
    if r8 = 0 then
      X_Reader_lambda_ands_3_b24 n fat h
    else
      some 1
def X_Reader_lambda_ors_2_b20 (n : Nat) (fat : Nat → Int32 → Option Int32) (h : Hp) : Option (Int32) :=
  some 1
def X_Reader_lambda_ors_2 (n : Nat) (fat : Nat → Int32 → Option Int32) (p0 : Option Nat) (p1 : Option Nat) (p2 : Int32) (h : Hp) : Option (Int32) :=
  bd p0 fun a1 =>
  bd (fat a1 p2) fun r3 =>
  if r3 = 0 then
    bd p1 fun a6 =>
    bd (fat a6 p2) fun r8 =>
    if r8 = 0 then
      some 0
    else
      X_Reader_lambda_ors_2_b20 n fat h
  else
    X_Reader_lambda_ors_2_b20 n fat h
def X_Reader_lambda_condition_1 (n : Nat) (fat : Nat → Int32 → Option Int32) (p0 : Option Nat) (p1 : Int32) (h : Hp) : Option (Int32) :=
  bd p0 fun a1 =>
  bd (fat a1 p1) fun r3 =>
  if r3 = 0 then
    some 1
  else
    some 0
def X_at : Nat → Nat → Int32 → Hp → Option Int32
  | 0, _, _, _ => none
  | d + 1, a, b, h => bd (if hT h a = 200 then X_Reader_lambda_wire_0 0 (hI h a 0) b else if hT h a = 201 then X_Reader_lambda_condition_1 0 (fun a b => X_at d a b h) (hR h a 0) b h else if hT h a = 202 then X_Reader_lambda_ors_2 0 (fun a b => X_at d a b h) (hR h a 0) (hR h a 1) b h else if hT h a = 203 then X_Reader_lambda_ands_3 0 (fun a b => X_at d a b h) (hR h a 0) (hR h a 1) b h else none) fun r => gd (r = 0 ∨ r = 1) <| some r
def X_fulfilling_b27 (n : Nat) (K4 : Option Nat → Int32 → Int32 → Option (Int32)) (h : Hp) (v0 : Option Nat) (v2 : Int32) (t0 : Int32) (t1 : Int32) : Option (Int32) :=
  K4 v0 (t1 + t0) (v2 + 1)
def X_fulfilling_b4 (n : Nat) (h : Hp) : Nat → Option Nat → Int32 → Int32 → Option (Int32)
  | 0, _, _, _ => none
  | f + 1, v0, v1, v2 =>
    if 255 < v2 then
      some v1
    else
      bd v0 fun a2 =>
      bd (X_at 209 a2 v2 h) fun r4 =>
      if r4 = 0 then
        X_fulfilling_b27 n (X_fulfilling_b4 n h f) h v0 v2 0 v1
      else
        X_fulfilling_b27 n (X_fulfilling_b4 n h f) h v0 v2 1 v1
def X_fulfilling (n : Nat) (p0 : Option Nat) (h : Hp) : Option (Int32) :=
  X_fulfilling_b4 n h n p0 0 0
def X_Machine_isLeading (n : Nat) (o : Nat) (p1 : Int64) (h : Hp) : Option (Int32) :=
  gd (hT h o = 12) <|
  if (lg_cmp (p1 &&& ((hL h o 4) ||| (hL h o 5))) 0) = 0 then
    some 0
  else
    some 1
def X_Machine_findsMore_b53 (n : Nat) (o : Nat) (K20 : Int64 → Int32 → Hp → Option (Hp)) (v1 : Int64) (v3 : Int32) (t0 : Int64) (t1 : Int64) (h_12 : Hp) : Option (Hp) :=
  st (sL h_12 o 5 (t1 ||| t0)) fun h13 =>
  K20 v1 (v3 + 1) h13
def X_Machine_findsMore_b20 (n : Nat) (o : Nat) (K4 : Int64 → Hp → Option (Hp)) : Nat → Int64 → Int32 → Hp → Option (Hp)
  | 0, _, _, _ => none
  | f + 1, v1, v3, h_3 =>
    if (hI h_3 o 2) ≤ v3 then
      K4 v1 h_3
    else
      bd (hR h_3 o 1) fun a5 =>
      gd (hT h_3 a5 = 101) <|
      gd (¬ (v3 < 0 ∨ hN h_3 a5 ≤ Int32.toNatClampNeg v3)) <|
      bd (X_Machine_isLeading n o (hL h_3 a5 (Int32.toNatClampNeg v3)) h_3) fun r10 =>
      if r10 = 0 then
        X_Machine_findsMore_b53 n o (X_Machine_findsMore_b20 n o K4 f) v1 v3 0 (hL h_3 o 5) h_3
      else
        X_Machine_findsMore_b53 n o (X_Machine_findsMore_b20 n o K4 f) v1 v3 (1 <<< (Int32.toInt64 v3 &&& 63)) (hL h_3 o 5) h_3
def X_Machine_findsMore_b4 (n : Nat) (o : Nat) : Nat → Int64 → Hp → Option (Hp)
  | 0, _, _ => none
  | f + 1, v1, h_1 =>
    if (lg_cmp v1 (hL h_1 o 5)) = 0 then
      some h_1
    else
      X_Machine_findsMore_b20 n o (X_Machine_findsMore_b4 n o f) n (hL h_1 o 5) 0 h_1
def X_Machine_findsMore (n : Nat) (o : Nat) (h : Hp) : Option (Hp) :=
  gd (hT h o = 12) <|
  X_Machine_findsMore_b4 n o n (-1) h
def X_Part_init (n : Nat) (o : Nat) (p1 : Int32) (p2 : Int64) (p4 : Int64) (h : Hp) : Option (Hp) :=
  gd (hT h o = 13) <|
  gd (p1 = 0 ∨ p1 = 1) <|
  st (sI h o 0 p1) fun h2 =>
  st (sL h2 o 1 p2) fun h3 =>
  st (sL h3 o 2 p4) fun h4 =>
  some h4
def X_Machine_joined_b115 (n : Nat) (o : Nat) (t0 : Int64) (t1 : Int64) (t2 : Int32) (t3 : Option Nat) (t4 : Option Nat) (h_24 : Hp) : Option ((Option Nat × Hp) × Nat × Nat) :=
  bd t3 fun a25 =>
  bd (X_Part_init n a25 t2 t1 t0 h_24) fun h28 =>
  some ((t4, h28), 0, 0)
def X_Machine_joined_b92 (n : Nat) (o : Nat) (v1 : Option Nat) (v2 : Option Nat) (t0 : Int64) (t1 : Int32) (t2 : Option Nat) (t3 : Option Nat) (h_19 : Hp) : Option ((Option Nat × Hp) × Nat × Nat) :=
  bd v2 fun a20 =>
  gd (hT h_19 a20 = 13) <|
  if (hI h_19 a20 0) = 0 then
    X_Machine_joined_b115 n o (hL h_19 a20 2) t0 t1 t2 t3 h_19
  else
    bd v1 fun a29 =>
    gd (hT h_19 a29 = 13) <|
    X_Machine_joined_b115 n o ((hL h_19 a29 2) ||| (hL h_19 a20 2)) t0 t1 t2 t3 h_19
def X_Machine_joined_b69 (n : Nat) (o : Nat) (v1 : Option Nat) (v2 : Option Nat) (t0 : Int32) (t1 : Option Nat) (t2 : Option Nat) (h_14 : Hp) : Option ((Option Nat × Hp) × Nat × Nat) :=
  bd v1 fun a15 =>
  gd (hT h_14 a15 = 13) <|
  if (hI h_14 a15 0) = 0 then
    X_Machine_joined_b92 n o v1 v2 (hL h_14 a15 1) t0 t1 t2 h_14
  else
    bd v2 fun a32 =>
    gd (hT h_14 a32 = 13) <|
    X_Machine_joined_b92 n o v1 v2 ((hL h_14 a15 1) ||| (hL h_14 a32 1)) t0 t1 t2 h_14
def X_Machine_joined_b68 (n : Nat) (o : Nat) (v1 : Option Nat) (v2 : Option Nat) (t0 : Option Nat) (t1 : Option Nat) (h_13 : Hp) : Option ((Option Nat × Hp) × Nat × Nat) :=
  X_Machine_joined_b69 n o v1 v2 0 t0 t1 h_13
def X_Machine_joined_b38 (n : Nat) (o : Nat) (K2 : Option Nat → Option Nat → Int32 → Hp → Option ((Option Nat × Hp) × Nat × Nat)) (v1 : Option Nat) (v2 : Option Nat) (v3 : Int32) (t0 : Int64) (t1 : Int64) (t2 : Int32) (t3 : Option Nat) (h_47 : Hp) : Option ((Option Nat × Hp) × Nat × Nat) :=
  bd t3 fun a48 =>
  gd (hT h_47 a48 = 101) <|
  gd (¬ (t2 < 0 ∨ hN h_47 a48 ≤ Int32.toNatClampNeg t2)) <|
  st (sL h_47 a48 (Int32.toNatClampNeg t2) (t1 ||| t0)) fun h52 =>
  K2 v1 v2 (v3 + 1) h52
def X_Machine_joined_b2 (n : Nat) (o : Nat) : Nat → Option Nat → Option Nat → Int32 → Hp → Option ((Option Nat × Hp) × Nat × Nat)
  | 0, _, _, _, _ => none
  | f + 1, v1, v2, v3, h_1 =>
    if (hI h_1 o 2) ≤ v3 then
      ad 1 3 <|
      st (nw h_1 13 0) fun h7 =>
      bd v1 fun a9 =>
      gd (hT h7 a9 = 13) <|
      if (hI h7 a9 0) = 0 then
        X_Machine_joined_b68 n o v1 v2 (some (hZ h_1)) (some (hZ h_1)) h7
      else
        bd v2 fun a35 =>
        gd (hT h7 a35 = 13) <|
        if (hI h7 a35 0) = 0 then
          X_Machine_joined_b68 n o v1 v2 (some (hZ h_1)) (some (hZ h_1)) h7
        else
          X_Machine_joined_b69 n o v1 v2 1 (some (hZ h_1)) (some (hZ h_1)) h7
    else
      bd (hR h_1 o 1) fun a39 =>
      gd (hT h_1 a39 = 101) <|
      gd (¬ (v3 < 0 ∨ hN h_1 a39 ≤ Int32.toNatClampNeg v3)) <|
      bd v1 fun a43 =>
      gd (hT h_1 a43 = 13) <|
      if (lg_cmp (((hL h_1 a43 2) >>> (Int32.toInt64 v3 &&& 63)) &&& 1) 1) = 0 then
        bd v2 fun a53 =>
        gd (hT h_1 a53 = 13) <|
        X_Machine_joined_b38 n o (X_Machine_joined_b2 n o f) v1 v2 v3 (hL h_1 a53 1) (hL h_1 a39 (Int32.toNatClampNeg v3)) v3 (hR h_1 o 1) h_1
      else
        X_Machine_joined_b38 n o (X_Machine_joined_b2 n o f) v1 v2 v3 0 (hL h_1 a39 (Int32.toNatClampNeg v3)) v3 (hR h_1 o 1) h_1
def X_Machine_joined (n : Nat) (o : Nat) (p1 : Option Nat) (p2 : Option Nat) (h : Hp) : Option ((Option Nat × Hp) × Nat × Nat) :=
  gd (hT h o = 12) <|
  X_Machine_joined_b2 n o n p1 p2 0 h
def X_Then_built (n : Nat) (fb : Nat → Option Nat → Hp → Option ((Option Nat × Hp) × Nat × Nat)) (o : Nat) (p1 : Option Nat) (h : Hp) : Option ((Option Nat × Hp) × Nat × Nat) :=
  gd (hT h o = 10) <|
  bd (hR h o 0) fun a1 =>
  bdA (fb a1 p1 h) fun r4 h5 =>
  bd (hR h5 o 1) fun a12 =>
  bdA (fb a12 p1 h5) fun r15 h16 =>
  bd p1 fun a23 =>
  gd (hT h16 a23 = 12) <|
  bdA (X_Machine_joined n a23 r4 r15 h16) fun r34 h27 =>
  some ((r34, h27), 0, 0)
def X_Either_built_b41 (n : Nat) (fb : Nat → Option Nat → Hp → Option ((Option Nat × Hp) × Nat × Nat)) (o : Nat) (v2 : Option Nat) (v3 : Option Nat) (t0 : Int32) (t1 : Option Nat) (t2 : Option Nat) (h_34 : Hp) : Option ((Option Nat × Hp) × Nat × Nat) :=
  bd v2 fun a35 =>
  gd (hT h_34 a35 = 13) <|
  bd v3 fun a38 =>
  gd (hT h_34 a38 = 13) <|
  bd t1 fun a41 =>
  bd (X_Part_init n a41 t0 ((hL h_34 a35 1) ||| (hL h_34 a38 1)) ((hL h_34 a35 2) ||| (hL h_34 a38 2)) h_34) fun h44 =>
  some ((t2, h44), 0, 0)
def X_Either_built_b36 (n : Nat) (fb : Nat → Option Nat → Hp → Option ((Option Nat × Hp) × Nat × Nat)) (o : Nat) (v2 : Option Nat) (v3 : Option Nat) (t0 : Option Nat) (t1 : Option Nat) (h_33 : Hp) : Option ((Option Nat × Hp) × Nat × Nat) :=
  X_Either_built_b41 n fb o v2 v3 1 t0 t1 h_33
def X_Either_built (n : Nat) (fb : Nat → Option Nat → Hp → Option ((Option Nat × Hp) × Nat × Nat)) (o : Nat) (p1 : Option Nat) (h : Hp) : Option ((Option Nat × Hp) × Nat × Nat) :=
  gd (hT h o = 11) <|
  bd (hR h o 0) fun a1 =>
  bdA (fb a1 p1 h) fun r4 h5 =>
  bd (hR h5 o 1) fun a12 =>
  bdA (fb a12 p1 h5) fun r15 h16 =>
  ad 1 3 <|
  st (nw h16 13 0) fun h27 =>
  bd r4 fun a29 =>
  gd (hT h27 a29 = 13) <|
  if (hI h27 a29 0) = 0 then
    bd r15 fun a45 =>
    gd (hT h27 a45 = 13) <|
    if (hI h27 a45 0) = 0 then
      X_Either_built_b41 n fb o r4 r15 0 (some (hZ h16)) (some (hZ h16)) h27
    else
      X_Either_built_b36 n fb o r4 r15 (some (hZ h16)) (some (hZ h16)) h27
  else
    X_Either_built_b36 n fb o r4 r15 (some (hZ h16)) (some (hZ h16)) h27
def X_Machine_place (n : Nat) (o : Nat) (p1 : Option Nat) (h : Hp) : Option ((Option Nat × Hp) × Nat × Nat) :=
  gd (hT h o = 12) <|
  bd (hR h o 0) fun a1 =>
  gd (hT h a1 = 105) <|
  bd p1 fun a4 =>
  gd (200 ≤ hT h a4 ∧ hT h a4 < 204) <|
  gd (¬ ((hI h o 2) < 0 ∨ hN h a1 ≤ Int32.toNatClampNeg (hI h o 2))) <|
  st (sR h a1 (Int32.toNatClampNeg (hI h o 2)) (some a4)) fun h8 =>
  st (sI h8 o 2 ((hI h8 o 2) + 1)) fun h9 =>
  ad 1 3 <|
  st (nw h9 13 0) fun h14 =>
  bd (X_Part_init n (hZ h9) 0 (1 <<< (Int32.toInt64 ((hI h14 o 2) - 1) &&& 63)) (1 <<< (Int32.toInt64 ((hI h14 o 2) - 1) &&& 63)) h14) fun h17 =>
  some (((some (hZ h9)), h17), 0, 0)
def X_Atom_built (n : Nat) (o : Nat) (p1 : Option Nat) (h : Hp) : Option ((Option Nat × Hp) × Nat × Nat) :=
  gd (hT h o = 8) <|
  bd p1 fun a1 =>
  gd (hT h a1 = 12) <|
  bdA (X_Machine_place n a1 (hR h o 1) h) fun r12 h5 =>
  some ((r12, h5), 0, 0)
def X_Part_orNone (n : Nat) (o : Nat) (h : Hp) : Option ((Option Nat × Hp) × Nat × Nat) :=
  gd (hT h o = 13) <|
  ad 1 3 <|
  st (nw h 13 0) fun h5 =>
  bd (X_Part_init n (hZ h) 1 (hL h5 o 1) (hL h5 o 2) h5) fun h8 =>
  some (((some (hZ h)), h8), 0, 0)
def X_Times_built_b70 (n : Nat) (fb : Nat → Option Nat → Hp → Option ((Option Nat × Hp) × Nat × Nat)) (o : Nat) (K32 : Option Nat → Option Nat → Int32 → Hp → Option ((Option Nat × Hp) × Nat × Nat)) (v1 : Option Nat) (v3 : Int32) (t0 : Option Nat) (t1 : Option Nat) (t2 : Option Nat) (h_40 : Hp) : Option ((Option Nat × Hp) × Nat × Nat) :=
  bd t2 fun a41 =>
  gd (hT h_40 a41 = 12) <|
  bdA (X_Machine_joined n a41 t1 t0 h_40) fun r52 h45 =>
  K32 v1 r52 (v3 + 1) h45
def X_Times_built_b32 (n : Nat) (fb : Nat → Option Nat → Hp → Option ((Option Nat × Hp) × Nat × Nat)) (o : Nat) : Nat → Option Nat → Option Nat → Int32 → Hp → Option ((Option Nat × Hp) × Nat × Nat)
  | 0, _, _, _, _ => none
  | f + 1, v1, v2, v3, h_14 =>
    if (hI h_14 o 2) ≤ v3 then
      some ((v2, h_14), 0, 0)
    else
      bd (hR h_14 o 0) fun a16 =>
      bdA (fb a16 v1 h_14) fun r19 h20 =>
      if (hI h20 o 1) ≤ v3 then
        bd r19 fun a28 =>
        gd (hT h20 a28 = 13) <|
        bdA (X_Part_orNone n a28 h20) fun r39 h32 =>
        X_Times_built_b70 n fb o (X_Times_built_b32 n fb o f) v1 v3 r39 v2 v1 h32
      else
        X_Times_built_b70 n fb o (X_Times_built_b32 n fb o f) v1 v3 r19 v2 v1 h20
def X_Times_built_b29 (n : Nat) (fb : Nat → Option Nat → Hp → Option ((Option Nat × Hp) × Nat × Nat)) (o : Nat) (v1 : Option Nat) (t0 : Option Nat) (h_13 : Hp) : Option ((Option Nat × Hp) × Nat × Nat) :=
  X_Times_built_b32 n fb o n v1 t0 1 h_13
def X_Times_built (n : Nat) (fb : Nat → Option Nat → Hp → Option ((Option Nat × Hp) × Nat × Nat)) (o : Nat) (p1 : Option Nat) (h : Hp) : Option ((Option Nat × Hp) × Nat × Nat) :=
  gd (hT h o = 9) <|
  if (hI h o 1) = 0 then
    bd (hR h o 0) fun a53 =>
    bdA (fb a53 p1 h) fun r56 h57 =>
    bd r56 fun a64 =>
    gd (hT h57 a64 = 13) <|
    bdA (X_Part_orNone n a64 h57) fun r75 h68 =>
    X_Times_built_b29 n fb o p1 r75 h68
  else
    bd (hR h o 0) fun a2 =>
    bdA (fb a2 p1 h) fun r5 h6 =>
    X_Times_built_b29 n fb o p1 r5 h6
def X_built : Nat → Nat → Option Nat → Hp → Option ((Option Nat × Hp) × Nat × Nat)
  | 0, _, _, _ => none
  | d + 1, a, mm, h => if hT h a = 8 then X_Atom_built 100 a mm h else if hT h a = 9 then X_Times_built 100 (X_built d) a mm h else if hT h a = 10 then X_Then_built 100 (X_built d) a mm h else if hT h a = 11 then X_Either_built 100 (X_built d) a mm h else none
def X_Machine_built_b71 (n : Nat) (o : Nat) : Nat → Int64 → Int32 → Hp → Option ((Hp) × Nat × Nat)
  | 0, _, _, _ => none
  | f + 1, v3, v5, h_20 =>
    if (hI h_20 o 2) ≤ v5 then
      bd (X_Machine_findsMore n o h_20) fun h23 =>
      some (h23, 0, 0)
    else
      bd (hR h_20 o 1) fun a24 =>
      gd (hT h_20 a24 = 101) <|
      gd (¬ (v5 < 0 ∨ hN h_20 a24 ≤ Int32.toNatClampNeg v5)) <|
      gd (¬ (v5 < 0 ∨ hN h_20 a24 ≤ Int32.toNatClampNeg v5)) <|
      st (sL h_20 a24 (Int32.toNatClampNeg v5) ((hL h_20 a24 (Int32.toNatClampNeg v5)) &&& v3)) fun h29 =>
      (X_Machine_built_b71 n o f) v3 (v5 + 1) h29
def X_Machine_built_b42 (n : Nat) (o : Nat) (K11 : Option Nat → Int64 → Int32 → Hp → Option ((Hp) × Nat × Nat)) (v2 : Option Nat) (v5 : Int32) (t0 : Int64) (t1 : Int64) (h_37 : Hp) : Option ((Hp) × Nat × Nat) :=
  K11 v2 (t1 ||| t0) (v5 + 1) h_37
def X_Machine_built_b11 (n : Nat) (o : Nat) : Nat → Option Nat → Int64 → Int32 → Hp → Option ((Hp) × Nat × Nat)
  | 0, _, _, _, _ => none
  | f + 1, v2, v3, v5, h_12 =>
    if (hI h_12 o 2) ≤ v5 then
      bd v2 fun a14 =>
      gd (hT h_12 a14 = 13) <|
      st (sL h_12 o 3 ((hL h_12 a14 1) &&& v3)) fun h17 =>
      gd (hT h17 a14 = 13) <|
      st (sL h17 o 4 (hL h17 a14 2)) fun h19 =>
      X_Machine_built_b71 n o n v3 0 h19
    else
      bd (hR h_12 o 0) fun a30 =>
      gd (hT h_12 a30 = 105) <|
      gd (¬ (v5 < 0 ∨ hN h_12 a30 ≤ Int32.toNatClampNeg v5)) <|
      bd (X_fulfilling n (hR h_12 a30 (Int32.toNatClampNeg v5)) h_12) fun r35 =>
      if r35 ≤ 0 then
        X_Machine_built_b42 n o (X_Machine_built_b11 n o f) v2 v5 0 v3 h_12
      else
        X_Machine_built_b42 n o (X_Machine_built_b11 n o f) v2 v5 (1 <<< (Int32.toInt64 v5 &&& 63)) v3 h_12
def X_Machine_built (n : Nat) (o : Nat) (p1 : Option Nat) (h : Hp) : Option ((Hp) × Nat × Nat) :=
  gd (hT h o = 12) <|
  bd p1 fun a1 =>
  bdA (X_built 208 a1 (some o) h) fun r4 h5 =>
  X_Machine_built_b11 n o n r4 0 0 h5
def X_capped (n : Nat) (p0 : Int32) : Option (Int32) :=
  some (if 1000 < p0 then 1000 else p0)
def X_Then_least (n : Nat) (fw : Nat → Option Int32) (o : Nat) (h : Hp) : Option (Int32) :=
  gd (hT h o = 10) <|
  bd (hR h o 0) fun a1 =>
  bd (fw a1) fun r4 =>
  bd (hR h o 1) fun a5 =>
  bd (fw a5) fun r8 =>
  bd (X_capped n (r4 + r8)) fun r10 =>
  some r10
def X_Either_least (n : Nat) (fw : Nat → Option Int32) (o : Nat) (h : Hp) : Option (Int32) :=
  gd (hT h o = 11) <|
  bd (hR h o 0) fun a1 =>
  bd (fw a1) fun r4 =>
  bd (hR h o 1) fun a5 =>
  bd (fw a5) fun r8 =>
  some (if r8 < r4 then r8 else r4)
def X_Atom_least (n : Nat) (o : Nat) (h : Hp) : Option (Int32) :=
  some 1
def X_Times_least (n : Nat) (fw : Nat → Option Int32) (o : Nat) (h : Hp) : Option (Int32) :=
  gd (hT h o = 9) <|
  bd (hR h o 0) fun a1 =>
  bd (fw a1) fun r4 =>
  bd (X_capped n ((hI h o 1) * r4)) fun r6 =>
  some r6
def X_least : Nat → Nat → Hp → Option Int32
  | 0, _, _ => none
  | d + 1, a, h => if hT h a = 8 then X_Atom_least 0 a h else if hT h a = 9 then X_Times_least 0 (fun a => X_least d a h) a h else if hT h a = 10 then X_Then_least 0 (fun a => X_least d a h) a h else if hT h a = 11 then X_Either_least 0 (fun a => X_least d a h) a h else none
def X_Then_weight (n : Nat) (fw : Nat → Option Int32) (o : Nat) (h : Hp) : Option (Int32) :=
  gd (hT h o = 10) <|
  bd (hR h o 0) fun a1 =>
  bd (fw a1) fun r4 =>
  bd (hR h o 1) fun a5 =>
  bd (fw a5) fun r8 =>
  bd (X_capped n ((0 + r4) + r8)) fun r10 =>
  some r10
def X_Either_weight (n : Nat) (fw : Nat → Option Int32) (o : Nat) (h : Hp) : Option (Int32) :=
  gd (hT h o = 11) <|
  bd (hR h o 0) fun a1 =>
  bd (fw a1) fun r4 =>
  bd (hR h o 1) fun a5 =>
  bd (fw a5) fun r8 =>
  bd (X_capped n ((0 + r4) + r8)) fun r10 =>
  some r10
def X_Atom_weight (n : Nat) (o : Nat) (h : Hp) : Option (Int32) :=
  some 1
def X_Times_weight (n : Nat) (fw : Nat → Option Int32) (o : Nat) (h : Hp) : Option (Int32) :=
  gd (hT h o = 9) <|
  bd (hR h o 0) fun a1 =>
  bd (fw a1) fun r4 =>
  bd (X_capped n ((hI h o 2) * r4)) fun r6 =>
  some r6
def X_weight : Nat → Nat → Hp → Option Int32
  | 0, _, _ => none
  | d + 1, a, h => if hT h a = 8 then X_Atom_weight 0 a h else if hT h a = 9 then X_Times_weight 0 (fun a => X_weight d a h) a h else if hT h a = 10 then X_Then_weight 0 (fun a => X_weight d a h) a h else if hT h a = 11 then X_Either_weight 0 (fun a => X_weight d a h) a h else none
def X_Reader_promiseComes_b269 (n : Nat) (o : Nat) : Nat → Option Nat → Option Nat → Int32 → Int32 → Hp → Option ((Sum (Unit) Nat × Hp) × Nat × Nat)
  | 0, _, _, _, _, _ => none
  | f + 1, v1, v2, v3, v4, h_208 =>
    if v3 ≤ v4 then
      bd (hR h_208 o 1) fun a210 =>
      gd (hT h_208 a210 = 107) <|
      bd v1 fun a213 =>
      gd (hT h_208 a213 = 6) <|
      gd (¬ ((hI h_208 o 2) < 0 ∨ hN h_208 a210 ≤ Int32.toNatClampNeg (hI h_208 o 2))) <|
      st (sR h_208 a210 (Int32.toNatClampNeg (hI h_208 o 2)) (some a213)) fun h217 =>
      st (sI h217 o 2 ((hI h217 o 2) + 1)) fun h218 =>
      bdX (X_Reader_next n o h218) fun _ h220 =>
      some ((.inl (), h220), 0, 0)
    else
      bd v2 fun a232 =>
      gd (hT h_208 a232 = 106) <|
      gd (¬ (v4 < 0 ∨ hN h_208 a232 ≤ Int32.toNatClampNeg v4)) <|
      ad 1 6 <|
      st (nw h_208 12 0) fun h240 =>
      bdAv (X_Machine_init n (hZ h_208) h240) fun h243 =>
      bd (hR h_208 a232 (Int32.toNatClampNeg v4)) fun a250 =>
      gd (hT h243 a250 = 7) <|
      st (sR h243 a250 3 (some (hZ h_208))) fun h253 =>
      gd (hT h253 a250 = 7) <|
      bd (hR h253 a250 3) fun a255 =>
      gd (hT h253 a255 = 12) <|
      bdAv (X_Machine_built n a255 (hR h253 a250 2) h253) fun h259 =>
      (X_Reader_promiseComes_b269 n o f) v1 v2 v3 (v4 + 1) h259
def X_Reader_promiseComes_b253 (n : Nat) (o : Nat) (v1 : Option Nat) (t0 : Int32) (h_188 : Hp) : Option ((Sum (Unit) Nat × Hp) × Nat × Nat) :=
  bdX (X_Reader_must n o t0 6 h_188) fun _ h190 =>
  bd v1 fun a202 =>
  gd (hT h190 a202 = 6) <|
  bd (hR h190 a202 0) fun a205 =>
  gd (hT h190 a205 = 106) <|
  X_Reader_promiseComes_b269 n o n v1 (hR h190 a202 0) (nI (hN h190 a205)) 0 h190
def X_Reader_promiseComes_b252 (n : Nat) (o : Nat) (v1 : Option Nat) (h_187 : Hp) : Option ((Sum (Unit) Nat × Hp) × Nat × Nat) :=
  X_Reader_promiseComes_b253 n o v1 0 h_187
def X_Reader_promiseComes_b209 (n : Nat) (o : Nat) (v1 : Option Nat) (t0 : Int32) (h_158 : Hp) : Option ((Sum (Unit) Nat × Hp) × Nat × Nat) :=
  bdX (X_Reader_must n o t0 5 h_158) fun _ h160 =>
  bd v1 fun a172 =>
  gd (hT h160 a172 = 6) <|
  bd (hR h160 a172 0) fun a175 =>
  gd (hT h160 a175 = 106) <|
  gd (¬ ((0 : Int32) < 0 ∨ hN h160 a175 ≤ Int32.toNatClampNeg 0)) <|
  bd (hR h160 a175 (Int32.toNatClampNeg 0)) fun a179 =>
  gd (hT h160 a179 = 7) <|
  bd (hR h160 a179 2) fun a182 =>
  bd (X_weight 208 a182 h160) fun r185 =>
  if 40 < r185 then
    X_Reader_promiseComes_b252 n o v1 h160
  else
    gd (¬ ((1 : Int32) < 0 ∨ hN h160 a175 ≤ Int32.toNatClampNeg 1)) <|
    bd (hR h160 a175 (Int32.toNatClampNeg 1)) fun a267 =>
    gd (hT h160 a267 = 7) <|
    bd (hR h160 a267 2) fun a270 =>
    bd (X_weight 208 a270 h160) fun r273 =>
    if 40 < r273 then
      X_Reader_promiseComes_b252 n o v1 h160
    else
      X_Reader_promiseComes_b253 n o v1 1 h160
def X_Reader_promiseComes_b208 (n : Nat) (o : Nat) (v1 : Option Nat) (h_157 : Hp) : Option ((Sum (Unit) Nat × Hp) × Nat × Nat) :=
  X_Reader_promiseComes_b209 n o v1 0 h_157
def X_Reader_promiseComes_b162 (n : Nat) (o : Nat) (v1 : Option Nat) (h_126 : Hp) : Option ((Sum (Unit) Nat × Hp) × Nat × Nat) :=
  bd (X_Reader_isSign n o 59 h_126) fun r128 =>
  bdX (X_Reader_must n o r128 2 h_126) fun _ h130 =>
  bd v1 fun a142 =>
  gd (hT h130 a142 = 6) <|
  bd (hR h130 a142 0) fun a145 =>
  gd (hT h130 a145 = 106) <|
  gd (¬ ((0 : Int32) < 0 ∨ hN h130 a145 ≤ Int32.toNatClampNeg 0)) <|
  bd (hR h130 a145 (Int32.toNatClampNeg 0)) fun a149 =>
  gd (hT h130 a149 = 7) <|
  bd (hR h130 a149 2) fun a152 =>
  bd (X_least 208 a152 h130) fun r155 =>
  if r155 ≤ 0 then
    X_Reader_promiseComes_b208 n o v1 h130
  else
    gd (¬ ((1 : Int32) < 0 ∨ hN h130 a145 ≤ Int32.toNatClampNeg 1)) <|
    bd (hR h130 a145 (Int32.toNatClampNeg 1)) fun a276 =>
    gd (hT h130 a276 = 7) <|
    bd (hR h130 a276 2) fun a279 =>
    bd (X_least 208 a279 h130) fun r282 =>
    if r282 ≤ 0 then
      X_Reader_promiseComes_b208 n o v1 h130
    else
      X_Reader_promiseComes_b209 n o v1 1 h130
def X_Reader_promiseComes_b124 (n : Nat) (o : Nat) (v1 : Option Nat) (t0 : Int32) (t1 : Option Nat) (h_85 : Hp) : Option ((Sum (Unit) Nat × Hp) × Nat × Nat) :=
  bd t1 fun a86 =>
  gd (hT h_85 a86 = 6) <|
  st (sI h_85 a86 1 t0) fun h89 =>
  bdX (X_Reader_next n o h89) fun _ h91 =>
  bd v1 fun a103 =>
  gd (hT h91 a103 = 6) <|
  bd (hR h91 a103 0) fun a106 =>
  gd (hT h91 a106 = 106) <|
  gd (¬ ((1 : Int32) < 0 ∨ hN h91 a106 ≤ Int32.toNatClampNeg 1)) <|
  bdX (X_Reader_side n o (hR h91 a106 (Int32.toNatClampNeg 1)) h91) fun _ h111 =>
  bd (X_Reader_isSign n o 126 h111) fun r124 =>
  if r124 = 0 then
    X_Reader_promiseComes_b162 n o v1 h111
  else
    bdX (X_Reader_next n o h111) fun _ h285 =>
    bdX (X_Reader_ors n (X_ors n 12) o h285) fun r306 h298 =>
    gd (hT h298 a103 = 6) <|
    st (sR h298 a103 2 r306) fun h311 =>
    X_Reader_promiseComes_b162 n o v1 h311
def X_Reader_promiseComes_b105 (n : Nat) (o : Nat) (v1 : Option Nat) (t0 : Int32) (h_68 : Hp) : Option ((Sum (Unit) Nat × Hp) × Nat × Nat) :=
  bdX (X_Reader_must n o t0 2 h_68) fun _ h70 =>
  bd (X_Reader_isSign n o 61 h70) fun r83 =>
  if r83 = 0 then
    X_Reader_promiseComes_b124 n o v1 1 v1 h70
  else
    X_Reader_promiseComes_b124 n o v1 0 v1 h70
def X_Reader_promiseComes_b100 (n : Nat) (o : Nat) (v1 : Option Nat) (h_67 : Hp) : Option ((Sum (Unit) Nat × Hp) × Nat × Nat) :=
  X_Reader_promiseComes_b105 n o v1 1 h_67
def X_Reader_promiseComes_b59 (n : Nat) (o : Nat) (t0 : Int32) (h_18 : Hp) : Option ((Sum (Unit) Nat × Hp) × Nat × Nat) :=
  bdX (X_Reader_must n o t0 4 h_18) fun _ h20 =>
  ad 1 3 <|
  st (nw h20 6 0) fun h36 =>
  bdAv (X_Promise_init n (hZ h20) h36) fun h39 =>
  gd (hT h39 (hZ h20) = 6) <|
  bd (hR h39 (hZ h20) 0) fun a47 =>
  gd (hT h39 a47 = 106) <|
  gd (¬ ((0 : Int32) < 0 ∨ hN h39 a47 ≤ Int32.toNatClampNeg 0)) <|
  bdX (X_Reader_side n o (hR h39 a47 (Int32.toNatClampNeg 0)) h39) fun _ h52 =>
  bd (X_Reader_isSign n o 61 h52) fun r65 =>
  if r65 = 0 then
    bd (X_Reader_isSign n o 62 h52) fun r313 =>
    if r313 = 0 then
      X_Reader_promiseComes_b105 n o (some (hZ h20)) 0 h52
    else
      X_Reader_promiseComes_b100 n o (some (hZ h20)) h52
  else
    X_Reader_promiseComes_b100 n o (some (hZ h20)) h52
def X_Reader_promiseComes_b41 (n : Nat) (o : Nat) (t0 : Int32) (h_3 : Hp) : Option ((Sum (Unit) Nat × Hp) × Nat × Nat) :=
  bdX (X_Reader_must n o t0 2 h_3) fun _ h5 =>
  if 4 ≤ (hI h5 o 2) then
    X_Reader_promiseComes_b59 n o 0 h5
  else
    X_Reader_promiseComes_b59 n o 1 h5
def X_Reader_promiseComes_b36 (n : Nat) (o : Nat) (h_2 : Hp) : Option ((Sum (Unit) Nat × Hp) × Nat × Nat) :=
  X_Reader_promiseComes_b41 n o 1 h_2
def X_Reader_promiseComes (n : Nat) (o : Nat) (h : Hp) : Option ((Sum (Unit) Nat × Hp) × Nat × Nat) :=
  gd (hT h o = 4) <|
  if (hI h o 7) = 1 then
    X_Reader_promiseComes_b36 n o h
  else
    bd (X_Reader_isSign n o 33 h) fun r316 =>
    if r316 = 0 then
      bd (X_Reader_isSign n o 40 h) fun r319 =>
      if r319 = 0 then
        bd (X_Reader_isSign n o 123 h) fun r322 =>
        if r322 = 0 then
          X_Reader_promiseComes_b41 n o 0 h
        else
          X_Reader_promiseComes_b36 n o h
      else
        X_Reader_promiseComes_b36 n o h
    else
      X_Reader_promiseComes_b36 n o h
def X_Reader_all_b0 (n : Nat) (o : Nat) : Nat → Hp → Option ((Sum (Option Nat) Nat × Hp) × Nat × Nat)
  | 0, _ => none
  | f + 1, h_1 =>
    if (hI h_1 o 7) = 0 then
      some ((.inl (some o), h_1), 0, 0)
    else
      bdX (X_Reader_promiseComes n o h_1) fun _ h4 =>
      (X_Reader_all_b0 n o f) h4
def X_Reader_all (n : Nat) (o : Nat) (h : Hp) : Option ((Sum (Option Nat) Nat × Hp) × Nat × Nat) :=
  gd (hT h o = 4) <|
  X_Reader_all_b0 n o n h
def X_text (n : Nat) (o : Nat) (h : Hp) : Option ((Int32 × Hp) × Nat × Nat) :=
  gd (hT h o = 1) <|
  gd (¬ (hI h o 1) < 0) <|
  gd (Int32.toNatClampNeg (hI h o 1) ≤ 1000) <|
  ad 1 (Int32.toNatClampNeg (hI h o 1)) <|
  st (nw h 102 (Int32.toNatClampNeg (hI h o 1))) fun h7 =>
  bd (hR h7 o 0) fun a9 =>
  gd (hT h7 a9 = 102) <|
  gd (¬ (hI h7 o 1) < 0) <|
  gd (Int32.toNatClampNeg 0 + Int32.toNatClampNeg (hI h7 o 1) ≤ hN h7 a9) <|
  gd (Int32.toNatClampNeg 0 + Int32.toNatClampNeg (hI h7 o 1) ≤ hN h7 (hZ h)) <|
  gd (∀ i, i < Int32.toNatClampNeg (hI h7 o 1) → fits .byte (.int (hI h7 a9 (Int32.toNatClampNeg 0 + i))) = true) <|
  st (cpI h7 a9 (Int32.toNatClampNeg 0) (hZ h) (Int32.toNatClampNeg 0) (Int32.toNatClampNeg (hI h7 o 1))) fun h16 =>
  st (sI h16 o 1 0) fun h17 =>
  ad 1 9 <|
  st (nw h17 4 0) fun h22 =>
  bdH (X_Reader_init n (hZ h17) (some (hZ h)) h22) (fun _ h25 =>
    gd (hT h25 (hZ h17) = 4) <|
    bdH (X_Reader_all n (hZ h17) h25) (fun r52 h44 =>
      bd r52 fun a61 =>
      gd (hT h44 a61 = 4) <|
      st (sR h44 o 3 (hR h44 a61 1)) fun h64 =>
      gd (hT h64 a61 = 4) <|
      st (sI h64 o 4 (hI h64 a61 2)) fun h66 =>
      bd (hR h66 o 12) fun a67 =>
      gd (hT h66 a67 = 110) <|
      gd (¬ ((0 : Int32) < 0 ∨ hN h66 a67 ≤ Int32.toNatClampNeg 0)) <|
      st (sR h66 a67 (Int32.toNatClampNeg 0) none) fun h71 =>
      bd (hR h71 o 12) fun a72 =>
      gd (hT h71 a72 = 110) <|
      gd (¬ ((1 : Int32) < 0 ∨ hN h71 a72 ≤ Int32.toNatClampNeg 1)) <|
      st (sR h71 a72 (Int32.toNatClampNeg 1) none) fun h76 =>
      st (sI h76 o 7 0) fun h77 =>
      st (sI h77 o 2 0) fun h78 =>
      some (((hI h78 o 4), h78), 0, 0))
      (fun q56 h44 =>
      st (sI h44 o 2 (hI h44 q56 6)) fun h59 =>
      gd (hT h59 q56 = 5) <|
      some ((((-10) - (hI h59 q56 7)), h59), 0, 0)))
    (fun q37 h25 =>
    st (sI h25 o 2 (hI h25 q37 6)) fun h40 =>
    gd (hT h40 q37 = 5) <|
    some ((((-10) - (hI h40 q37 7)), h40), 0, 0))
def X_fault (n : Nat) (o : Nat) (h : Hp) : Option (Int32) :=
  gd (hT h o = 1) <|
  some (hI h o 2)
def X_Machine_taking_b52 (n : Nat) (o : Nat) (K6 : Int64 → Int32 → Int64 → Int32 → Option (Int64)) (h : Hp) (v1 : Int64) (v3 : Int32) (v6 : Int32) (t0 : Int64) (t1 : Int64) : Option (Int64) :=
  K6 v1 v3 (t1 ||| t0) (v6 + 1)
def X_Machine_taking_b51 (n : Nat) (o : Nat) (K6 : Int64 → Int32 → Int64 → Int32 → Option (Int64)) (h : Hp) (v1 : Int64) (v3 : Int32) (v6 : Int32) (t0 : Int64) : Option (Int64) :=
  X_Machine_taking_b52 n o K6 h v1 v3 v6 0 t0
def X_Machine_taking_b6 (n : Nat) (o : Nat) (h : Hp) : Nat → Int64 → Int32 → Int64 → Int32 → Option (Int64)
  | 0, _, _, _, _ => none
  | f + 1, v1, v3, v4, v6 =>
    if (hI h o 2) ≤ v6 then
      some v4
    else
      if (lg_cmp ((v1 >>> (Int32.toInt64 v6 &&& 63)) &&& 1) 1) = 0 then
        bd (hR h o 0) fun a3 =>
        gd (hT h a3 = 105) <|
        gd (¬ (v6 < 0 ∨ hN h a3 ≤ Int32.toNatClampNeg v6)) <|
        bd (hR h a3 (Int32.toNatClampNeg v6)) fun a7 =>
        bd (X_at 209 a7 v3 h) fun r9 =>
        if r9 = 0 then
          X_Machine_taking_b51 n o (X_Machine_taking_b6 n o h f) h v1 v3 v6 v4
        else
          X_Machine_taking_b52 n o (X_Machine_taking_b6 n o h f) h v1 v3 v6 (1 <<< (Int32.toInt64 v6 &&& 63)) v4
      else
        X_Machine_taking_b51 n o (X_Machine_taking_b6 n o h f) h v1 v3 v6 v4
def X_Machine_taking (n : Nat) (o : Nat) (p1 : Int64) (p3 : Int32) (h : Hp) : Option (Int64) :=
  gd (hT h o = 12) <|
  X_Machine_taking_b6 n o h n p1 p3 0 0
def X_Machine_behindAll_b37 (n : Nat) (o : Nat) (K5 : Int64 → Int64 → Int32 → Option (Int64)) (h : Hp) (v1 : Int64) (v5 : Int32) (t0 : Int64) (t1 : Int64) : Option (Int64) :=
  K5 v1 (t1 ||| t0) (v5 + 1)
def X_Machine_behindAll_b5 (n : Nat) (o : Nat) (h : Hp) : Nat → Int64 → Int64 → Int32 → Option (Int64)
  | 0, _, _, _ => none
  | f + 1, v1, v3, v5 =>
    if (hI h o 2) ≤ v5 then
      some v3
    else
      if (lg_cmp ((v1 >>> (Int32.toInt64 v5 &&& 63)) &&& 1) 1) = 0 then
        bd (hR h o 1) fun a3 =>
        gd (hT h a3 = 101) <|
        gd (¬ (v5 < 0 ∨ hN h a3 ≤ Int32.toNatClampNeg v5)) <|
        X_Machine_behindAll_b37 n o (X_Machine_behindAll_b5 n o h f) h v1 v5 (hL h a3 (Int32.toNatClampNeg v5)) v3
      else
        X_Machine_behindAll_b37 n o (X_Machine_behindAll_b5 n o h f) h v1 v5 0 v3
def X_Machine_behindAll (n : Nat) (o : Nat) (p1 : Int64) (h : Hp) : Option (Int64) :=
  gd (hT h o = 12) <|
  X_Machine_behindAll_b5 n o h n p1 0 0
def X_runs_b21 (n : Nat) (o : Nat) (K2 : Option Nat → Int32 → Hp → Option (Hp)) : Nat → Option Nat → Int32 → Int64 → Int32 → Hp → Option (Hp)
  | 0, _, _, _, _, _ => none
  | f + 1, v1, v2, v3, v5, h_9 =>
    if (hI h_9 o 6) ≤ v5 then
      K2 v1 (v2 + 1) h_9
    else
      bd v1 fun a11 =>
      gd (hT h_9 a11 = 7) <|
      bd (hR h_9 o 5) fun a14 =>
      gd (hT h_9 a14 = 100) <|
      gd (¬ (v5 < 0 ∨ hN h_9 a14 ≤ Int32.toNatClampNeg v5)) <|
      bd (hR h_9 a11 3) fun a18 =>
      gd (hT h_9 a18 = 12) <|
      bd (X_Machine_taking n a18 v3 (hI h_9 a14 (Int32.toNatClampNeg v5)) h_9) fun r22 =>
      bd (hR h_9 a11 4) fun a23 =>
      gd (hT h_9 a23 = 111) <|
      gd (¬ (v2 < 0 ∨ hN h_9 a23 ≤ Int32.toNatClampNeg v2)) <|
      bd (hR h_9 a23 (Int32.toNatClampNeg v2)) fun a27 =>
      gd (hT h_9 a27 = 101) <|
      gd (¬ (v5 < 0 ∨ hN h_9 a27 ≤ Int32.toNatClampNeg v5)) <|
      st (sL h_9 a27 (Int32.toNatClampNeg v5) r22) fun h31 =>
      gd (hT h31 a11 = 7) <|
      bd (hR h31 a11 3) fun a33 =>
      gd (hT h31 a33 = 12) <|
      bd (X_Machine_behindAll n a33 r22 h31) fun r37 =>
      (X_runs_b21 n o K2 f) v1 v2 r37 (v5 + 1) h31
def X_runs_b2 (n : Nat) (o : Nat) : Nat → Option Nat → Int32 → Hp → Option (Hp)
  | 0, _, _, _ => none
  | f + 1, v1, v2, h_1 =>
    if (hI h_1 o 6) ≤ v2 then
      some h_1
    else
      bd v1 fun a3 =>
      gd (hT h_1 a3 = 7) <|
      bd (hR h_1 a3 3) fun a6 =>
      gd (hT h_1 a6 = 12) <|
      X_runs_b21 n o (X_runs_b2 n o f) n v1 v2 (hL h_1 a6 3) v2 h_1
def X_runs (n : Nat) (o : Nat) (p1 : Option Nat) (h : Hp) : Option (Hp) :=
  gd (hT h o = 1) <|
  X_runs_b2 n o n p1 0 h
def X_Promise_kind (n : Nat) (o : Nat) (h : Hp) : Option (Option Nat) :=
  gd (hT h o = 6) <|
  if (hI h o 1) = 0 then
    gd (hT h 0 = 400) <|
    some (hR h 0 0)
  else
    gd (hT h 0 = 400) <|
    some (hR h 0 1)
def X_Machine_ends (n : Nat) (o : Nat) (p1 : Int64) (h : Hp) : Option (Int32) :=
  gd (hT h o = 12) <|
  if (lg_cmp (p1 &&& (hL h o 4)) 0) = 0 then
    some 0
  else
    some 1
def X_firstEnd_b2 (n : Nat) (o : Nat) (h : Hp) : Nat → Option Nat → Int32 → Int32 → Option (Int32)
  | 0, _, _, _ => none
  | f + 1, v1, v2, v3 =>
    if (hI h o 6) ≤ v3 then
      some (-4)
    else
      bd v1 fun a2 =>
      gd (hT h a2 = 7) <|
      bd (hR h a2 4) fun a5 =>
      gd (hT h a5 = 111) <|
      gd (¬ (v2 < 0 ∨ hN h a5 ≤ Int32.toNatClampNeg v2)) <|
      bd (hR h a5 (Int32.toNatClampNeg v2)) fun a9 =>
      gd (hT h a9 = 101) <|
      gd (¬ (v3 < 0 ∨ hN h a9 ≤ Int32.toNatClampNeg v3)) <|
      bd (hR h a2 3) fun a13 =>
      gd (hT h a13 = 12) <|
      bd (X_Machine_ends n a13 (hL h a9 (Int32.toNatClampNeg v3)) h) fun r17 =>
      if r17 = 0 then
        (X_firstEnd_b2 n o h f) v1 v2 (v3 + 1)
      else
        some v3
def X_firstEnd (n : Nat) (o : Nat) (p1 : Option Nat) (p2 : Int32) (h : Hp) : Option (Int32) :=
  gd (hT h o = 1) <|
  X_firstEnd_b2 n o h n p1 p2 p2
def X_Machine_mightBegin (n : Nat) (o : Nat) (h : Hp) : Option (Int32) :=
  gd (hT h o = 12) <|
  bd (X_Machine_isLeading n o (hL h o 3) h) fun r2 =>
  gd (r2 = 0 ∨ r2 = 1) <|
  some r2
def X_Machine_mightGoOn (n : Nat) (o : Nat) (p1 : Int64) (h : Hp) : Option (Int32) :=
  gd (hT h o = 12) <|
  if (lg_cmp (p1 &&& (hL h o 5)) 0) = 0 then
    some 0
  else
    some 1
def X_firstLost_b44 (n : Nat) (o : Nat) (K3 : Option Nat → Int32 → Int32 → Option (Int32)) (h : Hp) (v1 : Option Nat) (v2 : Int32) (v4 : Int32) (t0 : Int32) : Option (Int32) :=
  if t0 = 0 then
    some v4
  else
    K3 v1 v2 (v4 + 1)
def X_firstLost_b3 (n : Nat) (o : Nat) (h : Hp) : Nat → Option Nat → Int32 → Int32 → Option (Int32)
  | 0, _, _, _ => none
  | f + 1, v1, v2, v4 =>
    if (hI h o 6) ≤ v4 then
      some (-4)
    else
      if v2 ≤ v4 then
        bd v1 fun a3 =>
        gd (hT h a3 = 7) <|
        bd (hR h a3 4) fun a6 =>
        gd (hT h a6 = 111) <|
        gd (¬ (v2 < 0 ∨ hN h a6 ≤ Int32.toNatClampNeg v2)) <|
        bd (hR h a6 (Int32.toNatClampNeg v2)) fun a10 =>
        gd (hT h a10 = 101) <|
        gd (¬ (v4 < 0 ∨ hN h a10 ≤ Int32.toNatClampNeg v4)) <|
        bd (hR h a3 3) fun a14 =>
        gd (hT h a14 = 12) <|
        bd (X_Machine_mightGoOn n a14 (hL h a10 (Int32.toNatClampNeg v4)) h) fun r18 =>
        X_firstLost_b44 n o (X_firstLost_b3 n o h f) h v1 v2 v4 r18
      else
        bd v1 fun a20 =>
        gd (hT h a20 = 7) <|
        bd (hR h a20 3) fun a23 =>
        gd (hT h a23 = 12) <|
        bd (X_Machine_mightBegin n a23 h) fun r27 =>
        X_firstLost_b44 n o (X_firstLost_b3 n o h f) h v1 v2 v4 r27
def X_firstLost (n : Nat) (o : Nat) (p1 : Option Nat) (p2 : Int32) (p3 : Int32) (h : Hp) : Option (Int32) :=
  gd (hT h o = 1) <|
  X_firstLost_b3 n o h n p1 p2 p3
def X_dutyOf_b33 (n : Nat) (o : Nat) (h : Hp) (v1 : Option Nat) (v2 : Int32) (v3 : Int32) (t0 : Int32) : Option (Int32) :=
  if t0 = (-4) then
    bd v1 fun a12 =>
    gd (hT h a12 = 6) <|
    bd (hR h a12 0) fun a15 =>
    gd (hT h a15 = 106) <|
    gd (¬ ((1 : Int32) < 0 ∨ hN h a15 ≤ Int32.toNatClampNeg 1)) <|
    bd (X_firstLost n o (hR h a15 (Int32.toNatClampNeg 1)) v3 v2 h) fun r20 =>
    if r20 = (-4) then
      some 0
    else
      some ((4 * r20) + 2)
  else
    some ((4 * t0) + 1)
def X_dutyOf (n : Nat) (o : Nat) (p1 : Option Nat) (p2 : Int32) (h : Hp) : Option (Int32) :=
  gd (hT h o = 1) <|
  bd p1 fun a1 =>
  gd (hT h a1 = 6) <|
  bd (X_Promise_kind n a1 h) fun r5 =>
  bd r5 fun a6 =>
  bd (X_begin a6 p2 h) fun r9 =>
  if (hI h o 6) ≤ r9 then
    X_dutyOf_b33 n o h p1 p2 r9 (-4)
  else
    bd (hR h a1 0) fun a22 =>
    gd (hT h a22 = 106) <|
    gd (¬ ((1 : Int32) < 0 ∨ hN h a22 ≤ Int32.toNatClampNeg 1)) <|
    bd (X_firstEnd n o (hR h a22 (Int32.toNatClampNeg 1)) r9 h) fun r27 =>
    X_dutyOf_b33 n o h p1 p2 r9 r27
def X_isDuty (n : Nat) (o : Nat) (p1 : Option Nat) (p2 : Int32) (p3 : Int32) (h : Hp) : Option (Int32) :=
  bd p1 fun a1 =>
  gd (hT h a1 = 6) <|
  bd (hR h a1 0) fun a4 =>
  gd (hT h a4 = 106) <|
  gd (¬ ((0 : Int32) < 0 ∨ hN h a4 ≤ Int32.toNatClampNeg 0)) <|
  bd (hR h a4 (Int32.toNatClampNeg 0)) fun a8 =>
  gd (hT h a8 = 7) <|
  bd (hR h a8 4) fun a11 =>
  gd (hT h a11 = 111) <|
  gd (¬ (p2 < 0 ∨ hN h a11 ≤ Int32.toNatClampNeg p2)) <|
  bd (hR h a11 (Int32.toNatClampNeg p2)) fun a15 =>
  gd (hT h a15 = 101) <|
  gd (¬ (p3 < 0 ∨ hN h a15 ≤ Int32.toNatClampNeg p3)) <|
  bd (hR h a8 3) fun a19 =>
  gd (hT h a19 = 12) <|
  bd (X_Machine_ends n a19 (hL h a15 (Int32.toNatClampNeg p3)) h) fun r23 =>
  gd (r23 = 0 ∨ r23 = 1) <|
  some r23
def X_dutyBy (n : Nat) (p0 : Int32) (p1 : Int32) : Option (Int32) :=
  if p1 < (p0 >>> (2 &&& 31)) then
    some 0
  else
    some (p0 &&& 3)
def X_judged_b129 (n : Nat) (o : Nat) (K63 : Option Nat → Int32 → Int32 → Option Nat → Int32 → Int32 → Int32 → Int32 → Option (Int32)) (h : Hp) (v1 : Option Nat) (v2 : Int32) (v3 : Int32) (v4 : Option Nat) (v5 : Int32) (v6 : Int32) (v7 : Int32) (v8 : Int32) : Option (Int32) :=
  K63 v1 v2 v3 v4 v5 v6 v7 (v8 + 1)
def X_judged_b127 (n : Nat) (o : Nat) (K63 : Option Nat → Int32 → Int32 → Option Nat → Int32 → Int32 → Int32 → Int32 → Option (Int32)) (h : Hp) (v1 : Option Nat) (v2 : Int32) (v3 : Int32) (v4 : Option Nat) (v6 : Int32) (v7 : Int32) (v8 : Int32) (t0 : Int32) : Option (Int32) :=
  X_judged_b129 n o K63 h v1 v2 v3 v4 t0 v6 v7 v8
def X_judged_b122 (n : Nat) (o : Nat) (K63 : Option Nat → Int32 → Int32 → Option Nat → Int32 → Int32 → Int32 → Int32 → Option (Int32)) (h : Hp) (v1 : Option Nat) (v2 : Int32) (v3 : Int32) (v4 : Option Nat) (v6 : Int32) (v7 : Int32) (v8 : Int32) : Option (Int32) :=
  X_judged_b127 n o K63 h v1 v2 v3 v4 v6 v7 v8 1
def X_judged_b110 (n : Nat) (o : Nat) (K63 : Option Nat → Int32 → Int32 → Option Nat → Int32 → Int32 → Int32 → Int32 → Option (Int32)) (h : Hp) (v1 : Option Nat) (v2 : Int32) (v3 : Int32) (v4 : Option Nat) (v5 : Int32) (v7 : Int32) (v8 : Int32) (v9 : Int32) (t0 : Int32) : Option (Int32) :=
  if v5 = 0 then
    if v9 = 0 then
      X_judged_b122 n o K63 h v1 v2 v3 v4 t0 v7 v8
    else
      X_judged_b127 n o K63 h v1 v2 v3 v4 t0 v7 v8 0
  else
    X_judged_b122 n o K63 h v1 v2 v3 v4 t0 v7 v8
def X_judged_b105 (n : Nat) (o : Nat) (K63 : Option Nat → Int32 → Int32 → Option Nat → Int32 → Int32 → Int32 → Int32 → Option (Int32)) (h : Hp) (v1 : Option Nat) (v2 : Int32) (v3 : Int32) (v4 : Option Nat) (v5 : Int32) (v7 : Int32) (v8 : Int32) (v9 : Int32) : Option (Int32) :=
  X_judged_b110 n o K63 h v1 v2 v3 v4 v5 v7 v8 v9 1
def X_judged_b63 (n : Nat) (o : Nat) (h : Hp) : Nat → Option Nat → Int32 → Int32 → Option Nat → Int32 → Int32 → Int32 → Int32 → Option (Int32)
  | 0, _, _, _, _, _, _, _, _ => none
  | f + 1, v1, v2, v3, v4, v5, v6, v7, v8 =>
    if v3 < v8 then
      if v6 = 0 then
        if v5 = 0 then
          if v7 = 0 then
            some 3
          else
            some 1
        else
          some 0
      else
        some 2
    else
      bd (X_isDuty n o v1 v2 v8 h) fun r34 =>
      if r34 = 0 then
        X_judged_b129 n o (X_judged_b63 n o h f) h v1 v2 v3 v4 v5 v6 v7 v8
      else
        bd v4 fun a36 =>
        gd (hT h a36 = 100) <|
        gd (¬ (v8 < 0 ∨ hN h a36 ≤ Int32.toNatClampNeg v8)) <|
        bd (X_dutyBy n (hI h a36 (Int32.toNatClampNeg v8)) v3) fun r41 =>
        if v6 = 0 then
          if r41 = 2 then
            X_judged_b105 n o (X_judged_b63 n o h f) h v1 v2 v3 v4 v5 1 v8 r41
          else
            X_judged_b110 n o (X_judged_b63 n o h f) h v1 v2 v3 v4 v5 1 v8 r41 0
        else
          X_judged_b105 n o (X_judged_b63 n o h f) h v1 v2 v3 v4 v5 1 v8 r41
def X_judged_b27 (n : Nat) (o : Nat) (h : Hp) (v1 : Option Nat) (v2 : Int32) (v3 : Int32) (v4 : Option Nat) : Option (Int32) :=
  bd v1 fun a5 =>
  gd (hT h a5 = 6) <|
  bd (hR h a5 0) fun a8 =>
  gd (hT h a8 = 106) <|
  gd (¬ ((0 : Int32) < 0 ∨ hN h a8 ≤ Int32.toNatClampNeg 0)) <|
  bd (hR h a8 (Int32.toNatClampNeg 0)) fun a12 =>
  gd (hT h a12 = 7) <|
  gd (¬ ((0 : Int32) < 0 ∨ hN h a8 ≤ Int32.toNatClampNeg 0)) <|
  bd (hR h a12 4) fun a16 =>
  gd (hT h a16 = 111) <|
  gd (¬ (v2 < 0 ∨ hN h a16 ≤ Int32.toNatClampNeg v2)) <|
  bd (hR h a16 (Int32.toNatClampNeg v2)) fun a20 =>
  gd (hT h a20 = 101) <|
  gd (¬ (v3 < 0 ∨ hN h a20 ≤ Int32.toNatClampNeg v3)) <|
  bd (hR h a12 3) fun a24 =>
  gd (hT h a24 = 12) <|
  bd (X_Machine_mightGoOn n a24 (hL h a20 (Int32.toNatClampNeg v3)) h) fun r28 =>
  X_judged_b63 n o h n v1 v2 v3 v4 r28 0 0 v2
def X_judged (n : Nat) (o : Nat) (p1 : Option Nat) (p2 : Int32) (p3 : Int32) (p4 : Option Nat) (h : Hp) : Option (Int32) :=
  gd (hT h o = 1) <|
  bd p1 fun a1 =>
  gd (hT h a1 = 6) <|
  if (hR h a1 2) = none then
    X_judged_b27 n o h p1 p2 p3 p4
  else
    bd (hR h o 5) fun a46 =>
    gd (hT h a46 = 100) <|
    gd (¬ (p3 < 0 ∨ hN h a46 ≤ Int32.toNatClampNeg p3)) <|
    bd (hR h a1 2) fun a50 =>
    bd (X_at 209 a50 (hI h a46 (Int32.toNatClampNeg p3)) h) fun r52 =>
    if r52 = 0 then
      X_judged_b27 n o h p1 p2 p3 p4
    else
      some 4
def X_judges_b141 (n : Nat) (o : Nat) (K37 : Int32 → Option Nat → Int32 → Hp → Option (Hp)) (v1 : Int32) (v2 : Option Nat) (v3 : Int32) (t0 : Int32) (t1 : Int32) (t2 : Option Nat) (h_44 : Hp) : Option (Hp) :=
  bd t2 fun a45 =>
  gd (hT h_44 a45 = 100) <|
  gd (¬ (t1 < 0 ∨ hN h_44 a45 ≤ Int32.toNatClampNeg t1)) <|
  st (sI h_44 a45 (Int32.toNatClampNeg t1) t0) fun h49 =>
  K37 v1 v2 (v3 + 1) h49
def X_judges_b116 (n : Nat) (o : Nat) (K37 : Int32 → Option Nat → Int32 → Hp → Option (Hp)) (v1 : Int32) (v2 : Option Nat) (v3 : Int32) (v4 : Int32) (h_30 : Hp) : Option (Hp) :=
  bd (hR h_30 o 9) fun a31 =>
  gd (hT h_30 a31 = 110) <|
  gd (¬ (v1 < 0 ∨ hN h_30 a31 ≤ Int32.toNatClampNeg v1)) <|
  bd (hR h_30 o 8) fun a35 =>
  gd (hT h_30 a35 = 110) <|
  gd (¬ (v1 < 0 ∨ hN h_30 a35 ≤ Int32.toNatClampNeg v1)) <|
  bd (hR h_30 a35 (Int32.toNatClampNeg v1)) fun a39 =>
  gd (hT h_30 a39 = 100) <|
  gd (¬ (v3 < 0 ∨ hN h_30 a39 ≤ Int32.toNatClampNeg v3)) <|
  if (hI h_30 a39 (Int32.toNatClampNeg v3)) = 0 then
    X_judges_b141 n o K37 v1 v2 v3 (-4) v3 (hR h_30 a31 (Int32.toNatClampNeg v1)) h_30
  else
    X_judges_b141 n o K37 v1 v2 v3 v4 v3 (hR h_30 a31 (Int32.toNatClampNeg v1)) h_30
def X_judges_b68 (n : Nat) (o : Nat) (K37 : Int32 → Option Nat → Int32 → Hp → Option (Hp)) : Nat → Int32 → Option Nat → Int32 → Int32 → Hp → Option (Hp)
  | 0, _, _, _, _, _ => none
  | f + 1, v1, v2, v3, v4, h_20 =>
    bd (hR h_20 o 8) fun a21 =>
    gd (hT h_20 a21 = 110) <|
    gd (¬ (v1 < 0 ∨ hN h_20 a21 ≤ Int32.toNatClampNeg v1)) <|
    bd (hR h_20 a21 (Int32.toNatClampNeg v1)) fun a25 =>
    gd (hT h_20 a25 = 100) <|
    gd (¬ (v3 < 0 ∨ hN h_20 a25 ≤ Int32.toNatClampNeg v3)) <|
    if (hI h_20 a25 (Int32.toNatClampNeg v3)) = 0 then
      if (hI h_20 o 6) ≤ (v4 + 1) then
        X_judges_b116 n o K37 v1 v2 v3 v4 h_20
      else
        gd (¬ (v1 < 0 ∨ hN h_20 a21 ≤ Int32.toNatClampNeg v1)) <|
        bd (X_judged n o v2 v3 (v4 + 1) (hR h_20 o 10) h_20) fun r53 =>
        gd (¬ (v3 < 0 ∨ hN h_20 a25 ≤ Int32.toNatClampNeg v3)) <|
        st (sI h_20 a25 (Int32.toNatClampNeg v3) r53) fun h55 =>
        (X_judges_b68 n o K37 f) v1 v2 v3 (v4 + 1) h55
    else
      X_judges_b116 n o K37 v1 v2 v3 v4 h_20
def X_judges_b37 (n : Nat) (o : Nat) : Nat → Int32 → Option Nat → Int32 → Hp → Option (Hp)
  | 0, _, _, _, _ => none
  | f + 1, v1, v2, v3, h_7 =>
    if (hI h_7 o 6) ≤ v3 then
      some h_7
    else
      bd (hR h_7 o 8) fun a9 =>
      gd (hT h_7 a9 = 110) <|
      gd (¬ (v1 < 0 ∨ hN h_7 a9 ≤ Int32.toNatClampNeg v1)) <|
      bd (X_judged n o v2 v3 v3 (hR h_7 o 10) h_7) fun r14 =>
      bd (hR h_7 a9 (Int32.toNatClampNeg v1)) fun a15 =>
      gd (hT h_7 a15 = 100) <|
      gd (¬ (v3 < 0 ∨ hN h_7 a15 ≤ Int32.toNatClampNeg v3)) <|
      st (sI h_7 a15 (Int32.toNatClampNeg v3) r14) fun h19 =>
      X_judges_b68 n o (X_judges_b37 n o f) n v1 v2 v3 v3 h19
def X_judges_b9 (n : Nat) (o : Nat) : Nat → Int32 → Option Nat → Int32 → Hp → Option (Hp)
  | 0, _, _, _, _ => none
  | f + 1, v1, v2, v3, h_5 =>
    if (hI h_5 o 6) ≤ v3 then
      X_judges_b37 n o n v1 v2 0 h_5
    else
      bd (X_dutyOf n o v2 v3 h_5) fun r57 =>
      bd (hR h_5 o 10) fun a58 =>
      gd (hT h_5 a58 = 100) <|
      gd (¬ (v3 < 0 ∨ hN h_5 a58 ≤ Int32.toNatClampNeg v3)) <|
      st (sI h_5 a58 (Int32.toNatClampNeg v3) r57) fun h62 =>
      (X_judges_b9 n o f) v1 v2 (v3 + 1) h62
def X_judges (n : Nat) (o : Nat) (p1 : Int32) (h : Hp) : Option (Hp) :=
  gd (hT h o = 1) <|
  bd (hR h o 3) fun a1 =>
  gd (hT h a1 = 107) <|
  gd (¬ (p1 < 0 ∨ hN h a1 ≤ Int32.toNatClampNeg p1)) <|
  X_judges_b9 n o n p1 (hR h a1 (Int32.toNatClampNeg p1)) 0 h
def X_runsAll_b15 (n : Nat) (o : Nat) : Nat → Int32 → Hp → Option (Hp)
  | 0, _, _ => none
  | f + 1, v1, h_3 =>
    if (hI h_3 o 4) ≤ v1 then
      some h_3
    else
      bd (hR h_3 o 3) fun a5 =>
      gd (hT h_3 a5 = 107) <|
      gd (¬ (v1 < 0 ∨ hN h_3 a5 ≤ Int32.toNatClampNeg v1)) <|
      bd (hR h_3 a5 (Int32.toNatClampNeg v1)) fun a9 =>
      gd (hT h_3 a9 = 6) <|
      bd (hR h_3 a9 0) fun a12 =>
      gd (hT h_3 a12 = 106) <|
      gd (¬ ((0 : Int32) < 0 ∨ hN h_3 a12 ≤ Int32.toNatClampNeg 0)) <|
      bd (X_runs n o (hR h_3 a12 (Int32.toNatClampNeg 0)) h_3) fun h17 =>
      bd (hR h17 o 3) fun a18 =>
      gd (hT h17 a18 = 107) <|
      gd (¬ (v1 < 0 ∨ hN h17 a18 ≤ Int32.toNatClampNeg v1)) <|
      bd (hR h17 a18 (Int32.toNatClampNeg v1)) fun a22 =>
      gd (hT h17 a22 = 6) <|
      bd (hR h17 a22 0) fun a25 =>
      gd (hT h17 a25 = 106) <|
      gd (¬ ((1 : Int32) < 0 ∨ hN h17 a25 ≤ Int32.toNatClampNeg 1)) <|
      bd (X_runs n o (hR h17 a25 (Int32.toNatClampNeg 1)) h17) fun h30 =>
      bd (X_judges n o v1 h30) fun h32 =>
      (X_runsAll_b15 n o f) (v1 + 1) h32
def X_runsAll (n : Nat) (o : Nat) (h : Hp) : Option (Hp) :=
  gd (hT h o = 1) <|
  if (hI h o 7) = 0 then
    st (sI h o 7 1) fun h2 =>
    X_runsAll_b15 n o n 0 h2
  else
    some h
def X_dutiesOf_b36 (n : Nat) (o : Nat) (K5 : Int32 → Int32 → Int32 → Int32 → Option (Int32)) (h : Hp) (v1 : Int32) (v2 : Int32) (v4 : Int32) (t0 : Int32) (t1 : Int32) : Option (Int32) :=
  K5 v1 v2 (t1 + t0) (v4 + 1)
def X_dutiesOf_b5 (n : Nat) (o : Nat) (h : Hp) : Nat → Int32 → Int32 → Int32 → Int32 → Option (Int32)
  | 0, _, _, _, _ => none
  | f + 1, v1, v2, v3, v4 =>
    if (hI h o 6) ≤ v4 then
      some v3
    else
      bd (hR h o 3) fun a2 =>
      gd (hT h a2 = 107) <|
      gd (¬ (v1 < 0 ∨ hN h a2 ≤ Int32.toNatClampNeg v1)) <|
      bd (X_isDuty n o (hR h a2 (Int32.toNatClampNeg v1)) v2 v4 h) fun r7 =>
      if r7 = 0 then
        X_dutiesOf_b36 n o (X_dutiesOf_b5 n o h f) h v1 v2 v4 0 v3
      else
        X_dutiesOf_b36 n o (X_dutiesOf_b5 n o h f) h v1 v2 v4 1 v3
def X_dutiesOf (n : Nat) (o : Nat) (p1 : Int32) (p2 : Int32) (h : Hp) : Option (Int32) :=
  gd (hT h o = 1) <|
  X_dutiesOf_b5 n o h n p1 p2 0 p2
def X_counted_b48 (n : Nat) (o : Nat) (K5 : Int32 → Int32 → Int32 → Int32 → Option (Int32)) (h : Hp) (v1 : Int32) (v2 : Int32) (v4 : Int32) (t0 : Int32) (t1 : Int32) : Option (Int32) :=
  K5 v1 v2 (t1 + t0) (v4 + 1)
def X_counted_b5 (n : Nat) (o : Nat) (h : Hp) : Nat → Int32 → Int32 → Int32 → Int32 → Option (Int32)
  | 0, _, _, _, _ => none
  | f + 1, v1, v2, v3, v4 =>
    if (hI h o 6) ≤ v4 then
      some v3
    else
      if v2 = 5 then
        bd (X_dutiesOf n o v1 v4 h) fun r13 =>
        X_counted_b48 n o (X_counted_b5 n o h f) h v1 v2 v4 r13 v3
      else
        bd (hR h o 8) fun a3 =>
        gd (hT h a3 = 110) <|
        gd (¬ (v1 < 0 ∨ hN h a3 ≤ Int32.toNatClampNeg v1)) <|
        bd (hR h a3 (Int32.toNatClampNeg v1)) fun a7 =>
        gd (hT h a7 = 100) <|
        gd (¬ (v4 < 0 ∨ hN h a7 ≤ Int32.toNatClampNeg v4)) <|
        if (hI h a7 (Int32.toNatClampNeg v4)) = v2 then
          X_counted_b48 n o (X_counted_b5 n o h f) h v1 v2 v4 1 v3
        else
          X_counted_b48 n o (X_counted_b5 n o h f) h v1 v2 v4 0 v3
def X_counted (n : Nat) (o : Nat) (p1 : Int32) (p2 : Int32) (h : Hp) : Option (Int32) :=
  gd (hT h o = 1) <|
  X_counted_b5 n o h n p1 p2 0 0
def X_countedAll_b8 (n : Nat) (o : Nat) : Nat → Int32 → Int32 → Int32 → Hp → Option (Int32 × Hp)
  | 0, _, _, _, _ => none
  | f + 1, v1, v2, v3, h_3 =>
    if (hI h_3 o 4) ≤ v3 then
      some (v2, h_3)
    else
      bd (X_counted n o v3 v1 h_3) fun r6 =>
      (X_countedAll_b8 n o f) v1 (v2 + r6) (v3 + 1) h_3
def X_countedAll (n : Nat) (o : Nat) (p1 : Int32) (h : Hp) : Option (Int32 × Hp) :=
  gd (hT h o = 1) <|
  bd (X_runsAll n o h) fun h2 =>
  X_countedAll_b8 n o n p1 0 0 h2
def X_rule_b58 (n : Nat) (o : Nat) (v1 : Int32) (h_9 : Hp) : Option (Int32 × Hp) :=
  bd2 (X_countedAll n o (v1 - 2) h_9) fun r12 h11 =>
  some (r12, h11)
def X_rule (n : Nat) (o : Nat) (p1 : Int32) (h : Hp) : Option (Int32 × Hp) :=
  gd (hT h o = 1) <|
  if p1 = 0 then
    some ((hI h o 4), h)
  else
    if p1 = 1 then
      some ((hI h o 6), h)
    else
      if p1 = 2 then
        X_rule_b58 n o p1 h
      else
        if p1 = 3 then
          X_rule_b58 n o p1 h
        else
          if p1 = 4 then
            X_rule_b58 n o p1 h
          else
            if p1 = 5 then
              X_rule_b58 n o p1 h
            else
              if p1 = 6 then
                X_rule_b58 n o p1 h
              else
                if p1 = 7 then
                  X_rule_b58 n o p1 h
                else
                  some ((-1), h)
def X_isPromise (n : Nat) (o : Nat) (p1 : Int32) (h : Hp) : Option (Int32) :=
  gd (hT h o = 1) <|
  bd (X_isIn n (Int32.toInt64 p1) 0 (Int32.toInt64 ((hI h o 4) - 1))) fun r2 =>
  gd (r2 = 0 ∨ r2 = 1) <|
  some r2
def X_Then_most (n : Nat) (fw : Nat → Option Int32) (o : Nat) (h : Hp) : Option (Int32) :=
  gd (hT h o = 10) <|
  bd (hR h o 0) fun a1 =>
  bd (fw a1) fun r4 =>
  bd (hR h o 1) fun a5 =>
  bd (fw a5) fun r8 =>
  bd (X_capped n (r4 + r8)) fun r10 =>
  some r10
def X_Either_most (n : Nat) (fw : Nat → Option Int32) (o : Nat) (h : Hp) : Option (Int32) :=
  gd (hT h o = 11) <|
  bd (hR h o 0) fun a1 =>
  bd (fw a1) fun r4 =>
  bd (hR h o 1) fun a5 =>
  bd (fw a5) fun r8 =>
  some (if r4 < r8 then r8 else r4)
def X_Atom_most (n : Nat) (o : Nat) (h : Hp) : Option (Int32) :=
  some 1
def X_Times_most (n : Nat) (fw : Nat → Option Int32) (o : Nat) (h : Hp) : Option (Int32) :=
  gd (hT h o = 9) <|
  bd (hR h o 0) fun a1 =>
  bd (fw a1) fun r4 =>
  bd (X_capped n ((hI h o 2) * r4)) fun r6 =>
  some r6
def X_most : Nat → Nat → Hp → Option Int32
  | 0, _, _ => none
  | d + 1, a, h => if hT h a = 8 then X_Atom_most 0 a h else if hT h a = 9 then X_Times_most 0 (fun a => X_most d a h) a h else if hT h a = 10 then X_Then_most 0 (fun a => X_most d a h) a h else if hT h a = 11 then X_Either_most 0 (fun a => X_most d a h) a h else none
def X_promise_b20 (n : Nat) (o : Nat) (h : Hp) : Option (Int32) :=
  some (-1)
def X_promise (n : Nat) (o : Nat) (p1 : Int32) (p2 : Int32) (h : Hp) : Option (Int32) :=
  gd (hT h o = 1) <|
  bd (X_isPromise n o p1 h) fun r2 =>
  if r2 = 0 then
    X_promise_b20 n o h
  else
    bd (X_isIn n (Int32.toInt64 p2) 0 9) fun r5 =>
    if r5 = 0 then
      X_promise_b20 n o h
    else
      bd (hR h o 3) fun a7 =>
      gd (hT h a7 = 107) <|
      gd (¬ (p1 < 0 ∨ hN h a7 ≤ Int32.toNatClampNeg p1)) <|
      bd (hR h a7 (Int32.toNatClampNeg p1)) fun a11 =>
      gd (hT h a11 = 6) <|
      bd (hR h a11 0) fun a14 =>
      gd (hT h a14 = 106) <|
      gd (¬ ((p2 &&& 1) < 0 ∨ hN h a14 ≤ Int32.toNatClampNeg (p2 &&& 1))) <|
      if (p2 / 2) = 0 then
        if p2 = 0 then
          some (hI h a11 1)
        else
          if (hR h a11 2) = none then
            some 0
          else
            some 1
      else
        if (p2 / 2) = 1 then
          bd (hR h a14 (Int32.toNatClampNeg (p2 &&& 1))) fun a24 =>
          gd (hT h a24 = 7) <|
          some (hI h a24 1)
        else
          if (p2 / 2) = 2 then
            bd (hR h a14 (Int32.toNatClampNeg (p2 &&& 1))) fun a27 =>
            gd (hT h a27 = 7) <|
            bd (hR h a27 2) fun a30 =>
            bd (X_weight 208 a30 h) fun r33 =>
            some r33
          else
            if (p2 / 2) = 3 then
              bd (hR h a14 (Int32.toNatClampNeg (p2 &&& 1))) fun a34 =>
              gd (hT h a34 = 7) <|
              bd (hR h a34 2) fun a37 =>
              bd (X_least 208 a37 h) fun r40 =>
              some r40
            else
              bd (hR h a14 (Int32.toNatClampNeg (p2 &&& 1))) fun a41 =>
              gd (hT h a41 = 7) <|
              bd (hR h a41 2) fun a44 =>
              bd (X_most 208 a44 h) fun r47 =>
              some r47
def X_conditionOf_b20 (n : Nat) (o : Nat) (h : Hp) : Option (Option Nat) :=
  some none
def X_conditionOf (n : Nat) (o : Nat) (p1 : Int32) (p2 : Int32) (p3 : Int32) (h : Hp) : Option (Option Nat) :=
  gd (hT h o = 1) <|
  bd (X_isPromise n o p1 h) fun r2 =>
  if r2 = 0 then
    X_conditionOf_b20 n o h
  else
    bd (X_isIn n (Int32.toInt64 p2) 0 2) fun r5 =>
    if r5 = 0 then
      X_conditionOf_b20 n o h
    else
      if p2 = 2 then
        bd (hR h o 3) fun a29 =>
        gd (hT h a29 = 107) <|
        gd (¬ (p1 < 0 ∨ hN h a29 ≤ Int32.toNatClampNeg p1)) <|
        bd (hR h a29 (Int32.toNatClampNeg p1)) fun a33 =>
        gd (hT h a33 = 6) <|
        some (hR h a33 2)
      else
        bd (hR h o 3) fun a8 =>
        gd (hT h a8 = 107) <|
        gd (¬ (p1 < 0 ∨ hN h a8 ≤ Int32.toNatClampNeg p1)) <|
        bd (hR h a8 (Int32.toNatClampNeg p1)) fun a12 =>
        gd (hT h a12 = 6) <|
        bd (hR h a12 0) fun a15 =>
        gd (hT h a15 = 106) <|
        gd (¬ (p2 < 0 ∨ hN h a15 ≤ Int32.toNatClampNeg p2)) <|
        bd (hR h a15 (Int32.toNatClampNeg p2)) fun a19 =>
        gd (hT h a19 = 7) <|
        bd (X_isIn n (Int32.toInt64 p3) 0 (Int32.toInt64 ((hI h a19 1) - 1))) fun r23 =>
        if r23 = 0 then
          some none
        else
          bd (hR h a19 0) fun a25 =>
          gd (hT h a25 = 105) <|
          gd (¬ (p3 < 0 ∨ hN h a25 ≤ Int32.toNatClampNeg p3)) <|
          some (hR h a25 (Int32.toNatClampNeg p3))
def X_fulfils_b27 (n : Nat) (o : Nat) (h : Hp) : Option (Int32) :=
  some (-1)
def X_fulfils (n : Nat) (o : Nat) (p1 : Int32) (p2 : Int32) (p3 : Int32) (p4 : Int32) (h : Hp) : Option (Int32) :=
  gd (hT h o = 1) <|
  bd (X_conditionOf n o p1 p2 p3 h) fun r2 =>
  if r2 = none then
    X_fulfils_b27 n o h
  else
    bd (X_isIn n (Int32.toInt64 p4) 0 255) fun r5 =>
    if r5 = 0 then
      X_fulfils_b27 n o h
    else
      bd r2 fun a7 =>
      bd (X_at 209 a7 p4 h) fun r9 =>
      if r9 = 0 then
        some 0
      else
        some 1
def X_fulfilled (n : Nat) (o : Nat) (p1 : Int32) (p2 : Int32) (p3 : Int32) (h : Hp) : Option (Int32) :=
  gd (hT h o = 1) <|
  bd (X_conditionOf n o p1 p2 p3 h) fun r2 =>
  if r2 = none then
    some (-1)
  else
    bd (X_fulfilling n r2 h) fun r5 =>
    some r5
def X_isSide_b36 (n : Nat) (o : Nat) (h : Hp) : Option (Int32) :=
  some 0
def X_isSide (n : Nat) (o : Nat) (p1 : Int32) (p2 : Int32) (p3 : Int32) (h : Hp) : Option (Int32) :=
  gd (hT h o = 1) <|
  bd (X_isPromise n o p1 h) fun r2 =>
  if r2 = 0 then
    X_isSide_b36 n o h
  else
    bd (X_isIn n (Int32.toInt64 p2) 0 1) fun r5 =>
    if r5 = 0 then
      X_isSide_b36 n o h
    else
      bd (X_isIn n (Int32.toInt64 p3) 0 (Int32.toInt64 (hI h o 6))) fun r8 =>
      if r8 = 0 then
        X_isSide_b36 n o h
      else
        some 1
def X_matches_b34 (n : Nat) (o : Nat) (h_4 : Hp) : Option (Int32 × Hp) :=
  some ((-1), h_4)
def X_matches_b84 (n : Nat) (o : Nat) (h_22 : Hp) : Option (Int32 × Hp) :=
  some (0, h_22)
def X_matches (n : Nat) (o : Nat) (p1 : Int32) (p2 : Int32) (p3 : Int32) (p4 : Int32) (h : Hp) : Option (Int32 × Hp) :=
  gd (hT h o = 1) <|
  bd (X_isSide n o p1 p2 p3 h) fun r2 =>
  if r2 = 0 then
    X_matches_b34 n o h
  else
    bd (X_isIn n (Int32.toInt64 p4) (Int32.toInt64 (p3 - 1)) (Int32.toInt64 ((if p3 < (hI h o 6) then (hI h o 6) else p3) - 1))) fun r6 =>
    if r6 = 0 then
      X_matches_b34 n o h
    else
      bd (X_runsAll n o h) fun h9 =>
      bd (hR h9 o 3) fun a10 =>
      gd (hT h9 a10 = 107) <|
      gd (¬ (p1 < 0 ∨ hN h9 a10 ≤ Int32.toNatClampNeg p1)) <|
      bd (hR h9 a10 (Int32.toNatClampNeg p1)) fun a14 =>
      gd (hT h9 a14 = 6) <|
      bd (hR h9 a14 0) fun a17 =>
      gd (hT h9 a17 = 106) <|
      gd (¬ (p2 < 0 ∨ hN h9 a17 ≤ Int32.toNatClampNeg p2)) <|
      if p4 < p3 then
        X_matches_b84 n o h9
      else
        bd (hR h9 a17 (Int32.toNatClampNeg p2)) fun a23 =>
        gd (hT h9 a23 = 7) <|
        bd (hR h9 a23 4) fun a26 =>
        gd (hT h9 a26 = 111) <|
        gd (¬ (p3 < 0 ∨ hN h9 a26 ≤ Int32.toNatClampNeg p3)) <|
        bd (hR h9 a26 (Int32.toNatClampNeg p3)) fun a30 =>
        gd (hT h9 a30 = 101) <|
        gd (¬ (p4 < 0 ∨ hN h9 a30 ≤ Int32.toNatClampNeg p4)) <|
        bd (hR h9 a23 3) fun a34 =>
        gd (hT h9 a34 = 12) <|
        bd (X_Machine_ends n a34 (hL h9 a30 (Int32.toNatClampNeg p4)) h9) fun r38 =>
        if r38 = 0 then
          X_matches_b84 n o h9
        else
          some (1, h9)
def X_might_b80 (n : Nat) (o : Nat) (h_35 : Hp) : Option (Int32 × Hp) :=
  some (0, h_35)
def X_might_b76 (n : Nat) (o : Nat) (h_36 : Hp) : Option (Int32 × Hp) :=
  some (1, h_36)
def X_might (n : Nat) (o : Nat) (p1 : Int32) (p2 : Int32) (p3 : Int32) (h : Hp) : Option (Int32 × Hp) :=
  gd (hT h o = 1) <|
  bd (X_isSide n o p1 p2 p3 h) fun r2 =>
  if r2 = 0 then
    some ((-1), h)
  else
    bd (X_runsAll n o h) fun h5 =>
    bd (hR h5 o 3) fun a6 =>
    gd (hT h5 a6 = 107) <|
    gd (¬ (p1 < 0 ∨ hN h5 a6 ≤ Int32.toNatClampNeg p1)) <|
    bd (hR h5 a6 (Int32.toNatClampNeg p1)) fun a10 =>
    gd (hT h5 a10 = 6) <|
    bd (hR h5 a10 0) fun a13 =>
    gd (hT h5 a13 = 106) <|
    gd (¬ (p2 < 0 ∨ hN h5 a13 ≤ Int32.toNatClampNeg p2)) <|
    if p3 = (hI h5 o 6) then
      bd (hR h5 a13 (Int32.toNatClampNeg p2)) fun a37 =>
      gd (hT h5 a37 = 7) <|
      bd (hR h5 a37 3) fun a40 =>
      gd (hT h5 a40 = 12) <|
      bd (X_Machine_mightBegin n a40 h5) fun r44 =>
      if r44 = 0 then
        X_might_b80 n o h5
      else
        X_might_b76 n o h5
    else
      bd (hR h5 a13 (Int32.toNatClampNeg p2)) fun a18 =>
      gd (hT h5 a18 = 7) <|
      bd (hR h5 a18 4) fun a21 =>
      gd (hT h5 a21 = 111) <|
      gd (¬ (p3 < 0 ∨ hN h5 a21 ≤ Int32.toNatClampNeg p3)) <|
      bd (hR h5 a21 (Int32.toNatClampNeg p3)) fun a25 =>
      gd (hT h5 a25 = 101) <|
      gd (¬ (((hI h5 o 6) - 1) < 0 ∨ hN h5 a25 ≤ Int32.toNatClampNeg ((hI h5 o 6) - 1))) <|
      bd (hR h5 a18 3) fun a29 =>
      gd (hT h5 a29 = 12) <|
      bd (X_Machine_mightGoOn n a29 (hL h5 a25 (Int32.toNatClampNeg ((hI h5 o 6) - 1))) h5) fun r33 =>
      if r33 = 0 then
        X_might_b80 n o h5
      else
        X_might_b76 n o h5
def X_comes (n : Nat) (o : Nat) (p1 : Int32) (h : Hp) : Option (Hp) :=
  gd (hT h o = 1) <|
  bd (hR h o 5) fun a1 =>
  gd (hT h a1 = 100) <|
  gd (¬ ((hI h o 6) < 0 ∨ hN h a1 ≤ Int32.toNatClampNeg (hI h o 6))) <|
  st (sI h a1 (Int32.toNatClampNeg (hI h o 6)) p1) fun h5 =>
  st (sI h5 o 6 ((hI h5 o 6) + 1)) fun h6 =>
  st (sI h6 o 7 0) fun h7 =>
  some h7
def X_failedBy_b60 (n : Nat) (o : Nat) (K19 : Int32 → Int32 → Int32 → Int32 → Hp → Option (Int32 × Hp)) (v1 : Int32) (v3 : Int32) (v4 : Int32) (t0 : Int32) (t1 : Int32) (h_17 : Hp) : Option (Int32 × Hp) :=
  K19 v1 (t1 + t0) v3 (v4 + 1) h_17
def X_failedBy_b59 (n : Nat) (o : Nat) (K19 : Int32 → Int32 → Int32 → Int32 → Hp → Option (Int32 × Hp)) (v1 : Int32) (v3 : Int32) (v4 : Int32) (t0 : Int32) (h_16 : Hp) : Option (Int32 × Hp) :=
  X_failedBy_b60 n o K19 v1 v3 v4 0 t0 h_16
def X_failedBy_b19 (n : Nat) (o : Nat) (K8 : Int32 → Int32 → Int32 → Hp → Option (Int32 × Hp)) : Nat → Int32 → Int32 → Int32 → Int32 → Hp → Option (Int32 × Hp)
  | 0, _, _, _, _, _ => none
  | f + 1, v1, v2, v3, v4, h_5 =>
    if (hI h_5 o 6) ≤ v4 then
      K8 v1 v2 (v3 + 1) h_5
    else
      bd (hR h_5 o 8) fun a7 =>
      gd (hT h_5 a7 = 110) <|
      gd (¬ (v3 < 0 ∨ hN h_5 a7 ≤ Int32.toNatClampNeg v3)) <|
      bd (hR h_5 a7 (Int32.toNatClampNeg v3)) fun a11 =>
      gd (hT h_5 a11 = 100) <|
      gd (¬ (v4 < 0 ∨ hN h_5 a11 ≤ Int32.toNatClampNeg v4)) <|
      if (hI h_5 a11 (Int32.toNatClampNeg v4)) = 2 then
        bd (hR h_5 o 9) fun a18 =>
        gd (hT h_5 a18 = 110) <|
        gd (¬ (v3 < 0 ∨ hN h_5 a18 ≤ Int32.toNatClampNeg v3)) <|
        bd (hR h_5 a18 (Int32.toNatClampNeg v3)) fun a22 =>
        gd (hT h_5 a22 = 100) <|
        gd (¬ (v4 < 0 ∨ hN h_5 a22 ≤ Int32.toNatClampNeg v4)) <|
        if (hI h_5 a22 (Int32.toNatClampNeg v4)) = v1 then
          X_failedBy_b60 n o (X_failedBy_b19 n o K8 f) v1 v3 v4 1 v2 h_5
        else
          X_failedBy_b59 n o (X_failedBy_b19 n o K8 f) v1 v3 v4 v2 h_5
      else
        X_failedBy_b59 n o (X_failedBy_b19 n o K8 f) v1 v3 v4 v2 h_5
def X_failedBy_b8 (n : Nat) (o : Nat) : Nat → Int32 → Int32 → Int32 → Hp → Option (Int32 × Hp)
  | 0, _, _, _, _ => none
  | f + 1, v1, v2, v3, h_3 =>
    if (hI h_3 o 4) ≤ v3 then
      some (v2, h_3)
    else
      X_failedBy_b19 n o (X_failedBy_b8 n o f) n v1 v2 v3 0 h_3
def X_failedBy (n : Nat) (o : Nat) (p1 : Int32) (h : Hp) : Option (Int32 × Hp) :=
  gd (hT h o = 1) <|
  bd (X_runsAll n o h) fun h2 =>
  X_failedBy_b8 n o n p1 0 0 h2
def X_tick (n : Nat) (o : Nat) (p1 : Int32) (h : Hp) : Option (Int32 × Hp) :=
  gd (hT h o = 1) <|
  bd (X_isIn n (Int32.toInt64 p1) 0 255) fun r2 =>
  if r2 = 0 then
    some ((-1), h)
  else
    if (hI h o 6) = 48 then
      some ((-3), h)
    else
      bd (X_comes n o p1 h) fun h6 =>
      bd2 (X_failedBy n o ((hI h6 o 6) - 1) h6) fun r9 h8 =>
      some (r9, h8)
def X_isTick (n : Nat) (o : Nat) (p1 : Int32) (h : Hp) : Option (Int32) :=
  gd (hT h o = 1) <|
  bd (X_isIn n (Int32.toInt64 p1) 0 (Int32.toInt64 ((hI h o 6) - 1))) fun r2 =>
  gd (r2 = 0 ∨ r2 = 1) <|
  some r2
def X_bits (n : Nat) (o : Nat) (p1 : Int32) (h : Hp) : Option (Int32) :=
  gd (hT h o = 1) <|
  bd (X_isTick n o p1 h) fun r2 =>
  if r2 = 0 then
    some (-1)
  else
    bd (hR h o 5) fun a4 =>
    gd (hT h a4 = 100) <|
    gd (¬ (p1 < 0 ∨ hN h a4 ≤ Int32.toNatClampNeg p1)) <|
    some (hI h a4 (Int32.toNatClampNeg p1))
def X_put_b20 (n : Nat) (o : Nat) (h_4 : Hp) : Option (Int32 × Hp) :=
  some ((-1), h_4)
def X_put (n : Nat) (o : Nat) (p1 : Int32) (p2 : Int32) (h : Hp) : Option (Int32 × Hp) :=
  gd (hT h o = 1) <|
  bd (X_isTick n o p1 h) fun r2 =>
  if r2 = 0 then
    X_put_b20 n o h
  else
    bd (X_isIn n (Int32.toInt64 p2) 0 255) fun r6 =>
    if r6 = 0 then
      X_put_b20 n o h
    else
      bd (hR h o 5) fun a8 =>
      gd (hT h a8 = 100) <|
      gd (¬ (p1 < 0 ∨ hN h a8 ≤ Int32.toNatClampNeg p1)) <|
      gd (¬ (p1 < 0 ∨ hN h a8 ≤ Int32.toNatClampNeg p1)) <|
      st (sI h a8 (Int32.toNatClampNeg p1) p2) fun h13 =>
      st (sI h13 o 7 0) fun h14 =>
      some ((hI h a8 (Int32.toNatClampNeg p1)), h14)
def X_keeps (n : Nat) (o : Nat) (p1 : Int32) (h : Hp) : Option (Int32 × Hp) :=
  gd (hT h o = 1) <|
  bd (X_isIn n (Int32.toInt64 p1) 0 (Int32.toInt64 (hI h o 6))) fun r2 =>
  if r2 = 0 then
    some ((-1), h)
  else
    st (sI h o 6 p1) fun h4 =>
    st (sI h4 o 7 0) fun h5 =>
    some ((hI h o 6), h5)
def X_got (n : Nat) (o : Nat) (h : Hp) : Option (Int32 × Hp) :=
  gd (hT h o = 1) <|
  st (sI h o 11 (((hI h o 11) * 1103515245) + 12345)) fun h1 =>
  some ((((hI h1 o 11) >>> (16 &&& 31)) &&& 32767), h1)
def X_draw_b35 (n : Nat) (o : Nat) : Nat → Int32 → Int32 → Hp → Option (Int32 × Hp)
  | 0, _, _, _ => none
  | f + 1, v2, v3, h_6 =>
    if v2 ≤ v3 then
      some ((hI h_6 o 6), h_6)
    else
      bd2 (X_got n o h_6) fun r10 h9 =>
      bd2 (X_got n o h9) fun r13 h12 =>
      bd (X_comes n o ((r10 - r10 / 256 * 256) &&& (r13 - r13 / 256 * 256)) h12) fun h15 =>
      (X_draw_b35 n o f) v2 (v3 + 1) h15
def X_draw (n : Nat) (o : Nat) (p1 : Int32) (p2 : Int32) (h : Hp) : Option (Int32 × Hp) :=
  gd (hT h o = 1) <|
  bd (X_isIn n (Int32.toInt64 p2) 1 20) fun r2 =>
  if r2 = 0 then
    some ((-1), h)
  else
    if ((hI h o 6) + p2) ≤ 48 then
      st (sI h o 11 p1) fun h5 =>
      X_draw_b35 n o n p2 0 h5
    else
      some ((-3), h)
def X_verdict_b16 (n : Nat) (o : Nat) (h_4 : Hp) : Option (Int32 × Hp) :=
  some ((-1), h_4)
def X_verdict (n : Nat) (o : Nat) (p1 : Int32) (p2 : Int32) (h : Hp) : Option (Int32 × Hp) :=
  gd (hT h o = 1) <|
  bd (X_isPromise n o p1 h) fun r2 =>
  if r2 = 0 then
    X_verdict_b16 n o h
  else
    bd (X_isTick n o p2 h) fun r6 =>
    if r6 = 0 then
      X_verdict_b16 n o h
    else
      bd (X_runsAll n o h) fun h9 =>
      bd (hR h9 o 8) fun a10 =>
      gd (hT h9 a10 = 110) <|
      gd (¬ (p1 < 0 ∨ hN h9 a10 ≤ Int32.toNatClampNeg p1)) <|
      bd (hR h9 a10 (Int32.toNatClampNeg p1)) fun a14 =>
      gd (hT h9 a14 = 100) <|
      gd (¬ (p2 < 0 ∨ hN h9 a14 ≤ Int32.toNatClampNeg p2)) <|
      some ((hI h9 a14 (Int32.toNatClampNeg p2)), h9)
def X_decided_b16 (n : Nat) (o : Nat) (h_4 : Hp) : Option (Int32 × Hp) :=
  some ((-1), h_4)
def X_decided (n : Nat) (o : Nat) (p1 : Int32) (p2 : Int32) (h : Hp) : Option (Int32 × Hp) :=
  gd (hT h o = 1) <|
  bd (X_isPromise n o p1 h) fun r2 =>
  if r2 = 0 then
    X_decided_b16 n o h
  else
    bd (X_isTick n o p2 h) fun r6 =>
    if r6 = 0 then
      X_decided_b16 n o h
    else
      bd (X_runsAll n o h) fun h9 =>
      bd (hR h9 o 9) fun a10 =>
      gd (hT h9 a10 = 110) <|
      gd (¬ (p1 < 0 ∨ hN h9 a10 ≤ Int32.toNatClampNeg p1)) <|
      bd (hR h9 a10 (Int32.toNatClampNeg p1)) fun a14 =>
      gd (hT h9 a14 = 100) <|
      gd (¬ (p2 < 0 ∨ hN h9 a14 ≤ Int32.toNatClampNeg p2)) <|
      some ((hI h9 a14 (Int32.toNatClampNeg p2)), h9)
def X_duties_b16 (n : Nat) (o : Nat) (h_4 : Hp) : Option (Int32 × Hp) :=
  some ((-1), h_4)
def X_duties (n : Nat) (o : Nat) (p1 : Int32) (p2 : Int32) (h : Hp) : Option (Int32 × Hp) :=
  gd (hT h o = 1) <|
  bd (X_isPromise n o p1 h) fun r2 =>
  if r2 = 0 then
    X_duties_b16 n o h
  else
    bd (X_isTick n o p2 h) fun r6 =>
    if r6 = 0 then
      X_duties_b16 n o h
    else
      bd (X_runsAll n o h) fun h9 =>
      bd (X_dutiesOf n o p1 p2 h9) fun r11 =>
      some (r11, h9)
def X_dutyAt_b42 (n : Nat) (o : Nat) (K6 : Int32 → Int32 → Int32 → Int32 → Option (Int32)) (h : Hp) (v1 : Int32) (v2 : Int32) (v4 : Int32) (v5 : Int32) : Option (Int32) :=
  K6 v1 v2 v4 (v5 + 1)
def X_dutyAt_b6 (n : Nat) (o : Nat) (h : Hp) : Nat → Int32 → Int32 → Int32 → Int32 → Option (Int32)
  | 0, _, _, _, _ => none
  | f + 1, v1, v2, v4, v5 =>
    if (hI h o 6) ≤ v5 then
      some (-4)
    else
      bd (hR h o 3) fun a2 =>
      gd (hT h a2 = 107) <|
      gd (¬ (v1 < 0 ∨ hN h a2 ≤ Int32.toNatClampNeg v1)) <|
      bd (X_isDuty n o (hR h a2 (Int32.toNatClampNeg v1)) v2 v5 h) fun r7 =>
      if r7 = 0 then
        X_dutyAt_b42 n o (X_dutyAt_b6 n o h f) h v1 v2 v4 v5
      else
        if v4 = 0 then
          some v5
        else
          X_dutyAt_b42 n o (X_dutyAt_b6 n o h f) h v1 v2 (v4 + (-1)) v5
def X_dutyAt (n : Nat) (o : Nat) (p1 : Int32) (p2 : Int32) (p3 : Int32) (h : Hp) : Option (Int32) :=
  gd (hT h o = 1) <|
  X_dutyAt_b6 n o h n p1 p2 p3 p2
def X_duty_b33 (n : Nat) (o : Nat) (h_4 : Hp) : Option (Int32 × Hp) :=
  some ((-1), h_4)
def X_duty (n : Nat) (o : Nat) (p1 : Int32) (p2 : Int32) (p3 : Int32) (p4 : Int32) (h : Hp) : Option (Int32 × Hp) :=
  gd (hT h o = 1) <|
  bd (X_isPromise n o p1 h) fun r2 =>
  if r2 = 0 then
    X_duty_b33 n o h
  else
    bd (X_isTick n o p2 h) fun r6 =>
    if r6 = 0 then
      X_duty_b33 n o h
    else
      if p3 < 0 then
        X_duty_b33 n o h
      else
        bd (X_isIn n (Int32.toInt64 p4) 0 2) fun r10 =>
        if r10 = 0 then
          X_duty_b33 n o h
        else
          bd (X_runsAll n o h) fun h13 =>
          bd (X_dutyAt n o p1 p2 p3 h13) fun r15 =>
          if r15 = (-4) then
            some ((-4), h13)
          else
            bd (hR h13 o 3) fun a17 =>
            gd (hT h13 a17 = 107) <|
            gd (¬ (p1 < 0 ∨ hN h13 a17 ≤ Int32.toNatClampNeg p1)) <|
            bd (X_dutyOf n o (hR h13 a17 (Int32.toNatClampNeg p1)) r15 h13) fun r22 =>
            if p4 = 0 then
              some (r15, h13)
            else
              if p4 = 1 then
                some ((r22 &&& 3), h13)
              else
                if r22 = 0 then
                  some ((-4), h13)
                else
                  some ((if r15 < (r22 >>> (2 &&& 31)) then (r22 >>> (2 &&& 31)) else r15), h13)
def X_tries_b20 (n : Nat) (o : Nat) (h_4 : Hp) : Option (Int32 × Hp) :=
  some ((-1), h_4)
def X_tries (n : Nat) (o : Nat) (p1 : Int32) (p2 : Int32) (h : Hp) : Option (Int32 × Hp) :=
  gd (hT h o = 1) <|
  bd (X_isPromise n o p1 h) fun r2 =>
  if r2 = 0 then
    X_tries_b20 n o h
  else
    bd (X_isIn n (Int32.toInt64 p2) 0 4) fun r6 =>
    if r6 = 0 then
      X_tries_b20 n o h
    else
      bd (X_runsAll n o h) fun h9 =>
      bd (X_counted n o p1 p2 h9) fun r11 =>
      some (r11, h9)
def X_first_b20 (n : Nat) (o : Nat) (h_4 : Hp) : Option (Int32 × Hp) :=
  some ((-1), h_4)
def X_first_b28 (n : Nat) (o : Nat) : Nat → Int32 → Int32 → Int32 → Hp → Option (Int32 × Hp)
  | 0, _, _, _, _ => none
  | f + 1, v1, v2, v3, h_10 =>
    if (hI h_10 o 6) ≤ v3 then
      some ((-4), h_10)
    else
      bd (hR h_10 o 8) fun a12 =>
      gd (hT h_10 a12 = 110) <|
      gd (¬ (v1 < 0 ∨ hN h_10 a12 ≤ Int32.toNatClampNeg v1)) <|
      bd (hR h_10 a12 (Int32.toNatClampNeg v1)) fun a16 =>
      gd (hT h_10 a16 = 100) <|
      gd (¬ (v3 < 0 ∨ hN h_10 a16 ≤ Int32.toNatClampNeg v3)) <|
      if (hI h_10 a16 (Int32.toNatClampNeg v3)) = v2 then
        some (v3, h_10)
      else
        (X_first_b28 n o f) v1 v2 (v3 + 1) h_10
def X_first (n : Nat) (o : Nat) (p1 : Int32) (p2 : Int32) (h : Hp) : Option (Int32 × Hp) :=
  gd (hT h o = 1) <|
  bd (X_isPromise n o p1 h) fun r2 =>
  if r2 = 0 then
    X_first_b20 n o h
  else
    bd (X_isIn n (Int32.toInt64 p2) 0 4) fun r6 =>
    if r6 = 0 then
      X_first_b20 n o h
    else
      bd (X_runsAll n o h) fun h9 =>
      X_first_b28 n o n p1 p2 0 h9
def X_isImage (n : Nat) (p0 : Int32) : Option (Int32) :=
  bd (X_isIn n (Int32.toInt64 p0) 0 1) fun r2 =>
  gd (r2 = 0 ∨ r2 = 1) <|
  some r2
def X_keep_b23 (n : Nat) (o : Nat) (v1 : Int32) (t0 : Int32) (h_9 : Hp) : Option ((Int32 × Hp) × Nat × Nat) :=
  gd (¬ (hI h_9 o 6) < 0) <|
  gd (Int32.toNatClampNeg (hI h_9 o 6) ≤ 1000) <|
  ad 1 (Int32.toNatClampNeg (hI h_9 o 6)) <|
  st (nw h_9 100 (Int32.toNatClampNeg (hI h_9 o 6))) fun h16 =>
  bd (hR h_9 o 12) fun a18 =>
  gd (hT h16 a18 = 110) <|
  gd (¬ (v1 < 0 ∨ hN h16 a18 ≤ Int32.toNatClampNeg v1)) <|
  st (sR h16 a18 (Int32.toNatClampNeg v1) (some (hZ h_9))) fun h22 =>
  bd (hR h22 o 12) fun a23 =>
  gd (hT h22 a23 = 110) <|
  gd (¬ (v1 < 0 ∨ hN h22 a23 ≤ Int32.toNatClampNeg v1)) <|
  bd (hR h22 o 5) fun a27 =>
  bd (hR h22 a23 (Int32.toNatClampNeg v1)) fun a29 =>
  gd (hT h22 a27 = 100) <|
  gd (hT h22 a29 = 100) <|
  gd (¬ (hI h22 o 6) < 0) <|
  gd (Int32.toNatClampNeg 0 + Int32.toNatClampNeg (hI h22 o 6) ≤ hN h22 a27) <|
  gd (Int32.toNatClampNeg 0 + Int32.toNatClampNeg (hI h22 o 6) ≤ hN h22 a29) <|
  st (cpI h22 a27 (Int32.toNatClampNeg 0) a29 (Int32.toNatClampNeg 0) (Int32.toNatClampNeg (hI h22 o 6))) fun h36 =>
  some ((t0, h36), 0, 0)
def X_keep (n : Nat) (o : Nat) (p1 : Int32) (h : Hp) : Option ((Int32 × Hp) × Nat × Nat) :=
  gd (hT h o = 1) <|
  bd (X_isImage n p1) fun r2 =>
  if r2 = 0 then
    some (((-1), h), 0, 0)
  else
    bd (hR h o 12) fun a4 =>
    gd (hT h a4 = 110) <|
    gd (¬ (p1 < 0 ∨ hN h a4 ≤ Int32.toNatClampNeg p1)) <|
    if (hR h a4 (Int32.toNatClampNeg p1)) = none then
      X_keep_b23 n o p1 0 h
    else
      X_keep_b23 n o p1 1 h
def X_back (n : Nat) (o : Nat) (p1 : Int32) (h : Hp) : Option (Int32 × Hp) :=
  gd (hT h o = 1) <|
  bd (X_isImage n p1) fun r2 =>
  if r2 = 0 then
    some ((-1), h)
  else
    bd (hR h o 12) fun a4 =>
    gd (hT h a4 = 110) <|
    gd (¬ (p1 < 0 ∨ hN h a4 ≤ Int32.toNatClampNeg p1)) <|
    if (hR h a4 (Int32.toNatClampNeg p1)) = none then
      some ((-2), h)
    else
      gd (¬ (p1 < 0 ∨ hN h a4 ≤ Int32.toNatClampNeg p1)) <|
      bd (hR h a4 (Int32.toNatClampNeg p1)) fun a10 =>
      gd (hT h a10 = 100) <|
      st (sI h o 6 (nI (hN h a10))) fun h13 =>
      bd (hR h13 o 12) fun a14 =>
      gd (hT h13 a14 = 110) <|
      gd (¬ (p1 < 0 ∨ hN h13 a14 ≤ Int32.toNatClampNeg p1)) <|
      bd (hR h13 a14 (Int32.toNatClampNeg p1)) fun a18 =>
      bd (hR h13 o 5) fun a20 =>
      gd (hT h13 a18 = 100) <|
      gd (hT h13 a20 = 100) <|
      gd (¬ (hI h13 o 6) < 0) <|
      gd (Int32.toNatClampNeg 0 + Int32.toNatClampNeg (hI h13 o 6) ≤ hN h13 a18) <|
      gd (Int32.toNatClampNeg 0 + Int32.toNatClampNeg (hI h13 o 6) ≤ hN h13 a20) <|
      st (cpI h13 a18 (Int32.toNatClampNeg 0) a20 (Int32.toNatClampNeg 0) (Int32.toNatClampNeg (hI h13 o 6))) fun h27 =>
      st (sI h27 o 7 0) fun h28 =>
      some ((hI h28 o 6), h28)
def X_Sheet_init (n : Nat) (o : Nat) (h : Hp) : Option (Unit) :=
  some ()
def X_init (n : Nat) (o : Nat) (h : Hp) : Option ((Hp) × Nat × Nat) :=
  gd (hT h o = 1) <|
  ad 1 (Int32.toNatClampNeg 200) <|
  st (nw h 102 (Int32.toNatClampNeg 200)) fun h5 =>
  st (sR h5 o 0 (some (hZ h))) fun h7 =>
  ad 1 (Int32.toNatClampNeg 4) <|
  st (nw h7 107 (Int32.toNatClampNeg 4)) fun h12 =>
  st (sR h12 o 3 (some (hZ h7))) fun h14 =>
  ad 1 (Int32.toNatClampNeg 48) <|
  st (nw h14 100 (Int32.toNatClampNeg 48)) fun h19 =>
  st (sR h19 o 5 (some (hZ h14))) fun h21 =>
  ad (1 + (Int32.toNatClampNeg 4)) ((Int32.toNatClampNeg 4) + (Int32.toNatClampNeg 4) * (Int32.toNatClampNeg 48)) <|
  st (nwM h21 110 100 (Int32.toNatClampNeg 4) (Int32.toNatClampNeg 48)) fun h26 =>
  st (sR h26 o 8 (some (hZ h21))) fun h27 =>
  ad (1 + (Int32.toNatClampNeg 4)) ((Int32.toNatClampNeg 4) + (Int32.toNatClampNeg 4) * (Int32.toNatClampNeg 48)) <|
  st (nwM h27 110 100 (Int32.toNatClampNeg 4) (Int32.toNatClampNeg 48)) fun h32 =>
  st (sR h32 o 9 (some (hZ h27))) fun h33 =>
  ad 1 (Int32.toNatClampNeg 48) <|
  st (nw h33 100 (Int32.toNatClampNeg 48)) fun h38 =>
  st (sR h38 o 10 (some (hZ h33))) fun h40 =>
  ad 1 (Int32.toNatClampNeg 2) <|
  st (nw h40 110 (Int32.toNatClampNeg 2)) fun h45 =>
  st (sR h45 o 12 (some (hZ h40))) fun h47 =>
  ad 1 (Int32.toNatClampNeg 4) <|
  st (nw h47 108 (Int32.toNatClampNeg 4)) fun h52 =>
  ad 1 2 <|
  st (nw h52 2 0) fun h58 =>
  bd (X_Sheet_init n (hZ h52) h58) fun _ =>
  gd (hT h58 (hZ h47) = 108) <|
  gd (¬ ((0 : Int32) < 0 ∨ hN h58 (hZ h47) ≤ Int32.toNatClampNeg 0)) <|
  st (sR h58 (hZ h47) (Int32.toNatClampNeg 0) (some (hZ h52))) fun h63 =>
  ad 1 2 <|
  st (nw h63 2 0) fun h68 =>
  bd (X_Sheet_init n (hZ h63) h68) fun _ =>
  gd (hT h68 (hZ h47) = 108) <|
  gd (¬ ((1 : Int32) < 0 ∨ hN h68 (hZ h47) ≤ Int32.toNatClampNeg 1)) <|
  st (sR h68 (hZ h47) (Int32.toNatClampNeg 1) (some (hZ h63))) fun h73 =>
  ad 1 2 <|
  st (nw h73 2 0) fun h78 =>
  bd (X_Sheet_init n (hZ h73) h78) fun _ =>
  gd (hT h78 (hZ h47) = 108) <|
  gd (¬ ((2 : Int32) < 0 ∨ hN h78 (hZ h47) ≤ Int32.toNatClampNeg 2)) <|
  st (sR h78 (hZ h47) (Int32.toNatClampNeg 2) (some (hZ h73))) fun h83 =>
  ad 1 2 <|
  st (nw h83 2 0) fun h88 =>
  bd (X_Sheet_init n (hZ h83) h88) fun _ =>
  gd (hT h88 (hZ h47) = 108) <|
  gd (¬ ((3 : Int32) < 0 ∨ hN h88 (hZ h47) ≤ Int32.toNatClampNeg 3)) <|
  st (sR h88 (hZ h47) (Int32.toNatClampNeg 3) (some (hZ h83))) fun h93 =>
  st (sR h93 o 13 (some (hZ h47))) fun h94 =>
  ad 1 (Int32.toNatClampNeg 3) <|
  st (nw h94 109 (Int32.toNatClampNeg 3)) fun h99 =>
  gd (hT h99 0 = 400) <|
  bd (hR h99 0 2) fun a102 =>
  gd (304 ≤ hT h99 a102 ∧ hT h99 a102 < 307) <|
  gd (¬ ((0 : Int32) < 0 ∨ hN h99 (hZ h94) ≤ Int32.toNatClampNeg 0)) <|
  st (sR h99 (hZ h94) (Int32.toNatClampNeg 0) (some a102)) fun h106 =>
  gd (hT h106 0 = 400) <|
  gd (hT h106 (hZ h94) = 109) <|
  bd (hR h106 0 3) fun a109 =>
  gd (304 ≤ hT h106 a109 ∧ hT h106 a109 < 307) <|
  gd (¬ ((1 : Int32) < 0 ∨ hN h106 (hZ h94) ≤ Int32.toNatClampNeg 1)) <|
  st (sR h106 (hZ h94) (Int32.toNatClampNeg 1) (some a109)) fun h113 =>
  gd (hT h113 0 = 400) <|
  gd (hT h113 (hZ h94) = 109) <|
  bd (hR h113 0 4) fun a116 =>
  gd (304 ≤ hT h113 a116 ∧ hT h113 a116 < 307) <|
  gd (¬ ((2 : Int32) < 0 ∨ hN h113 (hZ h94) ≤ Int32.toNatClampNeg 2)) <|
  st (sR h113 (hZ h94) (Int32.toNatClampNeg 2) (some a116)) fun h120 =>
  st (sR h120 o 14 (some (hZ h94))) fun h121 =>
  some (h121, 0, 0)
def X_isSheet_b28 (n : Nat) : Option (Int32) :=
  some 0
def X_isSheet (n : Nat) (p0 : Int32) (p1 : Int32) : Option (Int32) :=
  bd (X_isIn n (Int32.toInt64 p0) 0 3) fun r2 =>
  if r2 = 0 then
    X_isSheet_b28 n
  else
    bd (X_isIn n (Int32.toInt64 p1) 0 2) fun r5 =>
    if r5 = 0 then
      X_isSheet_b28 n
    else
      some 1
def X_newRow (n : Nat) (p0 : Int32) (p1 : Int32) (h : Hp) : Option ((Option Nat × Hp) × Nat × Nat) :=
  if p0 = 0 then
    gd (¬ p1 < 0) <|
    gd (Int32.toNatClampNeg p1 ≤ 1000) <|
    ad 1 (Int32.toNatClampNeg p1) <|
    st (nw h 102 (Int32.toNatClampNeg p1)) fun h9 =>
    some (((some (hZ h)), h9), 0, 0)
  else
    if p0 = 1 then
      gd (¬ p1 < 0) <|
      gd (Int32.toNatClampNeg p1 ≤ 1000) <|
      ad 1 (Int32.toNatClampNeg p1) <|
      st (nw h 103 (Int32.toNatClampNeg p1)) fun h17 =>
      some (((some (hZ h)), h17), 0, 0)
    else
      gd (¬ p1 < 0) <|
      gd (Int32.toNatClampNeg p1 ≤ 1000) <|
      ad 1 (Int32.toNatClampNeg p1) <|
      st (nw h 100 (Int32.toNatClampNeg p1)) fun h25 =>
      some (((some (hZ h)), h25), 0, 0)
def X_torn (n : Nat) (o : Nat) (h : Hp) : Option (Int32) :=
  gd (hT h o = 1) <|
  some (hI h o 15)
def X_count_b56 (n : Nat) (o : Nat) (h : Hp) (t0 : Int32) (t1 : Int32) : Option (Int32) :=
  some (t1 + t0)
def X_count_b42 (n : Nat) (o : Nat) (h : Hp) (t0 : Int32) : Option (Int32) :=
  bd (hR h o 12) fun a9 =>
  gd (hT h a9 = 110) <|
  gd (¬ ((1 : Int32) < 0 ∨ hN h a9 ≤ Int32.toNatClampNeg 1)) <|
  if (hR h a9 (Int32.toNatClampNeg 1)) = none then
    X_count_b56 n o h 0 t0
  else
    X_count_b56 n o h 1 t0
def X_count (n : Nat) (o : Nat) (p1 : Int32) (h : Hp) : Option (Int32) :=
  gd (hT h o = 1) <|
  if p1 = 0 then
    bd (hR h o 12) fun a4 =>
    gd (hT h a4 = 110) <|
    gd (¬ ((0 : Int32) < 0 ∨ hN h a4 ≤ Int32.toNatClampNeg 0)) <|
    if (hR h a4 (Int32.toNatClampNeg 0)) = none then
      X_count_b42 n o h 0
    else
      X_count_b42 n o h 1
  else
    if p1 = 1 then
      some (hI h o 1)
    else
      if p1 = 2 then
        bd (hR h o 13) fun a14 =>
        gd (hT h a14 = 108) <|
        gd (¬ ((0 : Int32) < 0 ∨ hN h a14 ≤ Int32.toNatClampNeg 0)) <|
        bd (hR h a14 (Int32.toNatClampNeg 0)) fun a18 =>
        gd (hT h a18 = 2) <|
        if (hR h a18 0) = none then
          some (-4)
        else
          gd (¬ ((0 : Int32) < 0 ∨ hN h a14 ≤ Int32.toNatClampNeg 0)) <|
          some (hI h a18 1)
      else
        some (-1)
def X_Kind1_begin (n : Nat) (o : Nat) (p1 : Int32) (h : Hp) : Option (Int32) :=
  some p1
def X_Kind2_begin (n : Nat) (o : Nat) (p1 : Int32) (h : Hp) : Option (Int32) :=
  some (p1 + 1)
def X_PromiseTriesModel_init_b324 (n : Nat) (o : Nat) : Nat → Int32 → Hp → Option ((Hp) × Nat × Nat)
  | 0, _, _ => none
  | f + 1, v1, h_263 =>
    if 4 ≤ v1 then
      some (h_263, 0, 0)
    else
      bd (hR h_263 o 48) fun a265 =>
      gd (hT h_263 a265 = 100) <|
      gd (¬ (v1 < 0 ∨ hN h_263 a265 ≤ Int32.toNatClampNeg v1)) <|
      st (sI h_263 a265 (Int32.toNatClampNeg v1) (-4)) fun h269 =>
      (X_PromiseTriesModel_init_b324 n o f) (v1 + 1) h269
def X_PromiseTriesModel_init (n : Nat) (o : Nat) (h : Hp) : Option ((Hp) × Nat × Nat) :=
  gd (hT h o = 3) <|
  ad 1 (Int32.toNatClampNeg 360) <|
  st (nw h 100 (Int32.toNatClampNeg 360)) fun h5 =>
  st (sR h5 o 0 (some (hZ h))) fun h7 =>
  ad 1 (Int32.toNatClampNeg 360) <|
  st (nw h7 100 (Int32.toNatClampNeg 360)) fun h12 =>
  st (sR h12 o 1 (some (hZ h7))) fun h14 =>
  ad 1 (Int32.toNatClampNeg 1624) <|
  st (nw h14 101 (Int32.toNatClampNeg 1624)) fun h19 =>
  st (sR h19 o 2 (some (hZ h14))) fun h21 =>
  ad 1 (Int32.toNatClampNeg 1624) <|
  st (nw h21 101 (Int32.toNatClampNeg 1624)) fun h26 =>
  st (sR h26 o 3 (some (hZ h21))) fun h28 =>
  ad 1 (Int32.toNatClampNeg 8) <|
  st (nw h28 100 (Int32.toNatClampNeg 8)) fun h33 =>
  st (sR h33 o 4 (some (hZ h28))) fun h35 =>
  ad 1 (Int32.toNatClampNeg 8) <|
  st (nw h35 100 (Int32.toNatClampNeg 8)) fun h40 =>
  st (sR h40 o 5 (some (hZ h35))) fun h42 =>
  ad 1 (Int32.toNatClampNeg 16) <|
  st (nw h42 101 (Int32.toNatClampNeg 16)) fun h47 =>
  st (sR h47 o 6 (some (hZ h42))) fun h49 =>
  ad 1 (Int32.toNatClampNeg 16) <|
  st (nw h49 101 (Int32.toNatClampNeg 16)) fun h54 =>
  st (sR h54 o 7 (some (hZ h49))) fun h56 =>
  ad 1 (Int32.toNatClampNeg 49) <|
  st (nw h56 100 (Int32.toNatClampNeg 49)) fun h61 =>
  st (sR h61 o 9 (some (hZ h56))) fun h63 =>
  ad 1 (Int32.toNatClampNeg 98) <|
  st (nw h63 100 (Int32.toNatClampNeg 98)) fun h68 =>
  st (sR h68 o 10 (some (hZ h63))) fun h70 =>
  ad 1 (Int32.toNatClampNeg 2) <|
  st (nw h70 104 (Int32.toNatClampNeg 2)) fun h75 =>
  st (sR h75 o 11 (some (hZ h70))) fun h77 =>
  ad 1 (Int32.toNatClampNeg 200) <|
  st (nw h77 100 (Int32.toNatClampNeg 200)) fun h82 =>
  st (sR h82 o 12 (some (hZ h77))) fun h84 =>
  ad 1 (Int32.toNatClampNeg 40) <|
  st (nw h84 101 (Int32.toNatClampNeg 40)) fun h89 =>
  st (sR h89 o 21 (some (hZ h84))) fun h91 =>
  ad 1 (Int32.toNatClampNeg 40) <|
  st (nw h91 101 (Int32.toNatClampNeg 40)) fun h96 =>
  st (sR h96 o 22 (some (hZ h91))) fun h98 =>
  ad 1 (Int32.toNatClampNeg 10) <|
  st (nw h98 104 (Int32.toNatClampNeg 10)) fun h103 =>
  st (sR h103 o 23 (some (hZ h98))) fun h105 =>
  ad 1 (Int32.toNatClampNeg 10) <|
  st (nw h105 104 (Int32.toNatClampNeg 10)) fun h110 =>
  st (sR h110 o 24 (some (hZ h105))) fun h112 =>
  ad 1 (Int32.toNatClampNeg 10) <|
  st (nw h112 104 (Int32.toNatClampNeg 10)) fun h117 =>
  st (sR h117 o 25 (some (hZ h112))) fun h119 =>
  ad 1 (Int32.toNatClampNeg 4) <|
  st (nw h119 101 (Int32.toNatClampNeg 4)) fun h124 =>
  st (sR h124 o 26 (some (hZ h119))) fun h126 =>
  ad 1 (Int32.toNatClampNeg 6) <|
  st (nw h126 101 (Int32.toNatClampNeg 6)) fun h131 =>
  gd (¬ ((0 : Int32) < 0 ∨ hN h131 (hZ h126) ≤ Int32.toNatClampNeg 0)) <|
  st (sL h131 (hZ h126) (Int32.toNatClampNeg 0) (-6148914691236517206)) fun h134 =>
  gd (hT h134 (hZ h126) = 101) <|
  gd (¬ ((1 : Int32) < 0 ∨ hN h134 (hZ h126) ≤ Int32.toNatClampNeg 1)) <|
  st (sL h134 (hZ h126) (Int32.toNatClampNeg 1) (-3689348814741910324)) fun h137 =>
  gd (hT h137 (hZ h126) = 101) <|
  gd (¬ ((2 : Int32) < 0 ∨ hN h137 (hZ h126) ≤ Int32.toNatClampNeg 2)) <|
  st (sL h137 (hZ h126) (Int32.toNatClampNeg 2) (-1085102592571150096)) fun h140 =>
  gd (hT h140 (hZ h126) = 101) <|
  gd (¬ ((3 : Int32) < 0 ∨ hN h140 (hZ h126) ≤ Int32.toNatClampNeg 3)) <|
  st (sL h140 (hZ h126) (Int32.toNatClampNeg 3) (-71777214294589696)) fun h143 =>
  gd (hT h143 (hZ h126) = 101) <|
  gd (¬ ((4 : Int32) < 0 ∨ hN h143 (hZ h126) ≤ Int32.toNatClampNeg 4)) <|
  st (sL h143 (hZ h126) (Int32.toNatClampNeg 4) (-281470681808896)) fun h146 =>
  gd (hT h146 (hZ h126) = 101) <|
  gd (¬ ((5 : Int32) < 0 ∨ hN h146 (hZ h126) ≤ Int32.toNatClampNeg 5)) <|
  st (sL h146 (hZ h126) (Int32.toNatClampNeg 5) (-4294967296)) fun h149 =>
  st (sR h149 o 28 (some (hZ h126))) fun h150 =>
  ad 1 (Int32.toNatClampNeg 21) <|
  st (nw h150 100 (Int32.toNatClampNeg 21)) fun h155 =>
  st (sR h155 o 29 (some (hZ h150))) fun h157 =>
  ad 1 (Int32.toNatClampNeg 21) <|
  st (nw h157 101 (Int32.toNatClampNeg 21)) fun h162 =>
  st (sR h162 o 30 (some (hZ h157))) fun h164 =>
  ad 1 (Int32.toNatClampNeg 21) <|
  st (nw h164 101 (Int32.toNatClampNeg 21)) fun h169 =>
  st (sR h169 o 31 (some (hZ h164))) fun h171 =>
  ad 1 (Int32.toNatClampNeg 21) <|
  st (nw h171 104 (Int32.toNatClampNeg 21)) fun h176 =>
  st (sR h176 o 32 (some (hZ h171))) fun h178 =>
  ad 1 (Int32.toNatClampNeg 21) <|
  st (nw h178 100 (Int32.toNatClampNeg 21)) fun h183 =>
  st (sR h183 o 33 (some (hZ h178))) fun h185 =>
  ad 1 (Int32.toNatClampNeg 21) <|
  st (nw h185 100 (Int32.toNatClampNeg 21)) fun h190 =>
  st (sR h190 o 34 (some (hZ h185))) fun h192 =>
  ad 1 (Int32.toNatClampNeg 21) <|
  st (nw h192 100 (Int32.toNatClampNeg 21)) fun h197 =>
  st (sR h197 o 35 (some (hZ h192))) fun h199 =>
  ad 1 (Int32.toNatClampNeg 21) <|
  st (nw h199 104 (Int32.toNatClampNeg 21)) fun h204 =>
  st (sR h204 o 36 (some (hZ h199))) fun h206 =>
  ad 1 (Int32.toNatClampNeg 96) <|
  st (nw h206 101 (Int32.toNatClampNeg 96)) fun h211 =>
  st (sR h211 o 40 (some (hZ h206))) fun h213 =>
  ad 1 (Int32.toNatClampNeg 48) <|
  st (nw h213 101 (Int32.toNatClampNeg 48)) fun h218 =>
  st (sR h218 o 41 (some (hZ h213))) fun h220 =>
  ad 1 (Int32.toNatClampNeg 48) <|
  st (nw h220 100 (Int32.toNatClampNeg 48)) fun h225 =>
  st (sR h225 o 42 (some (hZ h220))) fun h227 =>
  ad 1 (Int32.toNatClampNeg 48) <|
  st (nw h227 100 (Int32.toNatClampNeg 48)) fun h232 =>
  st (sR h232 o 43 (some (hZ h227))) fun h234 =>
  ad 1 (Int32.toNatClampNeg 48) <|
  st (nw h234 104 (Int32.toNatClampNeg 48)) fun h239 =>
  st (sR h239 o 44 (some (hZ h234))) fun h241 =>
  ad 1 (Int32.toNatClampNeg 4) <|
  st (nw h241 100 (Int32.toNatClampNeg 4)) fun h246 =>
  st (sR h246 o 48 (some (hZ h241))) fun h248 =>
  ad 1 (Int32.toNatClampNeg 4) <|
  st (nw h248 100 (Int32.toNatClampNeg 4)) fun h253 =>
  st (sR h253 o 49 (some (hZ h248))) fun h255 =>
  ad 1 (Int32.toNatClampNeg 160) <|
  st (nw h255 100 (Int32.toNatClampNeg 160)) fun h260 =>
  st (sR h260 o 50 (some (hZ h255))) fun h262 =>
  X_PromiseTriesModel_init_b324 n o n 0 h262
def X_Node_weight (n : Nat) (o : Nat) (h : Hp) : Option (Int32) :=
  some 0
