set_option maxRecDepth 100000
def T_init (v1 : Int32) : Option (Int32) :=
  some v1
def T7_init (v1 : Int32) (v2 : Int32) : Option (Int32 × Int32) :=
  (T_init v1).bind fun z2 =>
  (cck v2).bind fun z7 =>
  some (z2, z7)
def T9_init (v1 : Int32) (v2 : Int32) : Option (Int32 × Int32) :=
  (T_init v1).bind fun z2 =>
  some (z2, v2)
def T8_init (v1 : Int32) : Option (Int32) :=
  (T_init v1).bind fun z2 =>
  some z2
def T7_isSign (tv : Int32) (v1 : Int32) : Option (Int32) :=
  if tv = v1 then (
    some 1)
  else (
    some 0)
def T9_value (tv : Int32) : Option (Int32) :=
  some tv
def T8_among_5 (nw : Nat) (wby : (Nat → Int32)) (na : Nat) (sa : (Nat → Nat)) (v2 : Int32) (v3 : Int32) : Option ((Int32 × Int32) ⊕ (Int32)) :=
  if (nI na) ≤ v3 then (
    some (.inr v2))
  else (
    (aldS sa na v3).bind fun z17 =>
    (J5_equals nw wby z17).bind fun z18 =>
    if z18 = 0 then (
      some (.inl (v2, (v3 + 1))))
    else (
      some (.inl (v3, (v3 + 1)))))
def T8_among (nw : Nat) (wby : (Nat → Int32)) (na : Nat) (sa : (Nat → Nat)) : Option (Int32) :=
  (loopN (fun x => T8_among_5 nw wby na sa x.1 x.2) FU ((-9), 0)).bind fun z5 =>
  some z5
def T_among : Option (Int32) :=
  some (-9)
def T_value : Option (Int32) :=
  some (-9)
def T_isSign : Option (Int32) :=
  some 0
