set_option maxRecDepth 100000
def J12_checkFromToIndex (v0 : Int32) (v1 : Int32) (v2 : Int32) : Option (Int32) :=
  if v0 < 0 then (
    none)
  else (
    if v1 < v0 then (
      none)
    else (
      if v1 ≤ v2 then (
        some v0)
      else (
        none)))
def J7_checkLength (v0 : Int32) (v1 : Int32) : Option (Unit) :=
  if v0 ≤ v1 then (
    some ())
  else (
    none)
def J7_copyOfRangeByte (nb : Nat) (byt : (Nat → Int32)) (v1 : Int32) (v2 : Int32) : Option (Nat × (Nat → Int32)) :=
  (J7_checkLength v1 v2).bind fun z2 =>
  (lenF (v2 - v1) 64).bind fun z10 =>
  (cpyB byt nb v1 (fun _ => 0) z10 0 (if (v2 - v1) < ((nI nb) - v1) then (v2 - v1) else ((nI nb) - v1))).bind fun z27 =>
  some (z10, z27)
def J7_copyOfRange (nb : Nat) (byt : (Nat → Int32)) (v1 : Int32) (v2 : Int32) : Option (Nat × (Nat → Int32)) :=
  if v1 = 0 then (
    if v2 = (nI nb) then (
      (clB nb 64 byt).bind fun z18 =>
      some (nb, byt))
    else (
      (J7_copyOfRangeByte nb byt v1 v2).bind fun z13 =>
      some (z13.1, z13.2)))
  else (
    (J7_copyOfRangeByte nb byt v1 v2).bind fun z13 =>
    some (z13.1, z13.2))
def J5_init : Option (Unit) :=
  some ()
def J11_newString (nb : Nat) (byt : (Nat → Int32)) (v1 : Int32) (v2 : Int32) : Option (Nat × (Nat → Int32)) :=
  if v2 = 0 then (
    none)
  else (
    (J7_copyOfRange nb byt v1 (v1 + v2)).bind fun z16 =>
    (J5_init).bind fun z20 =>
    some (z16.1, z16.2))
def J3_substring (nb : Nat) (byt : (Nat → Int32)) (cnt : Int32) (v1 : Int32) (v2 : Int32) : Option (Nat × (Nat → Int32)) :=
  (J12_checkFromToIndex v1 v2 cnt).bind fun z9 =>
  (J3_isLatin1).bind fun z14 =>
  if z14 = 0 then (
    none)
  else (
    (J11_newString nb byt v1 (v2 - v1)).bind fun z28 =>
    some (z28.1, z28.2))
def J4_substring (nb : Nat) (byt : (Nat → Int32)) (cnt : Int32) (v1 : Int32) (v2 : Int32) : Option (Nat × (Nat → Int32)) :=
  (J3_substring nb byt cnt v1 v2).bind fun z3 =>
  some (z3.1, z3.2)
def J11_equals_9 (v1 : Nat) (nw : Nat) (wby : (Nat → Int32)) (v2 : Int32) : Option ((Int32) ⊕ ((Unit) ⊕ (Unit))) :=
  if (nI nw) ≤ v2 then (
    some (.inr (.inl ())))
  else (
    (ald wby nw v2).bind fun z17 =>
    (aldB v1 v2).bind fun z20 =>
    if z17 = z20 then (
      some (.inl (v2 + 1)))
    else (
      some (.inr (.inr ()))))
def J11_equals (nw : Nat) (wby : (Nat → Int32)) (v1 : Nat) : Option (Int32) :=
  (alenB v1).bind fun z3 =>
  if (nI nw) = z3 then (
    (loopN (fun x => J11_equals_9 v1 nw wby x) FU 0).bind fun z9 =>
    match z9 with
    | (.inl y9) =>
        some 1
    | (.inr y9) =>
        some 0)
  else (
    some 0)
def J5_equals (nw : Nat) (wby : (Nat → Int32)) (v1 : Nat) : Option (Int32) :=
  (sok v1).bind fun z2 =>
  (sok v1).bind fun z8 =>
  (sok v1).bind fun z15 =>
  (sok v1).bind fun z30 =>
  (sok v1).bind fun z41 =>
  (J11_equals nw wby v1).bind fun z44 =>
  if z44 = 0 then (
    some 0)
  else (
    some 1)
