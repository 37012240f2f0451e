set_option maxRecDepth 100000
def J3_init (v1 : Int32) : Option (Int32 × Nat × (Nat → Int32)) :=
  (lenF v1 16).bind fun z12 =>
  some (0, z12, (fun _ => 0))
def J4_init : Option (Int32 × Nat × (Nat → Int32)) :=
  (J3_init 16).bind fun z3 =>
  some (z3.1, z3.2.1, z3.2.2)
def J10_newLength (v0 : Int32) (v1 : Int32) (v2 : Int32) : Option (Int32) :=
  if (v0 + (if v1 < v2 then v2 else v1)) ≤ 0 then (
    none)
  else (
    if 2147483639 < (v0 + (if v1 < v2 then v2 else v1)) then (
      none)
    else (
      some (v0 + (if v1 < v2 then v2 else v1))))
def J11_canEncode (v0 : Int32) : Option (Int32) :=
  if 255 < v0 then (
    some 0)
  else (
    some 1)
def J12_checkIndex (v0 : Int32) (v1 : Int32) : Option (Int32) :=
  if v0 < 0 then (
    none)
  else (
    if v0 < v1 then (
      some v0)
    else (
      none))
def J5_checkIndex (v0 : Int32) (v1 : Int32) : Option (Unit) :=
  (J12_checkIndex v0 v1).bind fun z5 =>
  some ()
def J7_copyOf_3 (nb : Nat) (byt : (Nat → Int32)) (v1 : Int32) : Option (Nat × (Nat → Int32)) :=
  if v1 = (nI nb) then (
    none)
  else (
    (lenF v1 142).bind fun z15 =>
    (cpyB byt nb 0 (fun _ => 0) z15 0 (if v1 < (nI nb) then v1 else (nI nb))).bind fun z28 =>
    some (z15, z28))
def J3_newCapacity (nb : Nat) (v1 : Int32) : Option (Int32) :=
  (J10_newLength (nI nb) ((v1 <<< (0 &&& 31)) - (nI nb)) ((nI nb) + ((2 : Int32) <<< (0 &&& 31)))).bind fun z29 =>
  if z29 = 2147483647 then (
    none)
  else (
    some (z29 >>> (0 &&& 31)))
def J3_ensureCapacityInternal (nb : Nat) (byt : (Nat → Int32)) (v1 : Int32) : Option (Nat × (Nat → Int32)) :=
  if (v1 - ((nI nb) >>> (0 &&& 31))) ≤ 0 then (
    some (nb, byt))
  else (
    (J3_newCapacity nb v1).bind fun z24 =>
    (J7_copyOf_3 nb byt (z24 <<< (0 &&& 31))).bind fun z32 =>
    some (z32.1, z32.2))
def J3_isLatin1 : Option (Int32) :=
  some 1
def J3_length (cnt : Int32) : Option (Int32) :=
  some cnt
def J3_append (nb : Nat) (byt : (Nat → Int32)) (cnt : Int32) (v1 : Int32) : Option (Int32 × Nat × (Nat → Int32)) :=
  (J3_ensureCapacityInternal nb byt (cnt + 1)).bind fun z7 =>
  (J3_isLatin1).bind fun z11 =>
  if z11 = 0 then (
    none)
  else (
    (J11_canEncode v1).bind fun z18 =>
    if z18 = 0 then (
      none)
    else (
      (bst z7.2 z7.1 cnt ((Int32.toInt8 v1).toInt32)).bind fun z41 =>
      some ((cnt + 1), z7.1, z41)))
def J3_charAt (nb : Nat) (byt : (Nat → Int32)) (cnt : Int32) (v1 : Int32) : Option (Int32) :=
  (some (if ((nI nb) >>> (0 &&& 31)) < cnt then ((nI nb) >>> (0 &&& 31)) else cnt)).bind fun z21 =>
  (J5_checkIndex v1 z21).bind fun z26 =>
  (ald byt nb v1).bind fun z35 =>
  (cck ((Int32.toUInt32 (z35 &&& 255) % 65536).toInt32)).bind fun z41 =>
  some z41
def J3_setLength (nb : Nat) (byt : (Nat → Int32)) (ml : Int32) (cnt : Int32) (v1 : Int32) : Option (Int32 × Int32 × Nat × (Nat → Int32)) :=
  if 0 ≤ v1 then (
    (J3_ensureCapacityInternal nb byt v1).bind fun z15 =>
    if v1 ≤ cnt then (
      if cnt ≤ v1 then (
        some (ml, v1, z15.1, z15.2))
      else (
        some (1, v1, z15.1, z15.2)))
    else (
      none))
  else (
    none)
def J4_length (cnt : Int32) : Option (Int32) :=
  (J3_length cnt).bind fun z1 =>
  some z1
def J4_append (nb : Nat) (byt : (Nat → Int32)) (cnt : Int32) (v1 : Int32) : Option (Int32 × Nat × (Nat → Int32)) :=
  (J3_append nb byt cnt v1).bind fun z2 =>
  some (z2.1, z2.2.1, z2.2.2)
def J4_charAt (nb : Nat) (byt : (Nat → Int32)) (cnt : Int32) (v1 : Int32) : Option (Int32) :=
  (J3_charAt nb byt cnt v1).bind fun z2 =>
  (cck z2).bind fun z5 =>
  some z5
def J4_setLength (nb : Nat) (byt : (Nat → Int32)) (ml : Int32) (cnt : Int32) (v1 : Int32) : Option (Int32 × Int32 × Nat × (Nat → Int32)) :=
  (J3_setLength nb byt ml cnt v1).bind fun z2 =>
  some (z2.1, z2.2.1, z2.2.2.1, z2.2.2.2)
def C_append (nb : Nat) (byt : (Nat → Int32)) (cnt : Int32) (v1 : Int32) : Option (Int32 × Int32 × Nat × (Nat → Int32)) :=
  (C_isBetween v1 1 255).bind fun z5 =>
  if z5 = 0 then (
    some ((-1), cnt, nb, byt))
  else (
    (J4_length cnt).bind fun z17 =>
    if z17 = 120 then (
      some ((-3), cnt, nb, byt))
    else (
      (J4_append nb byt cnt ((Int32.toUInt32 v1 % 65536).toInt32)).bind fun z34 =>
      (J4_length z34.1).bind fun z42 =>
      some (z42, z34.1, z34.2.1, z34.2.2)))
def C_clearText (nb : Nat) (byt : (Nat → Int32)) (ml : Int32) (cnt : Int32) : Option (Int32 × Int32 × Int32 × Nat × (Nat → Int32)) :=
  (J4_length cnt).bind fun z4 =>
  (J4_setLength nb byt ml cnt 0).bind fun z13 =>
  some (z4, z13.1, z13.2.1, z13.2.2.1, z13.2.2.2)
def C_count (cols : Int32) (rows : Int32) (thr : Int32) (bt : Int32) (tm : Int32) (rea : Int32) (kd : Nat) (n : Nat) (n4 : Nat) (vl : (Nat → Nat)) (gr : (Nat → Int32)) (cg : (Nat → Int32)) (ne : Nat) (hd : Int32) (tl : Int32) (cnt : Int32) (v1 : Int32) : Option (Int32) :=
  if v1 = 0 then (
    some cols)
  else (
    if v1 = 1 then (
      some rows)
    else (
      if v1 = 2 then (
        (ordK kd).bind fun z91 =>
        some z91)
      else (
        if v1 = 3 then (
          some thr)
        else (
          if v1 = 4 then (
            some bt)
          else (
            if v1 = 5 then (
              some tm)
            else (
              if v1 = 6 then (
                (L_bonds cols rows kd n n4).bind fun z123 =>
                some z123)
              else (
                if v1 = 7 then (
                  (L_openCells thr n gr).bind fun z131 =>
                  some z131)
                else (
                  if v1 = 8 then (
                    (L_clusters cols rows kd n n4 vl gr thr).bind fun z146 =>
                    (C_countOf n z146).bind fun z149 =>
                    some z149)
                  else (
                    if v1 = 9 then (
                      (C_clogged n cg).bind fun z154 =>
                      some z154)
                    else (
                      if v1 = 10 then (
                        (J9_bitCount rea).bind fun z165 =>
                        some z165)
                      else (
                        if v1 = 11 then (
                          (J2_size ne hd tl).bind fun z173 =>
                          some z173)
                        else (
                          if v1 = 12 then (
                            (J4_length cnt).bind fun z181 =>
                            some z181)
                          else (
                            some (-1))))))))))))))
def C_init : Option (Int32 × Int32 × Nat × Int32 × Int32 × Int32 × Int32 × Nat × (Nat → Int32) × Nat × (Nat → Nat) × (Nat → Int32) × (Nat → Int32) × (Nat → Int32) × Int32 × Int32 × Nat × (Nat → Option Nat) × Int32 × Int32 × Int32 × Nat × (Nat → Int32)) :=
  (L_init 4 4).bind fun z11 =>
  (J2_init).bind fun z22 =>
  (J4_init).bind fun z33 =>
  some (z11.2.2.2.1, z11.2.2.2.2.1, z11.1, z11.2.1, z11.2.2.1, 0, 0, z11.2.2.2.2.2.1, z11.2.2.2.2.2.2.1, z11.2.2.2.2.2.2.2.1, z11.2.2.2.2.2.2.2.2.1, z11.2.2.2.2.2.2.2.2.2.1, z11.2.2.2.2.2.2.2.2.2.2.1, z11.2.2.2.2.2.2.2.2.2.2.2, 0, 0, z22.1, z22.2, z33.1, 0, 0, z33.2.1, z33.2.2)
