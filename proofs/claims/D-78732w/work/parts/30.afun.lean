set_option maxRecDepth 100000
def J2_inc (v0 : Int32) (v1 : Int32) : Option (Int32) :=
  if (v0 + 1) < v1 then (
    some (v0 + 1))
  else (
    some 0)
def J2_dec (v0 : Int32) (v1 : Int32) : Option (Int32) :=
  if 0 ≤ (v0 + (-1)) then (
    some (v0 + (-1)))
  else (
    some (v1 - 1))
def J2_sub (v0 : Int32) (v1 : Int32) (v2 : Int32) : Option (Int32) :=
  if 0 ≤ (v0 - v1) then (
    some (v0 - v1))
  else (
    some ((v0 - v1) + v2))
def J1_init : Option (Unit) :=
  some ()
def J2_init : Option (Nat × (Nat → Option Nat)) :=
  (J1_init).bind fun z1 =>
  (lenF 17 17).bind fun z7 =>
  some (z7, (fun _ => none))
def J2_elementAt (ne : Nat) (el : (Nat → Option Nat)) (v1 : Int32) : Option (Nat) :=
  (aldQ el ne v1).bind fun z2 =>
  some z2
def J2_size (ne : Nat) (hd : Int32) (tl : Int32) : Option (Int32) :=
  (J2_sub tl hd (nI ne)).bind fun z13 =>
  some z13
def J2_isEmpty (hd : Int32) (tl : Int32) : Option (Int32) :=
  if hd = tl then (
    some 1)
  else (
    some 0)
def J2_pollFirst (ne : Nat) (el : (Nat → Option Nat)) (hd : Int32) : Option (Nat × Int32 × (Nat → Option Nat)) :=
  (J2_elementAt ne el hd).bind fun z12 =>
  (astQn el ne hd).bind fun z23 =>
  (J2_inc hd (nI ne)).bind fun z28 =>
  some (z12, z28, z23)
def J2_pollLast (ne : Nat) (el : (Nat → Option Nat)) (tl : Int32) : Option (Nat × Int32 × (Nat → Option Nat)) :=
  (J2_dec tl (nI ne)).bind fun z12 =>
  (J2_elementAt ne el z12).bind fun z17 =>
  (astQn el ne z12).bind fun z33 =>
  some (z17, z12, z33)
def J2_removeFirst (ne : Nat) (el : (Nat → Option Nat)) (hd : Int32) : Option (Nat × Int32 × (Nat → Option Nat)) :=
  (J2_pollFirst ne el hd).bind fun z1 =>
  some (z1.1, z1.2.1, z1.2.2)
def J2_removeLast (ne : Nat) (el : (Nat → Option Nat)) (tl : Int32) : Option (Nat × Int32 × (Nat → Option Nat)) :=
  (J2_pollLast ne el tl).bind fun z1 =>
  some (z1.1, z1.2.1, z1.2.2)
def J2_addLast (b0 : Nat) (ne : Nat) (el : (Nat → Option Nat)) (hd : Int32) (tl : Int32) : Option (Int32 × (Nat → Option Nat)) :=
  (astQ el ne tl b0).bind fun z23 =>
  (J2_inc tl (nI ne)).bind fun z35 =>
  if hd = z35 then (
    none)
  else (
    some (z35, z23))
def C_replace (b0 : Nat) (ne : Nat) (el : (Nat → Option Nat)) (hd : Int32) (tl : Int32) (hs : (List Nat)) : Option (Int32 × Int32 × (Nat → Option Nat)) :=
  (J2_size ne hd tl).bind fun z4 =>
  if z4 = 5 then (
    (J2_removeFirst ne el hd).bind fun z15 =>
    (memA z15.1 hs).bind fun z18 =>
    (J2_addLast b0 ne z15.2.2 z15.2.1 tl).bind fun z30 =>
    some (z15.2.1, z30.1, z30.2))
  else (
    (J2_addLast b0 ne el hd tl).bind fun z30 =>
    some (hd, z30.1, z30.2))
def C_undo (b0 : Nat) (ne : Nat) (el : (Nat → Option Nat)) (hd : Int32) (tl : Int32) (hs : (List Nat)) : Option (Int32 × Nat × Int32 × (Nat → Option Nat)) :=
  (J2_isEmpty hd tl).bind fun z4 =>
  if z4 = 0 then (
    (J2_removeLast ne el tl).bind fun z18 =>
    (memA z18.1 hs).bind fun z21 =>
    (J2_size ne hd z18.2.1).bind fun z31 =>
    some (z31, z18.1, z18.2.1, z18.2.2))
  else (
    some ((-2), b0, tl, el))
def C_act (cols : Int32) (rows : Int32) (thr : Int32) (bt : Int32) (tm : Int32) (rea : Int32) (kd : Nat) (n : Nat) (n4 : Nat) (vl : (Nat → Nat)) (gr : (Nat → Int32)) (so : (Nat → Int32)) (dy : (Nat → Int32)) (cg : (Nat → Int32)) (b0 : Nat) (ne : Nat) (el : (Nat → Option Nat)) (hd : Int32) (tl : Int32) (hs : (List Nat)) : Option (Int32 × Int32 × Nat × Int32 × Int32 × Int32 × Int32 × Nat × (Nat → Int32) × Nat × (Nat → Nat) × (Nat → Int32) × (Nat → Int32) × (Nat → Int32) × Int32 × Int32 × (Nat → Option Nat)) :=
  (L_copy cols rows thr bt tm rea kd n n4 vl gr so dy cg).bind fun z5 =>
  (C_replace b0 ne el hd tl hs).bind fun z8 =>
  some (z5.1, z5.2.1, z5.2.2.1, z5.2.2.2.1, z5.2.2.2.2.1, z5.2.2.2.2.2.1, z5.2.2.2.2.2.2.1, z5.2.2.2.2.2.2.2.1, z5.2.2.2.2.2.2.2.2.1, z5.2.2.2.2.2.2.2.2.2.1, z5.2.2.2.2.2.2.2.2.2.2.1, z5.2.2.2.2.2.2.2.2.2.2.2.1, z5.2.2.2.2.2.2.2.2.2.2.2.2.1, z5.2.2.2.2.2.2.2.2.2.2.2.2.2, z8.1, z8.2.1, z8.2.2)
def C_changeKind (n4 : Nat) (vl : (Nat → Nat)) (v1 : Int32) : Option (Nat × (Nat → Nat)) :=
  (ofK v1).bind fun z2 =>
  (L_freeValves n4 vl).bind fun z9 =>
  some (z2, z9)
def C_setSize (thr : Int32) (bt : Int32) (rea : Int32) (kd : Nat) (b0 : Nat) (ne : Nat) (el : (Nat → Option Nat)) (hd : Int32) (tl : Int32) (hs : (List Nat)) (v1 : Int32) (v2 : Int32) : Option (((Int32 × Int32 × Int32 × (Nat → Option Nat)) ⊕ (Int32 × Int32 × Int32 × Nat × Int32 × Int32 × Int32 × Int32 × Nat × (Nat → Int32) × Nat × (Nat → Nat) × (Nat → Int32) × (Nat → Int32) × (Nat → Int32) × Int32 × Int32 × (Nat → Option Nat)))) :=
  (C_isBetween v1 2 10).bind fun z4 =>
  if z4 = 0 then (
    some (.inl ((-1), hd, tl, el)))
  else (
    (C_isBetween v2 2 8).bind fun z14 =>
    if z14 = 0 then (
      some (.inl ((-1), hd, tl, el)))
    else (
      (L_resized thr bt rea kd v1 v2).bind fun z29 =>
      (C_replace b0 ne el hd tl hs).bind fun z32 =>
      some (.inr ((nI z29.2.2.2.2.2.2.2.1), z29.1, z29.2.1, z29.2.2.1, z29.2.2.2.1, z29.2.2.2.2.1, z29.2.2.2.2.2.1, z29.2.2.2.2.2.2.1, z29.2.2.2.2.2.2.2.1, z29.2.2.2.2.2.2.2.2.1, z29.2.2.2.2.2.2.2.2.2.1, z29.2.2.2.2.2.2.2.2.2.2.1, z29.2.2.2.2.2.2.2.2.2.2.2.1, z29.2.2.2.2.2.2.2.2.2.2.2.2.1, z29.2.2.2.2.2.2.2.2.2.2.2.2.2, z32.1, z32.2.1, z32.2.2))))
def C_setKind (cols : Int32) (rows : Int32) (thr : Int32) (bt : Int32) (tm : Int32) (rea : Int32) (kd : Nat) (n : Nat) (n4 : Nat) (vl : (Nat → Nat)) (gr : (Nat → Int32)) (so : (Nat → Int32)) (dy : (Nat → Int32)) (cg : (Nat → Int32)) (b0 : Nat) (ne : Nat) (el : (Nat → Option Nat)) (hd : Int32) (tl : Int32) (hs : (List Nat)) (v1 : Int32) : Option (((Int32 × Int32 × Int32 × (Nat → Option Nat)) ⊕ (Int32 × Int32 × Int32 × Nat × Int32 × Int32 × Int32 × Int32 × Nat × (Nat → Int32) × Nat × (Nat → Nat) × (Nat → Int32) × (Nat → Int32) × (Nat → Int32) × Int32 × Int32 × (Nat → Option Nat)))) :=
  (C_isBetween v1 0 2).bind fun z3 =>
  if z3 = 0 then (
    some (.inl ((-1), hd, tl, el)))
  else (
    (C_act cols rows thr bt tm rea kd n n4 vl gr so dy cg b0 ne el hd tl hs).bind fun z12 =>
    (C_changeKind z12.2.2.2.2.2.2.2.2.2.1 z12.2.2.2.2.2.2.2.2.2.2.1 v1).bind fun z16 =>
    (L_bonds z12.1 z12.2.1 z16.1 z12.2.2.2.2.2.2.2.1 z12.2.2.2.2.2.2.2.2.2.1).bind fun z23 =>
    some (.inr (z23, z12.1, z12.2.1, z16.1, z12.2.2.2.1, z12.2.2.2.2.1, z12.2.2.2.2.2.1, z12.2.2.2.2.2.2.1, z12.2.2.2.2.2.2.2.1, z12.2.2.2.2.2.2.2.2.1, z12.2.2.2.2.2.2.2.2.2.1, z16.2, z12.2.2.2.2.2.2.2.2.2.2.2.1, z12.2.2.2.2.2.2.2.2.2.2.2.2.1, z12.2.2.2.2.2.2.2.2.2.2.2.2.2.1, z12.2.2.2.2.2.2.2.2.2.2.2.2.2.2.1, z12.2.2.2.2.2.2.2.2.2.2.2.2.2.2.2.1, z12.2.2.2.2.2.2.2.2.2.2.2.2.2.2.2.2)))
def C_setGrain (cols : Int32) (rows : Int32) (thr : Int32) (bt : Int32) (tm : Int32) (rea : Int32) (kd : Nat) (n : Nat) (n4 : Nat) (vl : (Nat → Nat)) (gr : (Nat → Int32)) (so : (Nat → Int32)) (dy : (Nat → Int32)) (cg : (Nat → Int32)) (b0 : Nat) (ne : Nat) (el : (Nat → Option Nat)) (hd : Int32) (tl : Int32) (hs : (List Nat)) (v1 : Int32) (v2 : Int32) : Option (((Int32 × Int32 × Int32 × (Nat → Option Nat)) ⊕ (Int32 × Int32 × Int32 × Nat × Int32 × Int32 × Int32 × Int32 × Nat × (Nat → Int32) × Nat × (Nat → Nat) × (Nat → Int32) × (Nat → Int32) × (Nat → Int32) × Int32 × Int32 × (Nat → Option Nat)))) :=
  (L_isCell n v1).bind fun z5 =>
  if z5 = 0 then (
    some (.inl ((-1), hd, tl, el)))
  else (
    (C_isBetween v2 0 99).bind fun z15 =>
    if z15 = 0 then (
      some (.inl ((-1), hd, tl, el)))
    else (
      (ald gr n v1).bind fun z31 =>
      (C_act cols rows thr bt tm rea kd n n4 vl gr so dy cg b0 ne el hd tl hs).bind fun z34 =>
      (ast z34.2.2.2.2.2.2.2.2.1 z34.2.2.2.2.2.2.2.1 v1 v2).bind fun z42 =>
      some (.inr (z31, z34.1, z34.2.1, z34.2.2.1, z34.2.2.2.1, z34.2.2.2.2.1, z34.2.2.2.2.2.1, z34.2.2.2.2.2.2.1, z34.2.2.2.2.2.2.2.1, z42, z34.2.2.2.2.2.2.2.2.2.1, z34.2.2.2.2.2.2.2.2.2.2.1, z34.2.2.2.2.2.2.2.2.2.2.2.1, z34.2.2.2.2.2.2.2.2.2.2.2.2.1, z34.2.2.2.2.2.2.2.2.2.2.2.2.2.1, z34.2.2.2.2.2.2.2.2.2.2.2.2.2.2.1, z34.2.2.2.2.2.2.2.2.2.2.2.2.2.2.2.1, z34.2.2.2.2.2.2.2.2.2.2.2.2.2.2.2.2))))
def C_fill (cols : Int32) (rows : Int32) (thr : Int32) (bt : Int32) (tm : Int32) (rea : Int32) (kd : Nat) (n : Nat) (n4 : Nat) (vl : (Nat → Nat)) (gr : (Nat → Int32)) (so : (Nat → Int32)) (dy : (Nat → Int32)) (cg : (Nat → Int32)) (b0 : Nat) (ne : Nat) (el : (Nat → Option Nat)) (hd : Int32) (tl : Int32) (hs : (List Nat)) (v1 : Int32) : Option (((Int32 × Int32 × Int32 × (Nat → Option Nat)) ⊕ (Int32 × Int32 × Int32 × Nat × Int32 × Int32 × Int32 × Int32 × Nat × (Nat → Int32) × Nat × (Nat → Nat) × (Nat → Int32) × (Nat → Int32) × (Nat → Int32) × Int32 × Int32 × (Nat → Option Nat)))) :=
  (C_isBetween v1 0 9999).bind fun z5 =>
  if z5 = 0 then (
    some (.inl ((-1), hd, tl, el)))
  else (
    (C_act cols rows thr bt tm rea kd n n4 vl gr so dy cg b0 ne el hd tl hs).bind fun z12 =>
    (L_fill z12.2.2.2.1 z12.2.2.2.2.2.2.2.1 z12.2.2.2.2.2.2.2.2.1 v1).bind fun z16 =>
    some (.inr (z16.1, z12.1, z12.2.1, z12.2.2.1, z12.2.2.2.1, z12.2.2.2.2.1, z12.2.2.2.2.2.1, z12.2.2.2.2.2.2.1, z12.2.2.2.2.2.2.2.1, z16.2, z12.2.2.2.2.2.2.2.2.2.1, z12.2.2.2.2.2.2.2.2.2.2.1, z12.2.2.2.2.2.2.2.2.2.2.2.1, z12.2.2.2.2.2.2.2.2.2.2.2.2.1, z12.2.2.2.2.2.2.2.2.2.2.2.2.2.1, z12.2.2.2.2.2.2.2.2.2.2.2.2.2.2.1, z12.2.2.2.2.2.2.2.2.2.2.2.2.2.2.2.1, z12.2.2.2.2.2.2.2.2.2.2.2.2.2.2.2.2)))
def C_setValve (cols : Int32) (rows : Int32) (thr : Int32) (bt : Int32) (tm : Int32) (rea : Int32) (kd : Nat) (n : Nat) (n4 : Nat) (vl : (Nat → Nat)) (gr : (Nat → Int32)) (so : (Nat → Int32)) (dy : (Nat → Int32)) (cg : (Nat → Int32)) (b0 : Nat) (ne : Nat) (el : (Nat → Option Nat)) (hd : Int32) (tl : Int32) (hs : (List Nat)) (v1 : Int32) (v2 : Int32) (v3 : Int32) : Option (((Int32 × Int32 × Int32 × (Nat → Option Nat)) ⊕ (Int32 × Int32 × Int32 × Nat × Int32 × Int32 × Int32 × Int32 × Nat × (Nat → Int32) × Nat × (Nat → Nat) × (Nat → Int32) × (Nat → Int32) × (Nat → Int32) × Int32 × Int32 × (Nat → Option Nat)))) :=
  (L_isBond cols rows kd n v1 v2).bind fun z6 =>
  if z6 = 0 then (
    some (.inl ((-1), hd, tl, el)))
  else (
    (C_isBetween v3 0 4).bind fun z15 =>
    if z15 = 0 then (
      some (.inl ((-1), hd, tl, el)))
    else (
      (aldN vl n4 (((4 : Int32) * v1) + v2)).bind fun z35 =>
      (ordV z35).bind fun z36 =>
      (C_act cols rows thr bt tm rea kd n n4 vl gr so dy cg b0 ne el hd tl hs).bind fun z42 =>
      (ofV v3).bind fun z54 =>
      (astN z42.2.2.2.2.2.2.2.2.2.2.1 z42.2.2.2.2.2.2.2.2.2.1 (((4 : Int32) * v1) + v2) z54).bind fun z57 =>
      some (.inr (z36, z42.1, z42.2.1, z42.2.2.1, z42.2.2.2.1, z42.2.2.2.2.1, z42.2.2.2.2.2.1, z42.2.2.2.2.2.2.1, z42.2.2.2.2.2.2.2.1, z42.2.2.2.2.2.2.2.2.1, z42.2.2.2.2.2.2.2.2.2.1, z57, z42.2.2.2.2.2.2.2.2.2.2.2.1, z42.2.2.2.2.2.2.2.2.2.2.2.2.1, z42.2.2.2.2.2.2.2.2.2.2.2.2.2.1, z42.2.2.2.2.2.2.2.2.2.2.2.2.2.2.1, z42.2.2.2.2.2.2.2.2.2.2.2.2.2.2.2.1, z42.2.2.2.2.2.2.2.2.2.2.2.2.2.2.2.2))))
def C_setThreshold (cols : Int32) (rows : Int32) (thr : Int32) (bt : Int32) (tm : Int32) (rea : Int32) (kd : Nat) (n : Nat) (n4 : Nat) (vl : (Nat → Nat)) (gr : (Nat → Int32)) (so : (Nat → Int32)) (dy : (Nat → Int32)) (cg : (Nat → Int32)) (b0 : Nat) (ne : Nat) (el : (Nat → Option Nat)) (hd : Int32) (tl : Int32) (hs : (List Nat)) (v1 : Int32) : Option (((Int32 × Int32 × Int32 × (Nat → Option Nat)) ⊕ (Int32 × Int32 × Int32 × Nat × Int32 × Int32 × Int32 × Int32 × Nat × (Nat → Int32) × Nat × (Nat → Nat) × (Nat → Int32) × (Nat → Int32) × (Nat → Int32) × Int32 × Int32 × (Nat → Option Nat)))) :=
  (C_isBetween v1 0 100).bind fun z4 =>
  if z4 = 0 then (
    some (.inl ((-1), hd, tl, el)))
  else (
    (C_act cols rows thr bt tm rea kd n n4 vl gr so dy cg b0 ne el hd tl hs).bind fun z13 =>
    (L_openCells v1 z13.2.2.2.2.2.2.2.1 z13.2.2.2.2.2.2.2.2.1).bind fun z24 =>
    some (.inr (z24, z13.1, z13.2.1, z13.2.2.1, v1, z13.2.2.2.2.1, z13.2.2.2.2.2.1, z13.2.2.2.2.2.2.1, z13.2.2.2.2.2.2.2.1, z13.2.2.2.2.2.2.2.2.1, z13.2.2.2.2.2.2.2.2.2.1, z13.2.2.2.2.2.2.2.2.2.2.1, z13.2.2.2.2.2.2.2.2.2.2.2.1, z13.2.2.2.2.2.2.2.2.2.2.2.2.1, z13.2.2.2.2.2.2.2.2.2.2.2.2.2.1, z13.2.2.2.2.2.2.2.2.2.2.2.2.2.2.1, z13.2.2.2.2.2.2.2.2.2.2.2.2.2.2.2.1, z13.2.2.2.2.2.2.2.2.2.2.2.2.2.2.2.2)))
def C_setSource (cols : Int32) (rows : Int32) (thr : Int32) (bt : Int32) (tm : Int32) (rea : Int32) (kd : Nat) (n : Nat) (n4 : Nat) (vl : (Nat → Nat)) (gr : (Nat → Int32)) (so : (Nat → Int32)) (dy : (Nat → Int32)) (cg : (Nat → Int32)) (b0 : Nat) (ne : Nat) (el : (Nat → Option Nat)) (hd : Int32) (tl : Int32) (hs : (List Nat)) (v1 : Int32) (v2 : Int32) (v3 : Int32) : Option (((Int32 × Int32 × Int32 × (Nat → Option Nat)) ⊕ (Int32 × Int32 × Int32 × Nat × Int32 × Int32 × Int32 × Int32 × Nat × (Nat → Int32) × Nat × (Nat → Nat) × (Nat → Int32) × (Nat → Int32) × (Nat → Int32) × Int32 × Int32 × (Nat → Option Nat)))) :=
  (L_isCell n v1).bind fun z5 =>
  if z5 = 0 then (
    some (.inl ((-1), hd, tl, el)))
  else (
    (C_isDye v2).bind fun z12 =>
    if z12 = 0 then (
      some (.inl ((-1), hd, tl, el)))
    else (
      (C_isBetween v3 0 1).bind fun z21 =>
      if z21 = 0 then (
        some (.inl ((-1), hd, tl, el)))
      else (
        (ald so n v1).bind fun z37 =>
        if ((z37 >>> (v2 &&& 31)) &&& 1) = v3 then (
          some (.inl ((-2), hd, tl, el)))
        else (
          (C_act cols rows thr bt tm rea kd n n4 vl gr so dy cg b0 ne el hd tl hs).bind fun z50 =>
          (ald z50.2.2.2.2.2.2.2.2.2.2.2.1 z50.2.2.2.2.2.2.2.1 v1).bind fun z58 =>
          (ast z50.2.2.2.2.2.2.2.2.2.2.2.1 z50.2.2.2.2.2.2.2.1 v1 (z58 ^^^ ((1 : Int32) <<< (v2 &&& 31)))).bind fun z63 =>
          (L_sourcesOf z50.2.2.2.2.2.2.2.1 z63 v2).bind fun z69 =>
          some (.inr (z69, z50.1, z50.2.1, z50.2.2.1, z50.2.2.2.1, z50.2.2.2.2.1, z50.2.2.2.2.2.1, z50.2.2.2.2.2.2.1, z50.2.2.2.2.2.2.2.1, z50.2.2.2.2.2.2.2.2.1, z50.2.2.2.2.2.2.2.2.2.1, z50.2.2.2.2.2.2.2.2.2.2.1, z63, z50.2.2.2.2.2.2.2.2.2.2.2.2.1, z50.2.2.2.2.2.2.2.2.2.2.2.2.2.1, z50.2.2.2.2.2.2.2.2.2.2.2.2.2.2.1, z50.2.2.2.2.2.2.2.2.2.2.2.2.2.2.2.1, z50.2.2.2.2.2.2.2.2.2.2.2.2.2.2.2.2))))))
def C_setReaction (cols : Int32) (rows : Int32) (thr : Int32) (bt : Int32) (tm : Int32) (rea : Int32) (kd : Nat) (n : Nat) (n4 : Nat) (vl : (Nat → Nat)) (gr : (Nat → Int32)) (so : (Nat → Int32)) (dy : (Nat → Int32)) (cg : (Nat → Int32)) (b0 : Nat) (ne : Nat) (el : (Nat → Option Nat)) (hd : Int32) (tl : Int32) (hs : (List Nat)) (v1 : Int32) (v2 : Int32) (v3 : Int32) : Option (((Int32 × Int32 × Int32 × (Nat → Option Nat)) ⊕ (Int32 × Int32 × Int32 × Nat × Int32 × Int32 × Int32 × Int32 × Nat × (Nat → Int32) × Nat × (Nat → Nat) × (Nat → Int32) × (Nat → Int32) × (Nat → Int32) × Int32 × Int32 × (Nat → Option Nat)))) :=
  (C_isDye v1).bind fun z1 =>
  if z1 = 0 then (
    some (.inl ((-1), hd, tl, el)))
  else (
    (C_isDye v2).bind fun z8 =>
    if z8 = 0 then (
      some (.inl ((-1), hd, tl, el)))
    else (
      if v1 = v2 then (
        some (.inl ((-1), hd, tl, el)))
      else (
        (C_isBetween v3 0 1).bind fun z22 =>
        if z22 = 0 then (
          some (.inl ((-1), hd, tl, el)))
        else (
          (C_pair v1 v2).bind fun z39 =>
          if ((rea >>> (z39 &&& 31)) &&& 1) = v3 then (
            some (.inl ((-2), hd, tl, el)))
          else (
            (C_act cols rows thr bt tm rea kd n n4 vl gr so dy cg b0 ne el hd tl hs).bind fun z53 =>
            (C_pair v1 v2).bind fun z63 =>
            (J9_bitCount (z53.2.2.2.2.2.2.1 ^^^ ((1 : Int32) <<< (z63 &&& 31)))).bind fun z78 =>
            some (.inr (z78, z53.1, z53.2.1, z53.2.2.1, z53.2.2.2.1, z53.2.2.2.2.1, z53.2.2.2.2.2.1, (z53.2.2.2.2.2.2.1 ^^^ ((1 : Int32) <<< (z63 &&& 31))), z53.2.2.2.2.2.2.2.1, z53.2.2.2.2.2.2.2.2.1, z53.2.2.2.2.2.2.2.2.2.1, z53.2.2.2.2.2.2.2.2.2.2.1, z53.2.2.2.2.2.2.2.2.2.2.2.1, z53.2.2.2.2.2.2.2.2.2.2.2.2.1, z53.2.2.2.2.2.2.2.2.2.2.2.2.2.1, z53.2.2.2.2.2.2.2.2.2.2.2.2.2.2.1, z53.2.2.2.2.2.2.2.2.2.2.2.2.2.2.2.1, z53.2.2.2.2.2.2.2.2.2.2.2.2.2.2.2.2)))))))
def C_setBeat (cols : Int32) (rows : Int32) (thr : Int32) (bt : Int32) (tm : Int32) (rea : Int32) (kd : Nat) (n : Nat) (n4 : Nat) (vl : (Nat → Nat)) (gr : (Nat → Int32)) (so : (Nat → Int32)) (dy : (Nat → Int32)) (cg : (Nat → Int32)) (b0 : Nat) (ne : Nat) (el : (Nat → Option Nat)) (hd : Int32) (tl : Int32) (hs : (List Nat)) (v1 : Int32) : Option (((Int32 × Int32 × Int32 × (Nat → Option Nat)) ⊕ (Int32 × Int32 × Int32 × Nat × Int32 × Int32 × Int32 × Int32 × Nat × (Nat → Int32) × Nat × (Nat → Nat) × (Nat → Int32) × (Nat → Int32) × (Nat → Int32) × Int32 × Int32 × (Nat → Option Nat)))) :=
  (C_isBetween v1 1 9).bind fun z4 =>
  if z4 = 0 then (
    some (.inl ((-1), hd, tl, el)))
  else (
    (C_act cols rows thr bt tm rea kd n n4 vl gr so dy cg b0 ne el hd tl hs).bind fun z21 =>
    some (.inr (bt, z21.1, z21.2.1, z21.2.2.1, z21.2.2.2.1, v1, z21.2.2.2.2.2.1, z21.2.2.2.2.2.2.1, z21.2.2.2.2.2.2.2.1, z21.2.2.2.2.2.2.2.2.1, z21.2.2.2.2.2.2.2.2.2.1, z21.2.2.2.2.2.2.2.2.2.2.1, z21.2.2.2.2.2.2.2.2.2.2.2.1, z21.2.2.2.2.2.2.2.2.2.2.2.2.1, z21.2.2.2.2.2.2.2.2.2.2.2.2.2.1, z21.2.2.2.2.2.2.2.2.2.2.2.2.2.2.1, z21.2.2.2.2.2.2.2.2.2.2.2.2.2.2.2.1, z21.2.2.2.2.2.2.2.2.2.2.2.2.2.2.2.2)))
def C_run_40 (v1 : Int32) (z31 : Int32 × Int32 × Nat × Int32 × Int32 × Int32 × Int32 × Nat × (Nat → Int32) × Nat × (Nat → Nat) × (Nat → Int32) × (Nat → Int32) × (Nat → Int32) × Int32 × Int32 × (Nat → Option Nat)) (v3 : Int32) (v4 : Int32) (f5_c31_1 : Int32) (kc31_5 : (Nat → Int32)) (kc31_6 : (Nat → Int32)) : Option ((Int32 × Int32 × Int32 × (Nat → Int32) × (Nat → Int32)) ⊕ (Int32 × Int32 × (Nat → Int32) × (Nat → Int32))) :=
  if v1 ≤ v4 then (
    some (.inr (v3, f5_c31_1, kc31_5, kc31_6)))
  else (
    (L_step z31.1 z31.2.1 z31.2.2.2.1 z31.2.2.2.2.1 f5_c31_1 z31.2.2.2.2.2.2.1 z31.2.2.1 z31.2.2.2.2.2.2.2.1 z31.2.2.2.2.2.2.2.2.2.1 z31.2.2.2.2.2.2.2.2.2.2.1 z31.2.2.2.2.2.2.2.2.1 z31.2.2.2.2.2.2.2.2.2.2.2.1 kc31_5 kc31_6).bind fun z48 =>
    some (.inl ((v3 + z48.1), (v4 + 1), z48.2.1, z48.2.2.1, z48.2.2.2)))
def C_run (cols : Int32) (rows : Int32) (thr : Int32) (bt : Int32) (tm : Int32) (rea : Int32) (kd : Nat) (n : Nat) (n4 : Nat) (vl : (Nat → Nat)) (gr : (Nat → Int32)) (so : (Nat → Int32)) (dy : (Nat → Int32)) (cg : (Nat → Int32)) (b0 : Nat) (ne : Nat) (el : (Nat → Option Nat)) (hd : Int32) (tl : Int32) (hs : (List Nat)) (v1 : Int32) : Option (((Int32 × Int32 × Int32 × (Nat → Option Nat)) ⊕ (Int32 × Int32 × Int32 × Nat × Int32 × Int32 × Int32 × Int32 × Nat × (Nat → Int32) × Nat × (Nat → Nat) × (Nat → Int32) × (Nat → Int32) × (Nat → Int32) × Int32 × Int32 × (Nat → Option Nat)))) :=
  (C_isBetween v1 1 60).bind fun z4 =>
  if z4 = 0 then (
    some (.inl ((-1), hd, tl, el)))
  else (
    if (tm + v1) ≤ 1000 then (
      (C_act cols rows thr bt tm rea kd n n4 vl gr so dy cg b0 ne el hd tl hs).bind fun z31 =>
      (loopN (fun x => C_run_40 v1 z31 x.1 x.2.1 x.2.2.1 x.2.2.2.1 x.2.2.2.2) 61 (0, 0, z31.2.2.2.2.2.1, z31.2.2.2.2.2.2.2.2.2.2.2.2.1, z31.2.2.2.2.2.2.2.2.2.2.2.2.2.1)).bind fun z40 =>
      some (.inr (z40.1, z31.1, z31.2.1, z31.2.2.1, z31.2.2.2.1, z31.2.2.2.2.1, z40.2.1, z31.2.2.2.2.2.2.1, z31.2.2.2.2.2.2.2.1, z31.2.2.2.2.2.2.2.2.1, z31.2.2.2.2.2.2.2.2.2.1, z31.2.2.2.2.2.2.2.2.2.2.1, z31.2.2.2.2.2.2.2.2.2.2.2.1, z40.2.2.1, z40.2.2.2, z31.2.2.2.2.2.2.2.2.2.2.2.2.2.2.1, z31.2.2.2.2.2.2.2.2.2.2.2.2.2.2.2.1, z31.2.2.2.2.2.2.2.2.2.2.2.2.2.2.2.2)))
    else (
      some (.inl ((-3), hd, tl, el))))
def C_rinse_9_j32 (z1 : Int32 × Int32 × Nat × Int32 × Int32 × Int32 × Int32 × Nat × (Nat → Int32) × Nat × (Nat → Nat) × (Nat → Int32) × (Nat → Int32) × (Nat → Int32) × Int32 × Int32 × (Nat → Option Nat)) (v3 : Int32) (s0 : Int32) (s1 : Int32) (hd : Int32) (tl : Int32) (el : (Nat → Option Nat)) (kc1_5 : (Nat → Int32)) (kc1_6 : (Nat → Int32)) (f5_c1_1 : Int32) : Option ((Int32 × Int32 × (Nat → Int32) × (Nat → Int32)) ⊕ (Int32 × (Nat → Int32) × (Nat → Int32))) :=
  (ast kc1_5 z1.2.2.2.2.2.2.2.1 v3 0).bind fun z40 =>
  (zst kc1_6 z1.2.2.2.2.2.2.2.1 v3 0).bind fun z47 =>
  some (.inl ((s0 + s1), (v3 + 1), z40, z47))
def C_rinse_9 (el : (Nat → Option Nat)) (hd : Int32) (tl : Int32) (z1 : Int32 × Int32 × Nat × Int32 × Int32 × Int32 × Int32 × Nat × (Nat → Int32) × Nat × (Nat → Nat) × (Nat → Int32) × (Nat → Int32) × (Nat → Int32) × Int32 × Int32 × (Nat → Option Nat)) (f5_c1_1 : Int32) (v2 : Int32) (v3 : Int32) (kc1_5 : (Nat → Int32)) (kc1_6 : (Nat → Int32)) : Option ((Int32 × Int32 × (Nat → Int32) × (Nat → Int32)) ⊕ (Int32 × (Nat → Int32) × (Nat → Int32))) :=
  if (nI z1.2.2.2.2.2.2.2.1) ≤ v3 then (
    some (.inr (v2, kc1_5, kc1_6)))
  else (
    (ald kc1_5 z1.2.2.2.2.2.2.2.1 v3).bind fun z23 =>
    if z23 = 0 then (
      C_rinse_9_j32 z1 v3 v2 0 hd tl el kc1_5 kc1_6 f5_c1_1)
    else (
      C_rinse_9_j32 z1 v3 v2 1 hd tl el kc1_5 kc1_6 f5_c1_1))
def C_rinse (cols : Int32) (rows : Int32) (thr : Int32) (bt : Int32) (tm : Int32) (rea : Int32) (kd : Nat) (n : Nat) (n4 : Nat) (vl : (Nat → Nat)) (gr : (Nat → Int32)) (so : (Nat → Int32)) (dy : (Nat → Int32)) (cg : (Nat → Int32)) (b0 : Nat) (ne : Nat) (el : (Nat → Option Nat)) (hd : Int32) (tl : Int32) (hs : (List Nat)) : Option (Int32 × Int32 × Int32 × Nat × Int32 × Int32 × Int32 × Int32 × Nat × (Nat → Int32) × Nat × (Nat → Nat) × (Nat → Int32) × (Nat → Int32) × (Nat → Int32) × Int32 × Int32 × (Nat → Option Nat)) :=
  (C_act cols rows thr bt tm rea kd n n4 vl gr so dy cg b0 ne el hd tl hs).bind fun z1 =>
  (loopN (fun x => C_rinse_9 z1.2.2.2.2.2.2.2.2.2.2.2.2.2.2.2.2 z1.2.2.2.2.2.2.2.2.2.2.2.2.2.2.1 z1.2.2.2.2.2.2.2.2.2.2.2.2.2.2.2.1 z1 z1.2.2.2.2.2.1 x.1 x.2.1 x.2.2.1 x.2.2.2) FU (0, 0, z1.2.2.2.2.2.2.2.2.2.2.2.2.1, z1.2.2.2.2.2.2.2.2.2.2.2.2.2.1)).bind fun z9 =>
  some (z9.1, z1.1, z1.2.1, z1.2.2.1, z1.2.2.2.1, z1.2.2.2.2.1, 0, z1.2.2.2.2.2.2.1, z1.2.2.2.2.2.2.2.1, z1.2.2.2.2.2.2.2.2.1, z1.2.2.2.2.2.2.2.2.2.1, z1.2.2.2.2.2.2.2.2.2.2.1, z1.2.2.2.2.2.2.2.2.2.2.2.1, z9.2.1, z9.2.2, z1.2.2.2.2.2.2.2.2.2.2.2.2.2.2.1, z1.2.2.2.2.2.2.2.2.2.2.2.2.2.2.2.1, z1.2.2.2.2.2.2.2.2.2.2.2.2.2.2.2.2)
