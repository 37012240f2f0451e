/-! THE COMPONENT, as pure functions (by program gen/comp1.py) -/
set_option maxRecDepth 100000
def C_isBetween (v0 : Int32) (v1 : Int32) (v2 : Int32) : Option (Int32) :=
  if v0 < v1 then (
    some 0)
  else (
    if v2 < v0 then (
      some 0)
    else (
      some 1))
def C_xStep (v0 : Int32) : Option (Int32) :=
  if v0 = 1 then (
    some 0)
  else (
    if v0 = 2 then (
      some (-1))
    else (
      some 1))
def C_yStep (v0 : Int32) : Option (Int32) :=
  if v0 = 0 then (
    some 0)
  else (
    some 1)
def C_pair (v0 : Int32) (v1 : Int32) : Option (Int32) :=
  some ((v0 + v1) - 1)
def C_isDye (v0 : Int32) : Option (Int32) :=
  (C_isBetween v0 0 2).bind fun z3 =>
  (zck z3).bind fun z6 =>
  some z6
def J9_bitCount (v0 : Int32) : Option (Int32) :=
  (some (v0 - ((Int32.toUInt32 v0 >>> (Int32.toUInt32 1 &&& Int32.toUInt32 31)).toInt32 &&& 1431655765))).bind fun z9 =>
  (some ((z9 &&& 858993459) + ((Int32.toUInt32 z9 >>> (Int32.toUInt32 2 &&& Int32.toUInt32 31)).toInt32 &&& 858993459))).bind fun z23 =>
  (some ((z23 + (Int32.toUInt32 z23 >>> (Int32.toUInt32 4 &&& Int32.toUInt32 31)).toInt32) &&& 252645135)).bind fun z33 =>
  (some (z33 + (Int32.toUInt32 z33 >>> (Int32.toUInt32 8 &&& Int32.toUInt32 31)).toInt32)).bind fun z40 =>
  (some (z40 + (Int32.toUInt32 z40 >>> (Int32.toUInt32 16 &&& Int32.toUInt32 31)).toInt32)).bind fun z47 =>
  some (z47 &&& 63)
def L_freeValves_2 (n4 : Nat) (v1 : Int32) (vl : (Nat → Nat)) : Option ((Int32 × (Nat → Nat)) ⊕ ((Nat → Nat))) :=
  if (nI n4) ≤ v1 then (
    some (.inr vl))
  else (
    (astN vl n4 v1 0).bind fun z19 =>
    some (.inl ((v1 + 1), z19)))
def L_freeValves (n4 : Nat) (vl : (Nat → Nat)) : Option ((Nat → Nat)) :=
  (loopN (fun x => L_freeValves_2 n4 x.1 x.2) FU (0, vl)).bind fun z2 =>
  some z2
def L_cells (n : Nat) : Option (Int32) :=
  some (nI n)
def L_isCell (n : Nat) (v1 : Int32) : Option (Int32) :=
  (C_isBetween v1 0 ((nI n) - 1)).bind fun z8 =>
  (zck z8).bind fun z11 =>
  some z11
def L_cellAt (cols : Int32) (rows : Int32) (v1 : Int32) (v2 : Int32) : Option (Int32) :=
  (C_isBetween v1 0 (cols - 1)).bind fun z8 =>
  if z8 = 0 then (
    some (-9))
  else (
    (C_isBetween v2 0 (rows - 1)).bind fun z22 =>
    if z22 = 0 then (
      some (-9))
    else (
      some ((v2 * cols) + v1)))
def L_second (cols : Int32) (rows : Int32) (v1 : Int32) (v2 : Int32) : Option (Int32) :=
  (irm v1 cols).bind fun z6 =>
  (C_xStep v2).bind fun z8 =>
  (idv v1 cols).bind fun z17 =>
  (C_yStep v2).bind fun z19 =>
  (L_cellAt cols rows (z6 + z8) (z17 + z19)).bind fun z23 =>
  some z23
def L_first (cols : Int32) (rows : Int32) (v1 : Int32) (v2 : Int32) : Option (Int32) :=
  (irm v1 cols).bind fun z6 =>
  (C_xStep v2).bind fun z8 =>
  (idv v1 cols).bind fun z17 =>
  (C_yStep v2).bind fun z19 =>
  (L_cellAt cols rows (z6 - z8) (z17 - z19)).bind fun z23 =>
  some z23
def L_isBond (cols : Int32) (rows : Int32) (kd : Nat) (n : Nat) (v1 : Int32) (v2 : Int32) : Option (Int32) :=
  (L_isCell n v1).bind fun z2 =>
  if z2 = 0 then (
    some 0)
  else (
    (dirF kd).bind fun z14 =>
    (C_isBetween v2 0 (z14 - 1)).bind fun z19 =>
    if z19 = 0 then (
      some 0)
    else (
      (L_second cols rows v1 v2).bind fun z28 =>
      if z28 = (-9) then (
        some 0)
      else (
        some 1)))
def L_bonds_4 (cols : Int32) (rows : Int32) (kd : Nat) (n : Nat) (n4 : Nat) (v1 : Int32) (v2 : Int32) : Option ((Int32 × Int32) ⊕ (Int32)) :=
  if (nI n4) ≤ v2 then (
    some (.inr v1))
  else (
    (idv v2 4).bind fun z17 =>
    (irm v2 4).bind fun z20 =>
    (L_isBond cols rows kd n z17 z20).bind fun z21 =>
    if z21 = 0 then (
      some (.inl ((v1 + 0), (v2 + 1))))
    else (
      some (.inl ((v1 + 1), (v2 + 1)))))
def L_bonds (cols : Int32) (rows : Int32) (kd : Nat) (n : Nat) (n4 : Nat) : Option (Int32) :=
  (loopN (fun x => L_bonds_4 cols rows kd n n4 x.1 x.2) FU (0, 0)).bind fun z4 =>
  some z4
def L_bondsAt_4_j32 (cols : Int32) (rows : Int32) (v1 : Int32) (v3 : Int32) (s0 : Int32) (s1 : Int32) : Option ((Int32 × Int32) ⊕ (Int32)) :=
  (L_first cols rows v1 v3).bind fun z35 =>
  if z35 = (-9) then (
    some (.inl ((s0 + (s1 + 0)), (v3 + 1))))
  else (
    some (.inl ((s0 + (s1 + 1)), (v3 + 1))))
def L_bondsAt_4 (v1 : Int32) (cols : Int32) (rows : Int32) (kd : Nat) (v2 : Int32) (v3 : Int32) : Option ((Int32 × Int32) ⊕ (Int32)) :=
  (dirF kd).bind fun z9 =>
  if z9 ≤ v3 then (
    some (.inr v2))
  else (
    (L_second cols rows v1 v3).bind fun z19 =>
    if z19 = (-9) then (
      L_bondsAt_4_j32 cols rows v1 v3 v2 0)
    else (
      L_bondsAt_4_j32 cols rows v1 v3 v2 1))
def L_bondsAt (cols : Int32) (rows : Int32) (kd : Nat) (v1 : Int32) : Option (Int32) :=
  (loopN (fun x => L_bondsAt_4 v1 cols rows kd x.1 x.2) FU (0, 0)).bind fun z4 =>
  some z4
def L_isOpen (thr : Int32) (n : Nat) (gr : (Nat → Int32)) (v1 : Int32) : Option (Int32) :=
  (ald gr n v1).bind fun z5 =>
  if thr ≤ z5 then (
    some 0)
  else (
    some 1)
def L_openCells_4 (thr : Int32) (n : Nat) (gr : (Nat → Int32)) (v1 : Int32) (v2 : Int32) : Option ((Int32 × Int32) ⊕ (Int32)) :=
  if (nI n) ≤ v2 then (
    some (.inr v1))
  else (
    (L_isOpen thr n gr v2).bind fun z15 =>
    if z15 = 0 then (
      some (.inl ((v1 + 0), (v2 + 1))))
    else (
      some (.inl ((v1 + 1), (v2 + 1)))))
def L_openCells (thr : Int32) (n : Nat) (gr : (Nat → Int32)) : Option (Int32) :=
  (loopN (fun x => L_openCells_4 thr n gr x.1 x.2) FU (0, 0)).bind fun z4 =>
  some z4
def L_fill_4 (n : Nat) (v2 : Int32) (v3 : Int32) (gr : (Nat → Int32)) : Option ((Int32 × Int32 × (Nat → Int32)) ⊕ ((Nat → Int32))) :=
  if (nI n) ≤ v3 then (
    some (.inr gr))
  else (
    (irm (((75 : Int32) * v2) + 74) 65537).bind fun z21 =>
    (irm z21 100).bind fun z31 =>
    (ast gr n v3 z31).bind fun z32 =>
    some (.inl (z21, (v3 + 1), z32)))
def L_fill (thr : Int32) (n : Nat) (gr : (Nat → Int32)) (v1 : Int32) : Option (Int32 × (Nat → Int32)) :=
  (loopN (fun x => L_fill_4 n x.1 x.2.1 x.2.2) FU (v1, 0, gr)).bind fun z4 =>
  (L_openCells thr n z4).bind fun z40 =>
  some (z40, z4)
def L_sourcesOf_14 (v1 : Int32) (v4 : Int32) (n : Nat) (so : (Nat → Int32)) (v2 : Int32) (v5 : Int32) : Option ((Int32 × Int32) ⊕ (Int32)) :=
  if v4 ≤ v5 then (
    some (.inr v2))
  else (
    (ald so n v5).bind fun z24 =>
    some (.inl ((v2 + ((z24 >>> (v1 &&& 31)) &&& 1)), (v5 + 1))))
def L_sourcesOf (n : Nat) (so : (Nat → Int32)) (v1 : Int32) : Option (Int32) :=
  (loopN (fun x => L_sourcesOf_14 v1 (nI n) n so x.1 x.2) FU (0, 0)).bind fun z14 =>
  some z14
def L_dyed_14 (v1 : Int32) (v4 : Int32) (n : Nat) (dy : (Nat → Int32)) (v2 : Int32) (v5 : Int32) : Option ((Int32 × Int32) ⊕ (Int32)) :=
  if v4 ≤ v5 then (
    some (.inr v2))
  else (
    (ald dy n v5).bind fun z24 =>
    some (.inl ((v2 + ((z24 >>> (v1 &&& 31)) &&& 1)), (v5 + 1))))
def L_dyed (n : Nat) (dy : (Nat → Int32)) (v1 : Int32) : Option (Int32) :=
  (loopN (fun x => L_dyed_14 v1 (nI n) n dy x.1 x.2) FU (0, 0)).bind fun z14 =>
  some z14
def L_isMoving (thr : Int32) (n : Nat) (gr : (Nat → Int32)) (cg : (Nat → Int32)) (v1 : Int32) : Option (Int32) :=
  (L_isOpen thr n gr v1).bind fun z2 =>
  if z2 = 0 then (
    some 0)
  else (
    (ald cg n v1).bind fun z13 =>
    if z13 = 0 then (
      some 1)
    else (
      some 0))
def L_coming_5_j72 (cols : Int32) (rows : Int32) (thr : Int32) (n : Nat) (n4 : Nat) (vl : (Nat → Nat)) (gr : (Nat → Int32)) (dy : (Nat → Int32)) (cg : (Nat → Int32)) (v1 : Int32) (v2 : Int32) (v3 : Int32) (v4 : Int32) : Option ((Int32 × Int32) ⊕ (Int32)) :=
  (L_second cols rows v1 v4).bind fun z76 =>
  if z76 = (-9) then (
    some (.inl (v3, (v4 + 1))))
  else (
    (L_isMoving thr n gr cg z76).bind fun z91 =>
    if z91 = 0 then (
      some (.inl (v3, (v4 + 1))))
    else (
      (aldN vl n4 (((4 : Int32) * v1) + v4)).bind fun z107 =>
      (letsF z107 0 v2).bind fun z110 =>
      if z110 = 0 then (
        some (.inl (v3, (v4 + 1))))
      else (
        (ald dy n z76).bind fun z123 =>
        some (.inl ((v3 ||| z123), (v4 + 1))))))
def L_coming_5 (v1 : Int32) (v2 : Int32) (cols : Int32) (rows : Int32) (thr : Int32) (kd : Nat) (n : Nat) (n4 : Nat) (vl : (Nat → Nat)) (gr : (Nat → Int32)) (dy : (Nat → Int32)) (cg : (Nat → Int32)) (v3 : Int32) (v4 : Int32) : Option ((Int32 × Int32) ⊕ (Int32)) :=
  (dirF kd).bind fun z11 =>
  if z11 ≤ v4 then (
    some (.inr v3))
  else (
    (L_first cols rows v1 v4).bind fun z21 =>
    if z21 = (-9) then (
      L_coming_5_j72 cols rows thr n n4 vl gr dy cg v1 v2 v3 v4)
    else (
      (L_isMoving thr n gr cg z21).bind fun z36 =>
      if z36 = 0 then (
        L_coming_5_j72 cols rows thr n n4 vl gr dy cg v1 v2 v3 v4)
      else (
        (aldN vl n4 (((4 : Int32) * z21) + v4)).bind fun z53 =>
        (letsF z53 1 v2).bind fun z56 =>
        if z56 = 0 then (
          L_coming_5_j72 cols rows thr n n4 vl gr dy cg v1 v2 v3 v4)
        else (
          (ald dy n z21).bind fun z69 =>
          L_coming_5_j72 cols rows thr n n4 vl gr dy cg v1 v2 (v3 ||| z69) v4))))
def L_coming (cols : Int32) (rows : Int32) (thr : Int32) (kd : Nat) (n : Nat) (n4 : Nat) (vl : (Nat → Nat)) (gr : (Nat → Int32)) (dy : (Nat → Int32)) (cg : (Nat → Int32)) (v1 : Int32) (v2 : Int32) : Option (Int32) :=
  (loopN (fun x => L_coming_5 v1 v2 cols rows thr kd n n4 vl gr dy cg x.1 x.2) FU (0, 0)).bind fun z5 =>
  some z5
def L_reacts_14 (v1 : Int32) (v3 : Int32) (rea : Int32) (v2 : Int32) (v4 : Int32) : Option ((Int32 × Int32) ⊕ (Int32)) :=
  if 3 ≤ v4 then (
    some (.inr v2))
  else (
    (C_pair v3 v4).bind fun z36 =>
    if ((((v1 >>> (v3 &&& 31)) &&& (v1 >>> (v4 &&& 31))) &&& (rea >>> (z36 &&& 31))) &&& 1) = 1 then (
      some (.inl ((v2 ||| 1), (v4 + 1))))
    else (
      some (.inl ((v2 ||| 0), (v4 + 1)))))
def L_reacts_4 (v1 : Int32) (rea : Int32) (v2 : Int32) (v3 : Int32) : Option ((Int32 × Int32) ⊕ (Int32)) :=
  if 3 ≤ v3 then (
    some (.inr v2))
  else (
    (loopN (fun x => L_reacts_14 v1 v3 rea x.1 x.2) FU (v2, (v3 + 1))).bind fun z14 =>
    some (.inl (z14, (v3 + 1))))
def L_reacts (rea : Int32) (v1 : Int32) : Option (Int32) :=
  (loopN (fun x => L_reacts_4 v1 rea x.1 x.2) FU (0, 0)).bind fun z4 =>
  (zck z4).bind fun z67 =>
  some z67
def L_lambda_mark_7 (n : Nat) (gr : (Nat → Int32)) (v1 : Int32) (v2 : Int32) : Option (Int32) :=
  (ald gr n v2).bind fun z5 =>
  if v1 ≤ z5 then (
    some 0)
  else (
    some 1)
def L_lambda_reach_6 (thr : Int32) (n : Nat) (gr : (Nat → Int32)) (v1 : Int32) : Option (Int32) :=
  (L_isOpen thr n gr v1).bind fun z2 =>
  (zck z2).bind fun z5 =>
  some z5
def L_lambda_reach_5 (n : Nat) (so : (Nat → Int32)) (v1 : Int32) (v2 : Int32) : Option (Int32) :=
  (ald so n v2).bind fun z5 =>
  if ((z5 >>> (v1 &&& 31)) &&& 1) = 1 then (
    some 1)
  else (
    some 0)
def L_lambda_hasWay_4 (n : Nat) (gr : (Nat → Int32)) (v1 : Int32) (v2 : Int32) : Option (Int32) :=
  (ald gr n v2).bind fun z5 =>
  if v1 ≤ z5 then (
    some 0)
  else (
    some 1)
def L_lambda_spans_2 (n : Nat) (gr : (Nat → Int32)) (v1 : Int32) (v2 : Int32) (v3 : Int32) : Option (Int32) :=
  (ald gr n v3).bind fun z5 =>
  if v1 ≤ z5 then (
    some 0)
  else (
    if v3 = v2 then (
      some 0)
    else (
      some 1))
def L_lambda_spans_1 (cols : Int32) (v1 : Int32) : Option (Int32) :=
  (irm v1 cols).bind fun z5 =>
  if z5 = 0 then (
    some 1)
  else (
    some 0)
