/-! THE REFERENCE, as pure functions (by program gen/model.py out of the decode rows): none where the run would throw or go round too often -/
set_option maxRecDepth 100000
def M_sizes_24 (v3 : Int32) (now : (Nat → Int32)) : Option ((Int32 × (Nat → Int32)) ⊕ ((Nat → Int32))) :=
  if 647 ≤ v3 then (
    some (.inr now))
  else (
    if 87 ≤ v3 then (
      (ast now 647 v3 0).bind fun z48 =>
      some (.inl ((v3 + 1), z48)))
    else (
      (ast now 647 v3 50).bind fun z48 =>
      some (.inl ((v3 + 1), z48))))
def M_sizes (now : (Nat → Int32)) (v1 : Int32) (v2 : Int32) : Option ((Nat → Int32)) :=
  (ast now 647 0 v1).bind fun z6 =>
  (ast z6 647 1 v2).bind fun z13 =>
  (ast z13 647 5 0).bind fun z20 =>
  (loopN (fun x => M_sizes_24 x.1 x.2) FU (7, z20)).bind fun z24 =>
  some z24
def M_begins_2 (v1 : Int32) (now : (Nat → Int32)) : Option ((Int32 × (Nat → Int32)) ⊕ ((Nat → Int32))) :=
  if 647 ≤ v1 then (
    some (.inr now))
  else (
    (ast now 647 v1 0).bind fun z15 =>
    some (.inl ((v1 + 1), z15)))
def M_begins (now : (Nat → Int32)) : Option ((Nat → Int32)) :=
  (loopN (fun x => M_begins_2 x.1 x.2) FU (0, now)).bind fun z2 =>
  (ast z2 647 3 50).bind fun z29 =>
  (ast z29 647 4 1).bind fun z36 =>
  (M_sizes z36 4 4).bind fun z40 =>
  some z40
def M_undo_22 (past : (Nat → Int32)) (saved : Int32) (v1 : Int32) (now : (Nat → Int32)) : Option ((Int32 × (Nat → Int32)) ⊕ ((Nat → Int32))) :=
  if 647 ≤ v1 then (
    some (.inr now))
  else (
    (ald past 3235 ((647 * saved) + v1)).bind fun z48 =>
    (ast now 647 v1 z48).bind fun z49 =>
    some (.inl ((v1 + 1), z49)))
def M_undo (now : (Nat → Int32)) (past : (Nat → Int32)) (saved : Int32) : Option (Int32 × (Nat → Int32) × Int32) :=
  if saved = 0 then (
    some ((-2), now, saved))
  else (
    (loopN (fun x => M_undo_22 past (saved - 1) x.1 x.2) FU (0, now)).bind fun z22 =>
    some ((saved - 1), z22, (saved - 1)))
def M_within (v0 : Int32) (v1 : Int32) (v2 : Int32) : Option (Int32) :=
  if v0 < v1 then (
    some 0)
  else (
    if v2 < v0 then (
      some 0)
    else (
      some 1))
def M_saves_10 (v1 : Int32) (past : (Nat → Int32)) : Option ((Int32 × (Nat → Int32)) ⊕ ((Nat → Int32))) :=
  if 2588 ≤ v1 then (
    some (.inr past))
  else (
    (ald past 3235 (v1 + 647)).bind fun z31 =>
    (ast past 3235 v1 z31).bind fun z32 =>
    some (.inl ((v1 + 1), z32)))
def M_saves_51 (now : (Nat → Int32)) (saved : Int32) (v1 : Int32) (past : (Nat → Int32)) : Option ((Int32 × (Nat → Int32)) ⊕ ((Nat → Int32))) :=
  if 647 ≤ v1 then (
    some (.inr past))
  else (
    (ald now 647 v1).bind fun z77 =>
    (ast past 3235 ((647 * saved) + v1) z77).bind fun z78 =>
    some (.inl ((v1 + 1), z78)))
def M_saves (now : (Nat → Int32)) (past : (Nat → Int32)) (saved : Int32) : Option ((Nat → Int32) × Int32) :=
  if saved = 5 then (
    (loopN (fun x => M_saves_10 x.1 x.2) FU (0, past)).bind fun z10 =>
    (loopN (fun x => M_saves_51 now (saved - 1) x.1 x.2) FU (0, z10)).bind fun z51 =>
    some (z51, ((saved - 1) + 1)))
  else (
    (loopN (fun x => M_saves_51 now saved x.1 x.2) FU (0, past)).bind fun z51 =>
    some (z51, (saved + 1)))
def M_cells (now : (Nat → Int32)) : Option (Int32) :=
  (ald now 647 0).bind fun z5 =>
  (ald now 647 1).bind fun z11 =>
  some (z5 * z11)
def M_setSize (now : (Nat → Int32)) (past : (Nat → Int32)) (saved : Int32) (v1 : Int32) (v2 : Int32) : Option (Int32 × (Nat → Int32) × (Nat → Int32) × Int32) :=
  (M_within v1 2 10).bind fun z4 =>
  if z4 = 0 then (
    some ((-1), now, past, saved))
  else (
    (M_within v2 2 8).bind fun z14 =>
    if z14 = 0 then (
      some ((-1), now, past, saved))
    else (
      (M_saves now past saved).bind fun z23 =>
      (M_sizes now v1 v2).bind fun z29 =>
      (M_cells z29).bind fun z33 =>
      some (z33, z29, z23.1, z23.2)))
def M_kinds_10 (v2 : Int32) (now : (Nat → Int32)) : Option ((Int32 × (Nat → Int32)) ⊕ ((Nat → Int32))) :=
  if 407 ≤ v2 then (
    some (.inr now))
  else (
    (ast now 647 v2 0).bind fun z23 =>
    some (.inl ((v2 + 1), z23)))
def M_kinds (now : (Nat → Int32)) (v1 : Int32) : Option ((Nat → Int32)) :=
  (ast now 647 2 v1).bind fun z6 =>
  (loopN (fun x => M_kinds_10 x.1 x.2) FU (87, z6)).bind fun z10 =>
  some z10
def M_isCell (now : (Nat → Int32)) (v1 : Int32) : Option (Int32) :=
  (M_cells now).bind fun z3 =>
  (M_within v1 0 (z3 - 1)).bind fun z8 =>
  (zck z8).bind fun z11 =>
  some z11
def M_column (now : (Nat → Int32)) (v1 : Int32) : Option (Int32) :=
  (ald now 647 0).bind fun z6 =>
  (irm v1 z6).bind fun z7 =>
  some z7
def M_second_j74 (now : (Nat → Int32)) (v3 : Int32) (s0 : Int32) (s1 : Int32) : Option (Int32) :=
  (ald now 647 0).bind fun z84 =>
  (M_within v3 0 (z84 - 1)).bind fun z87 =>
  if z87 = 0 then (
    some (-9))
  else (
    (ald now 647 1).bind fun z100 =>
    if z100 ≤ (s0 + s1) then (
      some (-9))
    else (
      (ald now 647 0).bind fun z111 =>
      some (((s0 + s1) * z111) + v3)))
def M_second_j55 (now : (Nat → Int32)) (v1 : Int32) (v2 : Int32) (s0 : Int32) (s1 : Int32) : Option (Int32) :=
  (ald now 647 0).bind fun z63 =>
  (idv v1 z63).bind fun z64 =>
  if v2 = 0 then (
    M_second_j74 now (s0 + s1) z64 0)
  else (
    M_second_j74 now (s0 + s1) z64 1)
def M_second (now : (Nat → Int32)) (v1 : Int32) (v2 : Int32) : Option (Int32) :=
  (M_isCell now v1).bind fun z2 =>
  if z2 = 0 then (
    some (-9))
  else (
    (ald now 647 2).bind fun z15 =>
    (M_within v2 0 (z15 + 1)).bind fun z18 =>
    if z18 = 0 then (
      some (-9))
    else (
      (M_column now v1).bind fun z29 =>
      if v2 = 0 then (
        M_second_j55 now v1 v2 z29 1)
      else (
        if v2 = 3 then (
          M_second_j55 now v1 v2 z29 1)
        else (
          if v2 = 2 then (
            M_second_j55 now v1 v2 z29 (-1))
          else (
            M_second_j55 now v1 v2 z29 0)))))
def M_bonds_14 (v2 : Int32) (now : (Nat → Int32)) (v1 : Int32) (v3 : Int32) : Option ((Int32 × Int32) ⊕ (Int32)) :=
  if 4 ≤ v3 then (
    some (.inr v1))
  else (
    (M_second now v2 v3).bind fun z23 =>
    if z23 = (-9) then (
      some (.inl ((v1 + 0), (v3 + 1))))
    else (
      some (.inl ((v1 + 1), (v3 + 1)))))
def M_bonds_4 (now : (Nat → Int32)) (v1 : Int32) (v2 : Int32) : Option ((Int32 × Int32) ⊕ (Int32)) :=
  (M_cells now).bind fun z6 =>
  if z6 ≤ v2 then (
    some (.inr v1))
  else (
    (loopN (fun x => M_bonds_14 v2 now x.1 x.2) FU (v1, 0)).bind fun z14 =>
    some (.inl (z14, (v2 + 1))))
def M_bonds (now : (Nat → Int32)) : Option (Int32) :=
  (loopN (fun x => M_bonds_4 now x.1 x.2) FU (0, 0)).bind fun z4 =>
  some z4
def M_setKind (now : (Nat → Int32)) (past : (Nat → Int32)) (saved : Int32) (v1 : Int32) : Option (Int32 × (Nat → Int32) × (Nat → Int32) × Int32) :=
  (M_within v1 0 2).bind fun z3 =>
  if z3 = 0 then (
    some ((-1), now, past, saved))
  else (
    (M_saves now past saved).bind fun z12 =>
    (M_kinds now v1).bind fun z17 =>
    (M_bonds z17).bind fun z21 =>
    some (z21, z17, z12.1, z12.2))
def M_setGrain (now : (Nat → Int32)) (past : (Nat → Int32)) (saved : Int32) (v1 : Int32) (v2 : Int32) : Option (Int32 × (Nat → Int32) × (Nat → Int32) × Int32) :=
  (M_isCell now v1).bind fun z2 =>
  if z2 = 0 then (
    some ((-1), now, past, saved))
  else (
    (M_within v2 0 99).bind fun z12 =>
    if z12 = 0 then (
      some ((-1), now, past, saved))
    else (
      (ald now 647 (7 + v1)).bind fun z28 =>
      (M_saves now past saved).bind fun z31 =>
      (ast now 647 (7 + v1) v2).bind fun z43 =>
      some (z28, z43, z31.1, z31.2)))
def M_fills_4 (v2 : Int32) (v3 : Int32) (now : (Nat → Int32)) : Option ((Int32 × Int32 × (Nat → Int32)) ⊕ ((Nat → Int32))) :=
  (M_cells now).bind fun z6 =>
  if z6 ≤ v3 then (
    some (.inr now))
  else (
    (irm ((75 * v2) + 74) 65537).bind fun z21 =>
    (irm z21 100).bind fun z34 =>
    (ast now 647 (7 + v3) z34).bind fun z35 =>
    some (.inl (z21, (v3 + 1), z35)))
def M_fills (now : (Nat → Int32)) (v1 : Int32) : Option ((Nat → Int32)) :=
  (loopN (fun x => M_fills_4 x.1 x.2.1 x.2.2) FU (v1, 0, now)).bind fun z4 =>
  some z4
def M_isOpen (now : (Nat → Int32)) (v1 : Int32) (v2 : Int32) : Option (Int32) :=
  (ald now 647 (7 + v1)).bind fun z8 =>
  if v2 ≤ z8 then (
    some 0)
  else (
    some 1)
def M_openAt_4 (v1 : Int32) (now : (Nat → Int32)) (v2 : Int32) (v3 : Int32) : Option ((Int32 × Int32) ⊕ (Int32)) :=
  (M_cells now).bind fun z6 =>
  if z6 ≤ v3 then (
    some (.inr v2))
  else (
    (M_isOpen now v3 v1).bind fun z16 =>
    if z16 = 0 then (
      some (.inl ((v2 + 0), (v3 + 1))))
    else (
      some (.inl ((v2 + 1), (v3 + 1)))))
def M_openAt (now : (Nat → Int32)) (v1 : Int32) : Option (Int32) :=
  (loopN (fun x => M_openAt_4 v1 now x.1 x.2) FU (0, 0)).bind fun z4 =>
  some z4
def M_fill (now : (Nat → Int32)) (past : (Nat → Int32)) (saved : Int32) (v1 : Int32) : Option (Int32 × (Nat → Int32) × (Nat → Int32) × Int32) :=
  (M_within v1 0 9999).bind fun z5 =>
  if z5 = 0 then (
    some ((-1), now, past, saved))
  else (
    (M_saves now past saved).bind fun z14 =>
    (M_fills now v1).bind fun z19 =>
    (ald z19 647 3).bind fun z28 =>
    (M_openAt z19 z28).bind fun z29 =>
    some (z29, z19, z14.1, z14.2))
def M_valveOf (now : (Nat → Int32)) (v1 : Int32) (v2 : Int32) : Option (Int32) :=
  (ald now 647 ((87 + (4 * v1)) + v2)).bind fun z12 =>
  some z12
def M_setValve (now : (Nat → Int32)) (past : (Nat → Int32)) (saved : Int32) (v1 : Int32) (v2 : Int32) (v3 : Int32) : Option (Int32 × (Nat → Int32) × (Nat → Int32) × Int32) :=
  (M_second now v1 v2).bind fun z3 =>
  if z3 = (-9) then (
    some ((-1), now, past, saved))
  else (
    (M_within v3 0 4).bind fun z14 =>
    if z14 = 0 then (
      some ((-1), now, past, saved))
    else (
      (M_valveOf now v1 v2).bind fun z25 =>
      (M_saves now past saved).bind fun z31 =>
      (ast now 647 ((87 + (4 * v1)) + v2) v3).bind fun z47 =>
      some (z25, z47, z31.1, z31.2)))
def M_setThreshold (now : (Nat → Int32)) (past : (Nat → Int32)) (saved : Int32) (v1 : Int32) : Option (Int32 × (Nat → Int32) × (Nat → Int32) × Int32) :=
  (M_within v1 0 100).bind fun z4 =>
  if z4 = 0 then (
    some ((-1), now, past, saved))
  else (
    (M_saves now past saved).bind fun z13 =>
    (ast now 647 3 v1).bind fun z22 =>
    (M_openAt z22 v1).bind fun z25 =>
    some (z25, z22, z13.1, z13.2))
def M_has (v0 : Int32) (v1 : Int32) : Option (Int32) :=
  if ((v0 >>> (v1 &&& 31)) &&& 1) = 1 then (
    some 1)
  else (
    some 0)
def M_withDye_5 (v1 : Int32) (v2 : Int32) (now : (Nat → Int32)) (v3 : Int32) (v4 : Int32) : Option ((Int32 × Int32) ⊕ (Int32)) :=
  (M_cells now).bind fun z8 =>
  if z8 ≤ v4 then (
    some (.inr v3))
  else (
    (ald now 647 (v1 + v4)).bind fun z23 =>
    (M_has z23 v2).bind fun z25 =>
    if z25 = 0 then (
      some (.inl ((v3 + 0), (v4 + 1))))
    else (
      some (.inl ((v3 + 1), (v4 + 1)))))
def M_withDye (now : (Nat → Int32)) (v1 : Int32) (v2 : Int32) : Option (Int32) :=
  (loopN (fun x => M_withDye_5 v1 v2 now x.1 x.2) FU (0, 0)).bind fun z5 =>
  some z5
def M_setSource_j52 (now : (Nat → Int32)) (past : (Nat → Int32)) (saved : Int32) (v1 : Int32) (v2 : Int32) (v3 : Int32) (s0 : Int32) (s1 : Int32) : Option (Int32 × (Nat → Int32) × (Nat → Int32) × Int32) :=
  if s0 = s1 then (
    some ((-2), now, past, saved))
  else (
    (M_saves now past saved).bind fun z59 =>
    (ald now 647 (407 + v1)).bind fun z72 =>
    if v3 = 1 then (
      (ast now 647 (407 + v1) (z72 + (1 <<< (v2 &&& 31)))).bind fun z89 =>
      (M_withDye z89 407 v2).bind fun z95 =>
      some (z95, z89, z59.1, z59.2))
    else (
      (ast now 647 (407 + v1) (z72 + (-(1 <<< (v2 &&& 31))))).bind fun z89 =>
      (M_withDye z89 407 v2).bind fun z95 =>
      some (z95, z89, z59.1, z59.2)))
def M_setSource (now : (Nat → Int32)) (past : (Nat → Int32)) (saved : Int32) (v1 : Int32) (v2 : Int32) (v3 : Int32) : Option (Int32 × (Nat → Int32) × (Nat → Int32) × Int32) :=
  (M_isCell now v1).bind fun z2 =>
  if z2 = 0 then (
    some ((-1), now, past, saved))
  else (
    (M_within v2 0 2).bind fun z11 =>
    if z11 = 0 then (
      some ((-1), now, past, saved))
    else (
      (M_within v3 0 1).bind fun z20 =>
      if z20 = 0 then (
        some ((-1), now, past, saved))
      else (
        (ald now 647 (407 + v1)).bind fun z37 =>
        (M_has z37 v2).bind fun z39 =>
        if v3 = 1 then (
          M_setSource_j52 now past saved v1 v2 v3 z39 1)
        else (
          M_setSource_j52 now past saved v1 v2 v3 z39 0))))
def M_pairs (now : (Nat → Int32)) : Option (Int32) :=
  (ald now 647 6).bind fun z6 =>
  (irm z6 2).bind fun z8 =>
  (ald now 647 6).bind fun z15 =>
  (idv z15 2).bind fun z17 =>
  (irm z17 2).bind fun z19 =>
  (ald now 647 6).bind fun z27 =>
  (idv z27 4).bind fun z29 =>
  some ((z8 + z19) + z29)
def M_setReaction_j63 (now : (Nat → Int32)) (past : (Nat → Int32)) (saved : Int32) (v3 : Int32) (v4 : Int32) (s0 : Int32) (s1 : Int32) : Option (Int32 × (Nat → Int32) × (Nat → Int32) × Int32) :=
  if s0 = s1 then (
    some ((-2), now, past, saved))
  else (
    (M_saves now past saved).bind fun z70 =>
    (ald now 647 6).bind fun z80 =>
    if v3 = 1 then (
      (ast now 647 6 (z80 + (1 <<< (v4 &&& 31)))).bind fun z99 =>
      (M_pairs z99).bind fun z101 =>
      some (z101, z99, z70.1, z70.2))
    else (
      (ast now 647 6 (z80 + (-(1 <<< (v4 &&& 31))))).bind fun z99 =>
      (M_pairs z99).bind fun z101 =>
      some (z101, z99, z70.1, z70.2)))
def M_setReaction (now : (Nat → Int32)) (past : (Nat → Int32)) (saved : Int32) (v1 : Int32) (v2 : Int32) (v3 : Int32) : Option (Int32 × (Nat → Int32) × (Nat → Int32) × Int32) :=
  (M_within v1 0 2).bind fun z3 =>
  if z3 = 0 then (
    some ((-1), now, past, saved))
  else (
    (M_within v2 0 2).bind fun z12 =>
    if z12 = 0 then (
      some ((-1), now, past, saved))
    else (
      (M_within v3 0 1).bind fun z21 =>
      if z21 = 0 then (
        some ((-1), now, past, saved))
      else (
        if v1 = v2 then (
          some ((-1), now, past, saved))
        else (
          (ald now 647 6).bind fun z47 =>
          (M_has z47 ((v1 + v2) - 1)).bind fun z50 =>
          if v3 = 1 then (
            M_setReaction_j63 now past saved v3 ((v1 + v2) - 1) z50 1)
          else (
            M_setReaction_j63 now past saved v3 ((v1 + v2) - 1) z50 0)))))
def M_setBeat (now : (Nat → Int32)) (past : (Nat → Int32)) (saved : Int32) (v1 : Int32) : Option (Int32 × (Nat → Int32) × (Nat → Int32) × Int32) :=
  (M_within v1 1 9).bind fun z4 =>
  if z4 = 0 then (
    some ((-1), now, past, saved))
  else (
    (ald now 647 4).bind fun z17 =>
    (M_saves now past saved).bind fun z20 =>
    (ast now 647 4 v1).bind fun z29 =>
    some (z17, z29, z20.1, z20.2))
def M_isFlowing (now : (Nat → Int32)) (v1 : Int32) : Option (Int32) :=
  (ald now 647 3).bind fun z7 =>
  (M_isOpen now v1 z7).bind fun z8 =>
  if z8 = 0 then (
    some 0)
  else (
    (ald now 647 (567 + v1)).bind fun z23 =>
    if z23 = 0 then (
      some 1)
    else (
      some 0))
def M_lets (now : (Nat → Int32)) (v1 : Int32) (v2 : Int32) (v3 : Int32) : Option (Int32) :=
  (M_valveOf now v1 v2).bind fun z3 =>
  if z3 = 1 then (
    some 0)
  else (
    if v3 = 0 then (
      if z3 = 2 then (
        some 0)
      else (
        some 1))
    else (
      if z3 = 3 then (
        some 0)
      else (
        some 1)))
def M_flows (now : (Nat → Int32)) (fresh : (Nat → Int32)) (v1 : Int32) (v2 : Int32) : Option ((Nat → Int32)) :=
  (M_isFlowing now v1).bind fun z2 =>
  if z2 = 0 then (
    some fresh)
  else (
    (M_isFlowing now v2).bind fun z10 =>
    if z10 = 0 then (
      some fresh)
    else (
      (ald fresh 80 v2).bind fun z22 =>
      (ald now 647 (487 + v1)).bind fun z32 =>
      (ast fresh 80 v2 (z22 ||| z32)).bind fun z34 =>
      some z34))
def M_reacts_j75 (now : (Nat → Int32)) (v1 : Int32) (s0 : Int32) : Option (Int32) :=
  if s0 = 0 then (
    (M_has v1 1).bind fun z82 =>
    if z82 = 0 then (
      some 0)
    else (
      (M_has v1 2).bind fun z90 =>
      if z90 = 0 then (
        some 0)
      else (
        (ald now 647 6).bind fun z102 =>
        (M_has z102 2).bind fun z104 =>
        if z104 = 0 then (
          some 0)
        else (
          some 1))))
  else (
    some 1)
def M_reacts_j35 (now : (Nat → Int32)) (v1 : Int32) (s0 : Int32) : Option (Int32) :=
  if s0 = 0 then (
    (M_has v1 0).bind fun z42 =>
    if z42 = 0 then (
      M_reacts_j75 now v1 0)
    else (
      (M_has v1 2).bind fun z50 =>
      if z50 = 0 then (
        M_reacts_j75 now v1 0)
      else (
        (ald now 647 6).bind fun z62 =>
        (M_has z62 1).bind fun z64 =>
        if z64 = 0 then (
          M_reacts_j75 now v1 0)
        else (
          M_reacts_j75 now v1 1))))
  else (
    M_reacts_j75 now v1 1)
def M_reacts (now : (Nat → Int32)) (v1 : Int32) : Option (Int32) :=
  (M_has v1 0).bind fun z2 =>
  if z2 = 0 then (
    M_reacts_j35 now v1 0)
  else (
    (M_has v1 1).bind fun z10 =>
    if z10 = 0 then (
      M_reacts_j35 now v1 0)
    else (
      (ald now 647 6).bind fun z22 =>
      (M_has z22 0).bind fun z24 =>
      if z24 = 0 then (
        M_reacts_j35 now v1 0)
      else (
        M_reacts_j35 now v1 1)))
def M_steps_209 (v3 : Int32) (now : (Nat → Int32)) (fresh : (Nat → Int32)) (v2 : Int32) (v4 : Int32) : Option ((Int32 × Int32) ⊕ (Int32)) :=
  if 3 ≤ v4 then (
    some (.inr v2))
  else (
    (ald fresh 80 v3).bind fun z221 =>
    (M_has z221 v4).bind fun z224 =>
    if z224 = 0 then (
      some (.inl ((v2 + 0), (v4 + 1))))
    else (
      (ald now 647 (487 + v3)).bind fun z239 =>
      (M_has z239 v4).bind fun z242 =>
      if z242 = 0 then (
        some (.inl ((v2 + 1), (v4 + 1))))
      else (
        some (.inl ((v2 + 0), (v4 + 1))))))
def M_steps_28 (v1 : Int32) (v2 : Int32) (now : (Nat → Int32)) (v3 : Int32) (fresh : (Nat → Int32)) : Option ((Int32 × (Nat → Int32)) ⊕ ((Nat → Int32))) :=
  (M_cells now).bind fun z30 =>
  if z30 ≤ v3 then (
    some (.inr fresh))
  else (
    (ald now 647 (487 + v3)).bind fun z50 =>
    (M_isFlowing now v3).bind fun z53 =>
    if z53 = 0 then (
      (ast fresh 80 v3 (z50 ||| 0)).bind fun z74 =>
      some (.inl ((v3 + 1), z74)))
    else (
      (ald now 647 (407 + v3)).bind fun z68 =>
      (ast fresh 80 v3 (z50 ||| z68)).bind fun z74 =>
      some (.inl ((v3 + 1), z74))))
def M_steps_94_j161 (now : (Nat → Int32)) (fresh : (Nat → Int32)) (v1 : Int32) (v2 : Int32) (v3 : Int32) (v4 : Int32) (v5 : Int32) (v6 : Int32) : Option ((Int32 × (Nat → Int32)) ⊕ ((Nat → Int32))) :=
  if v6 = 0 then (
    some (.inl ((v4 + 1), fresh)))
  else (
    (M_lets now v3 v4 0).bind fun z171 =>
    if z171 = 0 then (
      some (.inl ((v4 + 1), fresh)))
    else (
      (M_flows now fresh v5 v3).bind fun z181 =>
      some (.inl ((v4 + 1), z181))))
def M_steps_94_j136 (now : (Nat → Int32)) (fresh : (Nat → Int32)) (v1 : Int32) (v2 : Int32) (v3 : Int32) (v4 : Int32) (v5 : Int32) (s0 : Int32) : Option ((Int32 × (Nat → Int32)) ⊕ ((Nat → Int32))) :=
  if s0 = 0 then (
    M_steps_94_j161 now fresh v1 v2 v3 v4 v5 s0)
  else (
    (M_lets now v3 v4 1).bind fun z148 =>
    if z148 = 0 then (
      M_steps_94_j161 now fresh v1 v2 v3 v4 v5 s0)
    else (
      (M_flows now fresh v3 v5).bind fun z158 =>
      M_steps_94_j161 now z158 v1 v2 v3 v4 v5 s0))
def M_steps_94 (v1 : Int32) (v2 : Int32) (v3 : Int32) (now : (Nat → Int32)) (v4 : Int32) (fresh : (Nat → Int32)) : Option ((Int32 × (Nat → Int32)) ⊕ ((Nat → Int32))) :=
  if 4 ≤ v4 then (
    some (.inr fresh))
  else (
    (M_second now v3 v4).bind fun z104 =>
    if z104 = (-9) then (
      M_steps_94_j136 now fresh v1 v2 v3 v4 z104 0)
    else (
      if v1 = 0 then (
        (M_valveOf now v3 v4).bind fun z124 =>
        if z124 = 4 then (
          M_steps_94_j136 now fresh v1 v2 v3 v4 z104 0)
        else (
          M_steps_94_j136 now fresh v1 v2 v3 v4 z104 1))
      else (
        M_steps_94_j136 now fresh v1 v2 v3 v4 z104 1)))
def M_steps_83 (v1 : Int32) (v2 : Int32) (now : (Nat → Int32)) (v3 : Int32) (fresh : (Nat → Int32)) : Option ((Int32 × (Nat → Int32)) ⊕ ((Nat → Int32))) :=
  (M_cells now).bind fun z85 =>
  if z85 ≤ v3 then (
    some (.inr fresh))
  else (
    (loopN (fun x => M_steps_94 v1 v2 v3 now x.1 x.2) FU (0, fresh)).bind fun z94 =>
    some (.inl ((v3 + 1), z94)))
def M_steps_198 (fresh : (Nat → Int32)) (v2 : Int32) (v3 : Int32) (now : (Nat → Int32)) : Option ((Int32 × Int32 × (Nat → Int32)) ⊕ (Int32 × (Nat → Int32))) :=
  (M_cells now).bind fun z200 =>
  if z200 ≤ v3 then (
    some (.inr (v2, now)))
  else (
    (loopN (fun x => M_steps_209 v3 now fresh x.1 x.2) FU (v2, 0)).bind fun z209 =>
    (ald fresh 80 v3).bind fun z275 =>
    (ast now 647 (487 + v3) z275).bind fun z276 =>
    (ald z276 647 (567 + v3)).bind fun z295 =>
    if z295 = 1 then (
      (ast z276 647 (567 + v3) 1).bind fun z318 =>
      some (.inl (z209, (v3 + 1), z318)))
    else (
      (ald fresh 80 v3).bind fun z306 =>
      (M_reacts z276 z306).bind fun z307 =>
      if z307 = 0 then (
        (ast z276 647 (567 + v3) 0).bind fun z318 =>
        some (.inl (z209, (v3 + 1), z318)))
      else (
        (ast z276 647 (567 + v3) 1).bind fun z318 =>
        some (.inl (z209, (v3 + 1), z318)))))
def M_steps_j23 (now : (Nat → Int32)) (fresh : (Nat → Int32)) (s0 : Int32) : Option (Int32 × (Nat → Int32) × (Nat → Int32)) :=
  (loopN (fun x => M_steps_28 s0 0 now x.1 x.2) FU (0, fresh)).bind fun z28 =>
  (loopN (fun x => M_steps_83 s0 0 now x.1 x.2) FU (0, z28)).bind fun z83 =>
  (loopN (fun x => M_steps_198 z83 x.1 x.2.1 x.2.2) FU (0, 0, now)).bind fun z198 =>
  (ald z198.2 647 5).bind fun z331 =>
  (ast z198.2 647 5 (z331 + 1)).bind fun z334 =>
  some (z198.1, z334, z83)
def M_steps (now : (Nat → Int32)) (fresh : (Nat → Int32)) : Option (Int32 × (Nat → Int32) × (Nat → Int32)) :=
  (ald now 647 5).bind fun z5 =>
  (ald now 647 4).bind fun z11 =>
  (idv z5 z11).bind fun z12 =>
  (irm z12 2).bind fun z14 =>
  if z14 = 0 then (
    M_steps_j23 now fresh 1)
  else (
    M_steps_j23 now fresh 0)
def M_run_37 (v1 : Int32) (v2 : Int32) (v3 : Int32) (now : (Nat → Int32)) (fresh : (Nat → Int32)) : Option ((Int32 × Int32 × (Nat → Int32) × (Nat → Int32)) ⊕ (Int32 × (Nat → Int32) × (Nat → Int32))) :=
  if v1 ≤ v3 then (
    some (.inr (v2, now, fresh)))
  else (
    (M_steps now fresh).bind fun z44 =>
    some (.inl ((v2 + z44.1), (v3 + 1), z44.2.1, z44.2.2)))
def M_run (now : (Nat → Int32)) (past : (Nat → Int32)) (fresh : (Nat → Int32)) (saved : Int32) (v1 : Int32) : Option (Int32 × (Nat → Int32) × (Nat → Int32) × (Nat → Int32) × Int32) :=
  (M_within v1 1 60).bind fun z4 =>
  if z4 = 0 then (
    some ((-1), now, past, fresh, saved))
  else (
    (ald now 647 5).bind fun z17 =>
    if (z17 + v1) ≤ 1000 then (
      (M_saves now past saved).bind fun z30 =>
      (loopN (fun x => M_run_37 v1 x.1 x.2.1 x.2.2.1 x.2.2.2) FU (0, 0, now, fresh)).bind fun z37 =>
      some (z37.1, z37.2.1, z30.1, z37.2.2, z30.2))
    else (
      some ((-3), now, past, fresh, saved)))
def M_rinse_8_j35 (now : (Nat → Int32)) (v2 : Int32) (s0 : Int32) (s1 : Int32) : Option ((Int32 × Int32 × (Nat → Int32)) ⊕ (Int32 × (Nat → Int32))) :=
  (ast now 647 (487 + v2) 0).bind fun z47 =>
  (ast z47 647 (567 + v2) 0).bind fun z58 =>
  some (.inl ((s0 + s1), (v2 + 1), z58))
def M_rinse_8 (v1 : Int32) (v2 : Int32) (now : (Nat → Int32)) : Option ((Int32 × Int32 × (Nat → Int32)) ⊕ (Int32 × (Nat → Int32))) :=
  (M_cells now).bind fun z10 =>
  if z10 ≤ v2 then (
    some (.inr (v1, now)))
  else (
    (ald now 647 (487 + v2)).bind fun z26 =>
    if z26 = 0 then (
      M_rinse_8_j35 now v2 v1 0)
    else (
      M_rinse_8_j35 now v2 v1 1))
def M_rinse (now : (Nat → Int32)) (past : (Nat → Int32)) (saved : Int32) : Option (Int32 × (Nat → Int32) × (Nat → Int32) × Int32) :=
  (M_saves now past saved).bind fun z1 =>
  (loopN (fun x => M_rinse_8 x.1 x.2.1 x.2.2) FU (0, 0, now)).bind fun z8 =>
  (ast z8.2 647 5 0).bind fun z71 =>
  some (z8.1, z71, z1.1, z1.2)
def M_forgets_7 (v1 : Int32) (isMet : (Nat → Int32)) : Option ((Int32 × (Nat → Int32)) ⊕ ((Nat → Int32))) :=
  if 80 ≤ v1 then (
    some (.inr isMet))
  else (
    (zst isMet 80 v1 0).bind fun z19 =>
    some (.inl ((v1 + 1), z19)))
def M_forgets (isMet : (Nat → Int32)) (met : Int32) : Option ((Nat → Int32) × Int32) :=
  (loopN (fun x => M_forgets_7 x.1 x.2) FU (0, isMet)).bind fun z7 =>
  some (z7, 0)
def M_meets (now : (Nat → Int32)) (queue : (Nat → Int32)) (isMet : (Nat → Int32)) (met : Int32) (v1 : Int32) (v2 : Int32) (v3 : Int32) : Option ((Nat → Int32) × (Nat → Int32) × Int32) :=
  if v1 = (-9) then (
    some (queue, isMet, met))
  else (
    if v1 = v3 then (
      some (queue, isMet, met))
    else (
      (ald isMet 80 v1).bind fun z16 =>
      if z16 = 0 then (
        (M_isOpen now v1 v2).bind fun z23 =>
        if z23 = 0 then (
          some (queue, isMet, met))
        else (
          (zst isMet 80 v1 1).bind fun z35 =>
          (ast queue 80 met v1).bind fun z45 =>
          some (z45, z35, (met + 1))))
      else (
        some (queue, isMet, met))))
def M_first_j47 (now : (Nat → Int32)) (v1 : Int32) (v2 : Int32) (s0 : Int32) (s1 : Int32) : Option (Int32) :=
  (M_isCell now (s0 - s1)).bind fun z51 =>
  if z51 = 0 then (
    some (-9))
  else (
    (M_second now (s0 - s1) v2).bind fun z60 =>
    if z60 = v1 then (
      some (s0 - s1))
    else (
      some (-9)))
def M_first (now : (Nat → Int32)) (v1 : Int32) (v2 : Int32) : Option (Int32) :=
  if v2 = 0 then (
    M_first_j47 now v1 v2 v1 1)
  else (
    if v2 = 1 then (
      (ald now 647 0).bind fun z19 =>
      M_first_j47 now v1 v2 v1 z19)
    else (
      if v2 = 2 then (
        (ald now 647 0).bind fun z33 =>
        M_first_j47 now v1 v2 v1 (z33 - 1))
      else (
        (ald now 647 0).bind fun z44 =>
        M_first_j47 now v1 v2 v1 (z44 + 1))))
def M_walks_24_j86 (now : (Nat → Int32)) (queue : (Nat → Int32)) (isMet : (Nat → Int32)) (met : Int32) (v1 : Int32) (v2 : Int32) (v3 : Int32) (v4 : Int32) (v5 : Int32) (v6 : Int32) : Option ((Int32 × (Nat → Int32) × (Nat → Int32) × Int32) ⊕ ((Nat → Int32) × (Nat → Int32) × Int32)) :=
  (M_first now v5 v6).bind fun z91 =>
  if z91 = (-9) then (
    some (.inl ((v6 + 1), queue, isMet, met)))
  else (
    if v3 = 0 then (
      (M_lets now z91 v6 0).bind fun z128 =>
      if z128 = 0 then (
        some (.inl ((v6 + 1), queue, isMet, met)))
      else (
        (M_meets now queue isMet met z91 v1 v2).bind fun z139 =>
        some (.inl ((v6 + 1), z139.1, z139.2.1, z139.2.2))))
    else (
      (M_valveOf now z91 v6).bind fun z112 =>
      if z112 = 1 then (
        some (.inl ((v6 + 1), queue, isMet, met)))
      else (
        (M_meets now queue isMet met z91 v1 v2).bind fun z139 =>
        some (.inl ((v6 + 1), z139.1, z139.2.1, z139.2.2)))))
def M_walks_24 (v1 : Int32) (v2 : Int32) (v3 : Int32) (v4 : Int32) (v5 : Int32) (now : (Nat → Int32)) (v6 : Int32) (queue : (Nat → Int32)) (isMet : (Nat → Int32)) (met : Int32) : Option ((Int32 × (Nat → Int32) × (Nat → Int32) × Int32) ⊕ ((Nat → Int32) × (Nat → Int32) × Int32)) :=
  if 4 ≤ v6 then (
    some (.inr (queue, isMet, met)))
  else (
    (M_second now v5 v6).bind fun z35 =>
    if z35 = (-9) then (
      M_walks_24_j86 now queue isMet met v1 v2 v3 v4 v5 v6)
    else (
      if v3 = 0 then (
        (M_lets now v5 v6 1).bind fun z72 =>
        if z72 = 0 then (
          M_walks_24_j86 now queue isMet met v1 v2 v3 v4 v5 v6)
        else (
          (M_meets now queue isMet met z35 v1 v2).bind fun z83 =>
          M_walks_24_j86 now z83.1 z83.2.1 z83.2.2 v1 v2 v3 v4 v5 v6))
      else (
        (M_valveOf now v5 v6).bind fun z56 =>
        if z56 = 1 then (
          M_walks_24_j86 now queue isMet met v1 v2 v3 v4 v5 v6)
        else (
          (M_meets now queue isMet met z35 v1 v2).bind fun z83 =>
          M_walks_24_j86 now z83.1 z83.2.1 z83.2.2 v1 v2 v3 v4 v5 v6))))
def M_walks_3 (v1 : Int32) (v2 : Int32) (v3 : Int32) (now : (Nat → Int32)) (v4 : Int32) (queue : (Nat → Int32)) (isMet : (Nat → Int32)) (met : Int32) : Option ((Int32 × (Nat → Int32) × (Nat → Int32) × Int32) ⊕ ((Nat → Int32) × (Nat → Int32) × Int32)) :=
  if met ≤ v4 then (
    some (.inr (queue, isMet, met)))
  else (
    (ald queue 80 v4).bind fun z18 =>
    (loopN (fun x => M_walks_24 v1 v2 v3 v4 z18 now x.1 x.2.1 x.2.2.1 x.2.2.2) FU (0, queue, isMet, met)).bind fun z24 =>
    some (.inl ((v4 + 1), z24.1, z24.2.1, z24.2.2)))
def M_walks (now : (Nat → Int32)) (queue : (Nat → Int32)) (isMet : (Nat → Int32)) (met : Int32) (v1 : Int32) (v2 : Int32) (v3 : Int32) : Option ((Nat → Int32) × (Nat → Int32) × Int32) :=
  (loopN (fun x => M_walks_3 v1 v2 v3 now x.1 x.2.1 x.2.2.1 x.2.2.2) FU (0, queue, isMet, met)).bind fun z3 =>
  some (z3.1, z3.2.1, z3.2.2)
def M_laysClusters_7 (v1 : Int32) (now : (Nat → Int32)) (v2 : Int32) (clusterOf : (Nat → Int32)) : Option ((Int32 × (Nat → Int32)) ⊕ ((Nat → Int32))) :=
  (M_cells now).bind fun z9 =>
  if z9 ≤ v2 then (
    some (.inr clusterOf))
  else (
    (ast clusterOf 80 v2 (-9)).bind fun z22 =>
    some (.inl ((v2 + 1), z22)))
def M_laysClusters_81 (v1 : Int32) (v2 : Int32) (queue : (Nat → Int32)) (met : Int32) (clusters : Int32) (v3 : Int32) (clusterOf : (Nat → Int32)) : Option ((Int32 × (Nat → Int32)) ⊕ ((Nat → Int32))) :=
  if met ≤ v3 then (
    some (.inr clusterOf))
  else (
    (ald queue 80 v3).bind fun z98 =>
    (ast clusterOf 80 z98 clusters).bind fun z103 =>
    some (.inl ((v3 + 1), z103)))
def M_laysClusters_31 (v1 : Int32) (now : (Nat → Int32)) (v2 : Int32) (queue : (Nat → Int32)) (isMet : (Nat → Int32)) (clusterOf : (Nat → Int32)) (met : Int32) (clusters : Int32) : Option ((Int32 × (Nat → Int32) × (Nat → Int32) × (Nat → Int32) × Int32 × Int32) ⊕ ((Nat → Int32) × (Nat → Int32) × (Nat → Int32) × Int32 × Int32)) :=
  (M_cells now).bind fun z33 =>
  if z33 ≤ v2 then (
    some (.inr (queue, isMet, clusterOf, met, clusters)))
  else (
    (M_isOpen now v2 v1).bind fun z42 =>
    if z42 = 0 then (
      some (.inl ((v2 + 1), queue, isMet, clusterOf, met, clusters)))
    else (
      (ald clusterOf 80 v2).bind fun z53 =>
      if z53 = (-9) then (
        (M_forgets isMet met).bind fun z60 =>
        (M_meets now queue z60.1 z60.2 v2 v1 (-9)).bind fun z68 =>
        (M_walks now z68.1 z68.2.1 z68.2.2 v1 (-9) 1).bind fun z76 =>
        (loopN (fun x => M_laysClusters_81 v1 v2 z76.1 z76.2.2 clusters x.1 x.2) FU (0, clusterOf)).bind fun z81 =>
        some (.inl ((v2 + 1), z76.1, z76.2.1, z81, z76.2.2, (clusters + 1))))
      else (
        some (.inl ((v2 + 1), queue, isMet, clusterOf, met, clusters)))))
def M_laysClusters (now : (Nat → Int32)) (queue : (Nat → Int32)) (isMet : (Nat → Int32)) (clusterOf : (Nat → Int32)) (met : Int32) (clusters : Int32) (v1 : Int32) : Option ((Nat → Int32) × (Nat → Int32) × (Nat → Int32) × Int32 × Int32) :=
  (loopN (fun x => M_laysClusters_7 v1 now x.1 x.2) FU (0, clusterOf)).bind fun z7 =>
  (loopN (fun x => M_laysClusters_31 v1 now x.1 x.2.1 x.2.2.1 x.2.2.2.1 x.2.2.2.2.1 x.2.2.2.2.2) FU (0, queue, isMet, z7, met, 0)).bind fun z31 =>
  some (z31.1, z31.2.1, z31.2.2.1, z31.2.2.2.1, z31.2.2.2.2)
def M_clogged_4 (now : (Nat → Int32)) (v1 : Int32) (v2 : Int32) : Option ((Int32 × Int32) ⊕ (Int32)) :=
  (M_cells now).bind fun z6 =>
  if z6 ≤ v2 then (
    some (.inr v1))
  else (
    (ald now 647 (567 + v2)).bind fun z22 =>
    some (.inl ((v1 + z22), (v2 + 1))))
def M_clogged (now : (Nat → Int32)) : Option (Int32) :=
  (loopN (fun x => M_clogged_4 now x.1 x.2) FU (0, 0)).bind fun z4 =>
  some z4
def M_count (now : (Nat → Int32)) (queue : (Nat → Int32)) (isMet : (Nat → Int32)) (clusterOf : (Nat → Int32)) (saved : Int32) (length : Int32) (met : Int32) (clusters : Int32) (v1 : Int32) : Option (Int32 × (Nat → Int32) × (Nat → Int32) × (Nat → Int32) × Int32 × Int32) :=
  (M_within v1 0 5).bind fun z3 =>
  if z3 = 0 then (
    (ald now 647 3).bind fun z22 =>
    (M_laysClusters now queue isMet clusterOf met clusters z22).bind fun z23 =>
    if v1 = 6 then (
      (M_bonds now).bind fun z69 =>
      some (z69, z23.1, z23.2.1, z23.2.2.1, z23.2.2.2.1, z23.2.2.2.2))
    else (
      if v1 = 7 then (
        (ald now 647 3).bind fun z79 =>
        (M_openAt now z79).bind fun z80 =>
        some (z80, z23.1, z23.2.1, z23.2.2.1, z23.2.2.2.1, z23.2.2.2.2))
      else (
        if v1 = 8 then (
          some (z23.2.2.2.2, z23.1, z23.2.1, z23.2.2.1, z23.2.2.2.1, z23.2.2.2.2))
        else (
          if v1 = 9 then (
            (M_clogged now).bind fun z90 =>
            some (z90, z23.1, z23.2.1, z23.2.2.1, z23.2.2.2.1, z23.2.2.2.2))
          else (
            if v1 = 10 then (
              (M_pairs now).bind fun z95 =>
              some (z95, z23.1, z23.2.1, z23.2.2.1, z23.2.2.2.1, z23.2.2.2.2))
            else (
              if v1 = 11 then (
                some (saved, z23.1, z23.2.1, z23.2.2.1, z23.2.2.2.1, z23.2.2.2.2))
              else (
                if v1 = 12 then (
                  some (length, z23.1, z23.2.1, z23.2.2.1, z23.2.2.2.1, z23.2.2.2.2))
                else (
                  some ((-1), z23.1, z23.2.1, z23.2.2.1, z23.2.2.2.1, z23.2.2.2.2)))))))))
  else (
    (ald now 647 v1).bind fun z14 =>
    some (z14, queue, isMet, clusterOf, met, clusters))
def M_endsAt_15 (v1 : Int32) (v3 : Int32) (now : (Nat → Int32)) (v2 : Int32) (v4 : Int32) : Option ((Int32 × Int32) ⊕ (Int32)) :=
  if 4 ≤ v4 then (
    some (.inr v2))
  else (
    (M_second now v3 v4).bind fun z25 =>
    if z25 = (-9) then (
      some (.inl ((v2 + 0), (v4 + 1))))
    else (
      if v3 = v1 then (
        some (.inl ((v2 + 1), (v4 + 1))))
      else (
        if z25 = v1 then (
          some (.inl ((v2 + 1), (v4 + 1))))
        else (
          some (.inl ((v2 + 0), (v4 + 1)))))))
def M_endsAt_4 (v1 : Int32) (now : (Nat → Int32)) (v2 : Int32) (v3 : Int32) : Option ((Int32 × Int32) ⊕ (Int32)) :=
  (M_cells now).bind fun z6 =>
  if z6 ≤ v3 then (
    some (.inr v2))
  else (
    (loopN (fun x => M_endsAt_15 v1 v3 now x.1 x.2) FU (v2, 0)).bind fun z15 =>
    some (.inl (z15, (v3 + 1))))
def M_endsAt (now : (Nat → Int32)) (v1 : Int32) : Option (Int32) :=
  (loopN (fun x => M_endsAt_4 v1 now x.1 x.2) FU (0, 0)).bind fun z4 =>
  some z4
def M_cell (now : (Nat → Int32)) (queue : (Nat → Int32)) (isMet : (Nat → Int32)) (clusterOf : (Nat → Int32)) (met : Int32) (clusters : Int32) (v1 : Int32) (v2 : Int32) : Option (Int32 × (Nat → Int32) × (Nat → Int32) × (Nat → Int32) × Int32 × Int32) :=
  (M_isCell now v1).bind fun z2 =>
  if z2 = 0 then (
    some ((-1), queue, isMet, clusterOf, met, clusters))
  else (
    (ald now 647 3).bind fun z16 =>
    (M_laysClusters now queue isMet clusterOf met clusters z16).bind fun z17 =>
    if v2 = 0 then (
      (ald now 647 (7 + v1)).bind fun z72 =>
      some (z72, z17.1, z17.2.1, z17.2.2.1, z17.2.2.2.1, z17.2.2.2.2))
    else (
      if v2 = 1 then (
        (ald now 647 3).bind fun z81 =>
        (M_isOpen now v1 z81).bind fun z82 =>
        if z82 = 0 then (
          some (0, z17.1, z17.2.1, z17.2.2.1, z17.2.2.2.1, z17.2.2.2.2))
        else (
          some (1, z17.1, z17.2.1, z17.2.2.1, z17.2.2.2.1, z17.2.2.2.2)))
      else (
        if v2 = 2 then (
          (ald now 647 (407 + v1)).bind fun z103 =>
          some (z103, z17.1, z17.2.1, z17.2.2.1, z17.2.2.2.1, z17.2.2.2.2))
        else (
          if v2 = 3 then (
            (ald now 647 (487 + v1)).bind fun z114 =>
            some (z114, z17.1, z17.2.1, z17.2.2.1, z17.2.2.2.1, z17.2.2.2.2))
          else (
            if v2 = 4 then (
              (ald now 647 (567 + v1)).bind fun z125 =>
              some (z125, z17.1, z17.2.1, z17.2.2.1, z17.2.2.2.1, z17.2.2.2.2))
            else (
              if v2 = 5 then (
                (ald z17.2.2.1 80 v1).bind fun z132 =>
                some (z132, z17.1, z17.2.1, z17.2.2.1, z17.2.2.2.1, z17.2.2.2.2))
              else (
                if v2 = 6 then (
                  (M_endsAt now v1).bind fun z136 =>
                  some (z136, z17.1, z17.2.1, z17.2.2.1, z17.2.2.2.1, z17.2.2.2.2))
                else (
                  some ((-1), z17.1, z17.2.1, z17.2.2.1, z17.2.2.2.1, z17.2.2.2.2)))))))))
def M_valve (now : (Nat → Int32)) (v1 : Int32) (v2 : Int32) : Option (Int32) :=
  (M_second now v1 v2).bind fun z3 =>
  if z3 = (-9) then (
    some (-1))
  else (
    (M_valveOf now v1 v2).bind fun z18 =>
    some z18)
def M_dyed (now : (Nat → Int32)) (v1 : Int32) : Option (Int32) :=
  (M_within v1 0 2).bind fun z3 =>
  if z3 = 0 then (
    some (-1))
  else (
    (M_withDye now 487 v1).bind fun z14 =>
    some z14)
def M_reach_17 (v1 : Int32) (now : (Nat → Int32)) (v2 : Int32) (queue : (Nat → Int32)) (isMet : (Nat → Int32)) (met : Int32) : Option ((Int32 × (Nat → Int32) × (Nat → Int32) × Int32) ⊕ ((Nat → Int32) × (Nat → Int32) × Int32)) :=
  (M_cells now).bind fun z19 =>
  if z19 ≤ v2 then (
    some (.inr (queue, isMet, met)))
  else (
    (ald now 647 (407 + v2)).bind fun z34 =>
    (M_has z34 v1).bind fun z36 =>
    if z36 = 0 then (
      some (.inl ((v2 + 1), queue, isMet, met)))
    else (
      (ald now 647 3).bind fun z49 =>
      (M_meets now queue isMet met v2 z49 (-9)).bind fun z52 =>
      some (.inl ((v2 + 1), z52.1, z52.2.1, z52.2.2))))
def M_reach (now : (Nat → Int32)) (queue : (Nat → Int32)) (isMet : (Nat → Int32)) (met : Int32) (v1 : Int32) : Option (Int32 × (Nat → Int32) × (Nat → Int32) × Int32) :=
  (M_within v1 0 2).bind fun z3 =>
  if z3 = 0 then (
    some ((-1), queue, isMet, met))
  else (
    (M_forgets isMet met).bind fun z12 =>
    (loopN (fun x => M_reach_17 v1 now x.1 x.2.1 x.2.2.1 x.2.2.2) FU (0, queue, z12.1, z12.2)).bind fun z17 =>
    (ald now 647 3).bind fun z67 =>
    (M_walks now z17.1 z17.2.1 z17.2.2 z67 (-9) 0).bind fun z71 =>
    some (z71.2.2, z71.1, z71.2.1, z71.2.2))
def M_keeps_2 (now : (Nat → Int32)) (v1 : Int32) (kept : (Nat → Int32)) : Option ((Int32 × (Nat → Int32)) ⊕ ((Nat → Int32))) :=
  if 647 ≤ v1 then (
    some (.inr kept))
  else (
    (ald now 647 v1).bind fun z19 =>
    (ast kept 647 v1 z19).bind fun z20 =>
    some (.inl ((v1 + 1), z20)))
def M_keeps (now : (Nat → Int32)) (kept : (Nat → Int32)) : Option ((Nat → Int32)) :=
  (loopN (fun x => M_keeps_2 now x.1 x.2) FU (0, kept)).bind fun z2 =>
  some z2
def M_returns_2 (kept : (Nat → Int32)) (v1 : Int32) (now : (Nat → Int32)) : Option ((Int32 × (Nat → Int32)) ⊕ ((Nat → Int32))) :=
  if 647 ≤ v1 then (
    some (.inr now))
  else (
    (ald kept 647 v1).bind fun z19 =>
    (ast now 647 v1 z19).bind fun z20 =>
    some (.inl ((v1 + 1), z20)))
def M_returns (now : (Nat → Int32)) (kept : (Nat → Int32)) : Option ((Nat → Int32)) :=
  (loopN (fun x => M_returns_2 kept x.1 x.2) FU (0, now)).bind fun z2 =>
  some z2
def M_arrival_25 (v1 : Int32) (v2 : Int32) (v3 : Int32) (now : (Nat → Int32)) (fresh : (Nat → Int32)) : Option ((Int32 × (Nat → Int32) × (Nat → Int32)) ⊕ (Int32 × (Nat → Int32) × (Nat → Int32))) :=
  if 60 < v3 then (
    some (.inr (v3, now, fresh)))
  else (
    (ald now 647 (487 + v2)).bind fun z40 =>
    (M_has z40 v1).bind fun z42 =>
    if z42 = 0 then (
      (M_steps now fresh).bind fun z49 =>
      some (.inl ((v3 + 1), z49.2.1, z49.2.2)))
    else (
      some (.inr (v3, now, fresh))))
def M_arrival (now : (Nat → Int32)) (kept : (Nat → Int32)) (fresh : (Nat → Int32)) (v1 : Int32) (v2 : Int32) : Option (Int32 × (Nat → Int32) × (Nat → Int32) × (Nat → Int32)) :=
  (M_within v1 0 2).bind fun z3 =>
  if z3 = 0 then (
    some ((-1), now, kept, fresh))
  else (
    (M_isCell now v2).bind fun z11 =>
    if z11 = 0 then (
      some ((-1), now, kept, fresh))
    else (
      (M_keeps now kept).bind fun z20 =>
      (loopN (fun x => M_arrival_25 v1 v2 x.1 x.2.1 x.2.2) FU (0, now, fresh)).bind fun z25 =>
      (M_returns z25.2.1 z20).bind fun z61 =>
      if z25.1 ≤ 60 then (
        some (z25.1, z61, z20, z25.2.2))
      else (
        some ((-9), z61, z20, z25.2.2))))
def M_sizeOf_4 (v1 : Int32) (now : (Nat → Int32)) (clusterOf : (Nat → Int32)) (v2 : Int32) (v3 : Int32) : Option ((Int32 × Int32) ⊕ (Int32)) :=
  (M_cells now).bind fun z6 =>
  if z6 ≤ v3 then (
    some (.inr v2))
  else (
    (ald clusterOf 80 v3).bind fun z18 =>
    if z18 = v1 then (
      some (.inl ((v2 + 1), (v3 + 1))))
    else (
      some (.inl ((v2 + 0), (v3 + 1)))))
def M_sizeOf (now : (Nat → Int32)) (clusterOf : (Nat → Int32)) (v1 : Int32) : Option (Int32) :=
  (loopN (fun x => M_sizeOf_4 v1 now clusterOf x.1 x.2) FU (0, 0)).bind fun z4 =>
  some z4
def M_grainsOf_4 (v1 : Int32) (now : (Nat → Int32)) (clusterOf : (Nat → Int32)) (v2 : Int32) (v3 : Int32) : Option ((Int32 × Int32) ⊕ (Int32)) :=
  (M_cells now).bind fun z6 =>
  if z6 ≤ v3 then (
    some (.inr v2))
  else (
    (ald clusterOf 80 v3).bind fun z18 =>
    if z18 = v1 then (
      (ald now 647 (7 + v3)).bind fun z31 =>
      some (.inl ((v2 + z31), (v3 + 1))))
    else (
      some (.inl ((v2 + 0), (v3 + 1)))))
def M_grainsOf (now : (Nat → Int32)) (clusterOf : (Nat → Int32)) (v1 : Int32) : Option (Int32) :=
  (loopN (fun x => M_grainsOf_4 v1 now clusterOf x.1 x.2) FU (0, 0)).bind fun z4 =>
  some z4
def M_sidesOf_4_j73 (now : (Nat → Int32)) (clusterOf : (Nat → Int32)) (v1 : Int32) (v3 : Int32) (s0 : Int32) (s1 : Int32) (s2 : Int32) : Option ((Int32 × Int32) ⊕ (Int32)) :=
  (ald now 647 0).bind fun z80 =>
  (idv v3 z80).bind fun z81 =>
  (ald now 647 1).bind fun z87 =>
  if z81 = (z87 - 1) then (
    some (.inl ((s0 ||| ((s1 ||| s2) ||| 8)), (v3 + 1))))
  else (
    some (.inl ((s0 ||| ((s1 ||| s2) ||| 0)), (v3 + 1))))
def M_sidesOf_4_j36 (now : (Nat → Int32)) (clusterOf : (Nat → Int32)) (v1 : Int32) (v3 : Int32) (s0 : Int32) (s1 : Int32) : Option ((Int32 × Int32) ⊕ (Int32)) :=
  (M_column now v3).bind fun z38 =>
  (ald now 647 0).bind fun z46 =>
  if z38 = (z46 - 1) then (
    (ald now 647 0).bind fun z64 =>
    if z64 ≤ v3 then (
      M_sidesOf_4_j73 now clusterOf v1 v3 s0 (s1 ||| 2) 0)
    else (
      M_sidesOf_4_j73 now clusterOf v1 v3 s0 (s1 ||| 2) 4))
  else (
    (ald now 647 0).bind fun z64 =>
    if z64 ≤ v3 then (
      M_sidesOf_4_j73 now clusterOf v1 v3 s0 (s1 ||| 0) 0)
    else (
      M_sidesOf_4_j73 now clusterOf v1 v3 s0 (s1 ||| 0) 4))
def M_sidesOf_4 (v1 : Int32) (now : (Nat → Int32)) (clusterOf : (Nat → Int32)) (v2 : Int32) (v3 : Int32) : Option ((Int32 × Int32) ⊕ (Int32)) :=
  (M_cells now).bind fun z6 =>
  if z6 ≤ v3 then (
    some (.inr v2))
  else (
    (ald clusterOf 80 v3).bind fun z17 =>
    if z17 = v1 then (
      (M_column now v3).bind fun z25 =>
      if z25 = 0 then (
        M_sidesOf_4_j36 now clusterOf v1 v3 v2 1)
      else (
        M_sidesOf_4_j36 now clusterOf v1 v3 v2 0))
    else (
      some (.inl (v2, (v3 + 1)))))
def M_sidesOf (now : (Nat → Int32)) (clusterOf : (Nat → Int32)) (v1 : Int32) : Option (Int32) :=
  (loopN (fun x => M_sidesOf_4 v1 now clusterOf x.1 x.2) FU (0, 0)).bind fun z4 =>
  some z4
def M_bondsOf_17_j77 (now : (Nat → Int32)) (clusterOf : (Nat → Int32)) (v1 : Int32) (v2 : Int32) (v3 : Int32) (v4 : Int32) (v5 : Int32) (s0 : Int32) : Option ((Int32 × Int32) ⊕ (Int32)) :=
  if s0 = v2 then (
    if v2 = 1 then (
      some (.inl ((v3 + 1), (v5 + 1))))
    else (
      (M_valveOf now v4 v5).bind fun z96 =>
      if z96 = 1 then (
        some (.inl ((v3 + 0), (v5 + 1))))
      else (
        some (.inl ((v3 + 1), (v5 + 1))))))
  else (
    some (.inl ((v3 + 0), (v5 + 1))))
def M_bondsOf_17 (v1 : Int32) (v2 : Int32) (v4 : Int32) (now : (Nat → Int32)) (clusterOf : (Nat → Int32)) (v3 : Int32) (v5 : Int32) : Option ((Int32 × Int32) ⊕ (Int32)) :=
  if 4 ≤ v5 then (
    some (.inr v3))
  else (
    (M_second now v4 v5).bind fun z28 =>
    if z28 = (-9) then (
      M_bondsOf_17_j77 now clusterOf v1 v2 v3 v4 v5 0)
    else (
      (ald clusterOf 80 v4).bind fun z50 =>
      if z50 = v1 then (
        (ald clusterOf 80 z28).bind fun z66 =>
        if z66 = v1 then (
          M_bondsOf_17_j77 now clusterOf v1 v2 v3 v4 v5 (1 + 1))
        else (
          M_bondsOf_17_j77 now clusterOf v1 v2 v3 v4 v5 (1 + 0)))
      else (
        (ald clusterOf 80 z28).bind fun z66 =>
        if z66 = v1 then (
          M_bondsOf_17_j77 now clusterOf v1 v2 v3 v4 v5 (0 + 1))
        else (
          M_bondsOf_17_j77 now clusterOf v1 v2 v3 v4 v5 (0 + 0)))))
def M_bondsOf_5 (v1 : Int32) (v2 : Int32) (now : (Nat → Int32)) (clusterOf : (Nat → Int32)) (v3 : Int32) (v4 : Int32) : Option ((Int32 × Int32) ⊕ (Int32)) :=
  (M_cells now).bind fun z8 =>
  if z8 ≤ v4 then (
    some (.inr v3))
  else (
    (loopN (fun x => M_bondsOf_17 v1 v2 v4 now clusterOf x.1 x.2) FU (v3, 0)).bind fun z17 =>
    some (.inl (z17, (v4 + 1))))
def M_bondsOf (now : (Nat → Int32)) (clusterOf : (Nat → Int32)) (v1 : Int32) (v2 : Int32) : Option (Int32) :=
  (loopN (fun x => M_bondsOf_5 v1 v2 now clusterOf x.1 x.2) FU (0, 0)).bind fun z5 =>
  some z5
def M_cluster_38 (v1 : Int32) (v2 : Int32) (clusterOf : (Nat → Int32)) (v3 : Int32) : Option ((Int32) ⊕ (Int32)) :=
  (ald clusterOf 80 v3).bind fun z43 =>
  if z43 = v1 then (
    some (.inr v3))
  else (
    some (.inl (v3 + 1)))
def M_cluster (now : (Nat → Int32)) (queue : (Nat → Int32)) (isMet : (Nat → Int32)) (clusterOf : (Nat → Int32)) (met : Int32) (clusters : Int32) (v1 : Int32) (v2 : Int32) : Option (Int32 × (Nat → Int32) × (Nat → Int32) × (Nat → Int32) × Int32 × Int32) :=
  if v1 < 0 then (
    some ((-1), queue, isMet, clusterOf, met, clusters))
  else (
    (M_within v2 0 5).bind fun z7 =>
    if z7 = 0 then (
      some ((-1), queue, isMet, clusterOf, met, clusters))
    else (
      (ald now 647 3).bind fun z21 =>
      (M_laysClusters now queue isMet clusterOf met clusters z21).bind fun z22 =>
      if v1 < z22.2.2.2.2 then (
        (loopN (fun x => M_cluster_38 v1 v2 z22.2.2.1 x) FU 0).bind fun z38 =>
        if v2 = 0 then (
          some (z38, z22.1, z22.2.1, z22.2.2.1, z22.2.2.2.1, z22.2.2.2.2))
        else (
          if v2 = 1 then (
            (M_sizeOf now z22.2.2.1 v1).bind fun z88 =>
            some (z88, z22.1, z22.2.1, z22.2.2.1, z22.2.2.2.1, z22.2.2.2.2))
          else (
            if v2 = 2 then (
              (M_grainsOf now z22.2.2.1 v1).bind fun z94 =>
              some (z94, z22.1, z22.2.1, z22.2.2.1, z22.2.2.2.1, z22.2.2.2.2))
            else (
              if v2 = 3 then (
                (M_sidesOf now z22.2.2.1 v1).bind fun z100 =>
                some (z100, z22.1, z22.2.1, z22.2.2.1, z22.2.2.2.1, z22.2.2.2.2))
              else (
                (M_bondsOf now z22.2.2.1 v1 (v2 - 3)).bind fun z109 =>
                some (z109, z22.1, z22.2.1, z22.2.2.1, z22.2.2.2.1, z22.2.2.2.2))))))
      else (
        some ((-9), z22.1, z22.2.1, z22.2.2.1, z22.2.2.2.1, z22.2.2.2.2))))
def M_spans_6 (v1 : Int32) (v2 : Int32) (now : (Nat → Int32)) (v3 : Int32) (queue : (Nat → Int32)) (isMet : (Nat → Int32)) (met : Int32) : Option ((Int32 × (Nat → Int32) × (Nat → Int32) × Int32) ⊕ ((Nat → Int32) × (Nat → Int32) × Int32)) :=
  (ald now 647 1).bind fun z12 =>
  if z12 ≤ v3 then (
    some (.inr (queue, isMet, met)))
  else (
    (ald now 647 0).bind fun z23 =>
    (M_meets now queue isMet met (v3 * z23) v1 v2).bind fun z27 =>
    some (.inl ((v3 + 1), z27.1, z27.2.1, z27.2.2)))
def M_spans_48 (now : (Nat → Int32)) (isMet : (Nat → Int32)) (v3 : Int32) (v4 : Int32) : Option ((Int32 × Int32) ⊕ (Int32)) :=
  (ald now 647 1).bind fun z55 =>
  if z55 ≤ v4 then (
    some (.inr v3))
  else (
    if v3 = 0 then (
      (ald now 647 0).bind fun z74 =>
      (ald now 647 0).bind fun z81 =>
      (ald isMet 80 (((v4 * z74) + z81) - 1)).bind fun z85 =>
      if z85 = 0 then (
        some (.inl (0, (v4 + 1))))
      else (
        some (.inl (1, (v4 + 1)))))
    else (
      some (.inl (1, (v4 + 1)))))
def M_spans (now : (Nat → Int32)) (queue : (Nat → Int32)) (isMet : (Nat → Int32)) (met : Int32) (v1 : Int32) (v2 : Int32) : Option (Int32 × (Nat → Int32) × (Nat → Int32) × Int32) :=
  (M_forgets isMet met).bind fun z1 =>
  (loopN (fun x => M_spans_6 v1 v2 now x.1 x.2.1 x.2.2.1 x.2.2.2) FU (0, queue, z1.1, z1.2)).bind fun z6 =>
  (M_walks now z6.1 z6.2.1 z6.2.2 v1 v2 0).bind fun z40 =>
  (loopN (fun x => M_spans_48 now z40.2.1 x.1 x.2) FU (0, 0)).bind fun z48 =>
  (zck z48).bind fun z102 =>
  some (z102, z40.1, z40.2.1, z40.2.2)
def M_ledger_55 (v1 : Int32) (v2 : Int32) (now : (Nat → Int32)) (clusterOf : (Nat → Int32)) (clusters : Int32) (v3 : Int32) (v4 : Int32) (v5 : Int32) : Option ((Int32 × Int32 × Int32) ⊕ (Int32 × Int32)) :=
  if clusters ≤ v5 then (
    some (.inr (v3, v4)))
  else (
    (M_sizeOf now clusterOf v5).bind fun z67 =>
    if z67 ≤ v3 then (
      some (.inl (v3, (v4 + (z67 * z67)), (v5 + 1))))
    else (
      some (.inl (z67, (v4 + (z67 * z67)), (v5 + 1)))))
def M_ledger (now : (Nat → Int32)) (queue : (Nat → Int32)) (isMet : (Nat → Int32)) (clusterOf : (Nat → Int32)) (met : Int32) (clusters : Int32) (v1 : Int32) (v2 : Int32) : Option (Int32 × (Nat → Int32) × (Nat → Int32) × (Nat → Int32) × Int32 × Int32) :=
  (M_within v1 0 100).bind fun z4 =>
  if z4 = 0 then (
    some ((-1), queue, isMet, clusterOf, met, clusters))
  else (
    (M_within v2 0 4).bind fun z13 =>
    if z13 = 0 then (
      some ((-1), queue, isMet, clusterOf, met, clusters))
    else (
      if v2 = 4 then (
        (M_spans now queue isMet met v1 (-9)).bind fun z30 =>
        if z30.1 = 0 then (
          some (0, z30.2.1, z30.2.2.1, clusterOf, z30.2.2.2, clusters))
        else (
          some (1, z30.2.1, z30.2.2.1, clusterOf, z30.2.2.2, clusters)))
      else (
        (M_laysClusters now queue isMet clusterOf met clusters v1).bind fun z44 =>
        (loopN (fun x => M_ledger_55 v1 v2 now z44.2.2.1 z44.2.2.2.2 x.1 x.2.1 x.2.2) FU (0, 0, 0)).bind fun z55 =>
        if v2 = 0 then (
          (M_openAt now v1).bind fun z107 =>
          some (z107, z44.1, z44.2.1, z44.2.2.1, z44.2.2.2.1, z44.2.2.2.2))
        else (
          if v2 = 1 then (
            some (z44.2.2.2.2, z44.1, z44.2.1, z44.2.2.1, z44.2.2.2.1, z44.2.2.2.2))
          else (
            if v2 = 2 then (
              some (z55.1, z44.1, z44.2.1, z44.2.2.1, z44.2.2.2.1, z44.2.2.2.2))
            else (
              some (z55.2, z44.1, z44.2.1, z44.2.2.1, z44.2.2.2.1, z44.2.2.2.2)))))))
def M_smallest_19 (now : (Nat → Int32)) (v1 : Int32) (v2 : Int32) (queue : (Nat → Int32)) (isMet : (Nat → Int32)) (met : Int32) : Option ((Int32 × Int32 × (Nat → Int32) × (Nat → Int32) × Int32) ⊕ (Int32 × (Nat → Int32) × (Nat → Int32) × Int32)) :=
  if v2 ≤ v1 then (
    some (.inr (v1, queue, isMet, met)))
  else (
    (idv (v1 + v2) 2).bind fun z28 =>
    (M_spans now queue isMet met z28 (-9)).bind fun z34 =>
    if z34.1 = 0 then (
      if z34.1 = 0 then (
        some (.inl ((z28 + 1), v2, z34.2.1, z34.2.2.1, z34.2.2.2)))
      else (
        some (.inl (v1, v2, z34.2.1, z34.2.2.1, z34.2.2.2))))
    else (
      if z34.1 = 0 then (
        some (.inl ((z28 + 1), z28, z34.2.1, z34.2.2.1, z34.2.2.2)))
      else (
        some (.inl (v1, z28, z34.2.1, z34.2.2.1, z34.2.2.2)))))
def M_smallest (now : (Nat → Int32)) (queue : (Nat → Int32)) (isMet : (Nat → Int32)) (met : Int32) : Option (Int32 × (Nat → Int32) × (Nat → Int32) × Int32) :=
  (M_spans now queue isMet met 100 (-9)).bind fun z5 =>
  if z5.1 = 0 then (
    some (101, z5.2.1, z5.2.2.1, z5.2.2.2))
  else (
    (loopN (fun x => M_smallest_19 now x.1 x.2.1 x.2.2.1 x.2.2.2.1 x.2.2.2.2) FU (0, 100, z5.2.1, z5.2.2.1, z5.2.2.2)).bind fun z19 =>
    some (z19.1, z19.2.1, z19.2.2.1, z19.2.2.2))
def M_threshold (now : (Nat → Int32)) (queue : (Nat → Int32)) (isMet : (Nat → Int32)) (met : Int32) : Option (Int32 × (Nat → Int32) × (Nat → Int32) × Int32) :=
  (M_smallest now queue isMet met).bind fun z1 =>
  if z1.1 ≤ 100 then (
    some (z1.1, z1.2.1, z1.2.2.1, z1.2.2.2))
  else (
    some ((-9), z1.2.1, z1.2.2.1, z1.2.2.2))
def M_probe_14_j56 (now : (Nat → Int32)) (queue : (Nat → Int32)) (isMet : (Nat → Int32)) (met : Int32) (v1 : Int32) (v2 : Int32) (v4 : Int32) (v5 : Int32) (v6 : Int32) (s0 : Int32) : Option ((Int32 × Int32 × Int32 × (Nat → Int32) × (Nat → Int32) × Int32) ⊕ (((Nat → Int32) × (Nat → Int32) × Int32) ⊕ (Int32 × (Nat → Int32) × (Nat → Int32) × Int32))) :=
  if v6 = 0 then (
    some (.inl ((v5 + 1), s0, (v4 + 1), queue, isMet, met)))
  else (
    some (.inl (v2, s0, (v4 + 1), queue, isMet, met)))
def M_probe_14 (v1 : Int32) (now : (Nat → Int32)) (v2 : Int32) (v3 : Int32) (v4 : Int32) (queue : (Nat → Int32)) (isMet : (Nat → Int32)) (met : Int32) : Option ((Int32 × Int32 × Int32 × (Nat → Int32) × (Nat → Int32) × Int32) ⊕ (((Nat → Int32) × (Nat → Int32) × Int32) ⊕ (Int32 × (Nat → Int32) × (Nat → Int32) × Int32))) :=
  if v3 ≤ v2 then (
    some (.inr (.inl (queue, isMet, met))))
  else (
    (idv (v2 + v3) 2).bind fun z23 =>
    if v4 = v1 then (
      some (.inr (.inr (z23, queue, isMet, met))))
    else (
      (M_spans now queue isMet met z23 (-9)).bind fun z40 =>
      if z40.1 = 0 then (
        M_probe_14_j56 now z40.2.1 z40.2.2.1 z40.2.2.2 v1 v2 v4 z23 z40.1 v3)
      else (
        M_probe_14_j56 now z40.2.1 z40.2.2.1 z40.2.2.2 v1 v2 v4 z23 z40.1 z23)))
def M_probe (now : (Nat → Int32)) (queue : (Nat → Int32)) (isMet : (Nat → Int32)) (met : Int32) (v1 : Int32) : Option (Int32 × (Nat → Int32) × (Nat → Int32) × Int32) :=
  if 0 ≤ v1 then (
    (loopN (fun x => M_probe_14 v1 now x.1 x.2.1 x.2.2.1 x.2.2.2.1 x.2.2.2.2.1 x.2.2.2.2.2) FU (0, 100, 0, queue, isMet, met)).bind fun z14 =>
    match z14 with
    | (.inl y14) =>
        some ((-9), y14.1, y14.2.1, y14.2.2)
    | (.inr y14) =>
        some (y14.1, y14.2.1, y14.2.2.1, y14.2.2.2))
  else (
    some ((-1), queue, isMet, met))
def M_isWay (now : (Nat → Int32)) (queue : (Nat → Int32)) (isMet : (Nat → Int32)) (met : Int32) (v1 : Int32) (v2 : Int32) (v3 : Int32) : Option (Int32 × (Nat → Int32) × (Nat → Int32) × Int32) :=
  (M_forgets isMet met).bind fun z1 =>
  (M_meets now queue z1.1 z1.2 v1 v3 (-9)).bind fun z9 =>
  (M_walks now z9.1 z9.2.1 z9.2.2 v3 (-9) 0).bind fun z17 =>
  (ald z17.2.1 80 v2).bind fun z25 =>
  (zck z25).bind fun z26 =>
  some (z26, z17.1, z17.2.1, z17.2.2)
def M_thresholdBetween_20 (v1 : Int32) (v2 : Int32) (now : (Nat → Int32)) (v3 : Int32) (queue : (Nat → Int32)) (isMet : (Nat → Int32)) (met : Int32) : Option ((Int32 × (Nat → Int32) × (Nat → Int32) × Int32) ⊕ (((Nat → Int32) × (Nat → Int32) × Int32) ⊕ (Int32 × (Nat → Int32) × (Nat → Int32) × Int32))) :=
  if 100 < v3 then (
    some (.inr (.inl (queue, isMet, met))))
  else (
    (M_isWay now queue isMet met v1 v2 v3).bind fun z30 =>
    if z30.1 = 0 then (
      some (.inl ((v3 + 1), z30.2.1, z30.2.2.1, z30.2.2.2)))
    else (
      some (.inr (.inr (v3, z30.2.1, z30.2.2.1, z30.2.2.2)))))
def M_thresholdBetween (now : (Nat → Int32)) (queue : (Nat → Int32)) (isMet : (Nat → Int32)) (met : Int32) (v1 : Int32) (v2 : Int32) : Option (Int32 × (Nat → Int32) × (Nat → Int32) × Int32) :=
  (M_isCell now v1).bind fun z2 =>
  if z2 = 0 then (
    some ((-1), queue, isMet, met))
  else (
    (M_isCell now v2).bind fun z10 =>
    if z10 = 0 then (
      some ((-1), queue, isMet, met))
    else (
      (loopN (fun x => M_thresholdBetween_20 v1 v2 now x.1 x.2.1 x.2.2.1 x.2.2.2) FU (1, queue, isMet, met)).bind fun z20 =>
      match z20 with
      | (.inl y20) =>
          some ((-9), y20.1, y20.2.1, y20.2.2)
      | (.inr y20) =>
          some (y20.1, y20.2.1, y20.2.2.1, y20.2.2.2)))
def M_pivots_22 (now : (Nat → Int32)) (v1 : Int32) (v2 : Int32) (queue : (Nat → Int32)) (isMet : (Nat → Int32)) (met : Int32) : Option ((Int32 × Int32 × (Nat → Int32) × (Nat → Int32) × Int32) ⊕ (Int32 × (Nat → Int32) × (Nat → Int32) × Int32)) :=
  (M_cells now).bind fun z24 =>
  if z24 ≤ v2 then (
    some (.inr (v1, queue, isMet, met)))
  else (
    (ald now 647 3).bind fun z38 =>
    (M_isOpen now v2 z38).bind fun z39 =>
    if z39 = 0 then (
      some (.inl ((v1 + 0), (v2 + 1), queue, isMet, met)))
    else (
      (ald now 647 3).bind fun z51 =>
      (M_spans now queue isMet met z51 v2).bind fun z53 =>
      if z53.1 = 0 then (
        some (.inl ((v1 + 1), (v2 + 1), z53.2.1, z53.2.2.1, z53.2.2.2)))
      else (
        some (.inl ((v1 + 0), (v2 + 1), z53.2.1, z53.2.2.1, z53.2.2.2)))))
def M_pivots (now : (Nat → Int32)) (queue : (Nat → Int32)) (isMet : (Nat → Int32)) (met : Int32) : Option (Int32 × (Nat → Int32) × (Nat → Int32) × Int32) :=
  (ald now 647 3).bind fun z6 =>
  (M_spans now queue isMet met z6 (-9)).bind fun z9 =>
  if z9.1 = 0 then (
    some ((-2), z9.2.1, z9.2.2.1, z9.2.2.2))
  else (
    (loopN (fun x => M_pivots_22 now x.1 x.2.1 x.2.2.1 x.2.2.2.1 x.2.2.2.2) FU (0, 0, z9.2.1, z9.2.2.1, z9.2.2.2)).bind fun z22 =>
    some (z22.1, z22.2.1, z22.2.2.1, z22.2.2.2))
def M_bestValve_10 (v1 : Int32) (v2 : Int32) (v3 : Int32) (now : (Nat → Int32)) (queue : (Nat → Int32)) (isMet : (Nat → Int32)) (met : Int32) : Option ((Int32 × Int32 × Int32 × (Nat → Int32) × (Nat → Int32) × (Nat → Int32) × Int32) ⊕ (Int32 × (Nat → Int32) × (Nat → Int32) × (Nat → Int32) × Int32)) :=
  (M_cells now).bind fun z13 =>
  if (4 * z13) ≤ v3 then (
    some (.inr (v1, now, queue, isMet, met)))
  else (
    (idv v3 4).bind fun z23 =>
    (irm v3 4).bind fun z26 =>
    (M_second now z23 z26).bind fun z27 =>
    if z27 = (-9) then (
      some (.inl (v1, v2, (v3 + 1), now, queue, isMet, met)))
    else (
      (ald now 647 (87 + v3)).bind fun z43 =>
      if z43 = 1 then (
        (ast now 647 (87 + v3) 0).bind fun z57 =>
        (M_smallest z57 queue isMet met).bind fun z59 =>
        (ast z57 647 (87 + v3) 1).bind fun z73 =>
        if v2 ≤ z59.1 then (
          if v2 ≤ z59.1 then (
            some (.inl (v1, v2, (v3 + 1), z73, z59.2.1, z59.2.2.1, z59.2.2.2)))
          else (
            some (.inl (v1, z59.1, (v3 + 1), z73, z59.2.1, z59.2.2.1, z59.2.2.2))))
        else (
          if v2 ≤ z59.1 then (
            some (.inl (v3, v2, (v3 + 1), z73, z59.2.1, z59.2.2.1, z59.2.2.2)))
          else (
            some (.inl (v3, z59.1, (v3 + 1), z73, z59.2.1, z59.2.2.1, z59.2.2.2)))))
      else (
        some (.inl (v1, v2, (v3 + 1), now, queue, isMet, met)))))
def M_bestValve (now : (Nat → Int32)) (queue : (Nat → Int32)) (isMet : (Nat → Int32)) (met : Int32) : Option (Int32 × (Nat → Int32) × (Nat → Int32) × (Nat → Int32) × Int32) :=
  (M_smallest now queue isMet met).bind fun z4 =>
  (loopN (fun x => M_bestValve_10 x.1 x.2.1 x.2.2.1 x.2.2.2.1 x.2.2.2.2.1 x.2.2.2.2.2.1 x.2.2.2.2.2.2) FU ((-9), z4.1, 0, now, z4.2.1, z4.2.2.1, z4.2.2.2)).bind fun z10 =>
  some (z10.1, z10.2.1, z10.2.2.1, z10.2.2.2.1, z10.2.2.2.2)
def M_append (text : (Nat → Int32)) (length : Int32) (v1 : Int32) : Option (Int32 × (Nat → Int32) × Int32) :=
  (M_within v1 1 255).bind fun z5 =>
  if z5 = 0 then (
    some ((-1), text, length))
  else (
    if length = 120 then (
      some ((-3), text, length))
    else (
      (ast text 120 length v1).bind fun z34 =>
      some ((length + 1), z34, (length + 1))))
def M_clearText (length : Int32) : Option (Int32 × Int32) :=
  some (length, 0)
def M_isLetter (v0 : Int32) : Option (Int32) :=
  (M_within v0 97 122).bind fun z5 =>
  (zck z5).bind fun z8 =>
  some z8
def M_isDigit (v0 : Int32) : Option (Int32) :=
  (M_within v0 48 57).bind fun z5 =>
  (zck z5).bind fun z8 =>
  some z8
def M_goes_8 (text : (Nat → Int32)) (length : Int32) (frm : Int32) : Option ((Int32) ⊕ (Int32)) :=
  if length ≤ frm then (
    some (.inr frm))
  else (
    (ald text 120 frm).bind fun z27 =>
    if z27 = 32 then (
      some (.inl (frm + 1)))
    else (
      some (.inr frm)))
def M_goes_103_j133 (text : (Nat → Int32)) (length : Int32) (ende : Int32) (v1 : Int32) (v2 : Int32) : Option ((Int32) ⊕ (Int32)) :=
  if v2 = 0 then (
    some (.inr ende))
  else (
    (ald text 120 ende).bind fun z145 =>
    (M_isDigit z145).bind fun z146 =>
    if z146 = 0 then (
      some (.inr ende))
    else (
      some (.inl (ende + 1))))
def M_goes_103 (v1 : Int32) (v2 : Int32) (text : (Nat → Int32)) (length : Int32) (ende : Int32) : Option ((Int32) ⊕ (Int32)) :=
  if length ≤ ende then (
    some (.inr ende))
  else (
    if v1 = 0 then (
      M_goes_103_j133 text length ende v1 v2)
    else (
      (ald text 120 ende).bind fun z126 =>
      (M_isLetter z126).bind fun z127 =>
      if z127 = 0 then (
        M_goes_103_j133 text length ende v1 v2)
      else (
        some (.inl (ende + 1)))))
def M_goes (text : (Nat → Int32)) (length : Int32) (frm : Int32) (ende : Int32) : Option (Int32 × Int32 × Int32) :=
  (loopN (fun x => M_goes_8 text length x) FU ende).bind fun z8 =>
  if z8 = length then (
    some (0, z8, z8))
  else (
    (ald text 120 z8).bind fun z75 =>
    (M_isLetter z75).bind fun z76 =>
    (ald text 120 z8).bind fun z88 =>
    (M_isDigit z88).bind fun z89 =>
    (loopN (fun x => M_goes_103 z76 z89 text length x) FU (z8 + 1)).bind fun z103 =>
    some (1, z8, z103))
def M_word_7 (text : (Nat → Int32)) (frm : Int32) (ende : Int32) (v1 : Int64) (v3 : Int32) : Option ((Int64 × Int32) ⊕ ((Int64) ⊕ (Int64))) :=
  if ende ≤ v3 then (
    some (.inr (.inl v1)))
  else (
    (ald text 120 v3).bind fun z20 =>
    (M_isLetter z20).bind fun z21 =>
    if z21 = 0 then (
      if 0 ≤ (lg_cmp (-1) 0) then (
        some (.inl ((-1), (v3 + 1))))
      else (
        some (.inr (.inr (-1)))))
    else (
      if 12 ≤ (v3 - frm) then (
        if 0 ≤ (lg_cmp (-1) 0) then (
          some (.inl ((-1), (v3 + 1))))
        else (
          some (.inr (.inr (-1)))))
      else (
        (ald text 120 v3).bind fun z48 =>
        if 0 ≤ (lg_cmp ((((27 * v1) + (Int32.toInt64 z48)) - 97) + 1) 0) then (
          some (.inl (((((27 * v1) + (Int32.toInt64 z48)) - 97) + 1), (v3 + 1))))
        else (
          some (.inr (.inr ((((27 * v1) + (Int32.toInt64 z48)) - 97) + 1)))))))
def M_word (text : (Nat → Int32)) (frm : Int32) (ende : Int32) : Option (Int64) :=
  (loopN (fun x => M_word_7 text frm ende x.1 x.2) FU (0, frm)).bind fun z7 =>
  match z7 with
  | (.inl y7) =>
      some y7
  | (.inr y7) =>
      some y7
def M_spelled_j46 (v3 : Int32) (s0 : Int64) : Option (Int64) :=
  if v3 = 0 then (
    some s0)
  else (
    some ((((27 * s0) + (Int32.toInt64 v3)) - 97) + 1))
def M_spelled (v0 : Int32) (v1 : Int32) (v2 : Int32) (v3 : Int32) : Option (Int64) :=
  if v2 = 0 then (
    M_spelled_j46 v3 ((((27 * (Int32.toInt64 ((v0 - 97) + 1))) + (Int32.toInt64 v1)) - 97) + 1))
  else (
    M_spelled_j46 v3 ((((27 * ((((27 * (Int32.toInt64 ((v0 - 97) + 1))) + (Int32.toInt64 v1)) - 97) + 1)) + (Int32.toInt64 v2)) - 97) + 1))
def M_number_44 (v1 : Int32) (v2 : Int32) (text : (Nat → Int32)) (ende : Int32) (v3 : Int32) (v4 : Int32) : Option ((Int32 × Int32) ⊕ (Int32)) :=
  if ende ≤ v4 then (
    some (.inr v3))
  else (
    if v3 ≤ 9999 then (
      (ald text 120 v4).bind fun z74 =>
      some (.inl ((((10 * v3) + z74) - 48), (v4 + 1))))
    else (
      some (.inl (v3, (v4 + 1)))))
def M_number_j114 (text : (Nat → Int32)) (length : Int32) (frm : Int32) (ende : Int32) (wrong : Int32) (v1 : Int32) (v2 : Int32) (v3 : Int32) : Option (Int32 × Int32 × Int32 × Int32) :=
  (M_within v3 v1 v2).bind fun z117 =>
  if z117 = 0 then (
    some (v3, frm, ende, 1))
  else (
    some (v3, frm, ende, 0))
def M_number (text : (Nat → Int32)) (length : Int32) (frm : Int32) (ende : Int32) (wrong : Int32) (v1 : Int32) (v2 : Int32) : Option (Int32 × Int32 × Int32 × Int32) :=
  if wrong = 0 then (
    (M_goes text length frm ende).bind fun z8 =>
    if z8.1 = 0 then (
      some (0, z8.2.1, z8.2.2, 1))
    else (
      (ald text 120 z8.2.1).bind fun z22 =>
      (M_isDigit z22).bind fun z23 =>
      if z23 = 0 then (
        some (0, z8.2.1, z8.2.2, 1))
      else (
        (loopN (fun x => M_number_44 v1 v2 text z8.2.2 x.1 x.2) FU (0, z8.2.1)).bind fun z44 =>
        (ald text 120 z8.2.1).bind fun z95 =>
        if z95 = 48 then (
          if (z8.2.1 + 1) < z8.2.2 then (
            some (z44, z8.2.1, z8.2.2, 1))
          else (
            M_number_j114 text length z8.2.1 z8.2.2 wrong v1 v2 z44))
        else (
          M_number_j114 text length z8.2.1 z8.2.2 wrong v1 v2 z44))))
  else (
    some (0, frm, ende, 1))
def M_readsSize (now : (Nat → Int32)) (text : (Nat → Int32)) (length : Int32) (frm : Int32) (ende : Int32) (wrong : Int32) : Option ((Nat → Int32) × Int32 × Int32 × Int32) :=
  (M_number text length frm ende wrong 2 10).bind fun z4 =>
  (M_number text length z4.2.1 z4.2.2.1 z4.2.2.2 2 8).bind fun z12 =>
  if z12.2.2.2 = 0 then (
    (M_sizes now z4.1 z12.1).bind fun z26 =>
    some (z26, z12.2.1, z12.2.2.1, z12.2.2.2))
  else (
    some (now, z12.2.1, z12.2.2.1, z12.2.2.2))
def M_longer_j68 (v5 : Int32) (s0 : Int64) : Option (Int64) :=
  if v5 = 0 then (
    some s0)
  else (
    some ((((27 * s0) + (Int32.toInt64 v5)) - 97) + 1))
def M_longer_j40 (v4 : Int32) (v5 : Int32) (s0 : Int64) : Option (Int64) :=
  if v4 = 0 then (
    M_longer_j68 v5 s0)
  else (
    M_longer_j68 v5 ((((27 * s0) + (Int32.toInt64 v4)) - 97) + 1))
def M_longer (v0 : Int64) (v2 : Int32) (v3 : Int32) (v4 : Int32) (v5 : Int32) : Option (Int64) :=
  if v3 = 0 then (
    M_longer_j40 v4 v5 ((((27 * v0) + (Int32.toInt64 v2)) - 97) + 1))
  else (
    M_longer_j40 v4 v5 ((((27 * ((((27 * v0) + (Int32.toInt64 v2)) - 97) + 1)) + (Int32.toInt64 v3)) - 97) + 1))
def M_kindTold_j122 (text : (Nat → Int32)) (length : Int32) (frm : Int32) (ende : Int32) (wrong : Int32) (s0 : Int32) : Option (Int32 × Int32 × Int32 × Int32) :=
  if wrong = 0 then (
    if s0 = (-9) then (
      some (s0, frm, ende, 1))
    else (
      some (s0, frm, ende, 0)))
  else (
    some (s0, frm, ende, 1))
def M_kindTold_j24 (text : (Nat → Int32)) (length : Int32) (frm : Int32) (ende : Int32) (wrong : Int32) (s0 : Int64) : Option (Int32 × Int32 × Int32 × Int32) :=
  (M_spelled 115 113 117 97).bind fun z33 =>
  (M_longer z33 114 101 0 0).bind fun z42 =>
  (M_spelled 116 114 105 97).bind fun z54 =>
  (M_longer z54 110 103 117 108).bind fun z65 =>
  (M_longer z65 97 114 0 0).bind fun z74 =>
  if (lg_cmp s0 z42) = 0 then (
    M_kindTold_j122 text length frm ende wrong 0)
  else (
    if (lg_cmp s0 z74) = 0 then (
      M_kindTold_j122 text length frm ende wrong 1)
    else (
      (M_spelled 102 117 108 108).bind fun z109 =>
      if (lg_cmp s0 z109) = 0 then (
        M_kindTold_j122 text length frm ende wrong 2)
      else (
        M_kindTold_j122 text length frm ende wrong (-9))))
def M_kindTold (text : (Nat → Int32)) (length : Int32) (frm : Int32) (ende : Int32) (wrong : Int32) : Option (Int32 × Int32 × Int32 × Int32) :=
  if wrong = 0 then (
    (M_goes text length frm ende).bind fun z8 =>
    if z8.1 = 0 then (
      M_kindTold_j24 text length z8.2.1 z8.2.2 wrong (-1))
    else (
      (M_word text z8.2.1 z8.2.2).bind fun z21 =>
      M_kindTold_j24 text length z8.2.1 z8.2.2 wrong z21))
  else (
    M_kindTold_j24 text length frm ende wrong (-1))
def M_readsRow_16 (v1 : Int32) (text : (Nat → Int32)) (length : Int32) (v2 : Int32) (now : (Nat → Int32)) (frm : Int32) (ende : Int32) (wrong : Int32) : Option ((Int32 × (Nat → Int32) × Int32 × Int32 × Int32) ⊕ ((Nat → Int32) × Int32 × Int32 × Int32)) :=
  (ald now 647 0).bind fun z22 =>
  if z22 ≤ v2 then (
    some (.inr (now, frm, ende, wrong)))
  else (
    if wrong = 0 then (
      (M_number text length frm ende wrong 0 99).bind fun z37 =>
      if z37.2.2.2 = 0 then (
        (ald now 647 0).bind fun z60 =>
        (ast now 647 ((7 + (v1 * z60)) + v2) z37.1).bind fun z66 =>
        some (.inl ((v2 + 1), z66, z37.2.1, z37.2.2.1, z37.2.2.2)))
      else (
        some (.inl ((v2 + 1), now, z37.2.1, z37.2.2.1, z37.2.2.2))))
    else (
      some (.inr (now, frm, ende, wrong))))
def M_readsRow (now : (Nat → Int32)) (text : (Nat → Int32)) (length : Int32) (frm : Int32) (ende : Int32) (wrong : Int32) : Option ((Nat → Int32) × Int32 × Int32 × Int32) :=
  (ald now 647 1).bind fun z7 =>
  (M_number text length frm ende wrong 0 (z7 - 1)).bind fun z10 =>
  (loopN (fun x => M_readsRow_16 z10.1 text length x.1 x.2.1 x.2.2.1 x.2.2.2.1 x.2.2.2.2) FU (0, now, z10.2.1, z10.2.2.1, z10.2.2.2)).bind fun z16 =>
  some (z16.1, z16.2.1, z16.2.2.1, z16.2.2.2)
def M_valveTold_j151 (text : (Nat → Int32)) (length : Int32) (frm : Int32) (ende : Int32) (wrong : Int32) (s0 : Int32) : Option (Int32 × Int32 × Int32 × Int32) :=
  if wrong = 0 then (
    if s0 = (-9) then (
      some (s0, frm, ende, 1))
    else (
      some (s0, frm, ende, 0)))
  else (
    some (s0, frm, ende, 1))
def M_valveTold_j24 (text : (Nat → Int32)) (length : Int32) (frm : Int32) (ende : Int32) (wrong : Int32) (s0 : Int64) : Option (Int32 × Int32 × Int32 × Int32) :=
  (M_spelled 102 111 114 116).bind fun z33 =>
  (M_longer z33 104 0 0 0).bind fun z41 =>
  (M_spelled 98 101 97 116).bind fun z53 =>
  (M_longer z53 105 110 103 0).bind fun z63 =>
  (M_spelled 102 114 101 101).bind fun z77 =>
  if (lg_cmp s0 z77) = 0 then (
    M_valveTold_j151 text length frm ende wrong 0)
  else (
    (M_spelled 115 104 117 116).bind fun z97 =>
    if (lg_cmp s0 z97) = 0 then (
      M_valveTold_j151 text length frm ende wrong 1)
    else (
      if (lg_cmp s0 z41) = 0 then (
        M_valveTold_j151 text length frm ende wrong 2)
      else (
        (M_spelled 98 97 99 107).bind fun z127 =>
        if (lg_cmp s0 z127) = 0 then (
          M_valveTold_j151 text length frm ende wrong 3)
        else (
          if (lg_cmp s0 z63) = 0 then (
            M_valveTold_j151 text length frm ende wrong 4)
          else (
            M_valveTold_j151 text length frm ende wrong (-9))))))
def M_valveTold (text : (Nat → Int32)) (length : Int32) (frm : Int32) (ende : Int32) (wrong : Int32) : Option (Int32 × Int32 × Int32 × Int32) :=
  if wrong = 0 then (
    (M_goes text length frm ende).bind fun z8 =>
    if z8.1 = 0 then (
      M_valveTold_j24 text length z8.2.1 z8.2.2 wrong (-1))
    else (
      (M_word text z8.2.1 z8.2.2).bind fun z21 =>
      M_valveTold_j24 text length z8.2.1 z8.2.2 wrong z21))
  else (
    M_valveTold_j24 text length frm ende wrong (-1))
def M_readsValve_j43 (now : (Nat → Int32)) (text : (Nat → Int32)) (length : Int32) (frm : Int32) (ende : Int32) (wrong : Int32) (v1 : Int32) (v2 : Int32) (s1 : Int32) : Option ((Nat → Int32) × Int32 × Int32 × Int32) :=
  (zck s1).bind fun z43 =>
  (M_valveTold text length frm ende z43).bind fun z47 =>
  if z47.2.2.2 = 0 then (
    (ast now 647 ((87 + (4 * v1)) + v2) z47.1).bind fun z71 =>
    some (z71, z47.2.1, z47.2.2.1, z47.2.2.2))
  else (
    some (now, z47.2.1, z47.2.2.1, z47.2.2.2))
def M_readsValve (now : (Nat → Int32)) (text : (Nat → Int32)) (length : Int32) (frm : Int32) (ende : Int32) (wrong : Int32) : Option ((Nat → Int32) × Int32 × Int32 × Int32) :=
  (M_cells now).bind fun z3 =>
  (M_number text length frm ende wrong 0 (z3 - 1)).bind fun z8 =>
  (M_number text length z8.2.1 z8.2.2.1 z8.2.2.2 0 3).bind fun z15 =>
  if z15.2.2.2 = 0 then (
    (M_second now z8.1 z15.1).bind fun z30 =>
    if z30 = (-9) then (
      M_readsValve_j43 now text length z15.2.1 z15.2.2.1 z15.2.2.2 z8.1 z15.1 1)
    else (
      M_readsValve_j43 now text length z15.2.1 z15.2.2.1 z15.2.2.2 z8.1 z15.1 0))
  else (
    M_readsValve_j43 now text length z15.2.1 z15.2.2.1 z15.2.2.2 z8.1 z15.1 1)
def M_readsSource_j49 (now : (Nat → Int32)) (text : (Nat → Int32)) (length : Int32) (frm : Int32) (ende : Int32) (wrong : Int32) (v1 : Int32) (v2 : Int32) (s1 : Int32) : Option ((Nat → Int32) × Int32 × Int32 × Int32) :=
  (zck s1).bind fun z49 =>
  if z49 = 0 then (
    (ald now 647 (407 + v1)).bind fun z69 =>
    (ast now 647 (407 + v1) (z69 + (1 <<< (v2 &&& 31)))).bind fun z74 =>
    some (z74, frm, ende, z49))
  else (
    some (now, frm, ende, z49))
def M_readsSource (now : (Nat → Int32)) (text : (Nat → Int32)) (length : Int32) (frm : Int32) (ende : Int32) (wrong : Int32) : Option ((Nat → Int32) × Int32 × Int32 × Int32) :=
  (M_cells now).bind fun z3 =>
  (M_number text length frm ende wrong 0 (z3 - 1)).bind fun z8 =>
  (M_number text length z8.2.1 z8.2.2.1 z8.2.2.2 0 2).bind fun z15 =>
  if z15.2.2.2 = 0 then (
    (ald now 647 (407 + z8.1)).bind fun z36 =>
    (M_has z36 z15.1).bind fun z38 =>
    if z38 = 0 then (
      M_readsSource_j49 now text length z15.2.1 z15.2.2.1 z15.2.2.2 z8.1 z15.1 0)
    else (
      M_readsSource_j49 now text length z15.2.1 z15.2.2.1 z15.2.2.2 z8.1 z15.1 1))
  else (
    M_readsSource_j49 now text length z15.2.1 z15.2.2.1 z15.2.2.2 z8.1 z15.1 1)
def M_takes (text : (Nat → Int32)) (length : Int32) (frm : Int32) (ende : Int32) (wrong : Int32) (v1 : Int32) : Option (Int32 × Int32 × Int32) :=
  if wrong = 0 then (
    (M_goes text length frm ende).bind fun z9 =>
    if z9.1 = 0 then (
      some (z9.2.1, z9.2.2, 1))
    else (
      (ald text 120 z9.2.1).bind fun z23 =>
      if z23 = v1 then (
        some (z9.2.1, z9.2.2, 0))
      else (
        some (z9.2.1, z9.2.2, 1))))
  else (
    some (frm, ende, 1))
def M_readsItem_j252 (now : (Nat → Int32)) (text : (Nat → Int32)) (length : Int32) (frm : Int32) (ende : Int32) (wrong : Int32) : Option ((Nat → Int32) × Int32 × Int32 × Int32) :=
  (M_takes text length frm ende wrong 59).bind fun z255 =>
  some (now, z255.1, z255.2.1, z255.2.2)
def M_readsItem_j32 (now : (Nat → Int32)) (text : (Nat → Int32)) (length : Int32) (frm : Int32) (ende : Int32) (wrong : Int32) (v2 : Int64) : Option ((Nat → Int32) × Int32 × Int32 × Int32) :=
  (M_spelled 107 105 110 100).bind fun z41 =>
  if (lg_cmp v2 z41) = 0 then (
    (M_kindTold text length frm ende wrong).bind fun z49 =>
    if z49.2.2.2 = 0 then (
      (M_kinds now z49.1).bind fun z64 =>
      M_readsItem_j252 z64 text length z49.2.1 z49.2.2.1 z49.2.2.2)
    else (
      M_readsItem_j252 now text length z49.2.1 z49.2.2.1 z49.2.2.2))
  else (
    (M_spelled 114 111 119 0).bind fun z78 =>
    if (lg_cmp v2 z78) = 0 then (
      (M_readsRow now text length frm ende wrong).bind fun z86 =>
      M_readsItem_j252 z86.1 text length z86.2.1 z86.2.2.1 z86.2.2.2)
    else (
      (M_spelled 102 105 108 108).bind fun z101 =>
      if (lg_cmp v2 z101) = 0 then (
        (M_number text length frm ende wrong 0 9999).bind fun z113 =>
        if z113.2.2.2 = 0 then (
          (M_fills now z113.1).bind fun z128 =>
          M_readsItem_j252 z128 text length z113.2.1 z113.2.2.1 z113.2.2.2)
        else (
          M_readsItem_j252 now text length z113.2.1 z113.2.2.1 z113.2.2.2))
      else (
        (M_spelled 118 97 108 118).bind fun z143 =>
        (M_longer z143 101 0 0 0).bind fun z151 =>
        if (lg_cmp v2 z151) = 0 then (
          (M_readsValve now text length frm ende wrong).bind fun z159 =>
          M_readsItem_j252 z159.1 text length z159.2.1 z159.2.2.1 z159.2.2.2)
        else (
          (M_spelled 115 111 117 114).bind fun z174 =>
          (M_longer z174 99 101 0 0).bind fun z183 =>
          if (lg_cmp v2 z183) = 0 then (
            (M_readsSource now text length frm ende wrong).bind fun z191 =>
            M_readsItem_j252 z191.1 text length z191.2.1 z191.2.2.1 z191.2.2.2)
          else (
            (M_spelled 97 116 0 0).bind fun z204 =>
            if (lg_cmp v2 z204) = 0 then (
              (M_number text length frm ende wrong 0 100).bind fun z215 =>
              if z215.2.2.2 = 0 then (
                (ast now 647 3 z215.1).bind fun z243 =>
                M_readsItem_j252 z243 text length z215.2.1 z215.2.2.1 z215.2.2.2)
              else (
                (ald now 647 3).bind fun z237 =>
                (ast now 647 3 z237).bind fun z243 =>
                M_readsItem_j252 z243 text length z215.2.1 z215.2.2.1 z215.2.2.2))
            else (
              M_readsItem_j252 now text length frm ende 1))))))
def M_readsItem (now : (Nat → Int32)) (text : (Nat → Int32)) (length : Int32) (frm : Int32) (ende : Int32) (wrong : Int32) (v1 : Int32) : Option ((Nat → Int32) × Int32 × Int32 × Int32) :=
  (M_word text frm ende).bind fun z1 =>
  (M_spelled 115 105 122 101).bind fun z14 =>
  if (lg_cmp z1 z14) = 0 then (
    if v1 = 0 then (
      (M_readsSize now text length frm ende wrong).bind fun z26 =>
      M_readsItem_j252 z26.1 text length z26.2.1 z26.2.2.1 z26.2.2.2)
    else (
      M_readsItem_j32 now text length frm ende wrong z1))
  else (
    M_readsItem_j32 now text length frm ende wrong z1)
def M_loads_2 (v1 : Int32) (now : (Nat → Int32)) (kept : (Nat → Int32)) : Option ((Int32 × (Nat → Int32) × (Nat → Int32)) ⊕ ((Nat → Int32) × (Nat → Int32))) :=
  if 647 ≤ v1 then (
    some (.inr (now, kept)))
  else (
    (ald now 647 v1).bind fun z14 =>
    (ald kept 647 v1).bind fun z26 =>
    (ast now 647 v1 z26).bind fun z27 =>
    (ast kept 647 v1 z14).bind fun z34 =>
    some (.inl ((v1 + 1), z27, z34)))
def M_loads (now : (Nat → Int32)) (past : (Nat → Int32)) (kept : (Nat → Int32)) (saved : Int32) : Option ((Nat → Int32) × (Nat → Int32) × (Nat → Int32) × Int32) :=
  (loopN (fun x => M_loads_2 x.1 x.2.1 x.2.2) FU (0, now, kept)).bind fun z2 =>
  (M_saves z2.1 past saved).bind fun z42 =>
  (M_returns z2.1 z2.2).bind fun z46 =>
  some (z46, z42.1, z2.2, z42.2)
def M_load_20 (text : (Nat → Int32)) (length : Int32) (v1 : Int32) (now : (Nat → Int32)) (frm : Int32) (ende : Int32) (wrong : Int32) : Option ((Int32 × (Nat → Int32) × Int32 × Int32 × Int32) ⊕ (Int32 × (Nat → Int32) × Int32 × Int32 × Int32)) :=
  if wrong = 0 then (
    (M_goes text length frm ende).bind fun z28 =>
    if z28.1 = 0 then (
      some (.inr (v1, now, z28.2.1, z28.2.2, wrong)))
    else (
      (M_readsItem now text length z28.2.1 z28.2.2 wrong v1).bind fun z36 =>
      some (.inl ((v1 + 1), z36.1, z36.2.1, z36.2.2.1, z36.2.2.2))))
  else (
    some (.inr (v1, now, frm, ende, wrong)))
def M_load (now : (Nat → Int32)) (past : (Nat → Int32)) (kept : (Nat → Int32)) (text : (Nat → Int32)) (saved : Int32) (length : Int32) (frm : Int32) (ende : Int32) (wrong : Int32) : Option (Int32 × (Nat → Int32) × (Nat → Int32) × (Nat → Int32) × Int32 × Int32 × Int32 × Int32 × Int32) :=
  (M_keeps now kept).bind fun z1 =>
  (M_begins now).bind fun z5 =>
  (loopN (fun x => M_load_20 text length x.1 x.2.1 x.2.2.1 x.2.2.2.1 x.2.2.2.2) FU (0, z5, frm, 0, 0)).bind fun z20 =>
  if z20.2.2.2.2 = 0 then (
    (M_loads z20.2.1 past z1 saved).bind fun z65 =>
    some (z20.1, z65.1, z65.2.1, z65.2.2.1, z65.2.2.2, 0, z20.2.2.1, z20.2.2.2.1, z20.2.2.2.2))
  else (
    (M_returns z20.2.1 z1).bind fun z53 =>
    some (((-10) - z20.2.2.1), z53, past, z1, saved, length, z20.2.2.1, z20.2.2.2.1, z20.2.2.2.2))
