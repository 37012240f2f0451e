set_option maxRecDepth 100000
def C_countOf_10 (v3 : Int32) (n : Nat) (clu : (Nat → Int32)) (v1 : Int32) (v4 : Int32) : Option ((Int32 × Int32) ⊕ (Int32)) :=
  if v3 ≤ v4 then (
    some (.inr v1))
  else (
    (ald clu n v4).bind fun z19 =>
    some (.inl ((if v1 < (z19 + 1) then (z19 + 1) else v1), (v4 + 1))))
def C_countOf (n : Nat) (clu : (Nat → Int32)) : Option (Int32) :=
  (loopN (fun x => C_countOf_10 (nI n) n clu x.1 x.2) FU (0, 0)).bind fun z10 =>
  some z10
def C_clogged_16 (v3 : Int32) (n : Nat) (cg : (Nat → Int32)) (v1 : Int32) (v4 : Int32) : Option ((Int32 × Int32) ⊕ (Int32)) :=
  if v3 ≤ v4 then (
    some (.inr v1))
  else (
    (ald cg n v4).bind fun z25 =>
    if z25 = 0 then (
      some (.inl ((v1 + 0), (v4 + 1))))
    else (
      some (.inl ((v1 + 1), (v4 + 1)))))
def C_clogged (n : Nat) (cg : (Nat → Int32)) : Option (Int32) :=
  (loopN (fun x => C_clogged_16 (nI n) n cg x.1 x.2) FU (0, 0)).bind fun z16 =>
  some z16
def C_valve (cols : Int32) (rows : Int32) (kd : Nat) (n : Nat) (n4 : Nat) (vl : (Nat → Nat)) (v1 : Int32) (v2 : Int32) : Option (Int32) :=
  (L_isBond cols rows kd n v1 v2).bind fun z6 =>
  if z6 = 0 then (
    some (-1))
  else (
    (aldN vl n4 (((4 : Int32) * v1) + v2)).bind fun z24 =>
    (ordV z24).bind fun z25 =>
    some z25)
def C_dyed (n : Nat) (dy : (Nat → Int32)) (v1 : Int32) : Option (Int32) :=
  (C_isDye v1).bind fun z1 =>
  if z1 = 0 then (
    some (-1))
  else (
    (L_dyed n dy v1).bind fun z12 =>
    some z12)
def C_reach (cols : Int32) (rows : Int32) (thr : Int32) (kd : Nat) (n : Nat) (n4 : Nat) (vl : (Nat → Nat)) (gr : (Nat → Int32)) (so : (Nat → Int32)) (v1 : Int32) : Option (Int32) :=
  (C_isDye v1).bind fun z1 =>
  if z1 = 0 then (
    some (-1))
  else (
    (L_reach cols rows thr kd n n4 vl gr so v1).bind fun z12 =>
    some z12)
def C_sides_j57 (rows : Int32) (v3 : Int32) (s0 : Int32) (s1 : Int32) : Option (Int32) :=
  if v3 = (rows - 1) then (
    some ((s0 ||| s1) ||| 8))
  else (
    some ((s0 ||| s1) ||| 0))
def C_sides_j29 (cols : Int32) (rows : Int32) (v2 : Int32) (v3 : Int32) (s0 : Int32) : Option (Int32) :=
  if v2 = (cols - 1) then (
    if v3 = 0 then (
      C_sides_j57 rows v3 (s0 ||| 2) 4)
    else (
      C_sides_j57 rows v3 (s0 ||| 2) 0))
  else (
    if v3 = 0 then (
      C_sides_j57 rows v3 (s0 ||| 0) 4)
    else (
      C_sides_j57 rows v3 (s0 ||| 0) 0))
def C_sides (cols : Int32) (rows : Int32) (v1 : Int32) : Option (Int32) :=
  (irm v1 cols).bind fun z8 =>
  (idv v1 cols).bind fun z18 =>
  if z8 = 0 then (
    C_sides_j29 cols rows z8 z18 1)
  else (
    C_sides_j29 cols rows z8 z18 0)
def C_bondsOf_6_j128 (v1 : Int32) (v2 : Int32) (v5 : Int32) (s0 : Int32) : Option ((Int32 × Int32) ⊕ (Int32)) :=
  some (.inl ((s0 + 0), (v5 + 1)))
def C_bondsOf_6_j80 (n4 : Nat) (vl : (Nat → Nat)) (v1 : Int32) (v2 : Int32) (v4 : Int32) (v5 : Int32) (v7 : Int32) (s0 : Int32) : Option ((Int32 × Int32) ⊕ (Int32)) :=
  if v2 = 0 then (
    if v7 = s0 then (
      C_bondsOf_6_j128 v1 v2 v5 v4)
    else (
      some (.inl ((v4 + 1), (v5 + 1)))))
  else (
    if v7 = 0 then (
      C_bondsOf_6_j128 v1 v2 v5 v4)
    else (
      if s0 = 0 then (
        C_bondsOf_6_j128 v1 v2 v5 v4)
      else (
        (aldN vl n4 v5).bind fun z107 =>
        (eqV z107 1).bind fun z111 =>
        if z111 = true then (
          C_bondsOf_6_j128 v1 v2 v5 v4)
        else (
          some (.inl ((v4 + 1), (v5 + 1)))))))
def C_bondsOf_6_j54 (cols : Int32) (rows : Int32) (n : Nat) (n4 : Nat) (vl : (Nat → Nat)) (clu : (Nat → Int32)) (v1 : Int32) (v2 : Int32) (v4 : Int32) (v5 : Int32) (v6 : Int32) (s0 : Int32) : Option ((Int32 × Int32) ⊕ (Int32)) :=
  (irm v5 4).bind fun z66 =>
  (L_second cols rows v6 z66).bind fun z67 =>
  (ald clu n z67).bind fun z70 =>
  if z70 = v1 then (
    C_bondsOf_6_j80 n4 vl v1 v2 v4 v5 s0 1)
  else (
    C_bondsOf_6_j80 n4 vl v1 v2 v4 v5 s0 0)
def C_bondsOf_6 (v1 : Int32) (v2 : Int32) (cols : Int32) (rows : Int32) (kd : Nat) (n : Nat) (n4 : Nat) (vl : (Nat → Nat)) (clu : (Nat → Int32)) (v4 : Int32) (v5 : Int32) : Option ((Int32 × Int32) ⊕ (Int32)) :=
  if (nI n4) ≤ v5 then (
    some (.inr v4))
  else (
    (idv v5 4).bind fun z22 =>
    (irm v5 4).bind fun z34 =>
    (L_isBond cols rows kd n z22 z34).bind fun z35 =>
    if z35 = 0 then (
      some (.inl (v4, (v5 + 1))))
    else (
      (ald clu n z22).bind fun z44 =>
      if z44 = v1 then (
        C_bondsOf_6_j54 cols rows n n4 vl clu v1 v2 v4 v5 z22 1)
      else (
        C_bondsOf_6_j54 cols rows n n4 vl clu v1 v2 v4 v5 z22 0)))
def C_bondsOf (cols : Int32) (rows : Int32) (kd : Nat) (n : Nat) (n4 : Nat) (vl : (Nat → Nat)) (clu : (Nat → Int32)) (v1 : Int32) (v2 : Int32) : Option (Int32) :=
  (loopN (fun x => C_bondsOf_6 v1 v2 cols rows kd n n4 vl clu x.1 x.2) FU (0, 0)).bind fun z6 =>
  some z6
def C_cell (cols : Int32) (rows : Int32) (thr : Int32) (kd : Nat) (n : Nat) (n4 : Nat) (vl : (Nat → Nat)) (gr : (Nat → Int32)) (so : (Nat → Int32)) (dy : (Nat → Int32)) (cg : (Nat → Int32)) (v1 : Int32) (v2 : Int32) : Option (Int32) :=
  (L_isCell n v1).bind fun z5 =>
  if z5 = 0 then (
    some (-1))
  else (
    if v2 = 0 then (
      (ald gr n v1).bind fun z64 =>
      some z64)
    else (
      if v2 = 1 then (
        (L_isOpen thr n gr v1).bind fun z71 =>
        if z71 = 0 then (
          some 0)
        else (
          some 1))
      else (
        if v2 = 2 then (
          (ald so n v1).bind fun z91 =>
          some z91)
        else (
          if v2 = 3 then (
            (ald dy n v1).bind fun z101 =>
            some z101)
          else (
            if v2 = 4 then (
              (ald cg n v1).bind fun z111 =>
              if z111 = 0 then (
                some 0)
              else (
                some 1))
            else (
              if v2 = 5 then (
                (L_clusters cols rows kd n n4 vl gr thr).bind fun z132 =>
                (ald z132 n v1).bind fun z136 =>
                some z136)
              else (
                if v2 = 6 then (
                  (L_bondsAt cols rows kd v1).bind fun z143 =>
                  some z143)
                else (
                  some (-1)))))))))
def C_cluster_57_j84 (cols : Int32) (rows : Int32) (n : Nat) (gr : (Nat → Int32)) (v1 : Int32) (v2 : Int32) (v5 : Int32) (v6 : Int32) (v7 : Int32) (v8 : Int32) (s0 : Int32) : Option ((Int32 × Int32 × Int32 × Int32 × Int32) ⊕ (Int32 × Int32 × Int32 × Int32)) :=
  (ald gr n v8).bind fun z100 =>
  (C_sides cols rows v8).bind fun z109 =>
  some (.inl (s0, (v5 + 1), (v6 + z100), (v7 ||| z109), (v8 + 1)))
def C_cluster_57 (v1 : Int32) (v2 : Int32) (cols : Int32) (rows : Int32) (n : Nat) (gr : (Nat → Int32)) (z26 : (Nat → Int32)) (v4 : Int32) (v5 : Int32) (v6 : Int32) (v7 : Int32) (v8 : Int32) : Option ((Int32 × Int32 × Int32 × Int32 × Int32) ⊕ (Int32 × Int32 × Int32 × Int32)) :=
  if (nI n) ≤ v8 then (
    some (.inr (v4, v5, v6, v7)))
  else (
    (ald z26 n v8).bind fun z67 =>
    if z67 = v1 then (
      if v5 = 0 then (
        C_cluster_57_j84 cols rows n gr v1 v2 v5 v6 v7 v8 v8)
      else (
        C_cluster_57_j84 cols rows n gr v1 v2 v5 v6 v7 v8 v4))
    else (
      some (.inl (v4, v5, v6, v7, (v8 + 1)))))
def C_cluster (cols : Int32) (rows : Int32) (thr : Int32) (kd : Nat) (n : Nat) (n4 : Nat) (vl : (Nat → Nat)) (gr : (Nat → Int32)) (v1 : Int32) (v2 : Int32) : Option (Int32) :=
  if v1 < 0 then (
    some (-1))
  else (
    (C_isBetween v2 0 5).bind fun z7 =>
    if z7 = 0 then (
      some (-1))
    else (
      (L_clusters cols rows kd n n4 vl gr thr).bind fun z26 =>
      (C_countOf n z26).bind fun z32 =>
      if v1 < z32 then (
        (loopN (fun x => C_cluster_57 v1 v2 cols rows n gr z26 x.1 x.2.1 x.2.2.1 x.2.2.2.1 x.2.2.2.2) FU ((-9), 0, 0, 0, 0)).bind fun z57 =>
        if v2 = 0 then (
          some z57.1)
        else (
          if v2 = 1 then (
            some z57.2.1)
          else (
            if v2 = 2 then (
              some z57.2.2.1)
            else (
              if v2 = 3 then (
                some z57.2.2.2)
              else (
                if v2 = 5 then (
                  (C_bondsOf cols rows kd n n4 vl z26 v1 1).bind fun z177 =>
                  some z177)
                else (
                  (C_bondsOf cols rows kd n n4 vl z26 v1 0).bind fun z177 =>
                  some z177))))))
      else (
        some (-9))))
def C_ledger_131 (v9 : Int32) (n : Nat) (kn56 : (Nat → Int32)) (v6 : Int32) (v7 : Int32) (v10 : Int32) : Option ((Int32 × Int32 × Int32) ⊕ (Int32 × Int32)) :=
  if v9 ≤ v10 then (
    some (.inr (v6, v7)))
  else (
    (ald kn56 n v10).bind fun z142 =>
    some (.inl ((if v6 < z142 then z142 else v6), (v7 + (z142 * z142)), (v10 + 1))))
def C_ledger_74 (v7 : Int32) (n : Nat) (z50 : (Nat → Int32)) (v5 : Int32) (v8 : Int32) (kn56 : (Nat → Int32)) : Option ((Int32 × Int32 × (Nat → Int32)) ⊕ (Int32 × (Nat → Int32))) :=
  if v7 ≤ v8 then (
    some (.inr (v5, kn56)))
  else (
    (ald z50 n v8).bind fun z85 =>
    if z85 = (-9) then (
      some (.inl (v5, (v8 + 1), kn56)))
    else (
      (ald kn56 n z85).bind fun z100 =>
      (ast kn56 n z85 (z100 + 1)).bind fun z103 =>
      some (.inl ((v5 + 1), (v8 + 1), z103))))
def C_ledger (cols : Int32) (rows : Int32) (kd : Nat) (n : Nat) (n4 : Nat) (vl : (Nat → Nat)) (gr : (Nat → Int32)) (v1 : Int32) (v2 : Int32) : Option (Int32) :=
  (C_isBetween v1 0 100).bind fun z4 =>
  if z4 = 0 then (
    some (-1))
  else (
    (C_isBetween v2 0 4).bind fun z13 =>
    if z13 = 0 then (
      some (-1))
    else (
      if v2 = 4 then (
        (L_spans cols rows kd n n4 vl gr v1 (-9)).bind fun z33 =>
        if z33 = 0 then (
          some 0)
        else (
          some 1))
      else (
        (L_clusters cols rows kd n n4 vl gr v1).bind fun z50 =>
        (lenN n 80).bind fun z56 =>
        (loopN (fun x => C_ledger_74 (nI n) n z50 x.1 x.2.1 x.2.2) FU (0, 0, (fun _ => 0))).bind fun z74 =>
        (loopN (fun x => C_ledger_131 (nI n) n z74.2 x.1 x.2.1 x.2.2) FU (0, 0, 0)).bind fun z131 =>
        if v2 = 0 then (
          some z74.1)
        else (
          if v2 = 1 then (
            (C_countOf n z50).bind fun z185 =>
            some z185)
          else (
            if v2 = 2 then (
              some z131.1)
            else (
              some z131.2))))))
def C_threshold (cols : Int32) (rows : Int32) (kd : Nat) (n : Nat) (n4 : Nat) (vl : (Nat → Nat)) (gr : (Nat → Int32)) : Option (Int32) :=
  (L_spanningThreshold cols rows kd n n4 vl gr).bind fun z4 =>
  some z4
def C_arrival_31 (v1 : Int32) (v2 : Int32) (z24 : Int32 × Int32 × Nat × Int32 × Int32 × Int32 × Int32 × Nat × (Nat → Int32) × Nat × (Nat → Nat) × (Nat → Int32) × (Nat → Int32) × (Nat → Int32)) (v4 : Int32) (f5_c24_6 : Int32) (kc24_10 : (Nat → Int32)) (kc24_11 : (Nat → Int32)) : Option ((Int32 × Int32 × (Nat → Int32) × (Nat → Int32)) ⊕ (Int32 × Int32 × (Nat → Int32) × (Nat → Int32))) :=
  (ald kc24_10 z24.2.2.2.2.2.2.2.1 v2).bind fun z36 =>
  if ((z36 >>> (v1 &&& 31)) &&& 1) = 0 then (
    if 60 ≤ v4 then (
      some (.inr (v4, f5_c24_6, kc24_10, kc24_11)))
    else (
      (L_step z24.1 z24.2.1 z24.2.2.2.1 z24.2.2.2.2.1 f5_c24_6 z24.2.2.2.2.2.2.1 z24.2.2.1 z24.2.2.2.2.2.2.2.1 z24.2.2.2.2.2.2.2.2.2.1 z24.2.2.2.2.2.2.2.2.2.2.1 z24.2.2.2.2.2.2.2.2.1 z24.2.2.2.2.2.2.2.2.2.2.2.1 kc24_10 kc24_11).bind fun z52 =>
      some (.inl ((v4 + 1), z52.2.1, z52.2.2.1, z52.2.2.2))))
  else (
    some (.inr (v4, f5_c24_6, kc24_10, kc24_11)))
def C_arrival (cols : Int32) (rows : Int32) (thr : Int32) (bt : Int32) (tm : Int32) (rea : Int32) (kd : Nat) (n : Nat) (n4 : Nat) (vl : (Nat → Nat)) (gr : (Nat → Int32)) (so : (Nat → Int32)) (dy : (Nat → Int32)) (cg : (Nat → Int32)) (v1 : Int32) (v2 : Int32) : Option (Int32) :=
  (C_isDye v1).bind fun z1 =>
  if z1 = 0 then (
    some (-1))
  else (
    (L_isCell n v2).bind fun z12 =>
    if z12 = 0 then (
      some (-1))
    else (
      (L_copy cols rows thr bt tm rea kd n n4 vl gr so dy cg).bind fun z24 =>
      (loopN (fun x => C_arrival_31 v1 v2 z24 x.1 x.2.1 x.2.2.1 x.2.2.2) 61 (0, z24.2.2.2.2.2.1, z24.2.2.2.2.2.2.2.2.2.2.2.2.1, z24.2.2.2.2.2.2.2.2.2.2.2.2.2)).bind fun z31 =>
      (ald z31.2.2.1 z24.2.2.2.2.2.2.2.1 v2).bind fun z68 =>
      if ((z68 >>> (v1 &&& 31)) &&& 1) = 1 then (
        some z31.1)
      else (
        some (-9))))
def C_probe_14 (v1 : Int32) (cols : Int32) (rows : Int32) (kd : Nat) (n : Nat) (n4 : Nat) (vl : (Nat → Nat)) (gr : (Nat → Int32)) (v2 : Int32) (v3 : Int32) (v4 : Int32) : Option ((Int32 × Int32 × Int32) ⊕ ((Unit) ⊕ (Int32))) :=
  if v3 ≤ v2 then (
    some (.inr (.inl ())))
  else (
    (idv (v2 + v3) 2).bind fun z23 =>
    if v4 = v1 then (
      some (.inr (.inr z23)))
    else (
      (L_spans cols rows kd n n4 vl gr z23 (-9)).bind fun z43 =>
      if z43 = 0 then (
        some (.inl ((z23 + 1), v3, (v4 + 1))))
      else (
        some (.inl (v2, z23, (v4 + 1))))))
def C_probe (cols : Int32) (rows : Int32) (kd : Nat) (n : Nat) (n4 : Nat) (vl : (Nat → Nat)) (gr : (Nat → Int32)) (v1 : Int32) : Option (Int32) :=
  if 0 ≤ v1 then (
    (loopN (fun x => C_probe_14 v1 cols rows kd n n4 vl gr x.1 x.2.1 x.2.2) 8 (0, 100, 0)).bind fun z14 =>
    match z14 with
    | (.inl y14) =>
        some (-9)
    | (.inr y14) =>
        some y14)
  else (
    some (-1))
def C_lambda_thresholdBetween_0 (cols : Int32) (rows : Int32) (kd : Nat) (n : Nat) (n4 : Nat) (vl : (Nat → Nat)) (gr : (Nat → Int32)) (v1 : Int32) (v2 : Int32) (v3 : Int32) : Option (Int32) :=
  (L_hasWay cols rows kd n n4 vl gr v1 v2 v3).bind fun z7 =>
  (zck z7).bind fun z10 =>
  some z10
def C_thresholdBetween (cols : Int32) (rows : Int32) (kd : Nat) (n : Nat) (n4 : Nat) (vl : (Nat → Nat)) (gr : (Nat → Int32)) (v1 : Int32) (v2 : Int32) : Option (Int32) :=
  (L_isCell n v1).bind fun z5 =>
  if z5 = 0 then (
    some (-1))
  else (
    (L_isCell n v2).bind fun z16 =>
    if z16 = 0 then (
      some (-1))
    else (
      (L_smallest (fun x => C_lambda_thresholdBetween_0 cols rows kd n n4 vl gr v1 v2 x)).bind fun z32 =>
      some z32))
def C_pivots_26 (cols : Int32) (rows : Int32) (thr : Int32) (kd : Nat) (n : Nat) (n4 : Nat) (vl : (Nat → Nat)) (gr : (Nat → Int32)) (v1 : Int32) (v2 : Int32) : Option ((Int32 × Int32) ⊕ (Int32)) :=
  if (nI n) ≤ v2 then (
    some (.inr v1))
  else (
    (L_isOpen thr n gr v2).bind fun z43 =>
    if z43 = 0 then (
      some (.inl ((v1 + 0), (v2 + 1))))
    else (
      (L_spans cols rows kd n n4 vl gr thr v2).bind fun z61 =>
      if z61 = 0 then (
        some (.inl ((v1 + 1), (v2 + 1))))
      else (
        some (.inl ((v1 + 0), (v2 + 1))))))
def C_pivots (cols : Int32) (rows : Int32) (thr : Int32) (kd : Nat) (n : Nat) (n4 : Nat) (vl : (Nat → Nat)) (gr : (Nat → Int32)) : Option (Int32) :=
  (L_spans cols rows kd n n4 vl gr thr (-9)).bind fun z13 =>
  if z13 = 0 then (
    some (-2))
  else (
    (loopN (fun x => C_pivots_26 cols rows thr kd n n4 vl gr x.1 x.2) 81 (0, 0)).bind fun z26 =>
    some z26)
