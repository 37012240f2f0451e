set_option maxRecDepth 100000
def L_init_77 (v3 : Int32) (z38 : Nat) (v4 : Int32) (kn38 : (Nat → Int32)) : Option ((Int32 × (Nat → Int32)) ⊕ ((Nat → Int32))) :=
  if v3 ≤ v4 then (
    some (.inr kn38))
  else (
    (ast kn38 z38 v4 50).bind fun z91 =>
    some (.inl ((v4 + 1), z91)))
def L_init (v1 : Int32) (v2 : Int32) : Option (Nat × Int32 × Int32 × Int32 × Int32 × Nat × (Nat → Int32) × Nat × (Nat → Nat) × (Nat → Int32) × (Nat → Int32) × (Nat → Int32)) :=
  (lenF (v1 * v2) 80).bind fun z38 =>
  (lenF ((4 : Int32) * (v1 * v2)) 320).bind fun z47 =>
  (loopN (fun x => L_init_77 (v1 * v2) z38 x.1 x.2) FU (0, (fun _ => 0))).bind fun z77 =>
  (L_freeValves z47 (fun _ => 5)).bind fun z99 =>
  some (0, 50, 1, v1, v2, z38, z77, z47, z99, (fun _ => 0), (fun _ => 0), (fun _ => 0))
def L_resized (thr : Int32) (bt : Int32) (rea : Int32) (kd : Nat) (v1 : Int32) (v2 : Int32) : Option (Int32 × Int32 × Nat × Int32 × Int32 × Int32 × Int32 × Nat × (Nat → Int32) × Nat × (Nat → Nat) × (Nat → Int32) × (Nat → Int32) × (Nat → Int32)) :=
  (L_init v1 v2).bind fun z6 =>
  some (z6.2.2.2.1, z6.2.2.2.2.1, kd, thr, bt, 0, rea, z6.2.2.2.2.2.1, z6.2.2.2.2.2.2.1, z6.2.2.2.2.2.2.2.1, z6.2.2.2.2.2.2.2.2.1, z6.2.2.2.2.2.2.2.2.2.1, z6.2.2.2.2.2.2.2.2.2.2.1, z6.2.2.2.2.2.2.2.2.2.2.2)
def L_copy (cols : Int32) (rows : Int32) (thr : Int32) (bt : Int32) (tm : Int32) (rea : Int32) (kd : Nat) (n : Nat) (n4 : Nat) (vl : (Nat → Nat)) (gr : (Nat → Int32)) (so : (Nat → Int32)) (dy : (Nat → Int32)) (cg : (Nat → Int32)) : Option (Int32 × Int32 × Nat × Int32 × Int32 × Int32 × Int32 × Nat × (Nat → Int32) × Nat × (Nat → Nat) × (Nat → Int32) × (Nat → Int32) × (Nat → Int32)) :=
  (L_resized thr bt rea kd cols rows).bind fun z9 =>
  (cpyF gr n 0 z9.2.2.2.2.2.2.2.2.1 z9.2.2.2.2.2.2.2.1 0 (nI n)).bind fun z36 =>
  (cpyV vl n4 0 z9.2.2.2.2.2.2.2.2.2.1 0 (nI n4)).bind fun z54 =>
  (cpyF so n 0 z9.2.2.2.2.2.2.2.2.2.2.2.1 z9.2.2.2.2.2.2.2.1 0 (nI n)).bind fun z72 =>
  (cpyF dy n 0 z9.2.2.2.2.2.2.2.2.2.2.2.2.1 z9.2.2.2.2.2.2.2.1 0 (nI n)).bind fun z90 =>
  (cpyZ cg n 0 z9.2.2.2.2.2.2.2.2.2.2.2.2.2 z9.2.2.2.2.2.2.2.1 0 (nI n)).bind fun z108 =>
  some (z9.1, z9.2.1, z9.2.2.1, z9.2.2.2.1, z9.2.2.2.2.1, tm, z9.2.2.2.2.2.2.1, z9.2.2.2.2.2.2.2.1, z36, z9.2.2.2.2.2.2.2.2.2.1, z54, z72, z90, z108)
def L_lambda_mark_8 (v0 : Nat) : Option (Int32) :=
  (eqV v0 1).bind fun z4 =>
  if z4 = true then (
    some 0)
  else (
    some 1)
def L_lambda_reached_0 (v0 : Nat) (v1 : Int32) : Option (Int32) :=
  (letsF v0 v1 1).bind fun z3 =>
  (zck z3).bind fun z6 =>
  some z6
def L_lambda_hasWay_3 (v0 : Int32) (v1 : Int32) : Option (Int32) :=
  if v1 = v0 then (
    some 1)
  else (
    some 0)
def L_flood_14 (n : Nat) (mk : (Nat → Int32)) (v5 : Int32) (v6 : Int32) (kn4 : (Nat → Int32)) : Option ((Int32 × Int32 × (Nat → Int32)) ⊕ (Int32 × (Nat → Int32))) :=
  if (nI n) ≤ v6 then (
    some (.inr (v5, kn4)))
  else (
    (ald mk n v6).bind fun z26 =>
    if z26 = 0 then (
      some (.inl (v5, (v6 + 1), kn4)))
    else (
      (ast kn4 n v5 v6).bind fun z36 =>
      some (.inl ((v5 + 1), (v6 + 1), z36))))
def L_flood_59_j149 (cols : Int32) (rows : Int32) (n : Nat) (n4 : Nat) (vl : (Nat → Nat)) (tst : (Int32 → Option Int32)) (tsv : (Nat → Int32 → Option Int32)) (v5 : Int32) (v6 : Int32) (v7 : Int32) (kn4 : (Nat → Int32)) (mk : (Nat → Int32)) : Option ((Int32 × Int32 × (Nat → Int32) × (Nat → Int32)) ⊕ (Int32 × (Nat → Int32) × (Nat → Int32))) :=
  (ald kn4 n v6).bind fun z154 =>
  (L_first cols rows z154 v7).bind fun z157 =>
  if z157 = (-9) then (
    some (.inl (v5, (v7 + 1), mk, kn4)))
  else (
    (ald mk n z157).bind fun z172 =>
    if z172 = 0 then (
      (tz (tst z157)).bind fun z179 =>
      if z179 = 0 then (
        some (.inl (v5, (v7 + 1), mk, kn4)))
      else (
        (aldN vl n4 (((4 : Int32) * z157) + v7)).bind fun z199 =>
        (tz (tsv z199 0)).bind fun z201 =>
        if z201 = 0 then (
          some (.inl (v5, (v7 + 1), mk, kn4)))
        else (
          (zst mk n z157 1).bind fun z213 =>
          (ast kn4 n v5 z157).bind fun z220 =>
          some (.inl ((v5 + 1), (v7 + 1), z213, z220)))))
    else (
      some (.inl (v5, (v7 + 1), mk, kn4))))
def L_flood_59 (v6 : Int32) (cols : Int32) (rows : Int32) (kd : Nat) (n : Nat) (n4 : Nat) (vl : (Nat → Nat)) (tst : (Int32 → Option Int32)) (tsv : (Nat → Int32 → Option Int32)) (v5 : Int32) (v7 : Int32) (mk : (Nat → Int32)) (kn4 : (Nat → Int32)) : Option ((Int32 × Int32 × (Nat → Int32) × (Nat → Int32)) ⊕ (Int32 × (Nat → Int32) × (Nat → Int32))) :=
  (dirF kd).bind fun z65 =>
  if z65 ≤ v7 then (
    some (.inr (v5, mk, kn4)))
  else (
    (ald kn4 n v6).bind fun z76 =>
    (L_second cols rows z76 v7).bind fun z79 =>
    if z79 = (-9) then (
      L_flood_59_j149 cols rows n n4 vl tst tsv v5 v6 v7 kn4 mk)
    else (
      (ald mk n z79).bind fun z94 =>
      if z94 = 0 then (
        (tz (tst z79)).bind fun z101 =>
        if z101 = 0 then (
          L_flood_59_j149 cols rows n n4 vl tst tsv v5 v6 v7 kn4 mk)
        else (
          (ald kn4 n v6).bind fun z119 =>
          (aldN vl n4 (((4 : Int32) * z119) + v7)).bind fun z124 =>
          (tz (tsv z124 1)).bind fun z126 =>
          if z126 = 0 then (
            L_flood_59_j149 cols rows n n4 vl tst tsv v5 v6 v7 kn4 mk)
          else (
            (zst mk n z79 1).bind fun z138 =>
            (ast kn4 n v5 z79).bind fun z145 =>
            L_flood_59_j149 cols rows n n4 vl tst tsv (v5 + 1) v6 v7 z145 z138)))
      else (
        L_flood_59_j149 cols rows n n4 vl tst tsv v5 v6 v7 kn4 mk)))
def L_flood_49 (cols : Int32) (rows : Int32) (kd : Nat) (n : Nat) (n4 : Nat) (vl : (Nat → Nat)) (tst : (Int32 → Option Int32)) (tsv : (Nat → Int32 → Option Int32)) (v5 : Int32) (v6 : Int32) (mk : (Nat → Int32)) (kn4 : (Nat → Int32)) : Option ((Int32 × Int32 × (Nat → Int32) × (Nat → Int32)) ⊕ ((Nat → Int32) × (Nat → Int32))) :=
  if v5 ≤ v6 then (
    some (.inr (mk, kn4)))
  else (
    (loopN (fun x => L_flood_59 v6 cols rows kd n n4 vl tst tsv x.1 x.2.1 x.2.2.1 x.2.2.2) FU (v5, 0, mk, kn4)).bind fun z59 =>
    some (.inl (z59.1, (v6 + 1), z59.2.1, z59.2.2)))
def L_flood (cols : Int32) (rows : Int32) (kd : Nat) (n : Nat) (n4 : Nat) (vl : (Nat → Nat)) (mk : (Nat → Int32)) (tst : (Int32 → Option Int32)) (tsv : (Nat → Int32 → Option Int32)) : Option ((Nat → Int32)) :=
  (lenN n 80).bind fun z4 =>
  (loopN (fun x => L_flood_14 n mk x.1 x.2.1 x.2.2) FU (0, 0, (fun _ => 0))).bind fun z14 =>
  (loopN (fun x => L_flood_49 cols rows kd n n4 vl tst tsv x.1 x.2.1 x.2.2.1 x.2.2.2) FU (z14.1, 0, mk, z14.2)).bind fun z49 =>
  some z49.1
def L_reached_10 (n : Nat) (tst : (Int32 → Option Int32)) (tsa : (Int32 → Option Int32)) (v4 : Int32) (kn4 : (Nat → Int32)) : Option ((Int32 × (Nat → Int32)) ⊕ ((Nat → Int32))) :=
  if (nI n) ≤ v4 then (
    some (.inr kn4))
  else (
    (tz (tst v4)).bind fun z25 =>
    if z25 = 0 then (
      (zst kn4 n v4 0).bind fun z49 =>
      some (.inl ((v4 + 1), z49)))
    else (
      (tz (tsa v4)).bind fun z36 =>
      if z36 = 0 then (
        (zst kn4 n v4 0).bind fun z49 =>
        some (.inl ((v4 + 1), z49)))
      else (
        (zst kn4 n v4 1).bind fun z49 =>
        some (.inl ((v4 + 1), z49)))))
def L_reached (cols : Int32) (rows : Int32) (kd : Nat) (n : Nat) (n4 : Nat) (vl : (Nat → Nat)) (tst : (Int32 → Option Int32)) (tsa : (Int32 → Option Int32)) : Option ((Nat → Int32)) :=
  (lenN n 80).bind fun z4 =>
  (loopN (fun x => L_reached_10 n tst tsa x.1 x.2) FU (0, (fun _ => 0))).bind fun z10 =>
  (L_flood cols rows kd n n4 vl z10 tst (fun x y => L_lambda_reached_0 x y)).bind fun z64 =>
  some z64
def L_spans_30 (cols : Int32) (n : Nat) (z15 : (Nat → Int32)) (v4 : Int32) (v5 : Int32) : Option ((Int32 × Int32) ⊕ (Int32)) :=
  if (nI n) ≤ v5 then (
    some (.inr v4))
  else (
    (ald z15 n v5).bind fun z44 =>
    some (.inl ((v4 ||| z44), (v5 + cols))))
def L_spans (cols : Int32) (rows : Int32) (kd : Nat) (n : Nat) (n4 : Nat) (vl : (Nat → Nat)) (gr : (Nat → Int32)) (v1 : Int32) (v2 : Int32) : Option (Int32) :=
  (L_reached cols rows kd n n4 vl (fun x => L_lambda_spans_2 n gr v1 v2 x) (fun x => L_lambda_spans_1 cols x)).bind fun z15 =>
  (loopN (fun x => L_spans_30 cols n z15 x.1 x.2) FU (0, (cols - 1))).bind fun z30 =>
  (zck z30).bind fun z62 =>
  some z62
def L_hasWay (cols : Int32) (rows : Int32) (kd : Nat) (n : Nat) (n4 : Nat) (vl : (Nat → Nat)) (gr : (Nat → Int32)) (v1 : Int32) (v2 : Int32) (v3 : Int32) : Option (Int32) :=
  (L_reached cols rows kd n n4 vl (fun x => L_lambda_hasWay_4 n gr v3 x) (fun x => L_lambda_hasWay_3 v1 x)).bind fun z14 =>
  (ald z14 n v2).bind fun z18 =>
  (zck z18).bind fun z19 =>
  some z19
def L_reach_27 (v4 : Int32) (n : Nat) (z16 : (Nat → Int32)) (v2 : Int32) (v5 : Int32) : Option ((Int32 × Int32) ⊕ (Int32)) :=
  if v4 ≤ v5 then (
    some (.inr v2))
  else (
    (ald z16 n v5).bind fun z37 =>
    if z37 = 0 then (
      some (.inl ((v2 + 0), (v5 + 1))))
    else (
      some (.inl ((v2 + 1), (v5 + 1)))))
def L_reach (cols : Int32) (rows : Int32) (thr : Int32) (kd : Nat) (n : Nat) (n4 : Nat) (vl : (Nat → Nat)) (gr : (Nat → Int32)) (so : (Nat → Int32)) (v1 : Int32) : Option (Int32) :=
  (L_reached cols rows kd n n4 vl (fun x => L_lambda_reach_6 thr n gr x) (fun x => L_lambda_reach_5 n so v1 x)).bind fun z16 =>
  (loopN (fun x => L_reach_27 (nI n) n z16 x.1 x.2) FU (0, 0)).bind fun z27 =>
  some z27
def L_mark_35 (v3 : Int32) (n : Nat) (kn4 : (Nat → Int32)) (v6 : Int32) (clu : (Nat → Int32)) : Option ((Int32 × (Nat → Int32)) ⊕ ((Nat → Int32))) :=
  if (nI n) ≤ v6 then (
    some (.inr clu))
  else (
    (ald kn4 n v6).bind fun z51 =>
    if z51 = 0 then (
      (ald clu n v6).bind fun z62 =>
      (ast clu n v6 z62).bind fun z63 =>
      some (.inl ((v6 + 1), z63)))
    else (
      (ast clu n v6 v3).bind fun z63 =>
      some (.inl ((v6 + 1), z63))))
def L_mark (cols : Int32) (rows : Int32) (kd : Nat) (n : Nat) (n4 : Nat) (vl : (Nat → Nat)) (gr : (Nat → Int32)) (clu : (Nat → Int32)) (v2 : Int32) (v3 : Int32) (v4 : Int32) : Option ((Nat → Int32)) :=
  (lenN n 80).bind fun z4 =>
  (zst (fun _ => 0) n v2 1).bind fun z12 =>
  (L_flood cols rows kd n n4 vl z12 (fun x => L_lambda_mark_7 n gr v4 x) (fun x y => L_lambda_mark_8 x)).bind fun z29 =>
  (loopN (fun x => L_mark_35 v3 n z29 x.1 x.2) FU (0, clu)).bind fun z35 =>
  some z35
def L_clusters_9 (n : Nat) (v3 : Int32) (kn4 : (Nat → Int32)) : Option ((Int32 × (Nat → Int32)) ⊕ ((Nat → Int32))) :=
  if (nI n) ≤ v3 then (
    some (.inr kn4))
  else (
    (ast kn4 n v3 (-9)).bind fun z21 =>
    some (.inl ((v3 + 1), z21)))
def L_clusters_33 (v1 : Int32) (cols : Int32) (rows : Int32) (kd : Nat) (n : Nat) (n4 : Nat) (vl : (Nat → Nat)) (gr : (Nat → Int32)) (v3 : Int32) (v4 : Int32) (kn4 : (Nat → Int32)) : Option ((Int32 × Int32 × (Nat → Int32)) ⊕ ((Nat → Int32))) :=
  if (nI n) ≤ v4 then (
    some (.inr kn4))
  else (
    (ald gr n v4).bind fun z48 =>
    if v1 ≤ z48 then (
      some (.inl (v3, (v4 + 1), kn4)))
    else (
      (ald kn4 n v4).bind fun z56 =>
      if z56 = (-9) then (
        (L_mark cols rows kd n n4 vl gr kn4 v4 v3 v1).bind fun z68 =>
        some (.inl ((v3 + 1), (v4 + 1), z68)))
      else (
        some (.inl (v3, (v4 + 1), kn4)))))
def L_clusters (cols : Int32) (rows : Int32) (kd : Nat) (n : Nat) (n4 : Nat) (vl : (Nat → Nat)) (gr : (Nat → Int32)) (v1 : Int32) : Option ((Nat → Int32)) :=
  (lenN n 80).bind fun z4 =>
  (loopN (fun x => L_clusters_9 n x.1 x.2) FU (0, (fun _ => 0))).bind fun z9 =>
  (loopN (fun x => L_clusters_33 v1 cols rows kd n n4 vl gr x.1 x.2.1 x.2.2) 81 (0, 0, z9)).bind fun z33 =>
  some z33
def L_step_115 (rea : Int32) (n : Nat) (kn24 : (Nat → Int32)) (v4 : Int32) (cg : (Nat → Int32)) : Option ((Int32 × (Nat → Int32)) ⊕ ((Nat → Int32))) :=
  if (nI n) ≤ v4 then (
    some (.inr cg))
  else (
    (ald cg n v4).bind fun z131 =>
    (ald kn24 n v4).bind fun z139 =>
    (L_reacts rea z139).bind fun z140 =>
    (zst cg n v4 (z131 ||| z140)).bind fun z144 =>
    some (.inl ((v4 + 1), z144)))
def L_step_32_j79 (n : Nat) (dy : (Nat → Int32)) (v1 : Int32) (v3 : Int32) (v4 : Int32) (s1 : Int32) (s2 : Int32) (s3 : Int32) (kn24 : (Nat → Int32)) (cg : (Nat → Int32)) (tm : Int32) : Option ((Int32 × Int32 × (Nat → Int32)) ⊕ (Int32 × (Nat → Int32))) :=
  (ast kn24 n s1 (s2 ||| s3)).bind fun z80 =>
  (ald z80 n v4).bind fun z85 =>
  (ald dy n v4).bind fun z92 =>
  (J9_bitCount (z85 &&& (z92 ^^^ (-1)))).bind fun z96 =>
  some (.inl ((v3 + z96), (v4 + 1), z80))
def L_step_32 (v1 : Int32) (cols : Int32) (rows : Int32) (thr : Int32) (tm : Int32) (kd : Nat) (n : Nat) (n4 : Nat) (vl : (Nat → Nat)) (gr : (Nat → Int32)) (so : (Nat → Int32)) (dy : (Nat → Int32)) (cg : (Nat → Int32)) (v3 : Int32) (v4 : Int32) (kn24 : (Nat → Int32)) : Option ((Int32 × Int32 × (Nat → Int32)) ⊕ (Int32 × (Nat → Int32))) :=
  if (nI n) ≤ v4 then (
    some (.inr (v3, kn24)))
  else (
    (ald dy n v4).bind fun z50 =>
    (L_isMoving thr n gr cg v4).bind fun z54 =>
    if z54 = 0 then (
      L_step_32_j79 n dy v1 v3 v4 v4 z50 0 kn24 cg tm)
    else (
      (ald so n v4).bind fun z66 =>
      (L_coming cols rows thr kd n n4 vl gr dy cg v4 v1).bind fun z71 =>
      L_step_32_j79 n dy v1 v3 v4 v4 z50 (z66 ||| z71) kn24 cg tm))
def L_step_j19 (cols : Int32) (rows : Int32) (thr : Int32) (rea : Int32) (kd : Nat) (n : Nat) (n4 : Nat) (vl : (Nat → Nat)) (gr : (Nat → Int32)) (so : (Nat → Int32)) (dy : (Nat → Int32)) (s0 : Int32) (cg : (Nat → Int32)) (tm : Int32) : Option (Int32 × Int32 × (Nat → Int32) × (Nat → Int32)) :=
  (lenN n 80).bind fun z24 =>
  (loopN (fun x => L_step_32 s0 cols rows thr tm kd n n4 vl gr so dy cg x.1 x.2.1 x.2.2) FU (0, 0, (fun _ => 0))).bind fun z32 =>
  (loopN (fun x => L_step_115 rea n z32.2 x.1 x.2) FU (0, cg)).bind fun z115 =>
  some (z32.1, (tm + 1), z32.2, z115)
def L_step (cols : Int32) (rows : Int32) (thr : Int32) (bt : Int32) (tm : Int32) (rea : Int32) (kd : Nat) (n : Nat) (n4 : Nat) (vl : (Nat → Nat)) (gr : (Nat → Int32)) (so : (Nat → Int32)) (dy : (Nat → Int32)) (cg : (Nat → Int32)) : Option (Int32 × Int32 × (Nat → Int32) × (Nat → Int32)) :=
  (idv tm bt).bind fun z8 =>
  (irm z8 2).bind fun z10 =>
  if z10 = 0 then (
    L_step_j19 cols rows thr rea kd n n4 vl gr so dy 1 cg tm)
  else (
    L_step_j19 cols rows thr rea kd n n4 vl gr so dy 0 cg tm)
def L_lambda_spanningThreshold_9 (cols : Int32) (rows : Int32) (kd : Nat) (n : Nat) (n4 : Nat) (vl : (Nat → Nat)) (gr : (Nat → Int32)) (v1 : Int32) : Option (Int32) :=
  (L_spans cols rows kd n n4 vl gr v1 (-9)).bind fun z4 =>
  (zck z4).bind fun z7 =>
  some z7
def L_smallest_19 (tsh : (Int32 → Option Int32)) (v1 : Int32) (v2 : Int32) : Option ((Int32 × Int32) ⊕ (Int32)) :=
  if v2 ≤ v1 then (
    some (.inr v1))
  else (
    (idv (v1 + v2) 2).bind fun z28 =>
    (tz (tsh z28)).bind fun z32 =>
    if z32 = 0 then (
      if z32 = 0 then (
        some (.inl ((z28 + 1), v2)))
      else (
        some (.inl (v1, v2))))
    else (
      if z32 = 0 then (
        some (.inl ((z28 + 1), z28)))
      else (
        some (.inl (v1, z28)))))
def L_smallest (tsh : (Int32 → Option Int32)) : Option (Int32) :=
  (tz (tsh 100)).bind fun z3 =>
  if z3 = 0 then (
    some (-9))
  else (
    (loopN (fun x => L_smallest_19 tsh x.1 x.2) 8 (0, 100)).bind fun z19 =>
    some z19)
def L_spanningThreshold (cols : Int32) (rows : Int32) (kd : Nat) (n : Nat) (n4 : Nat) (vl : (Nat → Nat)) (gr : (Nat → Int32)) : Option (Int32) :=
  (L_smallest (fun x => L_lambda_spanningThreshold_9 cols rows kd n n4 vl gr x)).bind fun z6 =>
  some z6
