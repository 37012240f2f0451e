set_option maxRecDepth 100000
def P_take (nb : Nat) (byt : (Nat → Int32)) (cnt : Int32) (pp : Int32) (v1 : Int32) : Option (Int32 × Tok) :=
  if v1 = 0 then (
    none)
  else (
    (P_adv nb byt cnt pp).bind fun z20 =>
    some (z20.1, z20.2))
def P_take_x (tkt : Tok) (v1 : Int32) : Option Int32 := if v1 = 0 then some (tkSt tkt) else none
def P_number (nb : Nat) (byt : (Nat → Int32)) (cnt : Int32) (pp : Int32) (tkt : Tok) (v1 : Int32) (v2 : Int32) : Option (Int32 × Int32 × Tok) :=
  (C_isBetween (tkVal tkt) v1 v2).bind fun z12 =>
  (P_take nb byt cnt pp z12).bind fun z15 =>
  some ((tkVal tkt), z15.1, z15.2)
def P_number_x (nb : Nat) (byt : (Nat → Int32)) (cnt : Int32) (pp : Int32) (tkt : Tok) (v1 : Int32) (v2 : Int32) : Option (Int32) :=
  (C_isBetween (tkVal tkt) v1 v2).bind fun z12 =>
  orX (P_take nb byt cnt pp z12) (P_take_x tkt z12) fun z15 =>
  none
def P_word (nb : Nat) (byt : (Nat → Int32)) (cnt : Int32) (na : Nat) (sa : (Nat → Nat)) (pp : Int32) (tkt : Tok) : Option (Int32 × Int32 × Tok) :=
  (tkAm tkt na sa).bind fun z5 =>
  if z5 = (-9) then (
    (P_take nb byt cnt pp 0).bind fun z21 =>
    some (z5, z21.1, z21.2))
  else (
    (P_take nb byt cnt pp 1).bind fun z21 =>
    some (z5, z21.1, z21.2))
def P_word_x (nb : Nat) (byt : (Nat → Int32)) (cnt : Int32) (na : Nat) (sa : (Nat → Nat)) (pp : Int32) (tkt : Tok) : Option (Int32) :=
  (tkAm tkt na sa).bind fun z5 =>
  if z5 = (-9) then (
    orX (P_take nb byt cnt pp 0) (P_take_x tkt 0) fun z21 =>
    none)
  else (
    orX (P_take nb byt cnt pp 1) (P_take_x tkt 1) fun z21 =>
    none)
def P_cell (nb : Nat) (byt : (Nat → Int32)) (cnt : Int32) (pp : Int32) (tkt : Tok) (ni : Nat) : Option (Int32 × Int32 × Tok) :=
  (P_number nb byt cnt pp tkt 0 ((nI ni) - 1)).bind fun z11 =>
  some (z11.1, z11.2.1, z11.2.2)
def P_cell_x (nb : Nat) (byt : (Nat → Int32)) (cnt : Int32) (pp : Int32) (tkt : Tok) (ni : Nat) : Option (Int32) :=
  orX (P_number nb byt cnt pp tkt 0 ((nI ni) - 1)) (P_number_x nb byt cnt pp tkt 0 ((nI ni) - 1)) fun z11 =>
  none
def P_size (nb : Nat) (byt : (Nat → Int32)) (cnt : Int32) (pp : Int32) (tkt : Tok) (thri : Int32) (bti : Int32) (reai : Int32) (kdi : Nat) : Option (Int32 × Int32 × Int32 × Nat × Int32 × Int32 × Int32 × Int32 × Nat × (Nat → Int32) × Nat × (Nat → Nat) × (Nat → Int32) × (Nat → Int32) × (Nat → Int32) × Tok) :=
  (P_number nb byt cnt pp tkt 2 10).bind fun z4 =>
  (P_number nb byt cnt z4.2.1 z4.2.2 2 8).bind fun z18 =>
  (L_resized thri bti reai kdi z4.1 z18.1).bind fun z21 =>
  some (z18.2.1, z21.1, z21.2.1, z21.2.2.1, z21.2.2.2.1, z21.2.2.2.2.1, z21.2.2.2.2.2.1, z21.2.2.2.2.2.2.1, z21.2.2.2.2.2.2.2.1, z21.2.2.2.2.2.2.2.2.1, z21.2.2.2.2.2.2.2.2.2.1, z21.2.2.2.2.2.2.2.2.2.2.1, z21.2.2.2.2.2.2.2.2.2.2.2.1, z21.2.2.2.2.2.2.2.2.2.2.2.2.1, z21.2.2.2.2.2.2.2.2.2.2.2.2.2, z18.2.2)
def P_size_x (nb : Nat) (byt : (Nat → Int32)) (cnt : Int32) (pp : Int32) (tkt : Tok) (thri : Int32) (bti : Int32) (reai : Int32) (kdi : Nat) : Option (Int32) :=
  orX (P_number nb byt cnt pp tkt 2 10) (P_number_x nb byt cnt pp tkt 2 10) fun z4 =>
  orX (P_number nb byt cnt z4.2.1 z4.2.2 2 8) (P_number_x nb byt cnt z4.2.1 z4.2.2 2 8) fun z18 =>
  (L_resized thri bti reai kdi z4.1 z18.1).bind fun z21 =>
  none
def P_row_17 (v1 : Int32) (nb : Nat) (byt : (Nat → Int32)) (cnt : Int32) (colsi : Int32) (ni : Nat) (v2 : Int32) (pp : Int32) (tkt : Tok) (gri : (Nat → Int32)) : Option ((Int32 × Int32 × Tok × (Nat → Int32)) ⊕ (Int32 × Tok × (Nat → Int32))) :=
  if colsi ≤ v2 then (
    some (.inr (pp, tkt, gri)))
  else (
    (P_number nb byt cnt pp tkt 0 99).bind fun z50 =>
    (ast gri ni ((v1 * colsi) + v2) z50.1).bind fun z53 =>
    some (.inl ((v2 + 1), z50.2.1, z50.2.2, z53)))
def P_row (nb : Nat) (byt : (Nat → Int32)) (cnt : Int32) (pp : Int32) (tkt : Tok) (colsi : Int32) (rowsi : Int32) (ni : Nat) (gri : (Nat → Int32)) : Option (Int32 × (Nat → Int32) × Tok) :=
  (P_number nb byt cnt pp tkt 0 (rowsi - 1)).bind fun z11 =>
  (loopN (fun x => P_row_17 z11.1 nb byt cnt colsi ni x.1 x.2.1 x.2.2.1 x.2.2.2) 11 (0, z11.2.1, z11.2.2, gri)).bind fun z17 =>
  some (z17.1, z17.2.2, z17.2.1)
def P_row_x_17 (v1 : Int32) (nb : Nat) (byt : (Nat → Int32)) (cnt : Int32) (colsi : Int32) (ni : Nat) (v2 : Int32) (pp : Int32) (tkt : Tok) (gri : (Nat → Int32)) : Option Int32 :=
  if colsi ≤ v2 then (
    none)
  else (
    orX (P_number nb byt cnt pp tkt 0 99) (P_number_x nb byt cnt pp tkt 0 99) fun z50 =>
    (ast gri ni ((v1 * colsi) + v2) z50.1).bind fun z53 =>
    none)
def P_row_x (nb : Nat) (byt : (Nat → Int32)) (cnt : Int32) (pp : Int32) (tkt : Tok) (colsi : Int32) (rowsi : Int32) (ni : Nat) (gri : (Nat → Int32)) : Option (Int32) :=
  orX (P_number nb byt cnt pp tkt 0 (rowsi - 1)) (P_number_x nb byt cnt pp tkt 0 (rowsi - 1)) fun z11 =>
  orX (loopN (fun x => P_row_17 z11.1 nb byt cnt colsi ni x.1 x.2.1 x.2.2.1 x.2.2.2) 11 (0, z11.2.1, z11.2.2, gri)) (loopX (fun x => P_row_x_17 z11.1 nb byt cnt colsi ni x.1 x.2.1 x.2.2.1 x.2.2.2) (fun x => P_row_17 z11.1 nb byt cnt colsi ni x.1 x.2.1 x.2.2.1 x.2.2.2) 11 (0, z11.2.1, z11.2.2, gri)) fun z17 =>
  none
def P_valve (nb : Nat) (byt : (Nat → Int32)) (cnt : Int32) (pp : Int32) (tkt : Tok) (colsi : Int32) (rowsi : Int32) (kdi : Nat) (ni : Nat) (n4i : Nat) (vli : (Nat → Nat)) : Option (Int32 × (Nat → Nat) × Tok) :=
  (P_cell nb byt cnt pp tkt ni).bind fun z1 =>
  (L_isBond colsi rowsi kdi ni z1.1 (tkVal z1.2.2)).bind fun z20 =>
  (P_take nb byt cnt z1.2.1 z20).bind fun z23 =>
  (lenF 5 5).bind fun z40 =>
  (astS (fun _ => 16) z40 0 0).bind fun z47 =>
  (astS z47 z40 1 1).bind fun z52 =>
  (astS z52 z40 2 2).bind fun z57 =>
  (astS z57 z40 3 3).bind fun z62 =>
  (astS z62 z40 4 4).bind fun z67 =>
  (P_word nb byt cnt z40 z67 z23.1 z23.2).bind fun z68 =>
  (ofV z68.1).bind fun z71 =>
  (astN vli n4i (((4 : Int32) * z1.1) + (tkVal z1.2.2)) z71).bind fun z74 =>
  some (z68.2.1, z74, z68.2.2)
def P_valve_x (nb : Nat) (byt : (Nat → Int32)) (cnt : Int32) (pp : Int32) (tkt : Tok) (colsi : Int32) (rowsi : Int32) (kdi : Nat) (ni : Nat) (n4i : Nat) (vli : (Nat → Nat)) : Option (Int32) :=
  orX (P_cell nb byt cnt pp tkt ni) (P_cell_x nb byt cnt pp tkt ni) fun z1 =>
  (L_isBond colsi rowsi kdi ni z1.1 (tkVal z1.2.2)).bind fun z20 =>
  orX (P_take nb byt cnt z1.2.1 z20) (P_take_x z1.2.2 z20) fun z23 =>
  (lenF 5 5).bind fun z40 =>
  (astS (fun _ => 16) z40 0 0).bind fun z47 =>
  (astS z47 z40 1 1).bind fun z52 =>
  (astS z52 z40 2 2).bind fun z57 =>
  (astS z57 z40 3 3).bind fun z62 =>
  (astS z62 z40 4 4).bind fun z67 =>
  orX (P_word nb byt cnt z40 z67 z23.1 z23.2) (P_word_x nb byt cnt z40 z67 z23.1 z23.2) fun z68 =>
  (ofV z68.1).bind fun z71 =>
  (astN vli n4i (((4 : Int32) * z1.1) + (tkVal z1.2.2)) z71).bind fun z74 =>
  none
def P_source_j41 (nb : Nat) (byt : (Nat → Int32)) (cnt : Int32) (ni : Nat) (v1 : Int32) (v2 : Int32) (pp : Int32) (tkt : Tok) (soi : (Nat → Int32)) : Option (Int32 × (Nat → Int32) × Tok) :=
  (P_take nb byt cnt pp 0).bind fun z42 =>
  (ald soi ni v1).bind fun z54 =>
  (ast soi ni v1 (z54 ||| ((1 : Int32) <<< (v2 &&& 31)))).bind fun z59 =>
  some (z42.1, z59, z42.2)
def P_source (nb : Nat) (byt : (Nat → Int32)) (cnt : Int32) (pp : Int32) (tkt : Tok) (ni : Nat) (soi : (Nat → Int32)) : Option (Int32 × (Nat → Int32) × Tok) :=
  (P_cell nb byt cnt pp tkt ni).bind fun z1 =>
  (C_isDye (tkVal z1.2.2)).bind fun z15 =>
  if z15 = 0 then (
    P_source_j41 nb byt cnt ni z1.1 (tkVal z1.2.2) z1.2.1 z1.2.2 soi)
  else (
    (ald soi ni z1.1).bind fun z29 =>
    if ((z29 >>> ((tkVal z1.2.2) &&& 31)) &&& 1) = 0 then (
      (P_take nb byt cnt z1.2.1 1).bind fun z42 =>
      (ald soi ni z1.1).bind fun z54 =>
      (ast soi ni z1.1 (z54 ||| ((1 : Int32) <<< ((tkVal z1.2.2) &&& 31)))).bind fun z59 =>
      some (z42.1, z59, z42.2))
    else (
      P_source_j41 nb byt cnt ni z1.1 (tkVal z1.2.2) z1.2.1 z1.2.2 soi))
def P_source_x_j41 (nb : Nat) (byt : (Nat → Int32)) (cnt : Int32) (ni : Nat) (v1 : Int32) (v2 : Int32) (pp : Int32) (tkt : Tok) (soi : (Nat → Int32)) : Option (Int32) :=
  orX (P_take nb byt cnt pp 0) (P_take_x tkt 0) fun z42 =>
  (ald soi ni v1).bind fun z54 =>
  (ast soi ni v1 (z54 ||| ((1 : Int32) <<< (v2 &&& 31)))).bind fun z59 =>
  none
def P_source_x (nb : Nat) (byt : (Nat → Int32)) (cnt : Int32) (pp : Int32) (tkt : Tok) (ni : Nat) (soi : (Nat → Int32)) : Option (Int32) :=
  orX (P_cell nb byt cnt pp tkt ni) (P_cell_x nb byt cnt pp tkt ni) fun z1 =>
  (C_isDye (tkVal z1.2.2)).bind fun z15 =>
  if z15 = 0 then (
    P_source_x_j41 nb byt cnt ni z1.1 (tkVal z1.2.2) z1.2.1 z1.2.2 soi)
  else (
    (ald soi ni z1.1).bind fun z29 =>
    if ((z29 >>> ((tkVal z1.2.2) &&& 31)) &&& 1) = 0 then (
      orX (P_take nb byt cnt z1.2.1 1) (P_take_x z1.2.2 1) fun z42 =>
      (ald soi ni z1.1).bind fun z54 =>
      (ast soi ni z1.1 (z54 ||| ((1 : Int32) <<< ((tkVal z1.2.2) &&& 31)))).bind fun z59 =>
      none)
    else (
      P_source_x_j41 nb byt cnt ni z1.1 (tkVal z1.2.2) z1.2.1 z1.2.2 soi))
def P_item_j206 (nb : Nat) (byt : (Nat → Int32)) (cnt : Int32) (kn6 : (Nat → Nat)) (pp : Int32) (tkt : Tok) (colsi : Int32) (rowsi : Int32) (kdi : Nat) (thri : Int32) (bti : Int32) (tmi : Int32) (reai : Int32) (ni : Nat) (gri : (Nat → Int32)) (n4i : Nat) (vli : (Nat → Nat)) (soi : (Nat → Int32)) (dyi : (Nat → Int32)) (cgi : (Nat → Int32)) : Option (Int32 × Int32 × Int32 × Nat × Int32 × Int32 × Int32 × Int32 × Nat × (Nat → Int32) × Nat × (Nat → Nat) × (Nat → Int32) × (Nat → Int32) × (Nat → Int32) × Tok) :=
  (P_take nb byt cnt pp (tkSgn tkt 59)).bind fun z216 =>
  some (z216.1, colsi, rowsi, kdi, thri, bti, tmi, reai, ni, gri, n4i, vli, soi, dyi, cgi, z216.2)
def P_item_j69 (nb : Nat) (byt : (Nat → Int32)) (cnt : Int32) (v2 : Int32) (s1 : Int32) (kn6 : (Nat → Nat)) (pp : Int32) (tkt : Tok) (colsi : Int32) (rowsi : Int32) (kdi : Nat) (thri : Int32) (bti : Int32) (tmi : Int32) (reai : Int32) (ni : Nat) (gri : (Nat → Int32)) (n4i : Nat) (vli : (Nat → Nat)) (soi : (Nat → Int32)) (dyi : (Nat → Int32)) (cgi : (Nat → Int32)) : Option (Int32 × Int32 × Int32 × Nat × Int32 × Int32 × Int32 × Int32 × Nat × (Nat → Int32) × Nat × (Nat → Nat) × (Nat → Int32) × (Nat → Int32) × (Nat → Int32) × Tok) :=
  (P_take nb byt cnt pp s1).bind fun z69 =>
  if v2 = 0 then (
    (P_size nb byt cnt z69.1 z69.2 thri bti reai kdi).bind fun z113 =>
    P_item_j206 nb byt cnt kn6 z113.1 z113.2.2.2.2.2.2.2.2.2.2.2.2.2.2.2 z113.2.1 z113.2.2.1 z113.2.2.2.1 z113.2.2.2.2.1 z113.2.2.2.2.2.1 z113.2.2.2.2.2.2.1 z113.2.2.2.2.2.2.2.1 z113.2.2.2.2.2.2.2.2.1 z113.2.2.2.2.2.2.2.2.2.1 z113.2.2.2.2.2.2.2.2.2.2.1 z113.2.2.2.2.2.2.2.2.2.2.2.1 z113.2.2.2.2.2.2.2.2.2.2.2.2.1 z113.2.2.2.2.2.2.2.2.2.2.2.2.2.1 z113.2.2.2.2.2.2.2.2.2.2.2.2.2.2.1)
  else (
    if v2 = 1 then (
      (lenF 3 3).bind fun z125 =>
      (astS (fun _ => 16) z125 0 12).bind fun z132 =>
      (astS z132 z125 1 13).bind fun z137 =>
      (astS z137 z125 2 14).bind fun z142 =>
      (P_word nb byt cnt z125 z142 z69.1 z69.2).bind fun z143 =>
      (C_changeKind n4i vli z143.1).bind fun z146 =>
      P_item_j206 nb byt cnt kn6 z143.2.1 z143.2.2 colsi rowsi z146.1 thri bti tmi reai ni gri n4i z146.2 soi dyi cgi)
    else (
      if v2 = 2 then (
        (P_row nb byt cnt z69.1 z69.2 colsi rowsi ni gri).bind fun z153 =>
        P_item_j206 nb byt cnt kn6 z153.1 z153.2.2 colsi rowsi kdi thri bti tmi reai ni z153.2.1 n4i vli soi dyi cgi)
      else (
        if v2 = 3 then (
          (P_number nb byt cnt z69.1 z69.2 0 9999).bind fun z168 =>
          (L_fill thri ni gri z168.1).bind fun z171 =>
          P_item_j206 nb byt cnt kn6 z168.2.1 z168.2.2 colsi rowsi kdi thri bti tmi reai ni z171.2 n4i vli soi dyi cgi)
        else (
          if v2 = 4 then (
            (P_valve nb byt cnt z69.1 z69.2 colsi rowsi kdi ni n4i vli).bind fun z179 =>
            P_item_j206 nb byt cnt kn6 z179.1 z179.2.2 colsi rowsi kdi thri bti tmi reai ni gri n4i z179.2.1 soi dyi cgi)
          else (
            if v2 = 5 then (
              (P_source nb byt cnt z69.1 z69.2 ni soi).bind fun z186 =>
              P_item_j206 nb byt cnt kn6 z186.1 z186.2.2 colsi rowsi kdi thri bti tmi reai ni gri n4i vli z186.2.1 dyi cgi)
            else (
              (P_number nb byt cnt z69.1 z69.2 0 100).bind fun z200 =>
              P_item_j206 nb byt cnt kn6 z200.2.1 z200.2.2 colsi rowsi kdi z200.1 bti tmi reai ni gri n4i vli soi dyi cgi))))))
def P_item (nb : Nat) (byt : (Nat → Int32)) (cnt : Int32) (pp : Int32) (tkt : Tok) (colsi : Int32) (rowsi : Int32) (thri : Int32) (bti : Int32) (tmi : Int32) (reai : Int32) (kdi : Nat) (ni : Nat) (n4i : Nat) (vli : (Nat → Nat)) (gri : (Nat → Int32)) (soi : (Nat → Int32)) (dyi : (Nat → Int32)) (cgi : (Nat → Int32)) (v1 : Int32) : Option (Int32 × Int32 × Int32 × Nat × Int32 × Int32 × Int32 × Int32 × Nat × (Nat → Int32) × Nat × (Nat → Nat) × (Nat → Int32) × (Nat → Int32) × (Nat → Int32) × Tok) :=
  (lenF 7 7).bind fun z6 =>
  (astS (fun _ => 16) z6 0 5).bind fun z13 =>
  (astS z13 z6 1 6).bind fun z18 =>
  (astS z18 z6 2 7).bind fun z23 =>
  (astS z23 z6 3 8).bind fun z28 =>
  (astS z28 z6 4 9).bind fun z33 =>
  (astS z33 z6 5 10).bind fun z38 =>
  (astS z38 z6 6 11).bind fun z44 =>
  (tkAm tkt z6 z44).bind fun z45 =>
  if z45 = (-9) then (
    P_item_j69 nb byt cnt z45 0 z44 pp tkt colsi rowsi kdi thri bti tmi reai ni gri n4i vli soi dyi cgi)
  else (
    if 0 < z45 then (
      P_item_j69 nb byt cnt z45 1 z44 pp tkt colsi rowsi kdi thri bti tmi reai ni gri n4i vli soi dyi cgi)
    else (
      if v1 = 0 then (
        P_item_j69 nb byt cnt z45 0 z44 pp tkt colsi rowsi kdi thri bti tmi reai ni gri n4i vli soi dyi cgi)
      else (
        P_item_j69 nb byt cnt z45 1 z44 pp tkt colsi rowsi kdi thri bti tmi reai ni gri n4i vli soi dyi cgi)))
def P_item_x_j206 (nb : Nat) (byt : (Nat → Int32)) (cnt : Int32) (kn6 : (Nat → Nat)) (pp : Int32) (tkt : Tok) (colsi : Int32) (rowsi : Int32) (kdi : Nat) (thri : Int32) (bti : Int32) (tmi : Int32) (reai : Int32) (ni : Nat) (gri : (Nat → Int32)) (n4i : Nat) (vli : (Nat → Nat)) (soi : (Nat → Int32)) (dyi : (Nat → Int32)) (cgi : (Nat → Int32)) : Option (Int32) :=
  orX (P_take nb byt cnt pp (tkSgn tkt 59)) (P_take_x tkt (tkSgn tkt 59)) fun z216 =>
  none
def P_item_x_j69 (nb : Nat) (byt : (Nat → Int32)) (cnt : Int32) (v2 : Int32) (s1 : Int32) (kn6 : (Nat → Nat)) (pp : Int32) (tkt : Tok) (colsi : Int32) (rowsi : Int32) (kdi : Nat) (thri : Int32) (bti : Int32) (tmi : Int32) (reai : Int32) (ni : Nat) (gri : (Nat → Int32)) (n4i : Nat) (vli : (Nat → Nat)) (soi : (Nat → Int32)) (dyi : (Nat → Int32)) (cgi : (Nat → Int32)) : Option (Int32) :=
  orX (P_take nb byt cnt pp s1) (P_take_x tkt s1) fun z69 =>
  if v2 = 0 then (
    orX (P_size nb byt cnt z69.1 z69.2 thri bti reai kdi) (P_size_x nb byt cnt z69.1 z69.2 thri bti reai kdi) fun z113 =>
    P_item_x_j206 nb byt cnt kn6 z113.1 z113.2.2.2.2.2.2.2.2.2.2.2.2.2.2.2 z113.2.1 z113.2.2.1 z113.2.2.2.1 z113.2.2.2.2.1 z113.2.2.2.2.2.1 z113.2.2.2.2.2.2.1 z113.2.2.2.2.2.2.2.1 z113.2.2.2.2.2.2.2.2.1 z113.2.2.2.2.2.2.2.2.2.1 z113.2.2.2.2.2.2.2.2.2.2.1 z113.2.2.2.2.2.2.2.2.2.2.2.1 z113.2.2.2.2.2.2.2.2.2.2.2.2.1 z113.2.2.2.2.2.2.2.2.2.2.2.2.2.1 z113.2.2.2.2.2.2.2.2.2.2.2.2.2.2.1)
  else (
    if v2 = 1 then (
      (lenF 3 3).bind fun z125 =>
      (astS (fun _ => 16) z125 0 12).bind fun z132 =>
      (astS z132 z125 1 13).bind fun z137 =>
      (astS z137 z125 2 14).bind fun z142 =>
      orX (P_word nb byt cnt z125 z142 z69.1 z69.2) (P_word_x nb byt cnt z125 z142 z69.1 z69.2) fun z143 =>
      (C_changeKind n4i vli z143.1).bind fun z146 =>
      P_item_x_j206 nb byt cnt kn6 z143.2.1 z143.2.2 colsi rowsi z146.1 thri bti tmi reai ni gri n4i z146.2 soi dyi cgi)
    else (
      if v2 = 2 then (
        orX (P_row nb byt cnt z69.1 z69.2 colsi rowsi ni gri) (P_row_x nb byt cnt z69.1 z69.2 colsi rowsi ni gri) fun z153 =>
        P_item_x_j206 nb byt cnt kn6 z153.1 z153.2.2 colsi rowsi kdi thri bti tmi reai ni z153.2.1 n4i vli soi dyi cgi)
      else (
        if v2 = 3 then (
          orX (P_number nb byt cnt z69.1 z69.2 0 9999) (P_number_x nb byt cnt z69.1 z69.2 0 9999) fun z168 =>
          (L_fill thri ni gri z168.1).bind fun z171 =>
          P_item_x_j206 nb byt cnt kn6 z168.2.1 z168.2.2 colsi rowsi kdi thri bti tmi reai ni z171.2 n4i vli soi dyi cgi)
        else (
          if v2 = 4 then (
            orX (P_valve nb byt cnt z69.1 z69.2 colsi rowsi kdi ni n4i vli) (P_valve_x nb byt cnt z69.1 z69.2 colsi rowsi kdi ni n4i vli) fun z179 =>
            P_item_x_j206 nb byt cnt kn6 z179.1 z179.2.2 colsi rowsi kdi thri bti tmi reai ni gri n4i z179.2.1 soi dyi cgi)
          else (
            if v2 = 5 then (
              orX (P_source nb byt cnt z69.1 z69.2 ni soi) (P_source_x nb byt cnt z69.1 z69.2 ni soi) fun z186 =>
              P_item_x_j206 nb byt cnt kn6 z186.1 z186.2.2 colsi rowsi kdi thri bti tmi reai ni gri n4i vli z186.2.1 dyi cgi)
            else (
              orX (P_number nb byt cnt z69.1 z69.2 0 100) (P_number_x nb byt cnt z69.1 z69.2 0 100) fun z200 =>
              P_item_x_j206 nb byt cnt kn6 z200.2.1 z200.2.2 colsi rowsi kdi z200.1 bti tmi reai ni gri n4i vli soi dyi cgi))))))
def P_item_x (nb : Nat) (byt : (Nat → Int32)) (cnt : Int32) (pp : Int32) (tkt : Tok) (colsi : Int32) (rowsi : Int32) (thri : Int32) (bti : Int32) (tmi : Int32) (reai : Int32) (kdi : Nat) (ni : Nat) (n4i : Nat) (vli : (Nat → Nat)) (gri : (Nat → Int32)) (soi : (Nat → Int32)) (dyi : (Nat → Int32)) (cgi : (Nat → Int32)) (v1 : Int32) : Option (Int32) :=
  (lenF 7 7).bind fun z6 =>
  (astS (fun _ => 16) z6 0 5).bind fun z13 =>
  (astS z13 z6 1 6).bind fun z18 =>
  (astS z18 z6 2 7).bind fun z23 =>
  (astS z23 z6 3 8).bind fun z28 =>
  (astS z28 z6 4 9).bind fun z33 =>
  (astS z33 z6 5 10).bind fun z38 =>
  (astS z38 z6 6 11).bind fun z44 =>
  (tkAm tkt z6 z44).bind fun z45 =>
  if z45 = (-9) then (
    P_item_x_j69 nb byt cnt z45 0 z44 pp tkt colsi rowsi kdi thri bti tmi reai ni gri n4i vli soi dyi cgi)
  else (
    if 0 < z45 then (
      P_item_x_j69 nb byt cnt z45 1 z44 pp tkt colsi rowsi kdi thri bti tmi reai ni gri n4i vli soi dyi cgi)
    else (
      if v1 = 0 then (
        P_item_x_j69 nb byt cnt z45 0 z44 pp tkt colsi rowsi kdi thri bti tmi reai ni gri n4i vli soi dyi cgi)
      else (
        P_item_x_j69 nb byt cnt z45 1 z44 pp tkt colsi rowsi kdi thri bti tmi reai ni gri n4i vli soi dyi cgi)))
def P_items_6 (nb : Nat) (byt : (Nat → Int32)) (cnt : Int32) (v1 : Int32) (pp : Int32) (colsi : Int32) (rowsi : Int32) (kdi : Nat) (thri : Int32) (bti : Int32) (tmi : Int32) (reai : Int32) (ni : Nat) (gri : (Nat → Int32)) (n4i : Nat) (vli : (Nat → Nat)) (soi : (Nat → Int32)) (dyi : (Nat → Int32)) (cgi : (Nat → Int32)) (kc3_4 : Tok) : Option ((Int32 × Int32 × Int32 × Int32 × Nat × Int32 × Int32 × Int32 × Int32 × Nat × (Nat → Int32) × Nat × (Nat → Nat) × (Nat → Int32) × (Nat → Int32) × (Nat → Int32) × Tok) ⊕ (Int32 × Int32 × Int32 × Int32 × Nat × Int32 × Int32 × Int32 × Int32 × Nat × (Nat → Int32) × Nat × (Nat → Nat) × (Nat → Int32) × (Nat → Int32) × (Nat → Int32) × Tok)) :=
  if (tkSgn kc3_4 0) = 0 then (
    if v1 = 0 then (
      (P_item nb byt cnt pp kc3_4 colsi rowsi thri bti tmi reai kdi ni n4i vli gri soi dyi cgi 1).bind fun z27 =>
      some (.inl ((v1 + 1), z27.1, z27.2.1, z27.2.2.1, z27.2.2.2.1, z27.2.2.2.2.1, z27.2.2.2.2.2.1, z27.2.2.2.2.2.2.1, z27.2.2.2.2.2.2.2.1, z27.2.2.2.2.2.2.2.2.1, z27.2.2.2.2.2.2.2.2.2.1, z27.2.2.2.2.2.2.2.2.2.2.1, z27.2.2.2.2.2.2.2.2.2.2.2.1, z27.2.2.2.2.2.2.2.2.2.2.2.2.1, z27.2.2.2.2.2.2.2.2.2.2.2.2.2.1, z27.2.2.2.2.2.2.2.2.2.2.2.2.2.2.1, z27.2.2.2.2.2.2.2.2.2.2.2.2.2.2.2)))
    else (
      (P_item nb byt cnt pp kc3_4 colsi rowsi thri bti tmi reai kdi ni n4i vli gri soi dyi cgi 0).bind fun z27 =>
      some (.inl ((v1 + 1), z27.1, z27.2.1, z27.2.2.1, z27.2.2.2.1, z27.2.2.2.2.1, z27.2.2.2.2.2.1, z27.2.2.2.2.2.2.1, z27.2.2.2.2.2.2.2.1, z27.2.2.2.2.2.2.2.2.1, z27.2.2.2.2.2.2.2.2.2.1, z27.2.2.2.2.2.2.2.2.2.2.1, z27.2.2.2.2.2.2.2.2.2.2.2.1, z27.2.2.2.2.2.2.2.2.2.2.2.2.1, z27.2.2.2.2.2.2.2.2.2.2.2.2.2.1, z27.2.2.2.2.2.2.2.2.2.2.2.2.2.2.1, z27.2.2.2.2.2.2.2.2.2.2.2.2.2.2.2))))
  else (
    some (.inr (v1, pp, colsi, rowsi, kdi, thri, bti, tmi, reai, ni, gri, n4i, vli, soi, dyi, cgi, kc3_4)))
def P_items (nb : Nat) (byt : (Nat → Int32)) (cnt : Int32) (pp : Int32) (colsi : Int32) (rowsi : Int32) (thri : Int32) (bti : Int32) (tmi : Int32) (reai : Int32) (kdi : Nat) (ni : Nat) (n4i : Nat) (vli : (Nat → Nat)) (gri : (Nat → Int32)) (soi : (Nat → Int32)) (dyi : (Nat → Int32)) (cgi : (Nat → Int32)) : Option (Int32 × Int32 × Int32 × Int32 × Nat × Int32 × Int32 × Int32 × Int32 × Nat × (Nat → Int32) × Nat × (Nat → Nat) × (Nat → Int32) × (Nat → Int32) × (Nat → Int32) × Tok) :=
  (P_adv nb byt cnt pp).bind fun z3 =>
  (loopN (fun x => P_items_6 nb byt cnt x.1 x.2.1 x.2.2.1 x.2.2.2.1 x.2.2.2.2.1 x.2.2.2.2.2.1 x.2.2.2.2.2.2.1 x.2.2.2.2.2.2.2.1 x.2.2.2.2.2.2.2.2.1 x.2.2.2.2.2.2.2.2.2.1 x.2.2.2.2.2.2.2.2.2.2.1 x.2.2.2.2.2.2.2.2.2.2.2.1 x.2.2.2.2.2.2.2.2.2.2.2.2.1 x.2.2.2.2.2.2.2.2.2.2.2.2.2.1 x.2.2.2.2.2.2.2.2.2.2.2.2.2.2.1 x.2.2.2.2.2.2.2.2.2.2.2.2.2.2.2.1 x.2.2.2.2.2.2.2.2.2.2.2.2.2.2.2.2) 65 (0, z3.1, colsi, rowsi, kdi, thri, bti, tmi, reai, ni, gri, n4i, vli, soi, dyi, cgi, z3.2)).bind fun z6 =>
  some (z6.1, z6.2.1, z6.2.2.1, z6.2.2.2.1, z6.2.2.2.2.1, z6.2.2.2.2.2.1, z6.2.2.2.2.2.2.1, z6.2.2.2.2.2.2.2.1, z6.2.2.2.2.2.2.2.2.1, z6.2.2.2.2.2.2.2.2.2.1, z6.2.2.2.2.2.2.2.2.2.2.1, z6.2.2.2.2.2.2.2.2.2.2.2.1, z6.2.2.2.2.2.2.2.2.2.2.2.2.1, z6.2.2.2.2.2.2.2.2.2.2.2.2.2.1, z6.2.2.2.2.2.2.2.2.2.2.2.2.2.2.1, z6.2.2.2.2.2.2.2.2.2.2.2.2.2.2.2.1, z6.2.2.2.2.2.2.2.2.2.2.2.2.2.2.2.2)
def P_items_x_6 (nb : Nat) (byt : (Nat → Int32)) (cnt : Int32) (v1 : Int32) (pp : Int32) (colsi : Int32) (rowsi : Int32) (kdi : Nat) (thri : Int32) (bti : Int32) (tmi : Int32) (reai : Int32) (ni : Nat) (gri : (Nat → Int32)) (n4i : Nat) (vli : (Nat → Nat)) (soi : (Nat → Int32)) (dyi : (Nat → Int32)) (cgi : (Nat → Int32)) (kc3_4 : Tok) : Option Int32 :=
  if (tkSgn kc3_4 0) = 0 then (
    if v1 = 0 then (
      orX (P_item nb byt cnt pp kc3_4 colsi rowsi thri bti tmi reai kdi ni n4i vli gri soi dyi cgi 1) (P_item_x nb byt cnt pp kc3_4 colsi rowsi thri bti tmi reai kdi ni n4i vli gri soi dyi cgi 1) fun z27 =>
      none)
    else (
      orX (P_item nb byt cnt pp kc3_4 colsi rowsi thri bti tmi reai kdi ni n4i vli gri soi dyi cgi 0) (P_item_x nb byt cnt pp kc3_4 colsi rowsi thri bti tmi reai kdi ni n4i vli gri soi dyi cgi 0) fun z27 =>
      none))
  else (
    none)
def P_items_x (nb : Nat) (byt : (Nat → Int32)) (cnt : Int32) (pp : Int32) (colsi : Int32) (rowsi : Int32) (thri : Int32) (bti : Int32) (tmi : Int32) (reai : Int32) (kdi : Nat) (ni : Nat) (n4i : Nat) (vli : (Nat → Nat)) (gri : (Nat → Int32)) (soi : (Nat → Int32)) (dyi : (Nat → Int32)) (cgi : (Nat → Int32)) : Option (Int32) :=
  (P_adv nb byt cnt pp).bind fun z3 =>
  orX (loopN (fun x => P_items_6 nb byt cnt x.1 x.2.1 x.2.2.1 x.2.2.2.1 x.2.2.2.2.1 x.2.2.2.2.2.1 x.2.2.2.2.2.2.1 x.2.2.2.2.2.2.2.1 x.2.2.2.2.2.2.2.2.1 x.2.2.2.2.2.2.2.2.2.1 x.2.2.2.2.2.2.2.2.2.2.1 x.2.2.2.2.2.2.2.2.2.2.2.1 x.2.2.2.2.2.2.2.2.2.2.2.2.1 x.2.2.2.2.2.2.2.2.2.2.2.2.2.1 x.2.2.2.2.2.2.2.2.2.2.2.2.2.2.1 x.2.2.2.2.2.2.2.2.2.2.2.2.2.2.2.1 x.2.2.2.2.2.2.2.2.2.2.2.2.2.2.2.2) 65 (0, z3.1, colsi, rowsi, kdi, thri, bti, tmi, reai, ni, gri, n4i, vli, soi, dyi, cgi, z3.2)) (loopX (fun x => P_items_x_6 nb byt cnt x.1 x.2.1 x.2.2.1 x.2.2.2.1 x.2.2.2.2.1 x.2.2.2.2.2.1 x.2.2.2.2.2.2.1 x.2.2.2.2.2.2.2.1 x.2.2.2.2.2.2.2.2.1 x.2.2.2.2.2.2.2.2.2.1 x.2.2.2.2.2.2.2.2.2.2.1 x.2.2.2.2.2.2.2.2.2.2.2.1 x.2.2.2.2.2.2.2.2.2.2.2.2.1 x.2.2.2.2.2.2.2.2.2.2.2.2.2.1 x.2.2.2.2.2.2.2.2.2.2.2.2.2.2.1 x.2.2.2.2.2.2.2.2.2.2.2.2.2.2.2.1 x.2.2.2.2.2.2.2.2.2.2.2.2.2.2.2.2) (fun x => P_items_6 nb byt cnt x.1 x.2.1 x.2.2.1 x.2.2.2.1 x.2.2.2.2.1 x.2.2.2.2.2.1 x.2.2.2.2.2.2.1 x.2.2.2.2.2.2.2.1 x.2.2.2.2.2.2.2.2.1 x.2.2.2.2.2.2.2.2.2.1 x.2.2.2.2.2.2.2.2.2.2.1 x.2.2.2.2.2.2.2.2.2.2.2.1 x.2.2.2.2.2.2.2.2.2.2.2.2.1 x.2.2.2.2.2.2.2.2.2.2.2.2.2.1 x.2.2.2.2.2.2.2.2.2.2.2.2.2.2.1 x.2.2.2.2.2.2.2.2.2.2.2.2.2.2.2.1 x.2.2.2.2.2.2.2.2.2.2.2.2.2.2.2.2) 65 (0, z3.1, colsi, rowsi, kdi, thri, bti, tmi, reai, ni, gri, n4i, vli, soi, dyi, cgi, z3.2)) fun z6 =>
  none
