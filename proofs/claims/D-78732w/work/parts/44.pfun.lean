set_option maxRecDepth 100000
def P_init (a0 : Nat) : Option (Nat × Int32 × Int32 × Nat × Int32 × Int32 × Int32 × Int32 × Nat × (Nat → Int32) × Nat × (Nat → Nat) × (Nat → Int32) × (Nat → Int32) × (Nat → Int32) × Int32 × Int32) :=
  (L_init 4 4).bind fun z16 =>
  (T7_init 0 32).bind fun z30 =>
  some (a0, z16.2.2.2.1, z16.2.2.2.2.1, z16.1, z16.2.1, z16.2.2.1, 0, 0, z16.2.2.2.2.2.1, z16.2.2.2.2.2.2.1, z16.2.2.2.2.2.2.2.1, z16.2.2.2.2.2.2.2.2.1, z16.2.2.2.2.2.2.2.2.2.1, z16.2.2.2.2.2.2.2.2.2.2.1, z16.2.2.2.2.2.2.2.2.2.2.2, z30.1, z30.2)
def P_here (nb : Nat) (byt : (Nat → Int32)) (cnt : Int32) (pp : Int32) : Option (Int32) :=
  (J4_length cnt).bind fun z11 =>
  if z11 ≤ pp then (
    some 0)
  else (
    (J4_charAt nb byt cnt pp).bind fun z28 =>
    (cck z28).bind fun z35 =>
    some z35)
def P_advance_0 (nb : Nat) (byt : (Nat → Int32)) (cnt : Int32) (pp : Int32) : Option ((Int32) ⊕ (Int32)) :=
  (P_here nb byt cnt pp).bind fun z1 =>
  if z1 = 32 then (
    some (.inl (pp + 1)))
  else (
    some (.inr pp))
def P_advance_41 (nb : Nat) (byt : (Nat → Int32)) (cnt : Int32) (pp : Int32) : Option ((Int32) ⊕ (Int32)) :=
  (P_here nb byt cnt pp).bind fun z42 =>
  (C_isBetween z42 97 122).bind fun z49 =>
  if z49 = 0 then (
    some (.inr pp))
  else (
    some (.inl (pp + 1)))
def P_advance_114 (nb : Nat) (byt : (Nat → Int32)) (cnt : Int32) (v2 : Int32) (pp : Int32) : Option ((Int32 × Int32) ⊕ (Int32 × Int32)) :=
  (P_here nb byt cnt pp).bind fun z115 =>
  (C_isBetween z115 48 57).bind fun z122 =>
  if z122 = 0 then (
    some (.inr (v2, pp)))
  else (
    (P_here nb byt cnt pp).bind fun z133 =>
    (some (if 10000 < ((((10 : Int32) * v2) + z133) - 48) then 10000 else ((((10 : Int32) * v2) + z133) - 48))).bind fun z146 =>
    some (.inl (z146, (pp + 1))))
def P_advance (nb : Nat) (byt : (Nat → Int32)) (cnt : Int32) (pp : Int32) : Option (((Int32 × Int32 × Nat × (Nat → Int32)) ⊕ ((Int32 × Int32 × Int32) ⊕ (Int32 × Int32 × Int32)))) :=
  (loopN (fun x => P_advance_0 nb byt cnt x) FU pp).bind fun z0 =>
  (P_here nb byt cnt z0).bind fun z28 =>
  (C_isBetween z28 97 122).bind fun z35 =>
  if z35 = 0 then (
    (P_here nb byt cnt z0).bind fun z99 =>
    (C_isBetween z99 48 57).bind fun z106 =>
    if z106 = 0 then (
      (P_here nb byt cnt z0).bind fun z214 =>
      (T7_init z0 z214).bind fun z217 =>
      (P_here nb byt cnt z0).bind fun z229 =>
      if z229 = 0 then (
        some (.inr (.inl ((z0 + 0), z217.1, z217.2))))
      else (
        some (.inr (.inl ((z0 + 1), z217.1, z217.2)))))
    else (
      (loopN (fun x => P_advance_114 nb byt cnt x.1 x.2) FU (0, z0)).bind fun z114 =>
      if z114.2 ≤ (z0 + 1) then (
        (T9_init z0 z114.1).bind fun z198 =>
        some (.inr (.inr (z114.2, z198.1, z198.2))))
      else (
        (J4_charAt nb byt cnt z0).bind fun z184 =>
        if z184 = 48 then (
          (T9_init z0 (-9)).bind fun z198 =>
          some (.inr (.inr (z114.2, z198.1, z198.2))))
        else (
          (T9_init z0 z114.1).bind fun z198 =>
          some (.inr (.inr (z114.2, z198.1, z198.2)))))))
  else (
    (loopN (fun x => P_advance_41 nb byt cnt x) FU z0).bind fun z41 =>
    (J4_substring nb byt cnt z0 z41).bind fun z86 =>
    (T8_init z0).bind fun z89 =>
    some (.inl (z41, z89, z86.1, z86.2)))
