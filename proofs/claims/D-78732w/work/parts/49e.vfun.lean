set_option maxRecDepth 100000
def loopB {σ ω : Type} (sc st : σ → Option (σ ⊕ ω)) : Nat → Nat → σ → Option ω
  | 0, _, _ => none
  | n + 1, b, x => match sc x with
    | some (.inl y) => loopB sc st n b y
    | some (.inr o) => some o
    | none => match b with
      | 0 => none
      | b + 1 => match st x with
        | some (.inl y) => loopB sc st n b y
        | some (.inr o) => some o
        | none => none
theorem v_loopB {σ ω : Type} {sc st : σ → Option (σ ⊕ ω)} (cN sN CM SM : Nat) (G : Nat → Nat → σ → Prop) (E : Nat → Nat → ω → Prop) (hE : ∀ (c s c' s' : Nat) (o : ω), c ≤ c' → s ≤ s' → E c' s' o → E c s o)
    (hc : ∀ (cb sb : Nat) (x : σ) (r : σ ⊕ ω), cb ≤ CM → sb ≤ SM → sc x = some r → (∀ y, r = .inl y → G cb sb y) → (∀ y, r = .inr y → E cb sb y) → G cb sb x)
    (hf : ∀ (cb sb : Nat) (x : σ) (r : σ ⊕ ω), cb + cN ≤ CM → sb + sN ≤ SM → st x = some r → (∀ y, r = .inl y → G (cb + cN) (sb + sN) y) → (∀ y, r = .inr y → E (cb + cN) (sb + sN) y) → G cb sb x) :
    ∀ (n b cb sb : Nat) (x : σ) (o : ω), cb + b * cN ≤ CM → sb + b * sN ≤ SM → loopB sc st n b x = some o → E (cb + b * cN) (sb + b * sN) o → G cb sb x := by
  intro n
  induction n with
  | zero => intro b cb sb x o _ _ h; cases h
  | succ n ih =>
    intro b cb sb x o hcc hss h hEo
    unfold loopB at h
    cases h1 : sc x with
    | some r =>
      rw [h1] at h
      refine hc cb sb x r (by omega) (by omega) h1 ?_ ?_
      · intro y e; subst e; exact ih b cb sb y o hcc hss h hEo
      · intro y e; subst e; cases h; exact hE _ _ _ _ _ (Nat.le_add_right _ _) (Nat.le_add_right _ _) hEo
    | none =>
      rw [h1] at h
      cases b with
      | zero => cases h
      | succ b =>
        have e1 : cb + (b + 1) * cN = cb + cN + b * cN := by rw [Nat.succ_mul]; omega
        have e2 : sb + (b + 1) * sN = sb + sN + b * sN := by rw [Nat.succ_mul]; omega
        rw [e1] at hcc hEo
        rw [e2] at hss hEo
        dsimp only at h
        cases h2 : st x with
        | none => rw [h2] at h; cases h
        | some r =>
          rw [h2] at h
          refine hf cb sb x r (by omega) (by omega) h2 ?_ ?_
          · intro y e; subst e; exact ih b _ _ y o hcc hss h hEo
          · intro y e; subst e; cases h; exact hE _ _ _ _ _ (Nat.le_add_right _ _) (Nat.le_add_right _ _) hEo

def C_bestValve_36 (z28 : Int32 × Int32 × Nat × Int32 × Int32 × Int32 × Int32 × Nat × (Nat → Int32) × Nat × (Nat → Nat) × (Nat → Int32) × (Nat → Int32) × (Nat → Int32)) (v2 : Int32) (v3 : Int32) (v5 : Int32) (kc28_8 : (Nat → Nat)) : Option ((Int32 × Int32 × Int32 × (Nat → Nat)) ⊕ (Int32 × (Nat → Nat))) :=
  if (nI z28.2.2.2.2.2.2.2.2.2.1) ≤ v5 then (
    some (.inr (v3, kc28_8)))
  else (
    (aldN kc28_8 z28.2.2.2.2.2.2.2.2.2.1 v5).bind fun z54 =>
    (eqV z54 1).bind fun z58 =>
    if z58 = true then (
      (astN kc28_8 z28.2.2.2.2.2.2.2.2.2.1 v5 0).bind fun z71 =>
      (L_spans z28.1 z28.2.1 z28.2.2.1 z28.2.2.2.2.2.2.2.1 z28.2.2.2.2.2.2.2.2.2.1 z71 z28.2.2.2.2.2.2.2.2.1 (v2 - 1) (-9)).bind fun z79 =>
      if z79 = 0 then (
        (astN z71 z28.2.2.2.2.2.2.2.2.2.1 v5 1).bind fun z104 =>
        some (.inl (v2, v3, (v5 + 1), z104)))
      else (
        (L_spanningThreshold z28.1 z28.2.1 z28.2.2.1 z28.2.2.2.2.2.2.2.1 z28.2.2.2.2.2.2.2.2.2.1 z71 z28.2.2.2.2.2.2.2.2.1).bind fun z87 =>
        (astN z71 z28.2.2.2.2.2.2.2.2.2.1 v5 1).bind fun z104 =>
        some (.inl (z87, v5, (v5 + 1), z104))))
    else (
      some (.inl (v2, v3, (v5 + 1), kc28_8))))
def C_bestValve_36c (z28 : Int32 × Int32 × Nat × Int32 × Int32 × Int32 × Int32 × Nat × (Nat → Int32) × Nat × (Nat → Nat) × (Nat → Int32) × (Nat → Int32) × (Nat → Int32)) (v2 : Int32) (v3 : Int32) (v5 : Int32) (kc28_8 : (Nat → Nat)) : Option ((Int32 × Int32 × Int32 × (Nat → Nat)) ⊕ (Int32 × (Nat → Nat))) :=
  if (nI z28.2.2.2.2.2.2.2.2.2.1) ≤ v5 then (
    some (.inr (v3, kc28_8)))
  else (
    (aldN kc28_8 z28.2.2.2.2.2.2.2.2.2.1 v5).bind fun z54 =>
    (eqV z54 1).bind fun z58 =>
    if z58 = true then (
      none)
    else (
      some (.inl (v2, v3, (v5 + 1), kc28_8))))
def C_bestValve_j20 (cols : Int32) (rows : Int32) (thr : Int32) (bt : Int32) (tm : Int32) (rea : Int32) (kd : Nat) (n : Nat) (n4 : Nat) (vl : (Nat → Nat)) (gr : (Nat → Int32)) (so : (Nat → Int32)) (dy : (Nat → Int32)) (cg : (Nat → Int32)) (s0 : Int32) : Option (Int32) :=
  (L_copy cols rows thr bt tm rea kd n n4 vl gr so dy cg).bind fun z28 =>
  (loopB (fun x => C_bestValve_36c z28 x.1 x.2.1 x.2.2.1 x.2.2.2) (fun x => C_bestValve_36 z28 x.1 x.2.1 x.2.2.1 x.2.2.2) 400 64 (s0, (-9), 0, z28.2.2.2.2.2.2.2.2.2.2.1)).bind fun z36 =>
  some z36.1
def C_bestValve (cols : Int32) (rows : Int32) (thr : Int32) (bt : Int32) (tm : Int32) (rea : Int32) (kd : Nat) (n : Nat) (n4 : Nat) (vl : (Nat → Nat)) (gr : (Nat → Int32)) (so : (Nat → Int32)) (dy : (Nat → Int32)) (cg : (Nat → Int32)) : Option (Int32) :=
  (L_spanningThreshold cols rows kd n n4 vl gr).bind fun z4 =>
  if z4 = (-9) then (
    C_bestValve_j20 cols rows thr bt tm rea kd n n4 vl gr so dy cg 101)
  else (
    C_bestValve_j20 cols rows thr bt tm rea kd n n4 vl gr so dy cg z4)
