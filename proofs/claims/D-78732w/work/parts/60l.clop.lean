/-! PLAIN LAWS, 10: what is told of clusters -/
set_option maxRecDepth 100000
theorem pu_a00 (a : Int32) : a + 0 = a := Int32.add_zero a
section CO
variable {w h kd : Nat} {thr bt tm rea : Int32} {gr : Nat → Int32} {vl : Nat → Nat} {so dy cg now : Nat → Int32} {t : Int32}
theorem pu_countOf (G : pu_G w h kd) {k : Nat} {clu : Nat → Int32} (C : pu_CI w h kd gr vl t (w * h) k clu) : C_countOf (w * h) clu = some (nI k) := by
  obtain ⟨n4, n80⟩ := pu_G80 G
  obtain ⟨C1, C2, C3, C4, C5⟩ := C
  have hh := pu_for (st := fun x => C_countOf_10 (nI (w * h)) (w * h) clu x.1 x.2) (fun i (a : Int32) => (a, nI i)) (fun i a => if a < clu i + 1 then clu i + 1 else a) (fun a => a) (fun i a => ∃ m, a = nI m ∧ m ≤ k ∧ ∀ x, x < i → ∀ j, j < k → clu x = nI j → j < m) (N := w * h) (fu := FU) (a := (0 : Int32))
    (by
      rintro i _ hi ⟨m, rfl, J1, J2⟩
      refine ⟨?_, ?_⟩
      · show C_countOf_10 (nI (w * h)) (w * h) clu (nI m) (nI i) = _
        unfold C_countOf_10
        rw [if_neg (nI_ge hi (by omega)), pu_ald hi (by omega), pu_bind, pu_a1]
      · rcases C2 i hi with e | ⟨j, hj, e⟩
        · have e1 : ¬ nI m < clu i + 1 := by
            rw [e, Int32.lt_iff_toInt_lt, nI_toInt (by omega), show ((-9 : Int32) + 1).toInt = -8 from by decide]
            omega
          rw [if_neg e1]
          refine ⟨m, rfl, J1, fun x hx j hj hx2 => ?_⟩
          rcases Nat.lt_or_ge x i with q | q
          · exact J2 x q j hj hx2
          · have e2 : x = i := by omega
            subst e2
            rw [e] at hx2
            exact absurd hx2.symm (pu_nI_m9 (by omega))
        · rw [e, pu_a1]
          by_cases e1 : nI m < nI (j + 1)
          · rw [if_pos e1]
            rw [nI_ltI (by omega) (by omega)] at e1
            refine ⟨j + 1, rfl, by omega, fun x hx j2 hj2 hx2 => ?_⟩
            rcases Nat.lt_or_ge x i with q | q
            · have := J2 x q j2 hj2 hx2; omega
            · have e2 : x = i := by omega
              subst e2
              rw [e, nI_eq (by omega) (by omega)] at hx2
              omega
          · rw [if_neg e1]
            rw [nI_ltI (by omega) (by omega)] at e1
            refine ⟨m, rfl, J1, fun x hx j2 hj2 hx2 => ?_⟩
            rcases Nat.lt_or_ge x i with q | q
            · exact J2 x q j2 hj2 hx2
            · have e2 : x = i := by omega
              subst e2
              rw [e, nI_eq (by omega) (by omega)] at hx2
              omega)
    (by
      intro a _
      show C_countOf_10 (nI (w * h)) (w * h) clu a (nI (w * h)) = _
      unfold C_countOf_10
      rw [if_pos (Int32.le_refl _)]) ⟨0, rfl, Nat.zero_le _, fun x hx => absurd hx (Nat.not_lt_zero _)⟩ (pu_FU (by omega))
  obtain ⟨h1, m, h2, h3, h4⟩ := hh
  have e : m = k := by
    rcases Nat.eq_zero_or_pos k with q | q
    · omega
    · obtain ⟨x, a1, a2⟩ := C4 (k - 1) (by omega)
      have := h4 x a1 (k - 1) (by omega) a2
      omega
  unfold C_countOf
  rw [show loopN (fun x => C_countOf_10 (nI (w * h)) (w * h) clu x.1 x.2) FU (0, 0) = _ from h1, pu_bind, h2, e]
/-- how many cells a cluster has -/
def pu_sz (n : Nat) (clu : Nat → Int32) (v : Int32) : Nat := fb_ct (fun x => decide (clu x = v)) n
theorem pu_MsizeOf (N : pu_N w h kd now) (G : pu_G w h kd) {clu clm : Nat → Int32} (J : ∀ x, x < w * h → clm x = clu x) (v : Int32) : M_sizeOf now clm v = some (nI (pu_sz (w * h) clu v)) := by
  obtain ⟨n4, n80⟩ := pu_G80 G
  have hh := pu_for (st := fun x => M_sizeOf_4 v now clm x.1 x.2) (fun i (a : Int32) => (a, nI i)) (fun i a => if clu i = v then a + 1 else a + 0) (fun a => a) (fun i a => a = nI (pu_sz i clu v)) (N := w * h) (fu := FU) (a := (0 : Int32))
    (by
      rintro i a hi Ja
      refine ⟨?_, ?_⟩
      · show M_sizeOf_4 v now clm a (nI i) = _
        unfold M_sizeOf_4
        rw [pu_Mcells N, pu_bind, if_neg (nI_ge hi (by omega)), pu_ald (by omega) (by decide), pu_bind, J i hi, pu_a1]
        by_cases e : clu i = v
        · rw [if_pos e, if_pos e]
        · rw [if_neg e, if_neg e]
      · unfold pu_sz
        rw [fb_ct_succ]
        by_cases e : clu i = v
        · rw [if_pos e, decide_eq_true e, if_pos rfl, Ja, pu_a1]; rfl
        · rw [if_neg e, decide_eq_false e, if_neg (by decide), Ja, pu_a0]; rfl)
    (by
      intro a _
      show M_sizeOf_4 v now clm a (nI (w * h)) = _
      unfold M_sizeOf_4
      rw [pu_Mcells N, pu_bind, if_pos (Int32.le_refl _)]) rfl (pu_FU (by omega))
  unfold M_sizeOf
  rw [show loopN (fun x => M_sizeOf_4 v now clm x.1 x.2) FU (0, 0) = _ from hh.1, pu_bind, hh.2]
def pu_grs (n : Nat) (gr clu : Nat → Int32) (v : Int32) : Int32 := pu_it (fun i (a : Int32) => if clu i = v then a + gr i else a) n 0
theorem pu_MgrainsOf (R : pu_R w h kd gr vl now) (G : pu_G w h kd) {clu clm : Nat → Int32} (J : ∀ x, x < w * h → clm x = clu x) (v : Int32) : M_grainsOf now clm v = some (pu_grs (w * h) gr clu v) := by
  obtain ⟨n4, n80⟩ := pu_G80 G
  have hh := pu_for0 (st := fun x => M_grainsOf_4 v now clm x.1 x.2) (fun i (a : Int32) => (a, nI i)) (fun i a => if clu i = v then a + gr i else a) (fun a => a) (N := w * h) (fu := FU) (a := (0 : Int32))
    (by
      rintro i a hi
      show M_grainsOf_4 v now clm a (nI i) = _
      unfold M_grainsOf_4
      rw [pu_Mcells R.1, pu_bind, if_neg (nI_ge hi (by omega)), pu_ald (by omega) (by decide), pu_bind, J i hi, pu_nowG R G hi, pu_bind, pu_a1, pu_a00]
      by_cases e : clu i = v
      · rw [if_pos e, if_pos e]
      · rw [if_neg e, if_neg e])
    (by
      intro a
      show M_grainsOf_4 v now clm a (nI (w * h)) = _
      unfold M_grainsOf_4
      rw [pu_Mcells R.1, pu_bind, if_pos (Int32.le_refl _)]) (pu_FU (by omega))
  unfold M_grainsOf
  rw [show loopN (fun x => M_grainsOf_4 v now clm x.1 x.2) FU (0, 0) = _ from hh, pu_bind]
  rfl
/-- the sides that a cell touches -/
def pu_sd (w h c : Nat) : Int32 := (((if c % w = 0 then 1 else 0) ||| (if c % w = w - 1 then 2 else 0)) ||| (if c / w = 0 then 4 else 0)) ||| (if c / w = h - 1 then 8 else 0)
theorem pu_nIe {α : Type} {a b : Nat} (ha : a < 2 ^ 31) (hb : b < 2 ^ 31) (A B : α) : (if nI a = nI b then A else B) = if a = b then A else B := by
  by_cases e : a = b
  · rw [e, if_pos rfl, if_pos rfl]
  · rw [if_neg e, if_neg (fun z => e ((nI_eq ha hb).mp z))]
theorem pu_nI0 {α : Type} {a : Nat} (ha : a < 2 ^ 31) (A B : α) : (if nI a = 0 then A else B) = if a = 0 then A else B := pu_nIe (b := 0) ha (by decide) A B
theorem pu_Csides (G : pu_G w h kd) {c : Nat} (hc : c < w * h) : C_sides (nI w) (nI h) (nI c) = some (pu_sd w h c) := by
  obtain ⟨n4, n80⟩ := pu_G80 G
  obtain ⟨g1, g2, g3, g4, g5⟩ := G
  have hq := pu_qh hc
  have hr := pu_rw hc
  unfold C_sides C_sides_j29 C_sides_j57 pu_sd
  rw [pu_irm (by omega) (by omega) (by omega), pu_bind, pu_idv (by omega) (by omega) (by omega), pu_bind, pu_s1 (by omega), pu_s1 (by omega)]
  simp only [pu_nI0 (a := c % w) (by omega), pu_nI0 (a := c / w) (by omega), pu_nIe (a := c % w) (b := w - 1) (by omega) (by omega), pu_nIe (a := c / w) (b := h - 1) (by omega) (by omega)]
  by_cases e1 : c % w = 0 <;> (first | simp only [if_pos e1] | simp only [if_neg e1]) <;> by_cases e2 : c % w = w - 1 <;> (first | simp only [if_pos e2] | simp only [if_neg e2]) <;> by_cases e3 : c / w = 0 <;> (first | simp only [if_pos e3] | simp only [if_neg e3]) <;> by_cases e4 : c / w = h - 1 <;> (first | simp only [if_pos e4] | simp only [if_neg e4])
theorem pu_cw {c : Nat} (hw : 0 < w) (hw2 : w < 2 ^ 31) (hc : c < 2 ^ 31) {α : Type} (A B : α) : (if nI w ≤ nI c then A else B) = if c / w = 0 then B else A := by
  by_cases e : w ≤ c
  · rw [if_pos (nI_le e hc), if_neg]
    obtain ⟨h1, -⟩ := pu_q1 e hw
    omega
  · rw [if_neg (nI_ge (by omega) hw2), if_pos (Nat.div_eq_of_lt (by omega))]
def pu_sds (w h n : Nat) (clu : Nat → Int32) (v : Int32) : Int32 := pu_it (fun i (a : Int32) => if clu i = v then a ||| pu_sd w h i else a) n 0
theorem pu_MsidesOf (R : pu_R w h kd gr vl now) (G : pu_G w h kd) {clu clm : Nat → Int32} (J : ∀ x, x < w * h → clm x = clu x) (v : Int32) : M_sidesOf now clm v = some (pu_sds w h (w * h) clu v) := by
  obtain ⟨n4, n80⟩ := pu_G80 G
  have G0 := G
  obtain ⟨g1, g2, g3, g4, g5⟩ := G
  have hh := pu_for0 (st := fun x => M_sidesOf_4 v now clm x.1 x.2) (fun i (a : Int32) => (a, nI i)) (fun i a => if clu i = v then a ||| pu_sd w h i else a) (fun a => a) (N := w * h) (fu := FU) (a := (0 : Int32))
    (by
      rintro c a hc
      have hq := pu_qh hc
      have hr := pu_rw hc
      show M_sidesOf_4 v now clm a (nI c) = _
      have hid : idv (nI c) (nI w) = some (nI (c / w)) := pu_idv (by omega) (by omega) (by omega)
      unfold M_sidesOf_4 M_sidesOf_4_j36 M_sidesOf_4_j73 pu_sd
      rw [pu_Mcells R.1, pu_bind, if_neg (nI_ge hc (by omega)), pu_ald (by omega) (by decide), pu_bind, J c hc]
      by_cases e : clu c = v
      · rw [if_pos e, if_pos e]
        simp only [pu_Mcol R.1 G0 hc, pu_now0 R.1, pu_now1 R.1, pu_bind, hid, pu_a1]
        rw [pu_s1 (by omega), pu_s1 (by omega)]
        simp only [pu_nI0 (a := c % w) (by omega), pu_nIe (a := c % w) (b := w - 1) (by omega) (by omega), pu_nIe (a := c / w) (b := h - 1) (by omega) (by omega), pu_cw (w := w) (c := c) (by omega) (by omega) (by omega)]
        by_cases e1 : c % w = 0 <;> (first | simp only [if_pos e1] | simp only [if_neg e1]) <;> by_cases e2 : c % w = w - 1 <;> (first | simp only [if_pos e2] | simp only [if_neg e2]) <;> by_cases e3 : c / w = 0 <;> (first | simp only [if_pos e3] | simp only [if_neg e3]) <;> by_cases e4 : c / w = h - 1 <;> (first | simp only [if_pos e4] | simp only [if_neg e4])
      · rw [if_neg e, if_neg e, pu_a1])
    (by
      intro a
      show M_sidesOf_4 v now clm a (nI (w * h)) = _
      unfold M_sidesOf_4
      rw [pu_Mcells R.1, pu_bind, if_pos (Int32.le_refl _)]) (pu_FU (by omega))
  unfold M_sidesOf
  rw [show loopN (fun x => M_sidesOf_4 v now clm x.1 x.2) FU (0, 0) = _ from hh, pu_bind]
  rfl
/-- bonds with one end in a cluster (false), or that join two of its cells (true) -/
def pu_bo (w h kd : Nat) (vl : Nat → Nat) (clu : Nat → Int32) (v : Int32) (ins : Bool) (c d : Nat) : Bool := match (if d < kd + 2 then pu_sec w h d c else none) with
  | none => false
  | some x => if ins = true then (decide (clu c = v) && decide (clu x = v)) && decide (¬ vl (4 * c + d) = 1) else decide (clu c = v) != decide (clu x = v)
def pu_bos (w h kd : Nat) (vl : Nat → Nat) (clu : Nat → Int32) (v : Int32) (ins : Bool) : Int32 := pu_it (fun c a => pu_it (fun d (a : Int32) => if pu_bo w h kd vl clu v ins c d = true then a + 1 else a) 4 a) (w * h) 0
theorem pu_CbondsOf (G : pu_G w h kd) (hv : ∀ i, i < 4 * (w * h) → vl i < 5) (clu : Nat → Int32) (v : Int32) (ins : Bool) : C_bondsOf (nI w) (nI h) kd (w * h) (4 * (w * h)) vl clu v (pu_01 ins) = some (pu_bos w h kd vl clu v ins) := by
  obtain ⟨n4, n80⟩ := pu_G80 G
  have hh := pu_for0 (st := fun x => C_bondsOf_6 v (pu_01 ins) (nI w) (nI h) kd (w * h) (4 * (w * h)) vl clu x.1 x.2) (fun i (a : Int32) => (a, nI i)) (fun i a => if pu_bo w h kd vl clu v ins (i / 4) (i % 4) = true then a + 1 else a) (fun a => a) (N := 4 * (w * h)) (fu := FU) (a := (0 : Int32))
    (by
      intro i a hi
      show C_bondsOf_6 v (pu_01 ins) (nI w) (nI h) kd (w * h) (4 * (w * h)) vl clu a (nI i) = _
      have hid : idv (nI i) 4 = some (nI (i / 4)) := pu_idv (d := 4) (by omega) (by decide) (by decide)
      have hir : irm (nI i) 4 = some (nI (i % 4)) := pu_irm (d := 4) (by omega) (by decide) (by decide)
      have hc : i / 4 < w * h := by omega
      have hd : i % 4 < 4 := by omega
      have hiv : vl (4 * (i / 4) + i % 4) = vl i := congrArg vl (by omega)
      unfold C_bondsOf_6 C_bondsOf_6_j54 C_bondsOf_6_j80 C_bondsOf_6_j128 pu_bo
      rw [if_neg (nI_ge hi (by omega)), hid, pu_bind, hir, pu_bind, pu_LisB G hc hd, pu_bind, hiv]
      unfold pu_bd
      by_cases k : i % 4 < kd + 2
      · rw [decide_eq_true k, Bool.true_and, if_pos k]
        have hL := pu_Lsec G hc hd
        cases hs : pu_sec w h (i % 4) (i / 4) with
        | none => rw [show pu_01 (none : Option Nat).isSome = 0 from rfl, if_pos rfl, pu_a1]; rfl
        | some x =>
          have hx := (pu_sec_lt hc hs).1
          rw [show pu_01 (some x).isSome = 1 from rfl, if_neg pu_10]
          rw [hs] at hL
          have hE : eqV (vl i) 1 = some (decide (vl i = 1)) := by
            unfold eqV
            rw [if_pos ⟨hv i hi, by decide⟩]
          simp only [hir, hL, hE, pu_bind, pu_cds, pu_ald hc (show w * h < 2 ^ 31 by omega), pu_ald hx (show w * h < 2 ^ 31 by omega), pu_aldN hi (show 4 * (w * h) < 2 ^ 31 by omega) (hv i hi), pu_a1, pu_a00]
          cases ins with
          | false =>
            simp only [pu_01f]
            by_cases e1 : clu (i / 4) = v <;> by_cases e2 : clu x = v <;> simp [e1, e2]
          | true =>
            simp only [pu_01t]
            by_cases e1 : clu (i / 4) = v <;> by_cases e2 : clu x = v <;> by_cases e3 : vl i = 1 <;> simp [e1, e2, e3]
      · rw [decide_eq_false k, Bool.false_and, if_neg k, pu_01f, if_pos rfl, pu_a1]; rfl)
    (by
      intro a
      show C_bondsOf_6 v (pu_01 ins) (nI w) (nI h) kd (w * h) (4 * (w * h)) vl clu a (nI (4 * (w * h))) = _
      unfold C_bondsOf_6
      rw [if_pos (Int32.le_refl _)]) (pu_FU (by omega))
  unfold C_bondsOf
  rw [show loopN (fun x => C_bondsOf_6 v (pu_01 ins) (nI w) (nI h) kd (w * h) (4 * (w * h)) vl clu x.1 x.2) FU (0, 0) = _ from hh, pu_bind]
  rw [pu_it_4 (fun c d (a : Int32) => if pu_bo w h kd vl clu v ins c d = true then a + 1 else a)]
  rfl
theorem pu_MbondsOf (R : pu_R w h kd gr vl now) (G : pu_G w h kd) {clu clm : Nat → Int32} (J : ∀ x, x < w * h → clm x = clu x) (v : Int32) (ins : Bool) : M_bondsOf now clm v (if ins = true then 2 else 1) = some (pu_bos w h kd vl clu v ins) := by
  obtain ⟨n4, n80⟩ := pu_G80 G
  have hh := pu_for0 (st := fun x => M_bondsOf_5 v (if ins = true then 2 else 1) now clm x.1 x.2) (fun i (a : Int32) => (a, nI i)) (fun c a => pu_it (fun d (a : Int32) => if pu_bo w h kd vl clu v ins c d = true then a + 1 else a) 4 a) (fun a => a) (N := w * h) (fu := FU) (a := (0 : Int32))
    (by
      intro c a hc
      have h1 := pu_for0 (st := fun x => M_bondsOf_17 v (if ins = true then 2 else 1) (nI c) now clm x.1 x.2) (fun d (a : Int32) => (a, nI d)) (fun d (a : Int32) => if pu_bo w h kd vl clu v ins c d = true then a + 1 else a) (fun a => a) (N := 4) (fu := FU) (a := a)
        (by
          intro d a hd
          show M_bondsOf_17 v (if ins = true then 2 else 1) (nI c) now clm a (nI d) = _
          have hv := (R.2.2 (4 * c + d) (by omega)).2
          unfold M_bondsOf_17 M_bondsOf_17_j77 pu_bo
          rw [if_neg (show ¬ (4 : Int32) ≤ nI d from nI_ge (b := 4) hd (by decide)), pu_Msec R.1 G hc hd, pu_bind]
          cases hs : (if d < kd + 2 then pu_sec w h d c else none) with
          | none => cases ins <;> simp [pu_cdn, pu_a1]
          | some x =>
            have hx := pu_o1 (h := h) hc hs
            rw [pu_cds, if_neg (pu_nI_m9 (by omega))]
            simp only [pu_ald (show c < 80 by omega) (show 80 < 2 ^ 31 by decide), pu_ald (show x < 80 by omega) (show 80 < 2 ^ 31 by decide), pu_bind, J c hc, J x hx, pu_Mval R G hc hd, pu_a1, pu_a00]
            have e3 : nI (vl (4 * c + d)) = 1 ↔ vl (4 * c + d) = 1 := nI_eq (b := 1) (by omega) (by decide)
            cases ins with
            | false => by_cases e1 : clu c = v <;> by_cases e2 : clu x = v <;> simp [e1, e2]
            | true => by_cases e1 : clu c = v <;> by_cases e2 : clu x = v <;> by_cases e4 : vl (4 * c + d) = 1 <;> simp [e1, e2, e3, e4, show nI 1 = (1 : Int32) from rfl])
        (by
          intro a
          show M_bondsOf_17 v (if ins = true then 2 else 1) (nI c) now clm a (nI 4) = _
          unfold M_bondsOf_17
          rw [if_pos (by decide)]) (pu_FU (by omega))
      show M_bondsOf_5 v (if ins = true then 2 else 1) now clm a (nI c) = _
      unfold M_bondsOf_5
      rw [pu_Mcells R.1, pu_bind, if_neg (nI_ge hc (by omega)), show loopN (fun x => M_bondsOf_17 v (if ins = true then 2 else 1) (nI c) now clm x.1 x.2) FU (a, 0) = _ from h1, pu_bind, pu_a1])
    (by
      intro a
      show M_bondsOf_5 v (if ins = true then 2 else 1) now clm a (nI (w * h)) = _
      unfold M_bondsOf_5
      rw [pu_Mcells R.1, pu_bind, if_pos (Int32.le_refl _)]) (pu_FU (by omega))
  unfold M_bondsOf
  rw [show loopN (fun x => M_bondsOf_5 v (if ins = true then 2 else 1) now clm x.1 x.2) FU (0, 0) = _ from hh, pu_bind]
  rfl
end CO
