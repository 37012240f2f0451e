/-! PLAIN LAWS, 1: cells and bonds -/
set_option maxRecDepth 100000
/-- the second end of the bond of a cell in a direction -/
def pu_sec (w h d c : Nat) : Option Nat :=
  if d = 0 then (if c % w + 1 < w then some (c + 1) else none)
  else if d = 1 then (if c / w + 1 < h then some (c + w) else none)
  else if d = 2 then (if 1 ≤ c % w ∧ c / w + 1 < h then some (c + w - 1) else none)
  else (if c % w + 1 < w ∧ c / w + 1 < h then some (c + w + 1) else none)
/-- the first end -/
def pu_fst (w d c : Nat) : Option Nat :=
  if d = 0 then (if 1 ≤ c % w then some (c - 1) else none)
  else if d = 1 then (if w ≤ c then some (c - w) else none)
  else if d = 2 then (if c % w + 1 < w ∧ w ≤ c then some (c - w + 1) else none)
  else (if 1 ≤ c % w ∧ w ≤ c then some (c - w - 1) else none)
def pu_cd (o : Option Nat) : Int32 := match o with
  | none => -9
  | some c => nI c
/-- sizes and kind -/
def pu_G (w h kd : Nat) : Prop := 2 ≤ w ∧ w ≤ 10 ∧ 2 ≤ h ∧ h ≤ 8 ∧ kd ≤ 2
theorem pu_G80 {w h kd : Nat} (G : pu_G w h kd) : 4 ≤ w * h ∧ w * h ≤ 80 := by
  obtain ⟨a, b, c, d, -⟩ := G
  exact ⟨Nat.mul_le_mul a c, Nat.mul_le_mul b d⟩
theorem pu_dm {w c : Nat} : c / w * w + c % w = c := by rw [Nat.mul_comm]; exact Nat.div_add_mod c w
theorem pu_dm2 {w q r : Nat} (h : r < w) : (q * w + r) / w = q ∧ (q * w + r) % w = r := by
  constructor
  · rw [Nat.mul_comm, Nat.mul_add_div (by omega), Nat.div_eq_of_lt h, Nat.add_zero]
  · rw [Nat.mul_comm, Nat.mul_add_mod, Nat.mod_eq_of_lt h]
theorem pu_qh {w h c : Nat} (hc : c < w * h) : c / w < h := Nat.div_lt_of_lt_mul hc
theorem pu_rw {w h c : Nat} (hc : c < w * h) : c % w < w := by
  apply Nat.mod_lt
  rcases Nat.eq_zero_or_pos w with e | e
  · rw [e, Nat.zero_mul] at hc; omega
  · exact e
/-- a place by row and column -/
theorem pu_rc {w h q r : Nat} (hq : q < h) (hr : r < w) : q * w + r < w * h := by
  have : (q + 1) * w ≤ h * w := Nat.mul_le_mul_right w hq
  rw [Nat.add_mul, Nat.one_mul] at this
  rw [Nat.mul_comm w h]
  omega
theorem pu_cellAt {w h x y : Nat} (hw : w < 2 ^ 30) (hh : h < 2 ^ 30) (hx : x < w) (hy : y < h) : L_cellAt (nI w) (nI h) (nI x) (nI y) = some (nI (y * w + x)) := by
  unfold L_cellAt
  have e0 : (0 : Int32).toInt = 0 := by decide
  have e1 : nI w - 1 = nI (w - 1) := pk_sub (a := w) (b := 1) (by omega)
  have e2 : nI h - 1 = nI (h - 1) := pk_sub (a := h) (b := 1) (by omega)
  rw [pu_btw, e1, e2, nI_toInt (n := x) (by omega), nI_toInt (n := w - 1) (by omega), e0, if_pos (by omega), pu_bind, if_neg pu_10, pu_btw, nI_toInt (n := y) (by omega), nI_toInt (n := h - 1) (by omega), e0, if_pos (by omega), pu_bind, if_neg pu_10, pk_mul, nI_add]
theorem pu_cellAtX {w h : Nat} {x y : Int32} (hw : w < 2 ^ 30) (hw0 : 0 < w) (hx : x.toInt < 0 ∨ (w : Int) ≤ x.toInt) : L_cellAt (nI w) (nI h) x y = some (-9) := by
  unfold L_cellAt
  have e0 : (0 : Int32).toInt = 0 := by decide
  have e1 : nI w - 1 = nI (w - 1) := pk_sub (a := w) (b := 1) (by omega)
  rw [pu_btw, e1, nI_toInt (n := w - 1) (by omega), e0, if_neg (by omega), pu_bind, if_pos rfl]
theorem pu_cellAtY {w h : Nat} {x y : Int32} (hh : h < 2 ^ 30) (hh0 : 0 < h) (hy : y.toInt < 0 ∨ (h : Int) ≤ y.toInt) : L_cellAt (nI w) (nI h) x y = some (-9) := by
  unfold L_cellAt
  have e0 : (0 : Int32).toInt = 0 := by decide
  have e2 : nI h - 1 = nI (h - 1) := pk_sub (a := h) (b := 1) (by omega)
  rw [pu_btw, pu_bind]
  by_cases q : (0 : Int32).toInt ≤ x.toInt ∧ x.toInt ≤ (nI w - 1).toInt
  · rw [if_pos q, if_neg pu_10, pu_btw, e2, nI_toInt (n := h - 1) (by omega), e0, if_neg (by omega), pu_bind, if_pos rfl]
  · rw [if_neg q, if_pos rfl]
theorem pu_m1 {n : Nat} (h : n < 2 ^ 31) : (nI n + (-1)).toInt = (n : Int) - 1 := by
  rcases Nat.eq_zero_or_pos n with e | e
  · subst e; decide
  · rw [sb_m1 e, nI_toInt (by omega)]; omega
theorem pu_x0 : C_xStep (nI 0) = some 1 := by decide
theorem pu_x1 : C_xStep (nI 1) = some 0 := by decide
theorem pu_x2 : C_xStep (nI 2) = some (-1) := by decide
theorem pu_x3 : C_xStep (nI 3) = some 1 := by decide
theorem pu_y0 : C_yStep (nI 0) = some 0 := by decide
theorem pu_y1 : C_yStep (nI 1) = some 1 := by decide
theorem pu_y2 : C_yStep (nI 2) = some 1 := by decide
theorem pu_y3 : C_yStep (nI 3) = some 1 := by decide
theorem pu_a0 (n : Nat) : nI n + 0 = nI n := nI_add n 0
theorem pu_a1 (n : Nat) : nI n + 1 = nI (n + 1) := nI_add n 1
theorem pu_s0 (n : Nat) : nI n - 0 = nI n := pk_sub (a := n) (b := 0) (Nat.zero_le _)
theorem pu_s1 {n : Nat} (h : 0 < n) : nI n - 1 = nI (n - 1) := pk_sub (a := n) (b := 1) h
theorem pu_sm (n : Nat) : nI n - (-1) = nI (n + 1) := by
  rw [Int32.sub_eq_add_neg, Int32.neg_neg]; exact pu_a1 n
theorem pu_neg1 {n : Nat} (h : n < 2 ^ 31) : (nI n - 1).toInt = (n : Int) - 1 := by
  rcases Nat.eq_zero_or_pos n with e | e
  · subst e; decide
  · rw [pu_s1 e, nI_toInt (by omega)]; omega
theorem pu_Lsec {w h kd c d : Nat} (G : pu_G w h kd) (hc : c < w * h) (hd : d < 4) : L_second (nI w) (nI h) (nI c) (nI d) = some (pu_cd (pu_sec w h d c)) := by
  obtain ⟨-, n80⟩ := pu_G80 G
  obtain ⟨g1, g2, g3, g4, -⟩ := G
  have hq := pu_qh hc
  have hr := pu_rw hc
  have hcq := pu_dm (w := w) (c := c)
  unfold L_second
  rw [pu_irm (a := c) (d := w) (by omega) (by omega) (by omega), pu_bind, pu_idv (a := c) (d := w) (by omega) (by omega) (by omega)]
  generalize hqe : c / w = q at *
  generalize hre : c % w = r at *
  have hd4 : d = 0 ∨ d = 1 ∨ d = 2 ∨ d = 3 := by omega
  rcases hd4 with rfl | rfl | rfl | rfl
  · rw [pu_x0, pu_bind, pu_bind, pu_y0, pu_bind, pu_a0, pu_a1]
    unfold pu_sec
    rw [if_pos rfl, hre]
    by_cases k : r + 1 < w
    · rw [pu_cellAt (by omega) (by omega) k hq, if_pos k, pu_bind]
      exact congrArg some (congrArg nI (by omega))
    · rw [pu_cellAtX (by omega) (by omega) (Or.inr (by rw [nI_toInt (by omega)]; omega)), if_neg k, pu_bind]
      rfl
  · rw [pu_x1, pu_bind, pu_bind, pu_y1, pu_bind, pu_a0, pu_a1]
    unfold pu_sec
    rw [if_neg (by decide), if_pos rfl, hqe]
    by_cases k : q + 1 < h
    · rw [pu_cellAt (by omega) (by omega) hr k, if_pos k, pu_bind]
      exact congrArg some (congrArg nI (by rw [Nat.add_mul, Nat.one_mul]; omega))
    · rw [pu_cellAtY (by omega) (by omega) (Or.inr (by rw [nI_toInt (by omega)]; omega)), if_neg k, pu_bind]
      rfl
  · rw [pu_x2, pu_bind, pu_bind, pu_y2, pu_bind, pu_a1]
    unfold pu_sec
    rw [if_neg (by decide), if_neg (by decide), if_pos rfl, hqe, hre]
    by_cases k1 : 1 ≤ r
    · by_cases k : q + 1 < h
      · rw [sb_m1 (by omega), pu_cellAt (by omega) (by omega) (by omega) k, if_pos ⟨k1, k⟩, pu_bind]
        exact congrArg some (congrArg nI (by rw [Nat.add_mul, Nat.one_mul]; omega))
      · rw [pu_cellAtY (by omega) (by omega) (Or.inr (by rw [nI_toInt (by omega)]; omega)), if_neg (fun z => k z.2), pu_bind]
        rfl
    · rw [pu_cellAtX (by omega) (by omega) (Or.inl (by rw [pu_m1 (by omega)]; omega)), if_neg (fun z => k1 z.1), pu_bind]
      rfl
  · rw [pu_x3, pu_bind, pu_bind, pu_y3, pu_bind, pu_a1, pu_a1]
    unfold pu_sec
    rw [if_neg (by decide), if_neg (by decide), if_neg (by decide), hqe, hre]
    by_cases k1 : r + 1 < w
    · by_cases k : q + 1 < h
      · rw [pu_cellAt (by omega) (by omega) k1 k, if_pos ⟨k1, k⟩, pu_bind]
        exact congrArg some (congrArg nI (by rw [Nat.add_mul, Nat.one_mul]; omega))
      · rw [pu_cellAtY (by omega) (by omega) (Or.inr (by rw [nI_toInt (by omega)]; omega)), if_neg (fun z => k z.2), pu_bind]
        rfl
    · rw [pu_cellAtX (by omega) (by omega) (Or.inr (by rw [nI_toInt (by omega)]; omega)), if_neg (fun z => k1 z.1), pu_bind]
      rfl
theorem pu_Lfst {w h kd c d : Nat} (G : pu_G w h kd) (hc : c < w * h) (hd : d < 4) : L_first (nI w) (nI h) (nI c) (nI d) = some (pu_cd (pu_fst w d c)) := by
  obtain ⟨-, n80⟩ := pu_G80 G
  obtain ⟨g1, g2, g3, g4, -⟩ := G
  have hq := pu_qh hc
  have hr := pu_rw hc
  have hcq := pu_dm (w := w) (c := c)
  have hwc : w ≤ c ↔ 1 ≤ c / w := by
    constructor
    · intro z; exact (Nat.le_div_iff_mul_le (by omega)).mpr (by omega)
    · intro z
      have := Nat.mul_le_mul_right w z
      omega
  unfold L_first
  rw [pu_irm (a := c) (d := w) (by omega) (by omega) (by omega), pu_bind, pu_idv (a := c) (d := w) (by omega) (by omega) (by omega)]
  generalize hqe : c / w = q at *
  generalize hre : c % w = r at *
  have hqw : 1 ≤ q → (q - 1) * w + w = q * w := by
    intro z
    obtain ⟨k, rfl⟩ : ∃ k, q = k + 1 := ⟨q - 1, by omega⟩
    rw [Nat.add_mul, Nat.one_mul]; rfl
  have hd4 : d = 0 ∨ d = 1 ∨ d = 2 ∨ d = 3 := by omega
  rcases hd4 with rfl | rfl | rfl | rfl
  · rw [pu_x0, pu_bind, pu_bind, pu_y0, pu_bind, pu_s0]
    unfold pu_fst
    rw [if_pos rfl, hre]
    by_cases k : 1 ≤ r
    · rw [pu_s1 k, pu_cellAt (by omega) (by omega) (by omega) hq, if_pos k, pu_bind]
      exact congrArg some (congrArg nI (by omega))
    · rw [pu_cellAtX (by omega) (by omega) (Or.inl (by rw [pu_neg1 (by omega)]; omega)), if_neg k, pu_bind]
      rfl
  · rw [pu_x1, pu_bind, pu_bind, pu_y1, pu_bind, pu_s0]
    unfold pu_fst
    rw [if_neg (by decide), if_pos rfl]
    by_cases k : 1 ≤ q
    · have := hqw k
      rw [pu_s1 k, pu_cellAt (by omega) (by omega) hr (by omega), if_pos (hwc.mpr k), pu_bind]
      exact congrArg some (congrArg nI (by omega))
    · rw [pu_cellAtY (by omega) (by omega) (Or.inl (by rw [pu_neg1 (by omega)]; omega)), if_neg (fun z => k (hwc.mp z)), pu_bind]
      rfl
  · rw [pu_x2, pu_bind, pu_bind, pu_y2, pu_bind, pu_sm]
    unfold pu_fst
    rw [if_neg (by decide), if_neg (by decide), if_pos rfl, hre]
    by_cases k1 : r + 1 < w
    · by_cases k : 1 ≤ q
      · have := hqw k
        rw [pu_s1 k, pu_cellAt (by omega) (by omega) k1 (by omega), if_pos ⟨k1, hwc.mpr k⟩, pu_bind]
        exact congrArg some (congrArg nI (by omega))
      · rw [pu_cellAtY (by omega) (by omega) (Or.inl (by rw [pu_neg1 (by omega)]; omega)), if_neg (fun z => k (hwc.mp z.2)), pu_bind]
        rfl
    · rw [pu_cellAtX (by omega) (by omega) (Or.inr (by rw [nI_toInt (by omega)]; omega)), if_neg (fun z => k1 z.1), pu_bind]
      rfl
  · rw [pu_x3, pu_bind, pu_bind, pu_y3, pu_bind]
    unfold pu_fst
    rw [if_neg (by decide), if_neg (by decide), if_neg (by decide), hre]
    by_cases k1 : 1 ≤ r
    · by_cases k : 1 ≤ q
      · have := hqw k
        rw [pu_s1 k1, pu_s1 k, pu_cellAt (by omega) (by omega) (by omega) (by omega), if_pos ⟨k1, hwc.mpr k⟩, pu_bind]
        exact congrArg some (congrArg nI (by omega))
      · rw [pu_cellAtY (by omega) (by omega) (Or.inl (by rw [pu_neg1 (by omega)]; omega)), if_neg (fun z => k (hwc.mp z.2)), pu_bind]
        rfl
    · rw [pu_cellAtX (by omega) (by omega) (Or.inl (by rw [pu_neg1 (by omega)]; omega)), if_neg (fun z => k1 z.1), pu_bind]
      rfl
/-- bonds end at cells, and not where they begin -/
theorem pu_sec_lt {w h d c t : Nat} (hc : c < w * h) (e : pu_sec w h d c = some t) : t < w * h ∧ t ≠ c := by
  have hq := pu_qh hc
  have hr := pu_rw hc
  have hcq := pu_dm (w := w) (c := c)
  unfold pu_sec at e
  split at e
  · split at e
    · rename_i k
      have := pu_rc hq k
      cases e; omega
    · cases e
  · split at e
    · split at e
      · rename_i k
        have := pu_rc k hr
        rw [Nat.add_mul, Nat.one_mul] at this
        cases e; omega
      · cases e
    · split at e
      · split at e
        · rename_i k
          have := pu_rc k.2 (show c % w - 1 < w by omega)
          rw [Nat.add_mul, Nat.one_mul] at this
          cases e; omega
        · cases e
      · split at e
        · rename_i k
          have := pu_rc k.2 k.1
          rw [Nat.add_mul, Nat.one_mul] at this
          cases e; omega
        · cases e
theorem pu_sf1 {w h d c t : Nat} (hc : c < w * h) (e : pu_sec w h d c = some t) : pu_fst w d t = some c := by
  have hr := pu_rw hc
  have hcq := pu_dm (w := w) (c := c)
  have hml := Nat.mod_le c w
  unfold pu_sec at e
  unfold pu_fst
  split at e
  · rename_i e0
    subst e0
    split at e
    · rename_i k
      obtain ⟨-, hm⟩ := pu_dm2 (q := c / w) k
      rw [show c / w * w + (c % w + 1) = c + 1 by omega] at hm
      cases e
      rw [if_pos rfl, hm, if_pos (by omega)]
      exact congrArg some (by omega)
    · cases e
  · rename_i e0
    split at e
    · rename_i e1
      split at e
      · cases e
        rw [if_neg e0, if_pos e1, if_pos (by omega)]
        exact congrArg some (by omega)
      · cases e
    · rename_i e1
      split at e
      · rename_i e2
        split at e
        · rename_i k
          obtain ⟨-, hm⟩ := pu_dm2 (w := w) (q := c / w + 1) (r := c % w - 1) (by omega)
          rw [Nat.add_mul, Nat.one_mul, show c / w * w + w + (c % w - 1) = c + w - 1 by omega] at hm
          cases e
          rw [if_neg e0, if_neg e1, if_pos e2, hm, if_pos ⟨by omega, by omega⟩]
          exact congrArg some (by omega)
        · cases e
      · rename_i e2
        split at e
        · rename_i k
          obtain ⟨-, hm⟩ := pu_dm2 (q := c / w + 1) k.1
          rw [Nat.add_mul, Nat.one_mul, show c / w * w + w + (c % w + 1) = c + w + 1 by omega] at hm
          cases e
          rw [if_neg e0, if_neg e1, if_neg e2, hm, if_pos ⟨by omega, by omega⟩]
          exact congrArg some (by omega)
        · cases e
theorem pu_q1 {w c : Nat} (h : w ≤ c) (hw : 0 < w) : 1 ≤ c / w ∧ (c / w - 1) * w + w = c / w * w := by
  have h1 : 1 ≤ c / w := (Nat.le_div_iff_mul_le hw).mpr (by omega)
  refine ⟨h1, ?_⟩
  generalize c / w = q at *
  obtain ⟨k, rfl⟩ : ∃ k, q = k + 1 := ⟨q - 1, by omega⟩
  rw [Nat.add_mul, Nat.one_mul]; rfl
theorem pu_sf2 {w h d c t : Nat} (ht : t < w * h) (e : pu_fst w d t = some c) : pu_sec w h d c = some t ∧ c < w * h ∧ (if d = 0 then 1 else if d = 1 then w else if d = 2 then w - 1 else w + 1) ≤ t ∧ c = t - (if d = 0 then 1 else if d = 1 then w else if d = 2 then w - 1 else w + 1) := by
  have hr := pu_rw ht
  have hq := pu_qh ht
  have hcq := pu_dm (w := w) (c := t)
  have hml := Nat.mod_le t w
  unfold pu_fst at e
  unfold pu_sec
  split at e
  · rename_i e0
    subst e0
    split at e
    · rename_i k
      obtain ⟨-, hm⟩ := pu_dm2 (w := w) (q := t / w) (r := t % w - 1) (by omega)
      rw [show t / w * w + (t % w - 1) = t - 1 by omega] at hm
      cases e
      rw [if_pos rfl, if_pos rfl, hm, if_pos (by omega)]
      exact ⟨congrArg some (by omega), by omega, by omega, rfl⟩
    · cases e
  · rename_i e0
    split at e
    · rename_i e1
      split at e
      · rename_i k
        obtain ⟨h1, h2⟩ := pu_q1 k (by omega)
        obtain ⟨hm, -⟩ := pu_dm2 (q := t / w - 1) hr
        rw [show (t / w - 1) * w + t % w = t - w by omega] at hm
        cases e
        rw [if_neg e0, if_pos e1, if_neg e0, if_pos e1, hm, if_pos (by omega)]
        exact ⟨congrArg some (by omega), by omega, by omega, rfl⟩
      · cases e
    · rename_i e1
      split at e
      · rename_i e2
        split at e
        · rename_i k
          obtain ⟨h1, h2⟩ := pu_q1 k.2 (by omega)
          obtain ⟨hm, hm2⟩ := pu_dm2 (q := t / w - 1) k.1
          rw [show (t / w - 1) * w + (t % w + 1) = t - w + 1 by omega] at hm hm2
          cases e
          rw [if_neg e0, if_neg e1, if_pos e2, if_neg e0, if_neg e1, if_pos e2, hm, hm2, if_pos ⟨by omega, by omega⟩]
          exact ⟨congrArg some (by omega), by omega, by omega, by omega⟩
        · cases e
      · rename_i e2
        split at e
        · rename_i k
          obtain ⟨h1, h2⟩ := pu_q1 k.2 (by omega)
          have h3 := Nat.mul_le_mul_right w h1
          obtain ⟨hm, hm2⟩ := pu_dm2 (w := w) (q := t / w - 1) (r := t % w - 1) (by omega)
          rw [show (t / w - 1) * w + (t % w - 1) = t - w - 1 by omega] at hm hm2
          cases e
          rw [if_neg e0, if_neg e1, if_neg e2, if_neg e0, if_neg e1, if_neg e2, hm, hm2, if_pos ⟨by omega, by omega⟩]
          exact ⟨congrArg some (by omega), by omega, by omega, by omega⟩
        · cases e
theorem pu_fst_lt {w h d c t : Nat} (ht : t < w * h) (e : pu_fst w d t = some c) : c < w * h ∧ c ≠ t := by
  obtain ⟨h1, h2, -⟩ := pu_sf2 ht e
  exact ⟨h2, fun q => (pu_sec_lt h2 h1).2 q.symm⟩
/-! the reference's cells -/
def pu_N (w h kd : Nat) (now : Nat → Int32) : Prop := now 0 = nI w ∧ now 1 = nI h ∧ now 2 = nI kd
section MG
variable {w h kd : Nat} {now : Nat → Int32}
theorem pu_now0 (N : pu_N w h kd now) : ald now 647 0 = some (nI w) := by rw [← N.1]; exact pu_ald (i := 0) (by decide) (by decide)
theorem pu_now1 (N : pu_N w h kd now) : ald now 647 1 = some (nI h) := by rw [← N.2.1]; exact pu_ald (i := 1) (by decide) (by decide)
theorem pu_now2 (N : pu_N w h kd now) : ald now 647 2 = some (nI kd) := by rw [← N.2.2]; exact pu_ald (i := 2) (by decide) (by decide)
theorem pu_nowk (now : Nat → Int32) (k : Nat) (hk : k < 647) : ald now 647 (OfNat.ofNat k) = some (now k) := pu_ald (i := k) hk (by decide)
/-- a place of the row, by a base and a number -/
theorem pu_nowp (now : Nat → Int32) (k c : Nat) (hk : k + c < 647) : ald now 647 ((OfNat.ofNat k : Int32) + nI c) = some (now (k + c)) := by
  rw [pu_lit, nI_add]; exact pu_ald hk (by decide)
theorem pu_nows (now : Nat → Int32) (k c : Nat) (x : Int32) (hk : k + c < 647) : ast now 647 ((OfNat.ofNat k : Int32) + nI c) x = some (upd now (k + c) x) := by
  rw [pu_lit, nI_add]; exact pu_ast hk (by decide)
theorem pu_Mcells (N : pu_N w h kd now) : M_cells now = some (nI (w * h)) := by
  unfold M_cells
  rw [pu_now0 N, pu_bind, pu_now1 N, pu_bind, pk_mul]
/-- a number that is a place, or none -/
theorem pu_dich (v : Int32) (n : Nat) : (∃ c, c < n ∧ v = nI c) ∨ ∀ c, c < n → v ≠ nI c := by
  by_cases q : ∃ c, c < n ∧ v = nI c
  · exact Or.inl q
  · exact Or.inr fun c hc e => q ⟨c, hc, e⟩
theorem pu_no {v : Int32} {n : Nat} (h0 : 0 < n) (hn : n < 2 ^ 31) (h : ∀ c, c < n → v ≠ nI c) : ¬ ((0 : Int32).toInt ≤ v.toInt ∧ v.toInt ≤ (nI n - 1).toInt) := by
  rintro ⟨h1, h2⟩
  have e0 : (0 : Int32).toInt = 0 := by decide
  rw [e0] at h1
  rw [pu_s1 h0, nI_toInt (by omega)] at h2
  refine h v.toInt.toNat (by omega) (pu_eqI ?_)
  rw [nI_toInt (by omega)]; omega
theorem pu_yes {n c : Nat} (hn : n < 2 ^ 31) (hc : c < n) : (0 : Int32).toInt ≤ (nI c).toInt ∧ (nI c).toInt ≤ (nI n - 1).toInt := by
  have e0 : (0 : Int32).toInt = 0 := by decide
  rw [e0, pu_s1 (by omega), nI_toInt (by omega), nI_toInt (by omega)]
  omega
theorem pu_LisC1 {n c : Nat} (hn : n < 2 ^ 31) (hc : c < n) : L_isCell n (nI c) = some 1 := by
  unfold L_isCell
  rw [pu_btw, if_pos (pu_yes hn hc), pu_bind, pu_zck1, pu_bind]
theorem pu_LisC0 {n : Nat} {v : Int32} (h0 : 0 < n) (hn : n < 2 ^ 31) (hv : ∀ c, c < n → v ≠ nI c) : L_isCell n v = some 0 := by
  unfold L_isCell
  rw [pu_btw, if_neg (pu_no h0 hn hv), pu_bind, pu_zck0, pu_bind]
theorem pu_MisC1 (N : pu_N w h kd now) {c : Nat} (hn : w * h < 2 ^ 31) (hc : c < w * h) : M_isCell now (nI c) = some 1 := by
  unfold M_isCell
  rw [pu_Mcells N, pu_bind, pu_wit, pu_btw, if_pos (pu_yes hn hc), pu_bind, pu_zck1, pu_bind]
theorem pu_MisC0 (N : pu_N w h kd now) {v : Int32} (h0 : 0 < w * h) (hn : w * h < 2 ^ 31) (hv : ∀ c, c < w * h → v ≠ nI c) : M_isCell now v = some 0 := by
  unfold M_isCell
  rw [pu_Mcells N, pu_bind, pu_wit, pu_btw, if_neg (pu_no h0 hn hv), pu_bind, pu_zck0, pu_bind]
theorem pu_kd1 (kd : Nat) : nI kd + 1 = nI (kd + 2) - 1 := by rw [pu_s1 (by omega), pu_a1]; rfl
theorem pu_j74 (N : pu_N w h kd now) (G : pu_G w h kd) {x y : Nat} {s0 s1 : Int32} (hs : s0 + s1 = nI y) (hx : x < w) (hy : y < h) : M_second_j74 now (nI x) s0 s1 = some (nI (y * w + x)) := by
  obtain ⟨g1, g2, g3, g4, -⟩ := G
  unfold M_second_j74
  rw [pu_now0 N, pu_bind, pu_wit, pu_btw, if_pos (pu_yes (by omega) hx), pu_bind, if_neg pu_10, pu_now1 N, pu_bind, hs, if_neg (nI_ge hy (by omega)), pu_bind, pk_mul, nI_add]
theorem pu_j74y (N : pu_N w h kd now) (G : pu_G w h kd) {x : Int32} {y : Nat} {s0 s1 : Int32} (hs : s0 + s1 = nI y) (hy : h ≤ y) (hy2 : y < 2 ^ 31) : M_second_j74 now x s0 s1 = some (-9) := by
  obtain ⟨g1, g2, g3, g4, -⟩ := G
  unfold M_second_j74
  rw [pu_now0 N, pu_bind, pu_wit, pu_btw, pu_bind]
  split
  · rw [if_neg pu_10, pu_now1 N, pu_bind, hs, if_pos (nI_le hy hy2)]
  · rw [if_pos rfl]
theorem pu_j74x (N : pu_N w h kd now) (G : pu_G w h kd) {x : Int32} {s0 s1 : Int32} (hx : x.toInt < 0 ∨ (w : Int) ≤ x.toInt) : M_second_j74 now x s0 s1 = some (-9) := by
  obtain ⟨g1, g2, g3, g4, -⟩ := G
  have e0 : (0 : Int32).toInt = 0 := by decide
  unfold M_second_j74
  rw [pu_now0 N, pu_bind, pu_wit, pu_btw, e0, pu_s1 (by omega), nI_toInt (n := w - 1) (by omega), if_neg (by omega), pu_bind, if_pos rfl]
theorem pu_Mcol (N : pu_N w h kd now) (G : pu_G w h kd) {c : Nat} (hc : c < w * h) : M_column now (nI c) = some (nI (c % w)) := by
  obtain ⟨-, n80⟩ := pu_G80 G
  obtain ⟨g1, g2, g3, g4, -⟩ := G
  unfold M_column
  rw [pu_now0 N, pu_bind, pu_irm (by omega) (by omega) (by omega), pu_bind]
theorem pu_Msec (N : pu_N w h kd now) (G : pu_G w h kd) {c d : Nat} (hc : c < w * h) (hd : d < 4) : M_second now (nI c) (nI d) = some (pu_cd (if d < kd + 2 then pu_sec w h d c else none)) := by
  obtain ⟨n4, n80⟩ := pu_G80 G
  have G0 := G
  obtain ⟨g1, g2, g3, g4, g5⟩ := G
  have hq := pu_qh hc
  have hr := pu_rw hc
  have hcq := pu_dm (w := w) (c := c)
  unfold M_second
  rw [pu_MisC1 N (by omega) hc, pu_bind, if_neg pu_10, pu_now2 N, pu_bind, pu_wit, pu_btw, pu_kd1]
  by_cases hk : d < kd + 2
  · rw [if_pos (pu_yes (by omega) hk), pu_bind, if_neg pu_10, pu_Mcol N G0 hc, pu_bind, if_pos hk]
    have hidv : idv (nI c) (nI w) = some (nI (c / w)) := pu_idv (by omega) (by omega) (by omega)
    have hj : ∀ v2 s0 s1 : Int32, M_second_j55 now (nI c) v2 s0 s1 = if v2 = 0 then M_second_j74 now (s0 + s1) (nI (c / w)) 0 else M_second_j74 now (s0 + s1) (nI (c / w)) 1 := by
      intro v2 s0 s1
      unfold M_second_j55
      rw [pu_now0 N, pu_bind, hidv, pu_bind]
    simp only [hj]
    have hd4 : d = 0 ∨ d = 1 ∨ d = 2 ∨ d = 3 := by omega
    rcases hd4 with rfl | rfl | rfl | rfl
    · rw [if_pos nI_0, if_pos nI_0, pu_a1]
      unfold pu_sec
      rw [if_pos rfl]
      by_cases k : c % w + 1 < w
      · rw [pu_j74 N G0 (pu_a0 (c / w)) k hq, if_pos k]
        exact congrArg some (congrArg nI (by omega))
      · rw [pu_j74x N G0 (Or.inr (by rw [nI_toInt (by omega)]; omega)), if_neg k]
        rfl
    · rw [if_neg (by decide), if_neg (by decide), if_neg (by decide), if_neg (by decide), pu_a0]
      unfold pu_sec
      rw [if_neg (by decide), if_pos rfl]
      by_cases k : c / w + 1 < h
      · rw [pu_j74 N G0 (pu_a1 (c / w)) hr k, if_pos k]
        exact congrArg some (congrArg nI (by rw [Nat.add_mul, Nat.one_mul]; omega))
      · rw [pu_j74y N G0 (pu_a1 (c / w)) (by omega) (by omega), if_neg k]
        rfl
    · rw [if_neg (by decide), if_neg (by decide), if_pos (by decide), if_neg (by decide)]
      unfold pu_sec
      rw [if_neg (by decide), if_neg (by decide), if_pos rfl]
      by_cases k1 : 1 ≤ c % w
      · by_cases k : c / w + 1 < h
        · rw [sb_m1 (by omega), pu_j74 N G0 (pu_a1 (c / w)) (by omega) k, if_pos ⟨k1, k⟩]
          exact congrArg some (congrArg nI (by rw [Nat.add_mul, Nat.one_mul]; omega))
        · rw [pu_j74y N G0 (pu_a1 (c / w)) (by omega) (by omega), if_neg (fun z => k z.2)]
          rfl
      · rw [pu_j74x N G0 (Or.inl (by rw [pu_m1 (by omega)]; omega)), if_neg (fun z => k1 z.1)]
        rfl
    · rw [if_neg (by decide), if_pos (by decide), if_neg (by decide), pu_a1]
      unfold pu_sec
      rw [if_neg (by decide), if_neg (by decide), if_neg (by decide)]
      by_cases k1 : c % w + 1 < w
      · by_cases k : c / w + 1 < h
        · rw [pu_j74 N G0 (pu_a1 (c / w)) k1 k, if_pos ⟨k1, k⟩]
          exact congrArg some (congrArg nI (by rw [Nat.add_mul, Nat.one_mul]; omega))
        · rw [pu_j74y N G0 (pu_a1 (c / w)) (by omega) (by omega), if_neg (fun z => k z.2)]
          rfl
      · rw [pu_j74x N G0 (Or.inr (by rw [nI_toInt (by omega)]; omega)), if_neg (fun z => k1 z.1)]
        rfl
  · rw [if_neg (pu_no (by omega) (by omega) (fun x hx e => by rw [nI_eq (by omega) (by omega)] at e; omega)), pu_bind, if_pos rfl, if_neg hk]
    rfl
theorem pu_MsecC (N : pu_N w h kd now) (G : pu_G w h kd) {v1 v2 : Int32} (hv : ∀ c, c < w * h → v1 ≠ nI c) : M_second now v1 v2 = some (-9) := by
  obtain ⟨n4, n80⟩ := pu_G80 G
  unfold M_second
  rw [pu_MisC0 N (by omega) (by omega) hv, pu_bind, if_pos rfl]
theorem pu_MsecD (N : pu_N w h kd now) (G : pu_G w h kd) {v1 v2 : Int32} (hv : ∀ d, d < kd + 2 → v2 ≠ nI d) : M_second now v1 v2 = some (-9) := by
  obtain ⟨n4, n80⟩ := pu_G80 G
  rcases pu_dich v1 (w * h) with ⟨c, hc, rfl⟩ | hn
  · obtain ⟨g1, g2, g3, g4, g5⟩ := G
    unfold M_second
    rw [pu_MisC1 N (by omega) hc, pu_bind, if_neg pu_10, pu_now2 N, pu_bind, pu_wit, pu_btw, pu_kd1, if_neg (pu_no (by omega) (by omega) hv), pu_bind, if_pos rfl]
  · exact pu_MsecC N G hn
theorem pu_cd_eq {o : Option Nat} {c : Nat} (hc : c < 2 ^ 31) (ho : ∀ t, o = some t → t < 2 ^ 31) : pu_cd o = nI c ↔ o = some c := by
  cases o with
  | none => exact ⟨fun e => absurd e.symm (pu_nI_m9 hc), fun e => nomatch e⟩
  | some t =>
    show nI t = nI c ↔ _
    rw [nI_eq (ho t rfl) hc]
    exact ⟨fun e => congrArg some e, fun e => Option.some.inj e⟩
theorem pu_cd_9 {o : Option Nat} (ho : ∀ t, o = some t → t < 2 ^ 31) : pu_cd o = -9 ↔ o = none := by
  cases o with
  | none => exact ⟨fun _ => rfl, fun _ => rfl⟩
  | some t => exact ⟨fun e => absurd e (pu_nI_m9 (ho t rfl)), fun e => nomatch e⟩
theorem pu_Mj47 (N : pu_N w h kd now) (G : pu_G w h kd) {c d K : Nat} (hc : c < w * h) (hd : d < 4) (hK : K < 2 ^ 20) (hKe : K = (if d = 0 then 1 else if d = 1 then w else if d = 2 then w - 1 else w + 1)) : M_first_j47 now (nI c) (nI d) (nI c) (nI K) = some (pu_cd (if d < kd + 2 then pu_fst w d c else none)) := by
  obtain ⟨n4, n80⟩ := pu_G80 G
  unfold M_first_j47
  by_cases hk : K ≤ c
  · rw [pk_sub hk, pu_MisC1 N (by omega) (by omega), pu_bind, if_neg pu_10, pu_Msec N G (by omega) hd, pu_bind]
    have hcd := pu_cd_eq (o := if d < kd + 2 then pu_sec w h d (c - K) else none) (c := c) (by omega) (fun t ht => by
      split at ht
      · have := pu_sec_lt (show c - K < w * h by omega) ht; omega
      · cases ht)
    by_cases hdk : d < kd + 2
    · rw [if_pos hdk] at hcd
      rw [if_pos hdk, if_pos hdk]
      cases hf : pu_fst w d c with
      | none =>
        rw [if_neg]
        · rfl
        · intro z
          rw [pu_sf1 (by omega) (hcd.mp z)] at hf
          cases hf
      | some b =>
        obtain ⟨h1, h2, h3, h4⟩ := pu_sf2 hc hf
        rw [← hKe] at h4
        rw [← h4, if_pos (by rw [h4]; exact hcd.mpr (by rw [← h4]; exact h1))]
        rfl
    · rw [if_neg hdk, if_neg hdk, if_neg (fun z => pu_nI_m9 (n := c) (by omega) z.symm)]
      rfl
  · rw [pu_MisC0 N (by omega) (by omega) (fun x hx e => by
      have h1 := pk_sub_toInt (a := c) (b := K) (by omega) (by omega)
      rw [e, nI_toInt (by omega)] at h1
      omega), pu_bind, if_pos rfl]
    by_cases hdk : d < kd + 2
    · rw [if_pos hdk]
      cases hf : pu_fst w d c with
      | none => rfl
      | some b =>
        obtain ⟨-, -, h3, -⟩ := pu_sf2 hc hf
        rw [← hKe] at h3
        omega
    · rw [if_neg hdk]
      rfl
theorem pu_Mfst (N : pu_N w h kd now) (G : pu_G w h kd) {c d : Nat} (hc : c < w * h) (hd : d < 4) : M_first now (nI c) (nI d) = some (pu_cd (if d < kd + 2 then pu_fst w d c else none)) := by
  have G0 := G
  obtain ⟨g1, g2, g3, g4, g5⟩ := G
  unfold M_first
  have hd4 : d = 0 ∨ d = 1 ∨ d = 2 ∨ d = 3 := by omega
  rcases hd4 with rfl | rfl | rfl | rfl
  · rw [if_pos nI_0]
    exact pu_Mj47 (K := 1) N G0 hc hd (by omega) rfl
  · rw [if_neg (by decide), if_pos (by decide), pu_now0 N, pu_bind]
    exact pu_Mj47 (K := w) N G0 hc hd (by omega) rfl
  · rw [if_neg (by decide), if_neg (by decide), if_pos (by decide), pu_now0 N, pu_bind, pu_s1 (by omega)]
    exact pu_Mj47 (K := w - 1) N G0 hc hd (by omega) rfl
  · rw [if_neg (by decide), if_neg (by decide), if_neg (by decide), pu_now0 N, pu_bind, pu_a1]
    exact pu_Mj47 (K := w + 1) N G0 hc hd (by omega) rfl
end MG
