/-! PLAIN LAWS, 7: scans (open cells, sources, dyes, what is clogged, bonds, fill), probe, pivots, reach -/
set_option maxRecDepth 100000
def pu_Q (w h kd : Nat) (thr bt tm rea : Int32) (gr : Nat → Int32) (vl : Nat → Nat) (so dy cg now : Nat → Int32) : Prop := pu_R w h kd gr vl now ∧ now 3 = thr ∧ now 4 = bt ∧ now 5 = tm ∧ now 6 = rea ∧ ∀ c, c < w * h → now (407 + c) = so c ∧ now (487 + c) = dy c ∧ now (567 + c) = cg c
section SC
variable {w h kd : Nat} {thr bt tm rea : Int32} {gr : Nat → Int32} {vl : Nat → Nat} {so dy cg now : Nat → Int32}
theorem pu_now3 (Q : pu_Q w h kd thr bt tm rea gr vl so dy cg now) : ald now 647 3 = some thr := by rw [← Q.2.1]; exact pu_ald (i := 3) (by decide) (by decide)
theorem pu_now4 (Q : pu_Q w h kd thr bt tm rea gr vl so dy cg now) : ald now 647 4 = some bt := by rw [← Q.2.2.1]; exact pu_ald (i := 4) (by decide) (by decide)
theorem pu_now5 (Q : pu_Q w h kd thr bt tm rea gr vl so dy cg now) : ald now 647 5 = some tm := by rw [← Q.2.2.2.1]; exact pu_ald (i := 5) (by decide) (by decide)
theorem pu_now6 (Q : pu_Q w h kd thr bt tm rea gr vl so dy cg now) : ald now 647 6 = some rea := by rw [← Q.2.2.2.2.1]; exact pu_ald (i := 6) (by decide) (by decide)
theorem pu_nowG (R : pu_R w h kd gr vl now) (G : pu_G w h kd) {c : Nat} (hc : c < w * h) : ald now 647 (7 + nI c) = some (gr c) := by
  obtain ⟨n4, n80⟩ := pu_G80 G
  rw [pu_nowp now 7 c (by omega), R.2.1 c hc]
theorem pu_nowS (Q : pu_Q w h kd thr bt tm rea gr vl so dy cg now) (G : pu_G w h kd) {c : Nat} (hc : c < w * h) : ald now 647 (407 + nI c) = some (so c) := by
  obtain ⟨n4, n80⟩ := pu_G80 G
  rw [pu_nowp now 407 c (by omega), (Q.2.2.2.2.2 c hc).1]
theorem pu_nowD (Q : pu_Q w h kd thr bt tm rea gr vl so dy cg now) (G : pu_G w h kd) {c : Nat} (hc : c < w * h) : ald now 647 (487 + nI c) = some (dy c) := by
  obtain ⟨n4, n80⟩ := pu_G80 G
  rw [pu_nowp now 487 c (by omega), (Q.2.2.2.2.2 c hc).2.1]
theorem pu_nowC (Q : pu_Q w h kd thr bt tm rea gr vl so dy cg now) (G : pu_G w h kd) {c : Nat} (hc : c < w * h) : ald now 647 (567 + nI c) = some (cg c) := by
  obtain ⟨n4, n80⟩ := pu_G80 G
  rw [pu_nowp now 567 c (by omega), (Q.2.2.2.2.2 c hc).2.2]
/-- how many cells are open at a threshold -/
def pu_open (n : Nat) (gr : Nat → Int32) (t : Int32) : Int32 := nI (0 + fb_ct (fun i => !decide (t ≤ gr i)) n)
theorem pu_LisO {n : Nat} (hn : n < 2 ^ 31) (t : Int32) (gr : Nat → Int32) {c : Nat} (hc : c < n) : L_isOpen t n gr (nI c) = some (pu_01 (decide (¬ t ≤ gr c))) := by
  unfold L_isOpen
  rw [pu_ald hc hn, pu_bind]
  by_cases k : t ≤ gr c
  · rw [if_pos k, show decide (¬ t ≤ gr c) = false from decide_eq_false (fun z => z k)]; rfl
  · rw [if_neg k, show decide (¬ t ≤ gr c) = true from decide_eq_true k]; rfl
theorem pu_Lopen {n : Nat} (hn : n ≤ 80) (t : Int32) (gr : Nat → Int32) : L_openCells t n gr = some (pu_open n gr t) := by
  have hh := pu_for0 (st := fun x => L_openCells_4 t n gr x.1 x.2) (fun i (a : Int32) => (a, nI i)) (fun i a => if t ≤ gr i then a + 0 else a + 1) (fun a => a) (N := n) (fu := FU) (a := nI 0)
    (by
      intro i a hi
      show L_openCells_4 t n gr a (nI i) = _
      unfold L_openCells_4
      rw [if_neg (nI_ge hi (by omega)), pu_LisO (by omega) t gr hi, pu_bind, pu_a1]
      by_cases k : t ≤ gr i
      · rw [show decide (¬ t ≤ gr i) = false from decide_eq_false (fun z => z k), pu_01f, if_pos rfl, if_pos k]
      · rw [show decide (¬ t ≤ gr i) = true from decide_eq_true k, pu_01t, if_neg pu_10, if_neg k])
    (by
      intro a
      show L_openCells_4 t n gr a (nI n) = _
      unfold L_openCells_4
      rw [if_pos (Int32.le_refl _)]) (pu_FU (by omega))
  unfold L_openCells
  rw [show loopN (fun x => L_openCells_4 t n gr x.1 x.2) FU (0, 0) = _ from hh, pu_bind, pu_ctI]
  rfl
theorem pu_Mopen (R : pu_R w h kd gr vl now) (G : pu_G w h kd) (t : Int32) : M_openAt now t = some (pu_open (w * h) gr t) := by
  obtain ⟨n4, n80⟩ := pu_G80 G
  have hh := pu_for0 (st := fun x => M_openAt_4 t now x.1 x.2) (fun i (a : Int32) => (a, nI i)) (fun i a => if t ≤ gr i then a + 0 else a + 1) (fun a => a) (N := w * h) (fu := FU) (a := nI 0)
    (by
      intro i a hi
      show M_openAt_4 t now a (nI i) = _
      unfold M_openAt_4
      rw [pu_Mcells R.1, pu_bind, if_neg (nI_ge hi (by omega)), pu_MisO R G hi, pu_bind, pu_a1]
      by_cases k : t ≤ gr i
      · rw [show decide (¬ t ≤ gr i) = false from decide_eq_false (fun z => z k), pu_01f, if_pos rfl, if_pos k]
      · rw [show decide (¬ t ≤ gr i) = true from decide_eq_true k, pu_01t, if_neg pu_10, if_neg k])
    (by
      intro a
      show M_openAt_4 t now a (nI (w * h)) = _
      unfold M_openAt_4
      rw [pu_Mcells R.1, pu_bind, if_pos (Int32.le_refl _)]) (pu_FU (by omega))
  unfold M_openAt
  rw [show loopN (fun x => M_openAt_4 t now x.1 x.2) FU (0, 0) = _ from hh, pu_bind, pu_ctI]
  rfl
/-! sources and dyes -/
def pu_bit (x k : Int32) : Int32 := (x >>> (k &&& 31)) &&& 1
theorem pu_bit01 (x k : Int32) : pu_bit x k = 0 ∨ pu_bit x k = 1 := by
  obtain ⟨j, hj, e⟩ := pk_andE (x >>> (k &&& 31)) (m := 1) 1 (by decide)
  unfold pu_bit
  rw [e]
  have : j = 0 ∨ j = 1 := by omega
  rcases this with rfl | rfl
  · exact Or.inl rfl
  · exact Or.inr rfl
theorem pu_has (x k : Int32) : M_has x k = some (pu_bit x k) := by
  unfold M_has
  rcases pu_bit01 x k with e | e
  · rw [if_neg (by show ¬ pu_bit x k = 1; rw [e]; exact fun z => pu_10 z.symm), e]
  · rw [if_pos (show x >>> (k &&& 31) &&& 1 = 1 from e), e]
def pu_dyes (n : Nat) (f : Nat → Int32) (k : Int32) : Int32 := pu_it (fun i (a : Int32) => a + pu_bit (f i) k) n 0
theorem pu_Lso {n : Nat} (hn : n ≤ 80) (f : Nat → Int32) (k : Int32) : L_sourcesOf n f k = some (pu_dyes n f k) := by
  have hh := pu_for0 (st := fun x => L_sourcesOf_14 k (nI n) n f x.1 x.2) (fun i (a : Int32) => (a, nI i)) (fun i a => a + pu_bit (f i) k) (fun a => a) (N := n) (fu := FU) (a := (0 : Int32))
    (by
      intro i a hi
      show L_sourcesOf_14 k (nI n) n f a (nI i) = _
      unfold L_sourcesOf_14
      rw [if_neg (nI_ge hi (by omega)), pu_ald hi (by omega), pu_bind, pu_a1]
      rfl)
    (by
      intro a
      show L_sourcesOf_14 k (nI n) n f a (nI n) = _
      unfold L_sourcesOf_14
      rw [if_pos (Int32.le_refl _)]) (pu_FU (by omega))
  unfold L_sourcesOf
  rw [show loopN (fun x => L_sourcesOf_14 k (nI n) n f x.1 x.2) FU (0, 0) = _ from hh, pu_bind]
  rfl
theorem pu_Ldy {n : Nat} (hn : n ≤ 80) (f : Nat → Int32) (k : Int32) : L_dyed n f k = some (pu_dyes n f k) := by
  have hh := pu_for0 (st := fun x => L_dyed_14 k (nI n) n f x.1 x.2) (fun i (a : Int32) => (a, nI i)) (fun i a => a + pu_bit (f i) k) (fun a => a) (N := n) (fu := FU) (a := (0 : Int32))
    (by
      intro i a hi
      show L_dyed_14 k (nI n) n f a (nI i) = _
      unfold L_dyed_14
      rw [if_neg (nI_ge hi (by omega)), pu_ald hi (by omega), pu_bind, pu_a1]
      rfl)
    (by
      intro a
      show L_dyed_14 k (nI n) n f a (nI n) = _
      unfold L_dyed_14
      rw [if_pos (Int32.le_refl _)]) (pu_FU (by omega))
  unfold L_dyed
  rw [show loopN (fun x => L_dyed_14 k (nI n) n f x.1 x.2) FU (0, 0) = _ from hh, pu_bind]
  rfl
theorem pu_Mwd (N : pu_N w h kd now) (G : pu_G w h kd) (at_ : Nat) (hat : at_ + 80 ≤ 647) (f : Nat → Int32) (hf : ∀ c, c < w * h → now (at_ + c) = f c) (k : Int32) : M_withDye now (nI at_) k = some (pu_dyes (w * h) f k) := by
  obtain ⟨n4, n80⟩ := pu_G80 G
  have hh := pu_for0 (st := fun x => M_withDye_5 (nI at_) k now x.1 x.2) (fun i (a : Int32) => (a, nI i)) (fun i a => a + pu_bit (f i) k) (fun a => a) (N := w * h) (fu := FU) (a := (0 : Int32))
    (by
      intro i a hi
      show M_withDye_5 (nI at_) k now a (nI i) = _
      unfold M_withDye_5
      rw [pu_Mcells N, pu_bind, if_neg (nI_ge hi (by omega)), nI_add, pu_ald (by omega) (by decide), pu_bind, hf i hi, pu_has, pu_bind, pu_a1]
      rcases pu_bit01 (f i) k with e | e
      · rw [if_pos e, e]
      · rw [if_neg (by rw [e]; exact pu_10), e])
    (by
      intro a
      show M_withDye_5 (nI at_) k now a (nI (w * h)) = _
      unfold M_withDye_5
      rw [pu_Mcells N, pu_bind, if_pos (Int32.le_refl _)]) (pu_FU (by omega))
  unfold M_withDye
  rw [show loopN (fun x => M_withDye_5 (nI at_) k now x.1 x.2) FU (0, 0) = _ from hh, pu_bind]
  rfl
/-- what is clogged -/
theorem pu_clogged (Q : pu_Q w h kd thr bt tm rea gr vl so dy cg now) (G : pu_G w h kd) (hcg : ∀ c, c < w * h → cg c = 0 ∨ cg c = 1) : ∃ r, C_clogged (w * h) cg = some r ∧ M_clogged now = some r := by
  obtain ⟨n4, n80⟩ := pu_G80 G
  refine ⟨pu_it (fun i (a : Int32) => a + cg i) (w * h) 0, ?_, ?_⟩
  · have hh := pu_for0 (st := fun x => C_clogged_16 (nI (w * h)) (w * h) cg x.1 x.2) (fun i (a : Int32) => (a, nI i)) (fun i a => a + cg i) (fun a => a) (N := w * h) (fu := FU) (a := (0 : Int32))
      (by
        intro i a hi
        show C_clogged_16 (nI (w * h)) (w * h) cg a (nI i) = _
        unfold C_clogged_16
        rw [if_neg (nI_ge hi (by omega)), pu_ald hi (by omega), pu_bind, pu_a1]
        rcases hcg i hi with e | e
        · rw [if_pos e, e]
        · rw [if_neg (by rw [e]; exact pu_10), e])
      (by
        intro a
        show C_clogged_16 (nI (w * h)) (w * h) cg a (nI (w * h)) = _
        unfold C_clogged_16
        rw [if_pos (Int32.le_refl _)]) (pu_FU (by omega))
    unfold C_clogged
    rw [show loopN (fun x => C_clogged_16 (nI (w * h)) (w * h) cg x.1 x.2) FU (0, 0) = _ from hh, pu_bind]
  · have hh := pu_for0 (st := fun x => M_clogged_4 now x.1 x.2) (fun i (a : Int32) => (a, nI i)) (fun i a => a + cg i) (fun a => a) (N := w * h) (fu := FU) (a := (0 : Int32))
      (by
        intro i a hi
        show M_clogged_4 now a (nI i) = _
        unfold M_clogged_4
        rw [pu_Mcells Q.1.1, pu_bind, if_neg (nI_ge hi (by omega)), pu_nowC Q G hi, pu_bind, pu_a1])
      (by
        intro a
        show M_clogged_4 now a (nI (w * h)) = _
        unfold M_clogged_4
        rw [pu_Mcells Q.1.1, pu_bind, if_pos (Int32.le_refl _)]) (pu_FU (by omega))
    unfold M_clogged
    rw [show loopN (fun x => M_clogged_4 now x.1 x.2) FU (0, 0) = _ from hh, pu_bind]
/-! bonds -/
def pu_bd (w h kd c d : Nat) : Bool := decide (d < kd + 2) && (pu_sec w h d c).isSome
theorem pu_bd_t {c d : Nat} : pu_bd w h kd c d = true ↔ d < kd + 2 ∧ ∃ t, pu_sec w h d c = some t := by
  unfold pu_bd
  rw [Bool.and_eq_true, decide_eq_true_iff, Option.isSome_iff_exists]
theorem pu_LisB (G : pu_G w h kd) {c d : Nat} (hc : c < w * h) (hd : d < 4) : L_isBond (nI w) (nI h) kd (w * h) (nI c) (nI d) = some (pu_01 (pu_bd w h kd c d)) := by
  obtain ⟨n4, n80⟩ := pu_G80 G
  have G0 := G
  obtain ⟨g1, g2, g3, g4, g5⟩ := G
  unfold L_isBond dirF
  rw [pu_LisC1 (by omega) hc, pu_bind, if_neg pu_10, if_pos (by omega), pu_bind, pu_btw]
  by_cases k : d < kd + 2
  · rw [if_pos (pu_yes (by omega) k), pu_bind, if_neg pu_10, pu_Lsec G0 hc hd, pu_bind]
    unfold pu_bd
    rw [decide_eq_true k, Bool.true_and]
    cases hs : pu_sec w h d c with
    | none => rw [pu_cdn, if_pos rfl]; rfl
    | some t =>
      have := (pu_sec_lt hc hs).1
      rw [pu_cds, if_neg (pu_nI_m9 (by omega))]; rfl
  · rw [if_neg (pu_no (by omega) (by omega) (fun x hx e => by rw [nI_eq (by omega) (by omega)] at e; omega)), pu_bind, if_pos rfl]
    unfold pu_bd
    rw [decide_eq_false k, Bool.false_and]; rfl
theorem pu_LisBC (G : pu_G w h kd) {v1 v2 : Int32} (hv : ∀ c, c < w * h → v1 ≠ nI c) : L_isBond (nI w) (nI h) kd (w * h) v1 v2 = some 0 := by
  obtain ⟨n4, n80⟩ := pu_G80 G
  unfold L_isBond
  rw [pu_LisC0 (by omega) (by omega) hv, pu_bind, if_pos rfl]
theorem pu_LisBD (G : pu_G w h kd) {v1 v2 : Int32} (hv : ∀ d, d < kd + 2 → v2 ≠ nI d) : L_isBond (nI w) (nI h) kd (w * h) v1 v2 = some 0 := by
  obtain ⟨n4, n80⟩ := pu_G80 G
  rcases pu_dich v1 (w * h) with ⟨c, hc, rfl⟩ | hn
  · obtain ⟨g1, g2, g3, g4, g5⟩ := G
    unfold L_isBond dirF
    rw [pu_LisC1 (by omega) hc, pu_bind, if_neg pu_10, if_pos (by omega), pu_bind, pu_btw, if_neg (pu_no (by omega) (by omega) hv), pu_bind, if_pos rfl]
  · exact pu_LisBC G hn
theorem pu_Msec9 (N : pu_N w h kd now) (G : pu_G w h kd) {α : Type} {c d : Nat} (hc : c < w * h) (hd : d < 4) (A B : α) : (if pu_cd (if d < kd + 2 then pu_sec w h d c else none) = -9 then A else B) = if pu_bd w h kd c d = true then B else A := by
  obtain ⟨n4, n80⟩ := pu_G80 G
  unfold pu_bd
  by_cases k : d < kd + 2
  · rw [if_pos k, decide_eq_true k, Bool.true_and]
    cases hs : pu_sec w h d c with
    | none => rw [pu_cdn, if_pos rfl, if_neg (by decide)]
    | some t =>
      have := (pu_sec_lt hc hs).1
      rw [pu_cds, if_neg (pu_nI_m9 (by omega))]
      exact (if_pos rfl).symm
  · rw [if_neg k, decide_eq_false k, Bool.false_and, pu_cdn, if_pos rfl, if_neg (by decide)]
def pu_bondsN (w h kd : Nat) : Int32 := pu_it (fun c a => pu_it (fun d (a : Int32) => if pu_bd w h kd c d = true then a + 1 else a + 0) 4 a) (w * h) 0
theorem pu_Lbonds (G : pu_G w h kd) : L_bonds (nI w) (nI h) kd (w * h) (4 * (w * h)) = some (pu_bondsN w h kd) := by
  obtain ⟨n4, n80⟩ := pu_G80 G
  have hh := pu_for0 (st := fun x => L_bonds_4 (nI w) (nI h) kd (w * h) (4 * (w * h)) x.1 x.2) (fun i (a : Int32) => (a, nI i)) (fun i a => if pu_bd w h kd (i / 4) (i % 4) = true then a + 1 else a + 0) (fun a => a) (N := 4 * (w * h)) (fu := FU) (a := (0 : Int32))
    (by
      intro i a hi
      show L_bonds_4 (nI w) (nI h) kd (w * h) (4 * (w * h)) a (nI i) = _
      unfold L_bonds_4
      rw [if_neg (nI_ge hi (by omega)), show idv (nI i) 4 = _ from pu_idv (d := 4) (by omega) (by decide) (by decide), pu_bind, show irm (nI i) 4 = _ from pu_irm (d := 4) (by omega) (by decide) (by decide), pu_bind, pu_LisB G (by omega) (by omega), pu_bind, pu_a1]
      rcases Bool.eq_false_or_eq_true (pu_bd w h kd (i / 4) (i % 4)) with e | e
      · rw [e, pu_01t, if_neg pu_10, if_pos rfl]
      · rw [e, pu_01f, if_pos rfl, if_neg (by decide)])
    (by
      intro a
      show L_bonds_4 (nI w) (nI h) kd (w * h) (4 * (w * h)) a (nI (4 * (w * h))) = _
      unfold L_bonds_4
      rw [if_pos (Int32.le_refl _)]) (pu_FU (by omega))
  unfold L_bonds
  rw [show loopN (fun x => L_bonds_4 (nI w) (nI h) kd (w * h) (4 * (w * h)) x.1 x.2) FU (0, 0) = _ from hh, pu_bind]
  rw [pu_it_4 (fun c d (a : Int32) => if pu_bd w h kd c d = true then a + 1 else a + 0)]
  rfl
theorem pu_Mbonds (N : pu_N w h kd now) (G : pu_G w h kd) : M_bonds now = some (pu_bondsN w h kd) := by
  obtain ⟨n4, n80⟩ := pu_G80 G
  have hh := pu_for0 (st := fun x => M_bonds_4 now x.1 x.2) (fun i (a : Int32) => (a, nI i)) (fun c a => pu_it (fun d (a : Int32) => if pu_bd w h kd c d = true then a + 1 else a + 0) 4 a) (fun a => a) (N := w * h) (fu := FU) (a := (0 : Int32))
    (by
      intro c a hc
      have h1 := pu_for0 (st := fun x => M_bonds_14 (nI c) now x.1 x.2) (fun d (a : Int32) => (a, nI d)) (fun d (a : Int32) => if pu_bd w h kd c d = true then a + 1 else a + 0) (fun a => a) (N := 4) (fu := FU) (a := a)
        (by
          intro d a hd
          show M_bonds_14 (nI c) now a (nI d) = _
          unfold M_bonds_14
          rw [if_neg (show ¬ (4 : Int32) ≤ nI d from nI_ge (b := 4) hd (by decide)), pu_Msec N G hc hd, pu_bind, pu_Msec9 N G hc hd, pu_a1]
          by_cases e : pu_bd w h kd c d = true
          · rw [if_pos e, if_pos e]
          · rw [if_neg e, if_neg e])
        (by
          intro a
          show M_bonds_14 (nI c) now a (nI 4) = _
          unfold M_bonds_14
          rw [if_pos (by decide)]) (pu_FU (by omega))
      show M_bonds_4 now a (nI c) = _
      unfold M_bonds_4
      rw [pu_Mcells N, pu_bind, if_neg (nI_ge hc (by omega)), show loopN (fun x => M_bonds_14 (nI c) now x.1 x.2) FU (a, 0) = _ from h1, pu_bind, pu_a1])
    (by
      intro a
      show M_bonds_4 now a (nI (w * h)) = _
      unfold M_bonds_4
      rw [pu_Mcells N, pu_bind, if_pos (Int32.le_refl _)]) (pu_FU (by omega))
  unfold M_bonds
  rw [show loopN (fun x => M_bonds_4 now x.1 x.2) FU (0, 0) = _ from hh, pu_bind]
  rfl
/-- valve -/
theorem pu_valve (R : pu_R w h kd gr vl now) (G : pu_G w h kd) (v1 v2 : Int32) : ∃ r, C_valve (nI w) (nI h) kd (w * h) (4 * (w * h)) vl v1 v2 = some r ∧ M_valve now v1 v2 = some r := by
  obtain ⟨n4, n80⟩ := pu_G80 G
  unfold C_valve M_valve
  rcases pu_dich v1 (w * h) with ⟨c, hc, rfl⟩ | hn
  · rcases pu_dich v2 (kd + 2) with ⟨d, hd, rfl⟩ | hn
    · have hd4 : d < 4 := by have := G.2.2.2.2; omega
      rw [pu_LisB G hc hd4, pu_bind, pu_Msec R.1 G hc hd4, pu_bind, pu_Msec9 R.1 G hc hd4, pu_Mval R G hc hd4, pu_bind, pu_4]
      have hv := (R.2.2 (4 * c + d) (by omega)).2
      rcases Bool.eq_false_or_eq_true (pu_bd w h kd c d) with e | e
      · rw [e, pu_01t, if_neg pu_10, if_pos rfl, pu_aldN (by omega) (by omega) hv, pu_bind]
        unfold ordV
        rw [if_pos hv, pu_bind]
        exact ⟨_, rfl, rfl⟩
      · rw [e, pu_01f, if_pos rfl, if_neg (by decide)]
        exact ⟨_, rfl, rfl⟩
    · rw [pu_LisBD G hn, pu_bind, if_pos rfl, pu_MsecD R.1 G hn, pu_bind, if_pos rfl]
      exact ⟨_, rfl, rfl⟩
  · rw [pu_LisBC G hn, pu_bind, if_pos rfl, pu_MsecC R.1 G hn, pu_bind, if_pos rfl]
    exact ⟨_, rfl, rfl⟩
/-- dyed -/
theorem pu_dyed (Q : pu_Q w h kd thr bt tm rea gr vl so dy cg now) (G : pu_G w h kd) (v : Int32) : ∃ r, C_dyed (w * h) dy v = some r ∧ M_dyed now v = some r := by
  obtain ⟨n4, n80⟩ := pu_G80 G
  unfold C_dyed M_dyed C_isDye
  rw [pu_wit, pu_btw, pu_bind, pu_bind]
  split
  · rw [pu_zck1, pu_bind, pu_bind, if_neg pu_10, if_neg pu_10, pu_Ldy n80, pu_bind, show M_withDye now 487 v = _ from pu_Mwd Q.1.1 G 487 (by decide) dy (fun c hc => (Q.2.2.2.2.2 c hc).2.1) v, pu_bind]
    exact ⟨_, rfl, rfl⟩
  · rw [pu_zck0, pu_bind, pu_bind, if_pos rfl, if_pos rfl]
    exact ⟨_, rfl, rfl⟩
end SC
