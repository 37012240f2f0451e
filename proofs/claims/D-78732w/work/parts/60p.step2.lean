/-! PLAIN LAWS, 14: a step of the dyes, both sides -/
set_option maxRecDepth 100000
def pu_xi (X D : Int32) (i : Nat) : Int32 := if pu_bit X (nI i) = 0 then 0 else if pu_bit D (nI i) = 0 then 1 else 0
def pu_bc (X D : Int32) : Int32 := (pu_xi X D 0 + pu_xi X D 1) + pu_xi X D 2
theorem pu_bits8 : ∀ a, a < 8 → ∀ b, b < 8 → J9_bitCount (nI a &&& (nI b ^^^ (-1))) = some (pu_bc (nI a) (nI b)) := by decide +kernel
theorem pu_bits {X D : Int32} (hX : pu_8 X) (hD : pu_8 D) : J9_bitCount (X &&& (D ^^^ (-1))) = some (pu_bc X D) := by
  obtain ⟨a, ha, rfl⟩ := hX
  obtain ⟨b, hb, rfl⟩ := hD
  exact pu_bits8 a ha b hb
def pu_rx (r a : Nat) : Int32 := (L_reacts (nI r) (nI a)).getD 5
theorem pu_rx8 : ∀ r, r < 8 → ∀ a, a < 8 → L_reacts (nI r) (nI a) = some (pu_rx r a) ∧ (pu_rx r a = 0 ∨ pu_rx r a = 1) := by decide +kernel
def pu_hs (x k : Int32) : Bool := decide (pu_bit x k = 1)
theorem pu_rxM : ∀ r, r < 8 → ∀ a, a < 8 → pu_rx r a = pu_01 ((pu_hs (nI a) 0 && pu_hs (nI a) 1 && pu_hs (nI r) 0) || (pu_hs (nI a) 0 && pu_hs (nI a) 2 && pu_hs (nI r) 1) || (pu_hs (nI a) 1 && pu_hs (nI a) 2 && pu_hs (nI r) 2)) := by decide +kernel
theorem pu_hs_if {α : Type} (x k : Int32) (A B : α) : (if pu_bit x k = 0 then A else B) = if pu_hs x k = true then B else A := by
  unfold pu_hs
  rcases pu_bit01 x k with e | e
  · rw [if_pos e, decide_eq_false (by rw [e]; exact fun z => pu_10 z.symm), if_neg (by decide)]
  · rw [if_neg (by rw [e]; exact pu_10), decide_eq_true e, if_pos rfl]
theorem pu_Mreacts {now : Nat → Int32} {r a : Nat} (h6 : ald now 647 6 = some (nI r)) (hr : r < 8) (ha : a < 8) : M_reacts now (nI a) = some (pu_rx r a) := by
  rw [pu_rxM r hr a ha]
  unfold M_reacts M_reacts_j35 M_reacts_j75
  simp only [pu_has, pu_bind, h6, pu_hs_if]
  generalize pu_hs (nI a) 0 = b0
  generalize pu_hs (nI a) 1 = b1
  generalize pu_hs (nI a) 2 = b2
  generalize pu_hs (nI r) 0 = r0
  generalize pu_hs (nI r) 1 = r1
  generalize pu_hs (nI r) 2 = r2
  cases b0 <;> cases b1 <;> cases b2 <;> cases r0 <;> cases r1 <;> cases r2 <;> rfl
theorem pu_ltF {v : Nat} (hv : v < 5) (ob : Bool) : pu_lt v true ob = (pu_VF v && (ob || decide (v ≠ 4))) := by
  rcases pu_v5 hv with rfl | rfl | rfl | rfl | rfl <;> cases ob <;> decide
theorem pu_ltB {v : Nat} (hv : v < 5) (ob : Bool) : pu_lt v false ob = (pu_VB v && (ob || decide (v ≠ 4))) := by
  rcases pu_v5 hv with rfl | rfl | rfl | rfl | rfl <;> cases ob <;> decide
section S2
variable {w h kd : Nat} {thr bt tm rea : Int32} {gr : Nat → Int32} {vl : Nat → Nat} {so dy cg now : Nat → Int32} {ob : Bool}
theorem pu_Mflows (Q : pu_Q w h kd thr bt tm rea gr vl so dy cg now) (G : pu_G w h kd) {a b : Nat} (ha : a < w * h) (hb : b < w * h) (f : Nat → Int32) : M_flows now f (nI a) (nI b) = some (if (pu_mv thr gr cg a && pu_mv thr gr cg b) = true then upd f b (f b ||| dy a) else f) := by
  obtain ⟨n4, n80⟩ := pu_G80 G
  unfold M_flows
  rw [pu_Mmv Q G ha, pu_bind, pu_Mmv Q G hb, pu_bind, pu_ald (by omega) (by decide), pu_bind, pu_nowD Q G ha, pu_bind, pu_ast (by omega) (by decide), pu_bind]
  rcases Bool.eq_false_or_eq_true (pu_mv thr gr cg a) with e | e
  · rw [e, pu_01t, if_neg pu_10, Bool.true_and]
    rcases Bool.eq_false_or_eq_true (pu_mv thr gr cg b) with e2 | e2
    · rw [e2, pu_01t, if_neg pu_10, if_pos rfl]
    · rw [e2, pu_01f, if_pos rfl, if_neg (by decide)]
  · rw [e, pu_01f, if_pos rfl, Bool.false_and, if_neg (by decide)]
theorem pu_M94 (Q : pu_Q w h kd thr bt tm rea gr vl so dy cg now) (G : pu_G w h kd) {c d : Nat} (hc : c < w * h) (hd : d < 4) (f : Nat → Int32) (v2 : Int32) : M_steps_94 (pu_01 ob) v2 (nI c) now (nI d) f = some (.inl (nI (d + 1), pu_fl w h kd thr gr dy cg vl ob c d f)) := by
  obtain ⟨n4, n80⟩ := pu_G80 G
  have hv := (Q.1.2.2 (4 * c + d) (by omega)).2
  unfold M_steps_94 M_steps_94_j136 M_steps_94_j161 pu_fl
  rw [if_neg (show ¬ (4 : Int32) ≤ nI d from nI_ge (b := 4) hd (by decide)), pu_Msec Q.1.1 G hc hd, pu_bind]
  cases hs : (if d < kd + 2 then pu_sec w h d c else none) with
  | none => rw [pu_cdn, if_pos rfl, if_pos rfl, if_pos rfl, pu_a1]
  | some x =>
    have hx := pu_o1 (h := h) hc hs
    rw [pu_cds, if_neg (pu_nI_m9 (by omega)), pu_Mval Q.1 G hc hd, pu_bind]
    simp only [pu_Mlets1 Q.1 G hc hd, pu_Mlets0 Q.1 G hc hd, pu_bind, pu_Mflows Q G hc hx, pu_Mflows Q G hx hc, pu_a1]
    rw [pu_ltF hv ob, pu_ltB hv ob]
    have e4 : ∀ {α : Type} (A B : α), (if nI (vl (4 * c + d)) = 4 then A else B) = if vl (4 * c + d) = 4 then A else B := fun A B => pu_nIe (b := 4) (by omega) (by decide) A B
    simp only [e4]
    rw [Bool.and_comm (pu_mv thr gr cg x) (pu_mv thr gr cg c)]
    generalize (pu_mv thr gr cg c && pu_mv thr gr cg x) = m
    generalize pu_VF (vl (4 * c + d)) = l1
    generalize pu_VB (vl (4 * c + d)) = l2
    by_cases e : vl (4 * c + d) = 4
    · cases ob <;> cases m <;> cases l1 <;> cases l2 <;> simp [e, pu_01]
    · cases ob <;> cases m <;> cases l1 <;> cases l2 <;> simp [e, pu_01]
theorem pu_M83 (Q : pu_Q w h kd thr bt tm rea gr vl so dy cg now) (G : pu_G w h kd) (f : Nat → Int32) (v2 : Int32) : loopN (fun x => M_steps_83 (pu_01 ob) v2 now x.1 x.2) FU (0, f) = some (pu_it (fun i => pu_fl w h kd thr gr dy cg vl ob (i / 4) (i % 4)) (4 * (w * h)) f) := by
  obtain ⟨n4, n80⟩ := pu_G80 G
  rw [pu_it_4 (fun c d => pu_fl w h kd thr gr dy cg vl ob c d)]
  have hh := pu_for0 (st := fun x => M_steps_83 (pu_01 ob) v2 now x.1 x.2) (fun c (f : Nat → Int32) => (nI c, f)) (fun c f => pu_it (pu_fl w h kd thr gr dy cg vl ob c) 4 f) (fun f => f) (N := w * h) (fu := FU) (a := f)
    (by
      intro c f hc
      have h1 := pu_for0 (st := fun x => M_steps_94 (pu_01 ob) v2 (nI c) now x.1 x.2) (fun d (f : Nat → Int32) => (nI d, f)) (pu_fl w h kd thr gr dy cg vl ob c) (fun f => f) (N := 4) (fu := FU) (a := f)
        (fun d f hd => pu_M94 Q G hc hd f v2)
        (by
          intro f
          show M_steps_94 (pu_01 ob) v2 (nI c) now (nI 4) f = _
          unfold M_steps_94
          rw [if_pos (by decide)]) (pu_FU (by omega))
      show M_steps_83 (pu_01 ob) v2 now (nI c) f = _
      unfold M_steps_83
      rw [pu_Mcells Q.1.1, pu_bind, if_neg (nI_ge hc (by omega)), show loopN (fun x => M_steps_94 (pu_01 ob) v2 (nI c) now x.1 x.2) FU (0, f) = _ from h1, pu_bind, pu_a1])
    (by
      intro f
      show M_steps_83 (pu_01 ob) v2 now (nI (w * h)) f = _
      unfold M_steps_83
      rw [pu_Mcells Q.1.1, pu_bind, if_pos (Int32.le_refl _)]) (pu_FU (by omega))
  exact hh
/-- the reference's dyes behind a step are the component's -/
theorem pu_fresh (G : pu_G w h kd) {f : Nat → Int32} (hf : ∀ x, x < w * h → f x = dy x ||| (if pu_mv thr gr cg x = true then so x else 0)) {x : Nat} (hx : x < w * h) : pu_it (fun i => pu_fl w h kd thr gr dy cg vl ob (i / 4) (i % 4)) (4 * (w * h)) f x = pu_nx w h kd thr gr so dy cg vl ob x := by
  have g5 := G.2.2.2.2
  have key := pu_it_inv (f := fun i => pu_fl w h kd thr gr dy cg vl ob (i / 4) (i % 4)) (n := 4 * (w * h)) (a := f) (fun i f => pu_lub (fun v => (v = dy x ∨ (pu_mv thr gr cg x = true ∧ v = so x)) ∨ ∃ j, j < i ∧ pu_Cb w h kd thr gr dy cg vl ob (j / 4) (j % 4) x v) (f x))
    (by
      rw [hf x hx]
      refine pu_lub_cong (S := fun v => v = dy x ∨ (pu_mv thr gr cg x = true ∧ v = so x)) (fun v => ⟨Or.inl, fun q => q.elim id (fun ⟨j, z, _⟩ => absurd z (Nat.not_lt_zero _))⟩) ?_
      by_cases e : pu_mv thr gr cg x = true
      · rw [if_pos e]
        exact pu_lub_cong (fun v => or_congr Iff.rfl ⟨fun z => ⟨e, z⟩, fun z => z.2⟩) (pu_lub_or (pu_lub_1 (dy x)) (pu_lub_1 (so x)))
      · rw [if_neg e, Int32.or_zero]
        exact pu_lub_cong (fun v => ⟨Or.inl, fun q => q.elim id (fun z => absurd z.1 e)⟩) (pu_lub_1 (dy x)))
    (by
      intro i hi f J
      refine pu_lub_cong (fun v => ⟨fun q => ?_, fun q => ?_⟩) (pu_fl_lub (d := i % 4) (show i / 4 < w * h by omega) J)
      · rcases q with (z | ⟨j, z1, z2⟩) | z
        · exact Or.inl z
        · exact Or.inr ⟨j, by omega, z2⟩
        · exact Or.inr ⟨i, by omega, z⟩
      · rcases q with z | ⟨j, z1, z2⟩
        · exact Or.inl (Or.inl z)
        · rcases Nat.lt_or_ge j i with y | y
          · exact Or.inl (Or.inr ⟨j, y, z2⟩)
          · have e : j = i := by omega
            subst e; exact Or.inr z2)
  refine pu_lub_one key (pu_lub_cong (fun v => ⟨fun q => ?_, fun q => ?_⟩) (pu_nx_lub x))
  · rcases q with z | ⟨z1, z | ⟨d, hd, ⟨y, a1, a2, a3⟩ | ⟨y, a1, a2, a3⟩⟩⟩
    · exact Or.inl (Or.inl z)
    · exact Or.inl (Or.inr ⟨z1, z⟩)
    · rw [Bool.and_eq_true] at a2
      obtain ⟨b1, b2, -⟩ := pu_sf2 hx a1
      refine Or.inr ⟨4 * y + d, by omega, ?_⟩
      rw [show (4 * y + d) / 4 = y by omega, show (4 * y + d) % 4 = d by omega]
      exact ⟨hd, x, b1, by rw [a2.1, z1]; rfl, Or.inl ⟨rfl, a2.2, a3⟩⟩
    · rw [Bool.and_eq_true] at a2
      refine Or.inr ⟨4 * x + d, by omega, ?_⟩
      rw [show (4 * x + d) / 4 = x by omega, show (4 * x + d) % 4 = d by omega]
      exact ⟨hd, y, a1, by rw [a2.1, z1]; rfl, Or.inr ⟨rfl, a2.2, a3⟩⟩
  · rcases q with (z | ⟨z1, z2⟩) | ⟨j, hj, hd, y, a1, a2, b⟩
    · exact Or.inl z
    · exact Or.inr ⟨z1, Or.inl z2⟩
    · rw [Bool.and_eq_true] at a2
      rcases b with ⟨rfl, b2, b3⟩ | ⟨rfl, b2, b3⟩
      · exact Or.inr ⟨a2.2, Or.inr ⟨j % 4, hd, Or.inl ⟨j / 4, pu_sf1 (show j / 4 < w * h by omega) a1, by rw [a2.1, b2]; rfl, b3⟩⟩⟩
      · exact Or.inr ⟨a2.1, Or.inr ⟨j % 4, hd, Or.inr ⟨y, a1, by rw [a2.2, b2]; rfl, b3⟩⟩⟩
theorem pu_M28 (Q : pu_Q w h kd thr bt tm rea gr vl so dy cg now) (G : pu_G w h kd) (f0 : Nat → Int32) (v1 v2 : Int32) : ∃ f, loopN (fun x => M_steps_28 v1 v2 now x.1 x.2) FU (0, f0) = some f ∧ ∀ x, x < w * h → f x = dy x ||| (if pu_mv thr gr cg x = true then so x else 0) := by
  obtain ⟨n4, n80⟩ := pu_G80 G
  have hh := pu_for (st := fun x => M_steps_28 v1 v2 now x.1 x.2) (fun c (f : Nat → Int32) => (nI c, f)) (fun c f => upd f c (dy c ||| (if pu_mv thr gr cg c = true then so c else 0))) (fun f => f) (fun c f => ∀ x, x < c → f x = dy x ||| (if pu_mv thr gr cg x = true then so x else 0)) (N := w * h) (fu := FU) (a := f0)
    (by
      intro c f hc J
      refine ⟨?_, fun x hx => ?_⟩
      · show M_steps_28 v1 v2 now (nI c) f = _
        unfold M_steps_28
        rw [pu_Mcells Q.1.1, pu_bind, if_neg (nI_ge hc (by omega)), pu_nowD Q G hc, pu_bind, pu_Mmv Q G hc, pu_bind, pu_ast (by omega) (by decide), pu_bind, pu_nowS Q G hc, pu_bind, pu_ast (by omega) (by decide), pu_bind, pu_a1]
        rcases Bool.eq_false_or_eq_true (pu_mv thr gr cg c) with e | e
        · rw [e, pu_01t, if_neg pu_10, if_pos rfl]
        · rw [e, pu_01f, if_pos rfl, if_neg (by decide)]
      · by_cases e : x = c
        · subst e; exact pu_us
        · rw [pu_un e]; exact J x (by omega))
    (by
      intro f _
      show M_steps_28 v1 v2 now (nI (w * h)) f = _
      unfold M_steps_28
      rw [pu_Mcells Q.1.1, pu_bind, if_pos (Int32.le_refl _)]) (fun x hx => absurd hx (Nat.not_lt_zero _)) (pu_FU (by omega))
  exact ⟨_, hh.1, hh.2⟩
/-- clogged behind a step -/
def pu_cx (rea x cgx : Int32) : Int32 := if cgx = 1 then 1 else (L_reacts rea x).getD 5
theorem pu_cx01 {r a : Nat} (hr : r < 8) (ha : a < 8) (cgx : Int32) : pu_cx (nI r) (nI a) cgx = 0 ∨ pu_cx (nI r) (nI a) cgx = 1 := by
  unfold pu_cx
  split
  · exact Or.inr rfl
  · exact (pu_rx8 r hr a ha).2
theorem pu_M198 (Q : pu_Q w h kd thr bt tm rea gr vl so dy cg now) (G : pu_G w h kd) (hr : pu_8 rea) (hcg : ∀ c, c < w * h → cg c = 0 ∨ cg c = 1) {f nx : Nat → Int32} (hf : ∀ x, x < w * h → f x = nx x) (h8 : ∀ x, x < w * h → pu_8 (nx x)) : ∃ now2, loopN (fun x => M_steps_198 f x.1 x.2.1 x.2.2) FU (0, 0, now) = some (pu_it (fun c (a : Int32) => a + pu_bc (nx c) (dy c)) (w * h) 0, now2) ∧ (∀ k, k < 487 → now2 k = now k) ∧ ∀ x, x < w * h → now2 (487 + x) = nx x ∧ now2 (567 + x) = pu_cx rea (nx x) (cg x) := by
  obtain ⟨n4, n80⟩ := pu_G80 G
  obtain ⟨r, hr8, hrr⟩ := hr
  have hh := pu_for (st := fun x => M_steps_198 f x.1 x.2.1 x.2.2) (fun c (u : Int32 × (Nat → Int32)) => (u.1, nI c, u.2)) (fun c u => (u.1 + pu_bc (nx c) (dy c), upd (upd u.2 (487 + c) (nx c)) (567 + c) (pu_cx rea (nx c) (cg c)))) (fun u => u) (fun c u => (∀ k, k < 487 → u.2 k = now k) ∧ ∀ x, x < w * h → (x < c → u.2 (487 + x) = nx x ∧ u.2 (567 + x) = pu_cx rea (nx x) (cg x)) ∧ (c ≤ x → u.2 (487 + x) = dy x ∧ u.2 (567 + x) = cg x)) (N := w * h) (fu := FU) (a := ((0 : Int32), now))
    (by
      rintro c ⟨a, nw⟩ hc ⟨J1, J2⟩
      dsimp only at J1 J2
      have N2 : pu_N w h kd nw := ⟨by rw [J1 0 (by decide)]; exact Q.1.1.1, by rw [J1 1 (by decide)]; exact Q.1.1.2.1, by rw [J1 2 (by decide)]; exact Q.1.1.2.2⟩
      obtain ⟨xa, hxa, hxe⟩ := h8 c hc
      have hd1 : ald nw 647 (487 + nI c) = some (dy c) := by rw [pu_nowp nw 487 c (by omega), ((J2 c hc).2 (Nat.le_refl _)).1]
      have h1 := pu_for0 (st := fun x => M_steps_209 (nI c) nw f x.1 x.2) (fun i (b : Int32) => (b, nI i)) (fun i b => b + pu_xi (nx c) (dy c) i) (fun b => b) (N := 3) (fu := FU) (a := a)
        (by
          intro i b hi
          show M_steps_209 (nI c) nw f b (nI i) = _
          unfold M_steps_209 pu_xi
          rw [if_neg (show ¬ (3 : Int32) ≤ nI i from nI_ge (b := 3) hi (by decide)), pu_ald (by omega) (by decide), pu_bind, hf c hc, pu_has, pu_bind, hd1, pu_bind, pu_has, pu_bind, pu_a1]
          by_cases e1 : pu_bit (nx c) (nI i) = 0
          · rw [if_pos e1, if_pos e1]
          · rw [if_neg e1, if_neg e1]
            by_cases e2 : pu_bit (dy c) (nI i) = 0
            · rw [if_pos e2, if_pos e2]
            · rw [if_neg e2, if_neg e2])
        (by
          intro b
          show M_steps_209 (nI c) nw f b (nI 3) = _
          unfold M_steps_209
          rw [if_pos (by decide)]) (pu_FU (by omega))
      have e3 : pu_it (fun i b => b + pu_xi (nx c) (dy c) i) 3 a = a + pu_bc (nx c) (dy c) := by
        show ((a + pu_xi (nx c) (dy c) 0) + pu_xi (nx c) (dy c) 1) + pu_xi (nx c) (dy c) 2 = _
        unfold pu_bc
        rw [Int32.add_assoc, Int32.add_assoc, ← Int32.add_assoc (pu_xi (nx c) (dy c) 0)]
      have h6 : ald (upd nw (487 + c) (nx c)) 647 6 = some (nI r) := by
        rw [← hrr, ← Q.2.2.2.2.1, ← J1 6 (by decide), ← pu_un (f := nw) (k := 487 + c) (j := 6) (x := nx c) (by omega)]
        exact pu_ald (i := 6) (by decide) (by decide)
      have hcl : ald (upd nw (487 + c) (nx c)) 647 (567 + nI c) = some (cg c) := by
        rw [pu_nowp _ 567 c (by omega), pu_un (by omega), ((J2 c hc).2 (Nat.le_refl _)).2]
      refine ⟨?_, ?_⟩
      · show M_steps_198 f a (nI c) nw = _
        unfold M_steps_198 pu_cx
        rw [pu_Mcells N2, pu_bind, if_neg (nI_ge hc (by omega)), show loopN (fun x => M_steps_209 (nI c) nw f x.1 x.2) FU (a, 0) = _ from h1, pu_bind, e3, pu_ald (by omega) (by decide), pu_bind, hf c hc, pu_nows nw 487 c _ (by omega), pu_bind, hcl, pu_bind, hxe]
        rw [hxe] at h6
        rw [pu_bind, pu_Mreacts h6 hr8 hxa, pu_bind, pu_nows _ 567 c _ (by omega), pu_bind, pu_nows _ 567 c _ (by omega), pu_bind, pu_a1, hrr]
        by_cases e : cg c = 1
        · rw [if_pos e, if_pos e]
        · rw [if_neg e, if_neg e]
          show _ = some (Sum.inl (_, _, upd _ _ (pu_rx r xa)))
          rcases (pu_rx8 r hr8 xa hxa).2 with z | z
          · rw [z, if_pos rfl]
          · rw [z, if_neg pu_10]
      · refine ⟨fun k hk => ?_, fun x hx => ⟨fun hxc => ?_, fun hxc => ?_⟩⟩
        · show upd (upd nw (487 + c) (nx c)) (567 + c) _ k = _
          rw [pu_un (by omega), pu_un (by omega)]; exact J1 k hk
        · show upd (upd nw (487 + c) (nx c)) (567 + c) (pu_cx rea (nx c) (cg c)) (487 + x) = _ ∧ upd (upd nw (487 + c) (nx c)) (567 + c) (pu_cx rea (nx c) (cg c)) (567 + x) = _
          by_cases e : x = c
          · subst e
            rw [pu_us, pu_un (by omega), pu_us]; exact ⟨rfl, rfl⟩
          · rw [pu_un (by omega), pu_un (by omega), pu_un (by omega), pu_un (by omega)]
            exact (J2 x hx).1 (by omega)
        · show upd (upd nw (487 + c) (nx c)) (567 + c) (pu_cx rea (nx c) (cg c)) (487 + x) = _ ∧ upd (upd nw (487 + c) (nx c)) (567 + c) (pu_cx rea (nx c) (cg c)) (567 + x) = _
          rw [pu_un (by omega), pu_un (by omega), pu_un (by omega), pu_un (by omega)]
          exact (J2 x hx).2 (by omega))
    (by
      rintro ⟨a, nw⟩ ⟨J1, -⟩
      dsimp only at J1
      have N2 : pu_N w h kd nw := ⟨by rw [J1 0 (by decide)]; exact Q.1.1.1, by rw [J1 1 (by decide)]; exact Q.1.1.2.1, by rw [J1 2 (by decide)]; exact Q.1.1.2.2⟩
      show M_steps_198 f a (nI (w * h)) nw = _
      unfold M_steps_198
      rw [pu_Mcells N2, pu_bind, if_pos (Int32.le_refl _)])
    ⟨fun k _ => rfl, fun x hx => ⟨fun z => absurd z (Nat.not_lt_zero _), fun _ => ⟨(Q.2.2.2.2.2 x hx).2.1, (Q.2.2.2.2.2 x hx).2.2⟩⟩⟩ (pu_FU (by omega))
  obtain ⟨b1, b2, b3⟩ := hh
  have e1 : ∀ n (a : Int32) (nw : Nat → Int32), (pu_it (fun c (u : Int32 × (Nat → Int32)) => (u.1 + pu_bc (nx c) (dy c), upd (upd u.2 (487 + c) (nx c)) (567 + c) (pu_cx rea (nx c) (cg c)))) n (a, nw)).1 = pu_it (fun c (a : Int32) => a + pu_bc (nx c) (dy c)) n a := by
    intro n a nw
    induction n with
    | zero => rfl
    | succ n ih => rw [pu_it_s, pu_it_s, ← ih]
  refine ⟨_, ?_, b2, fun x hx => (b3 x hx).1 hx⟩
  rw [← e1 (w * h) 0 now]
  exact b1
end S2
