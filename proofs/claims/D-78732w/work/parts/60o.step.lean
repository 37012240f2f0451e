/-! PLAIN LAWS, 13: a step of the dyes -/
set_option maxRecDepth 100000
/-! the least set that holds some others -/
def pu_lub (S : Int32 → Prop) (v : Int32) : Prop := (∀ x, S x → x ||| v = v) ∧ ∀ B, (∀ x, S x → x ||| B = B) → v ||| B = B
theorem pu_lub_one {S : Int32 → Prop} {v u : Int32} (h1 : pu_lub S v) (h2 : pu_lub S u) : v = u := by
  have a := h1.2 u h2.1
  have b := h2.2 v h1.1
  rw [Int32.or_comm] at b
  exact b.symm.trans a
theorem pu_lub_cong {S S2 : Int32 → Prop} {v : Int32} (h : ∀ x, S x ↔ S2 x) (h1 : pu_lub S v) : pu_lub S2 v :=
  ⟨fun x hx => h1.1 x ((h x).mpr hx), fun B hB => h1.2 B (fun x hx => hB x ((h x).mp hx))⟩
theorem pu_lub_0 : pu_lub (fun _ => False) 0 := ⟨fun _ h => h.elim, fun _ _ => Int32.zero_or⟩
theorem pu_lub_1 (a : Int32) : pu_lub (fun x => x = a) a := ⟨fun x h => by rw [h, Int32.or_self], fun B hB => hB a rfl⟩
theorem pu_lub_or {S S2 : Int32 → Prop} {v u : Int32} (h1 : pu_lub S v) (h2 : pu_lub S2 u) : pu_lub (fun x => S x ∨ S2 x) (v ||| u) := by
  refine ⟨fun x hx => ?_, fun B hB => ?_⟩
  · rcases hx with h | h
    · rw [← Int32.or_assoc, h1.1 x h]
    · rw [Int32.or_comm v u, ← Int32.or_assoc, h2.1 x h]
  · rw [Int32.or_assoc, h2.2 B (fun x hx => hB x (Or.inr hx)), h1.2 B (fun x hx => hB x (Or.inl hx))]
/-- three bits -/
def pu_8 (x : Int32) : Prop := ∃ k, k < 8 ∧ x = nI k
theorem pu_orN (a b : Nat) : nI a ||| nI b = nI (a ||| b) := by
  apply Int32.toBitVec_inj.1
  show BitVec.ofNat 32 a ||| BitVec.ofNat 32 b = BitVec.ofNat 32 (a ||| b)
  apply BitVec.eq_of_getLsbD_eq
  intro i hi
  simp [hi]
theorem pu_8_or {x y : Int32} (hx : pu_8 x) (hy : pu_8 y) : pu_8 (x ||| y) := by
  obtain ⟨a, ha, rfl⟩ := hx
  obtain ⟨b, hb, rfl⟩ := hy
  exact ⟨a ||| b, Nat.or_lt_two_pow (n := 3) ha hb, pu_orN a b⟩
theorem pu_8_0 : pu_8 0 := ⟨0, by decide, rfl⟩
def pu_mv (thr : Int32) (gr cg : Nat → Int32) (c : Nat) : Bool := decide (¬ thr ≤ gr c) && decide (cg c = 0)
def pu_lt (v : Nat) (f ob : Bool) : Bool := if v = 0 then true else if v = 1 then false else if v = 2 then f else if v = 3 then !f else ob
theorem pu_letsF {v : Nat} (hv : v < 5) (f ob : Bool) : letsF v (pu_01 f) (pu_01 ob) = some (pu_01 (pu_lt v f ob)) := by
  rcases pu_v5 hv with rfl | rfl | rfl | rfl | rfl <;> cases f <;> cases ob <;> decide
section ST
variable {w h kd : Nat} {thr bt tm rea : Int32} {gr : Nat → Int32} {vl : Nat → Nat} {so dy cg now : Nat → Int32} {ob : Bool}
theorem pu_Lmv {n : Nat} (hn : n < 2 ^ 31) (thr : Int32) (gr cg : Nat → Int32) {c : Nat} (hc : c < n) : L_isMoving thr n gr cg (nI c) = some (pu_01 (pu_mv thr gr cg c)) := by
  unfold L_isMoving pu_mv
  rw [pu_LisO hn thr gr hc, pu_bind, pu_ald hc hn, pu_bind]
  rcases Bool.eq_false_or_eq_true (decide (¬ thr ≤ gr c)) with e | e
  · rw [e, pu_01t, if_neg pu_10, Bool.true_and]
    by_cases e2 : cg c = 0
    · rw [if_pos e2, decide_eq_true e2]; rfl
    · rw [if_neg e2, decide_eq_false e2]; rfl
  · rw [e, pu_01f, if_pos rfl, Bool.false_and]; rfl
theorem pu_Mmv (Q : pu_Q w h kd thr bt tm rea gr vl so dy cg now) (G : pu_G w h kd) {c : Nat} (hc : c < w * h) : M_isFlowing now (nI c) = some (pu_01 (pu_mv thr gr cg c)) := by
  unfold M_isFlowing pu_mv
  rw [pu_now3 Q, pu_bind, pu_MisO Q.1 G hc, pu_bind, pu_nowC Q G hc, pu_bind]
  rcases Bool.eq_false_or_eq_true (decide (¬ thr ≤ gr c)) with e | e
  · rw [e, pu_01t, if_neg pu_10, Bool.true_and]
    by_cases e2 : cg c = 0
    · rw [if_pos e2, decide_eq_true e2]; rfl
    · rw [if_neg e2, decide_eq_false e2]; rfl
  · rw [e, pu_01f, if_pos rfl, Bool.false_and]; rfl
/-- what comes to a cell in a direction -/
def pu_cm (w h : Nat) (thr : Int32) (gr cg dy : Nat → Int32) (vl : Nat → Nat) (ob : Bool) (c d : Nat) (a : Int32) : Int32 :=
  (fun a1 => match pu_sec w h d c with
    | none => a1
    | some y => if (pu_mv thr gr cg y && pu_lt (vl (4 * c + d)) false ob) = true then a1 ||| dy y else a1) (match pu_fst w d c with
    | none => a
    | some x => if (pu_mv thr gr cg x && pu_lt (vl (4 * x + d)) true ob) = true then a ||| dy x else a)
def pu_Cc (w h : Nat) (thr : Int32) (gr cg dy : Nat → Int32) (vl : Nat → Nat) (ob : Bool) (c d : Nat) (v : Int32) : Prop := (∃ x, pu_fst w d c = some x ∧ (pu_mv thr gr cg x && pu_lt (vl (4 * x + d)) true ob) = true ∧ v = dy x) ∨ ∃ y, pu_sec w h d c = some y ∧ (pu_mv thr gr cg y && pu_lt (vl (4 * c + d)) false ob) = true ∧ v = dy y
theorem pu_lub_if {S : Int32 → Prop} {v a : Int32} {b : Bool} (h1 : pu_lub S v) : pu_lub (fun x => S x ∨ (b = true ∧ x = a)) (if b = true then v ||| a else v) := by
  by_cases e : b = true
  · rw [if_pos e]
    exact pu_lub_cong (fun x => ⟨fun q => q.elim Or.inl (fun z => Or.inr ⟨e, z⟩), fun q => q.elim Or.inl (fun z => Or.inr z.2)⟩) (pu_lub_or h1 (pu_lub_1 a))
  · rw [if_neg e]
    exact pu_lub_cong (fun x => ⟨Or.inl, fun q => q.elim id (fun z => absurd z.1 e)⟩) h1
theorem pu_cm_lub {S : Int32 → Prop} {a : Int32} {c d : Nat} (h1 : pu_lub S a) : pu_lub (fun x => S x ∨ pu_Cc w h thr gr cg dy vl ob c d x) (pu_cm w h thr gr cg dy vl ob c d a) := by
  have h2 : pu_lub (fun x => S x ∨ ∃ y, pu_fst w d c = some y ∧ (pu_mv thr gr cg y && pu_lt (vl (4 * y + d)) true ob) = true ∧ x = dy y) (match pu_fst w d c with | none => a | some x => if (pu_mv thr gr cg x && pu_lt (vl (4 * x + d)) true ob) = true then a ||| dy x else a) := by
    cases hf : pu_fst w d c with
    | none => exact pu_lub_cong (fun x => ⟨Or.inl, fun q => q.elim id (fun ⟨y, z, _⟩ => nomatch z)⟩) h1
    | some y =>
      refine pu_lub_cong (fun x => ?_) (pu_lub_if (a := dy y) (b := pu_mv thr gr cg y && pu_lt (vl (4 * y + d)) true ob) h1)
      exact ⟨fun q => q.elim Or.inl (fun z => Or.inr ⟨y, rfl, z⟩), fun q => q.elim Or.inl (fun ⟨y2, z1, z2⟩ => Or.inr (by cases z1; exact z2))⟩
  unfold pu_cm
  generalize (match pu_fst w d c with | none => a | some x => if (pu_mv thr gr cg x && pu_lt (vl (4 * x + d)) true ob) = true then a ||| dy x else a) = a1 at h2
  dsimp only
  have h3 : pu_lub (fun x => (S x ∨ ∃ y, pu_fst w d c = some y ∧ (pu_mv thr gr cg y && pu_lt (vl (4 * y + d)) true ob) = true ∧ x = dy y) ∨ ∃ y, pu_sec w h d c = some y ∧ (pu_mv thr gr cg y && pu_lt (vl (4 * c + d)) false ob) = true ∧ x = dy y) (match pu_sec w h d c with | none => a1 | some y => if (pu_mv thr gr cg y && pu_lt (vl (4 * c + d)) false ob) = true then a1 ||| dy y else a1) := by
    cases hf : pu_sec w h d c with
    | none => exact pu_lub_cong (fun x => ⟨Or.inl, fun q => q.elim id (fun ⟨y, z, _⟩ => nomatch z)⟩) h2
    | some y =>
      refine pu_lub_cong (fun x => ?_) (pu_lub_if (a := dy y) (b := pu_mv thr gr cg y && pu_lt (vl (4 * c + d)) false ob) h2)
      exact ⟨fun q => q.elim Or.inl (fun z => Or.inr ⟨y, rfl, z⟩), fun q => q.elim Or.inl (fun ⟨y2, z1, z2⟩ => Or.inr (by cases z1; exact z2))⟩
  exact pu_lub_cong (fun x => or_assoc) h3
theorem pu_cm_8 {a : Int32} {c d : Nat} (hd8 : ∀ x, x < w * h → pu_8 (dy x)) (hc : c < w * h) (h1 : pu_8 a) : pu_8 (pu_cm w h thr gr cg dy vl ob c d a) := by
  have h2 : pu_8 (match pu_fst w d c with | none => a | some x => if (pu_mv thr gr cg x && pu_lt (vl (4 * x + d)) true ob) = true then a ||| dy x else a) := by
    cases hf : pu_fst w d c with
    | none => exact h1
    | some y =>
      show pu_8 (if (pu_mv thr gr cg y && pu_lt (vl (4 * y + d)) true ob) = true then a ||| dy y else a)
      split
      · exact pu_8_or h1 (hd8 y (pu_fst_lt hc hf).1)
      · exact h1
  unfold pu_cm
  generalize (match pu_fst w d c with | none => a | some x => if (pu_mv thr gr cg x && pu_lt (vl (4 * x + d)) true ob) = true then a ||| dy x else a) = a1 at h2
  dsimp only
  cases hf : pu_sec w h d c with
  | none => exact h2
  | some y =>
    show pu_8 (if (pu_mv thr gr cg y && pu_lt (vl (4 * c + d)) false ob) = true then a1 ||| dy y else a1)
    split
    · exact pu_8_or h2 (hd8 y (pu_sec_lt hc hf).1)
    · exact h2
theorem pu_Lcoming (G : pu_G w h kd) (hv : ∀ i, i < 4 * (w * h) → vl i < 5) {c : Nat} (hc : c < w * h) : L_coming (nI w) (nI h) thr kd (w * h) (4 * (w * h)) vl gr dy cg (nI c) (pu_01 ob) = some (pu_it (pu_cm w h thr gr cg dy vl ob c) (kd + 2) 0) := by
  obtain ⟨n4, n80⟩ := pu_G80 G
  have G0 := G
  obtain ⟨g1, g2, g3, g4, g5⟩ := G
  have hn : w * h < 2 ^ 31 := by omega
  have hh := pu_for0 (st := fun x => L_coming_5 (nI c) (pu_01 ob) (nI w) (nI h) thr kd (w * h) (4 * (w * h)) vl gr dy cg x.1 x.2) (fun d (a : Int32) => (a, nI d)) (pu_cm w h thr gr cg dy vl ob c) (fun a => a) (N := kd + 2) (fu := FU) (a := (0 : Int32))
    (by
      intro d a hd
      show L_coming_5 (nI c) (pu_01 ob) (nI w) (nI h) thr kd (w * h) (4 * (w * h)) vl gr dy cg a (nI d) = _
      have hL := pu_Lsec G0 hc (show d < 4 by omega)
      have hF := pu_Lfst G0 hc (show d < 4 by omega)
      have hj : ∀ a1 : Int32, L_coming_5_j72 (nI w) (nI h) thr (w * h) (4 * (w * h)) vl gr dy cg (nI c) (pu_01 ob) a1 (nI d) = some (.inl ((match pu_sec w h d c with | none => a1 | some y => if (pu_mv thr gr cg y && pu_lt (vl (4 * c + d)) false ob) = true then a1 ||| dy y else a1), nI (d + 1))) := by
        intro a1
        unfold L_coming_5_j72
        rw [hL, pu_bind]
        cases hs : pu_sec w h d c with
        | none => rw [pu_cdn, if_pos rfl, pu_a1]
        | some y =>
          have hy := (pu_sec_lt hc hs).1
          have hvi := hv (4 * c + d) (by omega)
          rw [pu_cds, if_neg (pu_nI_m9 (by omega)), pu_Lmv hn thr gr cg hy, pu_bind, pu_4, pu_aldN (by omega) (by omega) hvi, pu_bind, show letsF (vl (4 * c + d)) 0 (pu_01 ob) = _ from pu_letsF hvi false ob, pu_bind, pu_ald hy hn, pu_bind, pu_a1]
          dsimp only
          rcases Bool.eq_false_or_eq_true (pu_mv thr gr cg y) with e | e
          · rw [e, pu_01t, if_neg pu_10, Bool.true_and]
            rcases Bool.eq_false_or_eq_true (pu_lt (vl (4 * c + d)) false ob) with e2 | e2
            · rw [e2, pu_01t, if_neg pu_10, if_pos rfl]
            · rw [e2, pu_01f, if_pos rfl, if_neg (by decide)]
          · rw [e, pu_01f, if_pos rfl, Bool.false_and, if_neg (by decide)]
      unfold L_coming_5 dirF pu_cm
      rw [if_pos (by omega), pu_bind, if_neg (nI_ge hd (by omega)), hF, pu_bind]
      cases hf : pu_fst w d c with
      | none => rw [pu_cdn, if_pos rfl, hj]
      | some x =>
        have hx := (pu_fst_lt hc hf).1
        have hvi := hv (4 * x + d) (by omega)
        rw [pu_cds, if_neg (pu_nI_m9 (by omega)), pu_Lmv hn thr gr cg hx, pu_bind, pu_4, pu_aldN (by omega) (by omega) hvi, pu_bind, show letsF (vl (4 * x + d)) 1 (pu_01 ob) = _ from pu_letsF hvi true ob, pu_bind, pu_ald hx hn, pu_bind, hj, hj]
        dsimp only
        rcases Bool.eq_false_or_eq_true (pu_mv thr gr cg x) with e | e
        · rw [e, pu_01t, if_neg pu_10, Bool.true_and]
          rcases Bool.eq_false_or_eq_true (pu_lt (vl (4 * x + d)) true ob) with e2 | e2
          · rw [e2, pu_01t, if_neg pu_10, if_pos rfl]
          · rw [e2, pu_01f, if_pos rfl, if_neg (by decide)]
        · rw [e, pu_01f, if_pos rfl, Bool.false_and, if_neg (by decide)])
    (by
      intro a
      show L_coming_5 (nI c) (pu_01 ob) (nI w) (nI h) thr kd (w * h) (4 * (w * h)) vl gr dy cg a (nI (kd + 2)) = _
      unfold L_coming_5 dirF
      rw [if_pos (by omega), pu_bind, if_pos (Int32.le_refl _)]) (pu_FU (by omega))
  unfold L_coming
  rw [show loopN (fun x => L_coming_5 (nI c) (pu_01 ob) (nI w) (nI h) thr kd (w * h) (4 * (w * h)) vl gr dy cg x.1 x.2) FU (0, 0) = _ from hh, pu_bind]
theorem pu_coming_lub (c : Nat) : pu_lub (fun v => ∃ d, d < kd + 2 ∧ pu_Cc w h thr gr cg dy vl ob c d v) (pu_it (pu_cm w h thr gr cg dy vl ob c) (kd + 2) 0) := by
  refine pu_it_inv (fun m a => pu_lub (fun v => ∃ d, d < m ∧ pu_Cc w h thr gr cg dy vl ob c d v) a) ?_ (fun d _ a J => ?_)
  · exact pu_lub_cong (fun x => ⟨fun q => q.elim, fun ⟨d, z, _⟩ => absurd z (Nat.not_lt_zero _)⟩) pu_lub_0
  · refine pu_lub_cong (fun x => ⟨fun q => ?_, fun q => ?_⟩) (pu_cm_lub (d := d) J)
    · rcases q with ⟨d2, z1, z2⟩ | z
      · exact ⟨d2, by omega, z2⟩
      · exact ⟨d, by omega, z⟩
    · obtain ⟨d2, z1, z2⟩ := q
      rcases Nat.lt_or_ge d2 d with y | y
      · exact Or.inl ⟨d2, y, z2⟩
      · have e : d2 = d := by omega
        subst e; exact Or.inr z2
/-- the dyes of a cell behind a step -/
def pu_nx (w h kd : Nat) (thr : Int32) (gr so dy cg : Nat → Int32) (vl : Nat → Nat) (ob : Bool) (c : Nat) : Int32 := dy c ||| (if pu_mv thr gr cg c = true then so c ||| pu_it (pu_cm w h thr gr cg dy vl ob c) (kd + 2) 0 else 0)
theorem pu_nx_lub (c : Nat) : pu_lub (fun v => v = dy c ∨ (pu_mv thr gr cg c = true ∧ (v = so c ∨ ∃ d, d < kd + 2 ∧ pu_Cc w h thr gr cg dy vl ob c d v))) (pu_nx w h kd thr gr so dy cg vl ob c) := by
  unfold pu_nx
  by_cases e : pu_mv thr gr cg c = true
  · rw [if_pos e]
    exact pu_lub_cong (fun x => ⟨fun q => q.elim Or.inl (fun z => Or.inr ⟨e, z⟩), fun q => q.elim Or.inl (fun z => Or.inr z.2)⟩) (pu_lub_or (pu_lub_1 (dy c)) (pu_lub_or (pu_lub_1 (so c)) (pu_coming_lub c)))
  · rw [if_neg e, Int32.or_zero]
    exact pu_lub_cong (fun x => ⟨Or.inl, fun q => q.elim id (fun z => absurd z.1 e)⟩) (pu_lub_1 (dy c))
theorem pu_nx_8 (hd8 : ∀ x, x < w * h → pu_8 (dy x)) (hs8 : ∀ x, x < w * h → pu_8 (so x)) {c : Nat} (hc : c < w * h) : pu_8 (pu_nx w h kd thr gr so dy cg vl ob c) := by
  unfold pu_nx
  refine pu_8_or (hd8 c hc) ?_
  split
  · exact pu_8_or (hs8 c hc) (pu_it_inv (fun _ a => pu_8 a) pu_8_0 (fun d _ a J => pu_cm_8 hd8 hc J))
  · exact pu_8_0
/-- the reference's flow over a bond -/
def pu_fl (w h kd : Nat) (thr : Int32) (gr dy cg : Nat → Int32) (vl : Nat → Nat) (ob : Bool) (c d : Nat) (f : Nat → Int32) : Nat → Int32 := match (if d < kd + 2 then pu_sec w h d c else none) with
  | none => f
  | some x => (fun f1 => if ((pu_mv thr gr cg c && pu_mv thr gr cg x) && pu_lt (vl (4 * c + d)) false ob) = true then upd f1 c (f1 c ||| dy x) else f1) (if ((pu_mv thr gr cg c && pu_mv thr gr cg x) && pu_lt (vl (4 * c + d)) true ob) = true then upd f x (f x ||| dy c) else f)
def pu_Cb (w h kd : Nat) (thr : Int32) (gr dy cg : Nat → Int32) (vl : Nat → Nat) (ob : Bool) (c d x : Nat) (v : Int32) : Prop := d < kd + 2 ∧ ∃ y, pu_sec w h d c = some y ∧ (pu_mv thr gr cg c && pu_mv thr gr cg y) = true ∧ ((x = y ∧ pu_lt (vl (4 * c + d)) true ob = true ∧ v = dy c) ∨ (x = c ∧ pu_lt (vl (4 * c + d)) false ob = true ∧ v = dy y))
theorem pu_fl_lub {S : Int32 → Prop} {f : Nat → Int32} {c d x : Nat} (hc : c < w * h) (h1 : pu_lub S (f x)) : pu_lub (fun v => S v ∨ pu_Cb w h kd thr gr dy cg vl ob c d x v) (pu_fl w h kd thr gr dy cg vl ob c d f x) := by
  unfold pu_fl pu_Cb
  by_cases hd : d < kd + 2
  · rw [if_pos hd]
    cases hs : pu_sec w h d c with
    | none => exact pu_lub_cong (fun v => ⟨Or.inl, fun q => q.elim id (fun ⟨_, y, z, _⟩ => nomatch z)⟩) h1
    | some y =>
      have hy := (pu_sec_lt hc hs).2
      dsimp only
      generalize hm : (pu_mv thr gr cg c && pu_mv thr gr cg y) = m
      generalize h2 : pu_lt (vl (4 * c + d)) true ob = l1
      generalize h3 : pu_lt (vl (4 * c + d)) false ob = l2
      have eC : ∀ v, (d < kd + 2 ∧ ∃ y2, some y = some y2 ∧ (pu_mv thr gr cg c && pu_mv thr gr cg y2) = true ∧ ((x = y2 ∧ l1 = true ∧ v = dy c) ∨ (x = c ∧ l2 = true ∧ v = dy y2))) ↔ (m = true ∧ ((x = y ∧ l1 = true ∧ v = dy c) ∨ (x = c ∧ l2 = true ∧ v = dy y))) := by
        intro v
        constructor
        · rintro ⟨-, y2, e1, e2⟩
          cases e1
          rw [hm] at e2
          exact e2
        · intro e
          exact ⟨hd, y, rfl, by rw [hm]; exact e⟩
      refine pu_lub_cong (fun v => or_congr Iff.rfl (eC v).symm) ?_
      by_cases ex : x = y
      · have exc : ¬ x = c := fun q => hy (ex.symm.trans q)
        have e1 : (if (m && l2) = true then upd (if (m && l1) = true then upd f y (f y ||| dy c) else f) c ((if (m && l1) = true then upd f y (f y ||| dy c) else f) c ||| dy y) else (if (m && l1) = true then upd f y (f y ||| dy c) else f)) x = if (m && l1) = true then f x ||| dy c else f x := by
          by_cases z2 : (m && l2) = true
          · rw [if_pos z2, pu_un exc]
            by_cases z1 : (m && l1) = true
            · rw [if_pos z1, if_pos z1, ex, pu_us]
            · rw [if_neg z1, if_neg z1]
          · rw [if_neg z2]
            by_cases z1 : (m && l1) = true
            · rw [if_pos z1, if_pos z1, ex, pu_us]
            · rw [if_neg z1, if_neg z1]
        rw [e1]
        refine pu_lub_cong (fun v => or_congr Iff.rfl ?_) (pu_lub_if (a := dy c) (b := m && l1) h1)
        rw [Bool.and_eq_true]
        exact ⟨fun ⟨⟨a1, a2⟩, a3⟩ => ⟨a1, Or.inl ⟨ex, a2, a3⟩⟩, fun ⟨a1, a2⟩ => a2.elim (fun ⟨_, b1, b2⟩ => ⟨⟨a1, b1⟩, b2⟩) (fun ⟨b0, _⟩ => absurd b0 exc)⟩
      · by_cases exc : x = c
        · subst exc
          have e1 : (if (m && l2) = true then upd (if (m && l1) = true then upd f y (f y ||| dy x) else f) x ((if (m && l1) = true then upd f y (f y ||| dy x) else f) x ||| dy y) else (if (m && l1) = true then upd f y (f y ||| dy x) else f)) x = if (m && l2) = true then f x ||| dy y else f x := by
            have e0 : (if (m && l1) = true then upd f y (f y ||| dy x) else f) x = f x := by
              by_cases z1 : (m && l1) = true
              · rw [if_pos z1, pu_un ex]
              · rw [if_neg z1]
            by_cases z2 : (m && l2) = true
            · rw [if_pos z2, if_pos z2, pu_us, e0]
            · rw [if_neg z2, if_neg z2, e0]
          rw [e1]
          refine pu_lub_cong (fun v => or_congr Iff.rfl ?_) (pu_lub_if (a := dy y) (b := m && l2) h1)
          rw [Bool.and_eq_true]
          exact ⟨fun ⟨⟨a1, a2⟩, a3⟩ => ⟨a1, Or.inr ⟨rfl, a2, a3⟩⟩, fun ⟨a1, a2⟩ => a2.elim (fun ⟨b0, _⟩ => absurd b0 ex) (fun ⟨_, b1, b2⟩ => ⟨⟨a1, b1⟩, b2⟩)⟩
        · have e1 : (if (m && l2) = true then upd (if (m && l1) = true then upd f y (f y ||| dy c) else f) c ((if (m && l1) = true then upd f y (f y ||| dy c) else f) c ||| dy y) else (if (m && l1) = true then upd f y (f y ||| dy c) else f)) x = f x := by
            have e0 : (if (m && l1) = true then upd f y (f y ||| dy c) else f) x = f x := by
              by_cases z1 : (m && l1) = true
              · rw [if_pos z1, pu_un ex]
              · rw [if_neg z1]
            by_cases z2 : (m && l2) = true
            · rw [if_pos z2, pu_un exc, e0]
            · rw [if_neg z2, e0]
          rw [e1]
          exact pu_lub_cong (fun v => ⟨Or.inl, fun q => q.elim id (fun ⟨_, a2⟩ => a2.elim (fun ⟨b0, _⟩ => absurd b0 ex) (fun ⟨b0, _⟩ => absurd b0 exc))⟩) h1
  · rw [if_neg hd]
    exact pu_lub_cong (fun v => ⟨Or.inl, fun q => q.elim id (fun z => absurd z.1 hd)⟩) h1
end ST
