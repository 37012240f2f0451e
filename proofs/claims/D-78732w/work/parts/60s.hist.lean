/-! PLAIN LAWS, 17: the history: a deque of lattices against rows kept one behind another -/
set_option maxRecDepth 100000
/-- a kept lattice: its six addresses, and what it holds -/
abbrev pu_KL : Type := (Nat × Nat × Nat × Nat × Nat × Nat) × pu_LT
def pu_DQ (ls : List Nat) (el : Nat → Option Nat) (hd tl : Int32) : Prop := ∃ p, p < 17 ∧ hd = nI p ∧ tl = nI ((p + ls.length) % 17) ∧ ls.length ≤ 5 ∧ ∀ j a, ls[j]? = some a → el ((p + j) % 17) = some a
def pu_HI (sh : Nat) (hist : List pu_KL) (past : Nat → Int32) (saved : Int32) : Prop := hist.length ≤ 5 ∧ saved = nI hist.length ∧ ∀ j x, hist[j]? = some x → pu_LI sh x.2 (fun k => past (647 * j + k))
def pu_push {α : Type} (ls : List α) (a : α) : List α := (if ls.length = 5 then ls.tail else ls) ++ [a]
theorem pu_push_len {α : Type} (ls : List α) (a : α) (h : ls.length ≤ 5) : (pu_push ls a).length ≤ 5 := by
  unfold pu_push
  split
  · rename_i e
    rw [List.length_append, List.length_tail, e]; exact Nat.le_refl 5
  · rw [List.length_append]
    show ls.length + 1 ≤ 5
    omega
theorem pu_push_map {α β : Type} (f : α → β) (ls : List α) (a : α) : (pu_push ls a).map f = pu_push (ls.map f) (f a) := by
  unfold pu_push
  rw [List.map_append, List.length_map]
  split
  · rw [List.map_tail]; rfl
  · rfl
theorem pu_17 : nI 17 = (17 : Int32) := rfl
theorem pu_J2sub {a b : Nat} (ha : a < 17) (hb : b < 17) : J2_sub (nI a) (nI b) (nI 17) = some (nI (if b ≤ a then a - b else a + 17 - b)) := by
  unfold J2_sub
  by_cases e : b ≤ a
  · rw [pk_sub e, if_pos (nI_pos' (by omega)), if_pos e]
  · have h1 := pk_sub_toInt (a := a) (b := b) (by omega) (by omega)
    rw [if_neg (by rw [Int32.le_iff_toInt_le, h1, show (0 : Int32).toInt = 0 from rfl]; omega), if_neg e]
    refine congrArg some (pu_eqI ?_)
    rw [fb_addI (by rw [h1, nI_toInt (by decide)]; omega) (by rw [h1, nI_toInt (by decide)]; omega), h1, nI_toInt (by decide), nI_toInt (by omega)]
    omega
theorem pu_J2size {ls : List Nat} {el : Nat → Option Nat} {hd tl : Int32} (D : pu_DQ ls el hd tl) : J2_size 17 hd tl = some (nI ls.length) := by
  obtain ⟨p, hp, rfl, rfl, hl, -⟩ := D
  unfold J2_size
  rw [pu_J2sub (by omega) hp, pu_bind]
  refine congrArg some (congrArg nI ?_)
  split <;> omega
theorem pu_aldQ {f : Nat → Option Nat} {i a : Nat} (hi : i < 17) (h : f i = some a) : aldQ f 17 (nI i) = some a := by
  unfold aldQ
  rw [if_neg (nI_in hi (by decide)), nI_clamp (by omega)]
  exact h
theorem pu_astQn {f : Nat → Option Nat} {i : Nat} (hi : i < 17) : astQn f 17 (nI i) = some (va_up f i none) := by
  unfold astQn
  rw [if_neg (nI_in hi (by decide)), nI_clamp (by omega)]
theorem pu_astQ {f : Nat → Option Nat} {i a : Nat} (hi : i < 17) : astQ f 17 (nI i) a = some (va_up f i (some a)) := by
  unfold astQ
  rw [if_neg (nI_in hi (by decide)), nI_clamp (by omega)]
theorem pu_J2inc {p : Nat} (hp : p < 17) : J2_inc (nI p) (nI 17) = some (nI ((p + 1) % 17)) := by
  unfold J2_inc
  rw [pu_a1]
  by_cases e : p + 1 < 17
  · rw [if_pos (nI_lt e (by decide)), Nat.mod_eq_of_lt e]
  · rw [if_neg (nI_nlt (by omega) (by omega)), show p + 1 = 17 by omega]; rfl
theorem pu_J2dec {p : Nat} (hp : p < 17) : J2_dec (nI p) (nI 17) = some (nI ((p + 16) % 17)) := by
  unfold J2_dec
  rcases Nat.eq_zero_or_pos p with e | e
  · subst e; decide
  · rw [sb_m1 e, if_pos (nI_pos' (by omega))]
    exact congrArg some (congrArg nI (by omega))
theorem pu_addLast {ls : List Nat} {el : Nat → Option Nat} {hd tl : Int32} (D : pu_DQ ls el hd tl) (hl : ls.length ≤ 4) (b0 : Nat) : ∃ el2 tl2, J2_addLast b0 17 el hd tl = some (tl2, el2) ∧ pu_DQ (ls ++ [b0]) el2 hd tl2 := by
  obtain ⟨p, hp, rfl, rfl, -, he⟩ := D
  have hq : (p + ls.length) % 17 < 17 := Nat.mod_lt _ (by decide)
  refine ⟨va_up el ((p + ls.length) % 17) (some b0), nI (((p + ls.length) % 17 + 1) % 17), ?_, p, hp, rfl, ?_, by rw [List.length_append]; show ls.length + 1 ≤ 5; omega, fun j a hj => ?_⟩
  · unfold J2_addLast
    rw [pu_astQ hq, pu_bind, pu_J2inc hq, pu_bind, if_neg]
    rw [nI_eq (by omega) (by omega)]
    omega
  · rw [List.length_append]
    exact congrArg nI (by show _ = (p + (ls.length + 1)) % 17; omega)
  · unfold va_up
    rcases Nat.lt_or_ge j ls.length with q | q
    · rw [List.getElem?_append_left q] at hj
      rw [if_neg (by omega)]
      exact he j a hj
    · rw [List.getElem?_append_right q] at hj
      have e : j - ls.length = 0 := by
        have := (List.getElem?_eq_some_iff.mp hj).1
        simp at this; omega
      rw [e] at hj
      cases hj
      rw [if_pos (by congr 1; omega)]
theorem pu_Creplace {ls : List Nat} {el : Nat → Option Nat} {hd tl : Int32} (D : pu_DQ ls el hd tl) (b0 : Nat) (hs : List Nat) (hm : ∀ a ∈ ls, a ∈ hs) : ∃ hd2 tl2 el2, C_replace b0 17 el hd tl hs = some (hd2, tl2, el2) ∧ pu_DQ (pu_push ls b0) el2 hd2 tl2 := by
  unfold C_replace pu_push
  rw [pu_J2size D, pu_bind]
  by_cases e : ls.length = 5
  · rw [e, if_pos (by decide), if_pos rfl]
    obtain ⟨p, hp, hhd, htl, hl, he⟩ := D
    cases ls with
    | nil => cases e
    | cons a ls =>
      have he0 := he 0 a rfl
      rw [Nat.add_zero, Nat.mod_eq_of_lt hp] at he0
      have D2 : pu_DQ ls (va_up el p none) (nI ((p + 1) % 17)) tl := by
        refine ⟨(p + 1) % 17, Nat.mod_lt _ (by decide), rfl, ?_, by simp at e; omega, fun j b hj => ?_⟩
        · rw [htl, List.length_cons]
          exact congrArg nI (by omega)
        · have hjl := (List.getElem?_eq_some_iff.mp hj).1
          have h2 := he (j + 1) b (by simpa using hj)
          unfold va_up
          simp at e
          rw [if_neg (by omega), show ((p + 1) % 17 + j) % 17 = (p + (j + 1)) % 17 by omega]
          exact h2
      obtain ⟨el2, tl2, b1, b2⟩ := pu_addLast D2 (by simp at e; omega) b0
      refine ⟨nI ((p + 1) % 17), tl2, el2, ?_, b2⟩
      unfold J2_removeFirst J2_pollFirst J2_elementAt memA
      rw [hhd, pu_aldQ hp he0, pu_bind, pu_bind, pu_astQn hp, pu_bind, pu_J2inc hp, pu_bind, pu_bind]
      dsimp only
      rw [pu_bind, if_pos (hm a List.mem_cons_self), pu_bind, b1, pu_bind]
  · have hl := D.choose_spec.2.2.2.1
    rw [if_neg (show ¬ nI ls.length = 5 from fun z => e ((nI_eq (b := 5) (by omega) (by decide)).mp z)), if_neg e]
    obtain ⟨el2, tl2, b1, b2⟩ := pu_addLast D (by omega) b0
    exact ⟨hd, tl2, el2, by rw [b1, pu_bind], b2⟩
/-- undo, the deque's side -/
theorem pu_Cundo0 {el : Nat → Option Nat} {hd tl : Int32} (D : pu_DQ [] el hd tl) (b0 : Nat) (hs : List Nat) : C_undo b0 17 el hd tl hs = some (-2, b0, tl, el) := by
  obtain ⟨p, hp, rfl, rfl, -, -⟩ := D
  unfold C_undo J2_isEmpty
  rw [List.length_nil, Nat.add_zero, Nat.mod_eq_of_lt hp, if_pos rfl, pu_bind, if_neg pu_10]
theorem pu_Cundo1 {ls : List Nat} {a : Nat} {el : Nat → Option Nat} {hd tl : Int32} (D : pu_DQ (ls ++ [a]) el hd tl) (b0 : Nat) (hs : List Nat) (hm : a ∈ hs) : ∃ tl2 el2, C_undo b0 17 el hd tl hs = some (nI ls.length, a, tl2, el2) ∧ pu_DQ ls el2 hd tl2 := by
  obtain ⟨p, hp, hhd, htl, hl, he⟩ := D
  rw [List.length_append] at htl hl
  have hl : ls.length + 1 ≤ 5 := hl
  have htl : tl = nI ((p + (ls.length + 1)) % 17) := htl
  have hq : (p + (ls.length + 1)) % 17 < 17 := Nat.mod_lt _ (by decide)
  have hq2 : ((p + (ls.length + 1)) % 17 + 16) % 17 = (p + ls.length) % 17 := by omega
  have hq3 : (p + ls.length) % 17 < 17 := Nat.mod_lt _ (by decide)
  have ha := he ls.length a (by rw [List.getElem?_append_right (Nat.le_refl _), Nat.sub_self]; rfl)
  have D2 : pu_DQ ls (va_up el ((p + ls.length) % 17) none) hd (nI ((p + ls.length) % 17)) := by
    refine ⟨p, hp, hhd, rfl, by omega, fun j b hj => ?_⟩
    have hjl := (List.getElem?_eq_some_iff.mp hj).1
    unfold va_up
    rw [if_neg (by omega)]
    exact he j b (by rw [List.getElem?_append_left hjl]; exact hj)
  refine ⟨nI ((p + ls.length) % 17), va_up el ((p + ls.length) % 17) none, ?_, D2⟩
  unfold C_undo J2_isEmpty
  rw [hhd, htl, if_neg (by rw [nI_eq (by omega) (by omega)]; omega), pu_bind, if_pos rfl]
  unfold J2_removeLast J2_pollLast J2_elementAt memA
  rw [pu_J2dec hq, pu_bind, hq2, pu_aldQ hq3 ha, pu_bind, pu_bind, pu_astQn hq3, pu_bind, pu_bind]
  dsimp only
  rw [pu_bind, if_pos hm, pu_bind, ← hhd, pu_J2size D2, pu_bind]
/-! the reference's rows -/
theorem pu_647 (s k : Nat) : (647 : Int32) * nI s + nI k = nI (647 * s + k) := by rw [pu_lit, pk_mul, nI_add]
theorem pu_M51 {now past : Nat → Int32} {s : Nat} (hs : s < 5) : ∃ past2, loopN (fun x => M_saves_51 now (nI s) x.1 x.2) FU (0, past) = some past2 ∧ (∀ k, k < 647 → past2 (647 * s + k) = now k) ∧ ∀ k, (k < 647 * s ∨ 647 * s + 647 ≤ k) → past2 k = past k := by
  have hh := pu_for (st := fun x => M_saves_51 now (nI s) x.1 x.2) (fun i (g : Nat → Int32) => (nI i, g)) (fun i g => upd g (647 * s + i) (now i)) (fun g => g) (fun i g => (∀ k, k < i → g (647 * s + k) = now k) ∧ ∀ k, (k < 647 * s ∨ 647 * s + 647 ≤ k) → g k = past k) (N := 647) (fu := FU) (a := past)
    (by
      rintro i g hi ⟨J1, J2⟩
      refine ⟨?_, fun k hk => ?_, fun k hk => ?_⟩
      · show M_saves_51 now (nI s) (nI i) g = _
        unfold M_saves_51
        rw [if_neg (show ¬ (647 : Int32) ≤ nI i from nI_ge (b := 647) hi (by decide)), pu_ald hi (by decide), pu_bind, pu_647, pu_ast (by omega) (by decide), pu_bind, pu_a1]
      · by_cases e : k = i
        · subst e; exact pu_us
        · rw [pu_un (by omega)]; exact J1 k (by omega)
      · rw [pu_un (by omega)]; exact J2 k hk)
    (by
      intro g _
      show M_saves_51 now (nI s) (nI 647) g = _
      unfold M_saves_51
      rw [if_pos (by decide)]) ⟨fun k hk => absurd hk (Nat.not_lt_zero _), fun _ _ => rfl⟩ (pu_FU (by decide))
  exact ⟨_, hh.1, hh.2⟩
theorem pu_M10 (past : Nat → Int32) : ∃ past2, loopN (fun x => M_saves_10 x.1 x.2) FU (0, past) = some past2 ∧ ∀ k, k < 2588 → past2 k = past (k + 647) := by
  have hh := pu_for (st := fun x => M_saves_10 x.1 x.2) (fun i (g : Nat → Int32) => (nI i, g)) (fun i g => upd g i (g (i + 647))) (fun g => g) (fun i g => (∀ k, k < i → g k = past (k + 647)) ∧ ∀ k, i ≤ k → g k = past k) (N := 2588) (fu := FU) (a := past)
    (by
      rintro i g hi ⟨J1, J2⟩
      refine ⟨?_, fun k hk => ?_, fun k hk => ?_⟩
      · show M_saves_10 (nI i) g = _
        unfold M_saves_10
        rw [if_neg (show ¬ (2588 : Int32) ≤ nI i from nI_ge (b := 2588) hi (by decide)), show nI i + 647 = nI (i + 647) from nI_add i 647, pu_ald (by omega) (by decide), pu_bind, pu_ast (by omega) (by decide), pu_bind, pu_a1]
      · by_cases e : k = i
        · subst e; rw [pu_us, J2 _ (by omega)]
        · rw [pu_un e]; exact J1 k (by omega)
      · rw [pu_un (by omega)]; exact J2 k (by omega))
    (by
      intro g _
      show M_saves_10 (nI 2588) g = _
      unfold M_saves_10
      rw [if_pos (by decide)]) ⟨fun k hk => absurd hk (Nat.not_lt_zero _), fun _ _ => rfl⟩ (pu_FU (by decide))
  exact ⟨_, hh.1, hh.2.1⟩
theorem pu_Msaves {sh : Nat} {hist : List pu_KL} {past now : Nat → Int32} {saved : Int32} (H : pu_HI sh hist past saved) {x : pu_KL} (L : pu_LI sh x.2 now) : ∃ past2 saved2, M_saves now past saved = some (past2, saved2) ∧ pu_HI sh (pu_push hist x) past2 saved2 := by
  obtain ⟨hl, hsv, he⟩ := H
  unfold M_saves pu_push
  by_cases e : hist.length = 5
  · rw [hsv, e, if_pos (by decide), if_pos rfl]
    obtain ⟨p1, a1, a2⟩ := pu_M10 past
    obtain ⟨p2, b1, b2, b3⟩ := pu_M51 (now := now) (past := p1) (s := 4) (by decide)
    refine ⟨p2, nI 5, ?_, ?_⟩
    · rw [a1, pu_bind, show nI 5 - 1 = nI 4 from by decide, b1, pu_bind]
      rfl
    · cases hist with
      | nil => cases e
      | cons y hist =>
        have el : hist.length = 4 := by simp at e; omega
        show pu_HI sh (hist ++ [x]) p2 (nI 5)
        refine ⟨by rw [List.length_append, el]; exact Nat.le_refl 5, by rw [List.length_append, el]; rfl, fun j z hj => ?_⟩
        rcases Nat.lt_or_ge j hist.length with q | q
        · rw [List.getElem?_append_left q] at hj
          have h2 := he (j + 1) z (by simpa using hj)
          refine pu_LI_now h2 (fun k hk => ?_)
          rw [b3 _ (by omega), a2 _ (by omega)]
          exact congrArg past (by omega)
        · rw [List.getElem?_append_right q] at hj
          have e0 : j - hist.length = 0 := by
            have := (List.getElem?_eq_some_iff.mp hj).1
            simp at this; omega
          rw [e0] at hj
          cases hj
          refine pu_LI_now L (fun k hk => ?_)
          rw [show j = 4 by omega]
          exact b2 k hk
  · rw [hsv, if_neg (show ¬ nI hist.length = 5 from fun z => e ((nI_eq (b := 5) (by omega) (by decide)).mp z)), if_neg e]
    obtain ⟨p2, b1, b2, b3⟩ := pu_M51 (now := now) (past := past) (s := hist.length) (by omega)
    refine ⟨p2, nI (hist.length + 1), ?_, ?_⟩
    · rw [b1, pu_bind, pu_a1]
    · refine ⟨by rw [List.length_append]; show hist.length + 1 ≤ 5; omega, by rw [List.length_append]; rfl, fun j z hj => ?_⟩
      rcases Nat.lt_or_ge j hist.length with q | q
      · rw [List.getElem?_append_left q] at hj
        refine pu_LI_now (he j z hj) (fun k hk => ?_)
        exact b3 _ (by omega)
      · rw [List.getElem?_append_right q] at hj
        have e0 : j - hist.length = 0 := by
          have := (List.getElem?_eq_some_iff.mp hj).1
          simp at this; omega
        rw [e0] at hj
        cases hj
        refine pu_LI_now L (fun k hk => ?_)
        rw [show j = hist.length by omega]
        exact b2 k hk
theorem pu_Mundo0 {now past : Nat → Int32} : M_undo now past 0 = some (-2, now, 0) := by unfold M_undo; rw [if_pos rfl]
theorem pu_Mundo1 {sh : Nat} {hist : List pu_KL} {x : pu_KL} {past now : Nat → Int32} {saved : Int32} (H : pu_HI sh (hist ++ [x]) past saved) : ∃ now2, M_undo now past saved = some (nI hist.length, now2, nI hist.length) ∧ pu_LI sh x.2 now2 ∧ pu_HI sh hist past (nI hist.length) := by
  obtain ⟨hl, hsv, he⟩ := H
  rw [List.length_append] at hl hsv
  have hl : hist.length + 1 ≤ 5 := hl
  have hsv : saved = nI (hist.length + 1) := hsv
  have hh := pu_for (st := fun x => M_undo_22 past (nI hist.length) x.1 x.2) (fun i (g : Nat → Int32) => (nI i, g)) (fun i g => upd g i (past (647 * hist.length + i))) (fun g => g) (fun i g => ∀ k, k < i → g k = past (647 * hist.length + k)) (N := 647) (fu := FU) (a := now)
    (by
      rintro i g hi J
      refine ⟨?_, fun k hk => ?_⟩
      · show M_undo_22 past (nI hist.length) (nI i) g = _
        unfold M_undo_22
        rw [if_neg (show ¬ (647 : Int32) ≤ nI i from nI_ge (b := 647) hi (by decide)), pu_647, pu_ald (by omega) (by decide), pu_bind, pu_ast hi (by decide), pu_bind, pu_a1]
      · by_cases e : k = i
        · subst e; exact pu_us
        · rw [pu_un e]; exact J k (by omega))
    (by
      intro g _
      show M_undo_22 past (nI hist.length) (nI 647) g = _
      unfold M_undo_22
      rw [if_pos (by decide)]) (fun k hk => absurd hk (Nat.not_lt_zero _)) (pu_FU (by decide))
  obtain ⟨b1, b2⟩ := hh
  refine ⟨pu_it (fun i g => upd g i (past (647 * hist.length + i))) 647 now, ?_, ?_, by omega, rfl, fun j z hj => ?_⟩
  · unfold M_undo
    rw [hsv, if_neg (nI_ne0 (by omega) (by omega)), pu_s1 (by omega), Nat.add_sub_cancel, show loopN (fun x => M_undo_22 past (nI hist.length) x.1 x.2) FU (0, now) = _ from b1, pu_bind]
  · refine pu_LI_now (he hist.length x (by rw [List.getElem?_append_right (Nat.le_refl _), Nat.sub_self]; rfl)) (fun k hk => b2 k hk)
  · exact he j z (by rw [List.getElem?_append_left (List.getElem?_eq_some_iff.mp hj).1]; exact hj)
