/-! PLAIN LAWS, 22: the next token, on both sides -/
set_option maxRecDepth 100000
abbrev pu_let (c : Nat) : Prop := 97 ≤ c ∧ c ≤ 122
abbrev pu_dig (c : Nat) : Prop := 48 ≤ c ∧ c ≤ 57
theorem pu_scanE (P : Nat → Prop) (m : Nat) : ∀ k p, p + k = m → ∃ q, p ≤ q ∧ q ≤ m ∧ (∀ i, p ≤ i → i < q → P i) ∧ (q = m ∨ ¬ P q) := by
  intro k
  induction k with
  | zero => intro p h; exact ⟨p, Nat.le_refl _, by omega, fun i h1 h2 => absurd h2 (by omega), Or.inl (by omega)⟩
  | succ k ih =>
    intro p h
    by_cases c : P p
    · obtain ⟨q, h1, h2, h3, h4⟩ := ih (p + 1) (by omega)
      refine ⟨q, by omega, h2, fun i hi hq => ?_, h4⟩
      rcases Nat.eq_or_lt_of_le hi with e | e
      · subst e; exact c
      · exact h3 i e hq
    · exact ⟨p, Nat.le_refl _, by omega, fun i h1 h2 => absurd h2 (by omega), Or.inr c⟩
theorem pu_loopTo {σ ω : Type} {st : σ → Option (σ ⊕ ω)} (enc : Nat → σ) (out : ω) {q : Nat} (he : st (enc q) = some (.inr out)) : ∀ k p f, p + k = q → k < f → (∀ i, p ≤ i → i < q → st (enc i) = some (.inl (enc (i + 1)))) → loopN st f (enc p) = some out := by
  intro k
  induction k with
  | zero =>
    intro p f h hf hs
    obtain ⟨f, rfl⟩ : ∃ f', f = f' + 1 := ⟨f - 1, by omega⟩
    have e : p = q := by omega
    subst e
    exact pu_lx he
  | succ k ih =>
    intro p f h hf hs
    obtain ⟨f, rfl⟩ : ∃ f', f = f' + 1 := ⟨f - 1, by omega⟩
    exact (pu_lp (hs p (Nat.le_refl _) (by omega))).trans (ih (p + 1) f (by omega) (by omega) (fun i h1 h2 => hs i (by omega) h2))
def pu_C (m nb : Nat) (byt text : Nat → Int32) (ch : Nat → Nat) : Prop := m ≤ 64 ∧ (nb = 16 ∨ nb = 34 ∨ nb = 70) ∧ m ≤ nb ∧ pu_ch m byt text ch
def pu_hr (m : Nat) (ch : Nat → Nat) (p : Nat) : Nat := if p < m then ch p else 0
theorem pu_hr_lt {m p : Nat} {ch : Nat → Nat} (h : p < m) : pu_hr m ch p = ch p := if_pos h
theorem pu_hr_m {m : Nat} {ch : Nat → Nat} : pu_hr m ch m = 0 := if_neg (Nat.lt_irrefl _)
theorem pu_isl : ∀ c, c < 256 → C_isBetween (nI c) 97 122 = some (if pu_let c then 1 else 0) := by decide +kernel
theorem pu_isd : ∀ c, c < 256 → C_isBetween (nI c) 48 57 = some (if pu_dig c then 1 else 0) := by decide +kernel
theorem pu_Misl : ∀ c, c < 256 → M_isLetter (nI c) = some (if pu_let c then 1 else 0) := by decide +kernel
theorem pu_Misd : ∀ c, c < 256 → M_isDigit (nI c) = some (if pu_dig c then 1 else 0) := by decide +kernel
/-- from p the next token begins at s -/
def pu_sc (m : Nat) (ch : Nat → Nat) (p s : Nat) : Prop := p ≤ s ∧ s ≤ m ∧ (∀ i, p ≤ i → i < s → ch i = 32) ∧ (s = m ∨ ch s ≠ 32)
/-- it ends at e -/
def pu_tend (m : Nat) (ch : Nat → Nat) (s e : Nat) : Prop :=
  (s = m ∧ e = s) ∨ (s < m ∧ pu_let (ch s) ∧ s < e ∧ e ≤ m ∧ (∀ i, s ≤ i → i < e → pu_let (ch i)) ∧ (e = m ∨ ¬ pu_let (ch e))) ∨ (s < m ∧ pu_dig (ch s) ∧ s < e ∧ e ≤ m ∧ (∀ i, s ≤ i → i < e → pu_dig (ch i)) ∧ (e = m ∨ ¬ pu_dig (ch e))) ∨ (s < m ∧ ¬ pu_let (ch s) ∧ ¬ pu_dig (ch s) ∧ e = s + 1)
theorem pu_scE (m : Nat) (ch : Nat → Nat) (p : Nat) (h : p ≤ m) : ∃ s, pu_sc m ch p s := by
  obtain ⟨q, h1, h2, h3, h4⟩ := pu_scanE (fun i => ch i = 32) m (m - p) p (by omega)
  exact ⟨q, h1, h2, h3, h4⟩
theorem pu_tendE (m : Nat) (ch : Nat → Nat) (s : Nat) (h : s ≤ m) : ∃ e, pu_tend m ch s e := by
  rcases Nat.eq_or_lt_of_le h with c | c
  · exact ⟨s, Or.inl ⟨c, rfl⟩⟩
  · by_cases l : pu_let (ch s)
    · obtain ⟨q, h1, h2, h3, h4⟩ := pu_scanE (fun i => pu_let (ch i)) m (m - s) s (by omega)
      refine ⟨q, Or.inr (Or.inl ⟨c, l, ?_, h2, h3, h4⟩)⟩
      rcases Nat.eq_or_lt_of_le h1 with z | z
      · subst z
        rcases h4 with h4 | h4
        · omega
        · exact absurd l h4
      · exact z
    · by_cases d : pu_dig (ch s)
      · obtain ⟨q, h1, h2, h3, h4⟩ := pu_scanE (fun i => pu_dig (ch i)) m (m - s) s (by omega)
        refine ⟨q, Or.inr (Or.inr (Or.inl ⟨c, d, ?_, h2, h3, h4⟩))⟩
        rcases Nat.eq_or_lt_of_le h1 with z | z
        · subst z
          rcases h4 with h4 | h4
          · omega
          · exact absurd d h4
        · exact z
      · exact ⟨s + 1, Or.inr (Or.inr (Or.inr ⟨c, l, d, rfl⟩))⟩
theorem pu_tend_le {m s e : Nat} {ch : Nat → Nat} (h : pu_tend m ch s e) (hs : s ≤ m) : s ≤ e ∧ e ≤ m := by
  rcases h with ⟨h, rfl⟩ | ⟨h, -, h2, h3, -⟩ | ⟨h, -, h2, h3, -⟩ | ⟨h, -, -, rfl⟩ <;> omega
section SCN
variable {m nb : Nat} {byt text : Nat → Int32} {ch : Nat → Nat}
theorem pu_c255 (C : pu_C m nb byt text ch) (p : Nat) : pu_hr m ch p < 256 := by
  unfold pu_hr
  split
  · rename_i h
    have := (C.2.2.2 p h).2.1
    omega
  · omega
theorem pu_Phere (C : pu_C m nb byt text ch) (p : Nat) (hp : p ≤ m) : P_here nb byt (nI m) (nI p) = some (nI (pu_hr m ch p)) := by
  have h64 := C.1
  unfold P_here
  show (some (nI m)).bind _ = _
  rw [pu_bind]
  rcases Nat.eq_or_lt_of_le hp with c | c
  · subst c
    rw [if_pos (Int32.le_refl _), pu_hr_m]
    rfl
  · rw [if_neg (nI_ge c (by omega)), pu_here (by omega) C.2.2.1 C.2.1 C.2.2.2 c, pu_bind, pu_cck (by have := (C.2.2.2 p c).2.1; omega), pu_bind, pu_hr_lt c]
theorem pu_tx (C : pu_C m nb byt text ch) {p : Nat} (hp : p < m) : ald text 120 (nI p) = some (nI (ch p)) := by
  have h64 := C.1
  rw [pu_ald (by omega) (by decide), (C.2.2.2 p hp).2.2.1]
/-- blanks are passed over -/
theorem pu_Pblank (C : pu_C m nb byt text ch) {p s : Nat} (S : pu_sc m ch p s) {f : Nat} (hf : 64 < f) : loopN (fun x => P_advance_0 nb byt (nI m) x) f (nI p) = some (nI s) := by
  have h64 := C.1
  obtain ⟨h1, h2, h3, h4⟩ := S
  refine pu_loopTo (fun i => nI i) (nI s) (q := s) ?_ (s - p) p f (by omega) (by omega) (fun i hi hs => ?_)
  · show P_advance_0 nb byt (nI m) (nI s) = _
    unfold P_advance_0
    rw [pu_Phere C s h2, pu_bind, if_neg]
    intro c
    rcases h4 with h4 | h4
    · subst h4
      rw [pu_hr_m] at c
      exact absurd c (by decide)
    · rcases Nat.eq_or_lt_of_le h2 with z | z
      · subst z
        rw [pu_hr_m] at c
        exact absurd c (by decide)
      · rw [pu_hr_lt z] at c
        exact h4 ((nI_eq (b := 32) (by have := (C.2.2.2 s z).2.1; omega) (by omega)).mp c)
  · show P_advance_0 nb byt (nI m) (nI i) = _
    unfold P_advance_0
    rw [pu_Phere C i (by omega), pu_bind, pu_hr_lt (by omega), h3 i hi hs, if_pos (show nI 32 = 32 from rfl), pu_a1]
theorem pu_Mblank (C : pu_C m nb byt text ch) {p s : Nat} (S : pu_sc m ch p s) {f : Nat} (hf : 64 < f) : loopN (fun x => M_goes_8 text (nI m) x) f (nI p) = some (nI s) := by
  have h64 := C.1
  obtain ⟨h1, h2, h3, h4⟩ := S
  refine pu_loopTo (fun i => nI i) (nI s) (q := s) ?_ (s - p) p f (by omega) (by omega) (fun i hi hs => ?_)
  · show M_goes_8 text (nI m) (nI s) = _
    unfold M_goes_8
    rcases Nat.eq_or_lt_of_le h2 with z | z
    · subst z
      rw [if_pos (Int32.le_refl _)]
    · rw [if_neg (nI_ge z (by omega)), pu_tx C z, pu_bind, if_neg]
      intro c
      rcases h4 with h4 | h4
      · omega
      · exact h4 ((nI_eq (b := 32) (by have := (C.2.2.2 s z).2.1; omega) (by omega)).mp c)
  · show M_goes_8 text (nI m) (nI i) = _
    unfold M_goes_8
    rw [if_neg (nI_ge (show i < m by omega) (by omega)), pu_tx C (by omega), pu_bind, h3 i hi hs, if_pos (show nI 32 = 32 from rfl), pu_a1]
/-- the model's next token -/
theorem pu_goes (C : pu_C m nb byt text ch) {p s e : Nat} (S : pu_sc m ch p s) (E : pu_tend m ch s e) (frm : Int32) : M_goes text (nI m) frm (nI p) = some (if s = m then 0 else 1, nI s, nI e) := by
  have h64 := C.1
  have hs := S.2.1
  unfold M_goes
  rw [pu_Mblank C S (by unfold FU; omega), pu_bind]
  rcases Nat.eq_or_lt_of_le hs with z | z
  · subst z
    rw [if_pos rfl, if_pos rfl]
    rcases E with ⟨-, rfl⟩ | ⟨h, -⟩ | ⟨h, -⟩ | ⟨h, -⟩
    · rfl
    all_goals omega
  · have hc := (C.2.2.2 s z).2.1
    rw [if_neg (fun c => absurd ((nI_eq (by omega) (by omega)).mp c) (by omega)), if_neg (by omega), pu_tx C z, pu_bind, pu_Misl _ (by omega), pu_bind, pu_bind, pu_Misd _ (by omega), pu_bind, pu_a1]
    have key : ∀ e2, e2 = e → loopN (fun x => M_goes_103 (if pu_let (ch s) then 1 else 0) (if pu_dig (ch s) then 1 else 0) text (nI m) x) FU (nI (s + 1)) = some (nI e2) := by
      intro e2 he
      subst he
      have hee := pu_tend_le E hs
      have hse : s + 1 ≤ e2 := by rcases E with ⟨h, -⟩ | ⟨-, -, h, -⟩ | ⟨-, -, h, -⟩ | ⟨-, -, -, h⟩ <;> omega
      refine pu_loopTo (fun i => nI i) (nI e2) (q := e2) ?_ (e2 - (s + 1)) (s + 1) FU (by omega) (by unfold FU; omega) (fun i hi hs2 => ?_)
      · show M_goes_103 _ _ text (nI m) (nI e2) = _
        unfold M_goes_103 M_goes_103_j133
        rcases Nat.eq_or_lt_of_le hee.2 with y | y
        · subst y
          rw [if_pos (Int32.le_refl _)]
        · have hce := (C.2.2.2 e2 y).2.1
          rw [if_neg (nI_ge y (by omega)), pu_tx C y, pu_bind, pu_bind, pu_Misl _ (by omega), pu_Misd _ (by omega), pu_bind, pu_bind]
          rcases E with ⟨h, -⟩ | ⟨-, hl, -, -, -, h5⟩ | ⟨-, hd, -, -, -, h5⟩ | ⟨-, hl, hd, -⟩
          · omega
          · have n1 : ¬ pu_let (ch e2) := h5.resolve_left (by omega)
            have n2 : ¬ pu_dig (ch s) := fun d => by have := hl.1; have := d.2; omega
            rw [if_pos hl, if_neg n2, if_neg n1, if_neg (by decide), if_pos rfl, if_pos rfl]
          · have n1 : ¬ pu_dig (ch e2) := h5.resolve_left (by omega)
            have n2 : ¬ pu_let (ch s) := fun d => by have := hd.2; have := d.1; omega
            rw [if_neg n2, if_pos hd, if_neg n1, if_pos rfl, if_neg (by decide), if_pos rfl]
          · rw [if_neg hl, if_neg hd, if_pos rfl, if_pos rfl]
      · show M_goes_103 _ _ text (nI m) (nI i) = _
        unfold M_goes_103 M_goes_103_j133
        have hi2 : i < m := by omega
        have hce := (C.2.2.2 i hi2).2.1
        rw [if_neg (nI_ge hi2 (by omega)), pu_tx C hi2, pu_bind, pu_bind, pu_Misl _ (by omega), pu_Misd _ (by omega), pu_bind, pu_bind, pu_a1]
        rcases E with ⟨h, -⟩ | ⟨-, hl, -, -, h4, -⟩ | ⟨-, hd, -, -, h4, -⟩ | ⟨-, -, -, h⟩
        · omega
        · rw [if_pos hl, if_neg (by decide), if_pos (h4 i (by omega) hs2), if_neg (by decide)]
        · have n2 : ¬ pu_let (ch s) := fun d => by have := hd.2; have := d.1; omega
          rw [if_neg n2, if_pos rfl, if_pos hd, if_neg (by decide), if_pos (h4 i (by omega) hs2), if_neg (by decide)]
        · omega
    rw [key e rfl, pu_bind]
end SCN
