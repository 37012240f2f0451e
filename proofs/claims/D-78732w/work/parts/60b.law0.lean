/-! PLAIN LAWS, 0: loops as folds, arrays at small places, numbers -/
set_option maxRecDepth 100000
def pu_it {α : Type} (f : Nat → α → α) : Nat → α → α
  | 0, a => a
  | n + 1, a => f n (pu_it f n a)
theorem pu_it_0 {α : Type} (f : Nat → α → α) (a : α) : pu_it f 0 a = a := rfl
theorem pu_it_s {α : Type} (f : Nat → α → α) (n : Nat) (a : α) : pu_it f (n + 1) a = f n (pu_it f n a) := rfl
theorem pu_it_cong {α : Type} {f g : Nat → α → α} {n : Nat} {a : α} (h : ∀ i, i < n → ∀ x, f i x = g i x) : pu_it f n a = pu_it g n a := by
  induction n with
  | zero => rfl
  | succ n ih => rw [pu_it_s, pu_it_s, ih (fun i hi => h i (by omega)), h n (by omega)]
/-- two folds side by side -/
theorem pu_it_rel {α β : Type} {f : Nat → α → α} {g : Nat → β → β} {n : Nat} {a : α} {b : β} (R : Nat → α → β → Prop) (h0 : R 0 a b) (hs : ∀ i, i < n → ∀ x y, R i x y → R (i + 1) (f i x) (g i y)) : R n (pu_it f n a) (pu_it g n b) := by
  induction n with
  | zero => exact h0
  | succ n ih => exact hs n (by omega) _ _ (ih (fun i hi => hs i (by omega)))
theorem pu_it_inv {α : Type} {f : Nat → α → α} {n : Nat} {a : α} (R : Nat → α → Prop) (h0 : R 0 a) (hs : ∀ i, i < n → ∀ x, R i x → R (i + 1) (f i x)) : R n (pu_it f n a) := by
  induction n with
  | zero => exact h0
  | succ n ih => exact hs n (by omega) _ (ih (fun i hi => hs i (by omega)))
/-- a fold whose later steps do nothing -/
theorem pu_it_more {α : Type} {f : Nat → α → α} {m : Nat} {a : α} (k : Nat) (h : ∀ i, m ≤ i → i < m + k → ∀ x, f i x = x) : pu_it f (m + k) a = pu_it f m a := by
  induction k with
  | zero => rfl
  | succ k ih =>
    show pu_it f (m + k + 1) a = _
    rw [pu_it_s, h (m + k) (by omega) (by omega), ih (fun i h1 h2 => h i h1 (by omega))]
theorem pu_it_le {α : Type} {f : Nat → α → α} {m n : Nat} {a : α} (hmn : m ≤ n) (h : ∀ i, m ≤ i → i < n → ∀ x, f i x = x) : pu_it f n a = pu_it f m a := by
  obtain ⟨k, rfl⟩ : ∃ k, n = m + k := ⟨n - m, by omega⟩
  exact pu_it_more k h
theorem pu_it_stay {α : Type} {f : Nat → α → α} {m n : Nat} {a : α} (hmn : m ≤ n) (h : ∀ i, m ≤ i → i < n → f i (pu_it f m a) = pu_it f m a) : pu_it f n a = pu_it f m a := by
  obtain ⟨k, rfl⟩ : ∃ k, n = m + k := ⟨n - m, by omega⟩
  clear hmn
  induction k with
  | zero => rfl
  | succ k ih =>
    show pu_it f (m + k + 1) a = _
    rw [pu_it_s, ih (fun i h1 h2 => h i h1 (by omega)), h (m + k) (by omega) (by omega)]
/-- four to a place: a flat fold as one of folds -/
theorem pu_it_4 {α : Type} (f : Nat → Nat → α → α) (n : Nat) (a : α) : pu_it (fun i => f (i / 4) (i % 4)) (4 * n) a = pu_it (fun c x => pu_it (f c) 4 x) n a := by
  induction n with
  | zero => rfl
  | succ n ih =>
    rw [show 4 * (n + 1) = 4 * n + 3 + 1 from by omega, pu_it_s, show 4 * n + 3 = 4 * n + 2 + 1 from by omega, pu_it_s, show 4 * n + 2 = 4 * n + 1 + 1 from by omega, pu_it_s, pu_it_s, pu_it_s, ih]
    rw [show (4 * n + 1 + 1 + 1) / 4 = n from by omega, show (4 * n + 1 + 1 + 1) % 4 = 3 from by omega, show (4 * n + 1 + 1) / 4 = n from by omega, show (4 * n + 1 + 1) % 4 = 2 from by omega, show (4 * n + 1) / 4 = n from by omega, show (4 * n + 1) % 4 = 1 from by omega, show (4 * n) / 4 = n from by omega, show (4 * n) % 4 = 0 from by omega]
    rfl
theorem pu_lp {σ ω : Type} {st : σ → Option (σ ⊕ ω)} {x y : σ} {f : Nat} (h : st x = some (.inl y)) : loopN st (f + 1) x = loopN st f y := by
  show (st x).bind _ = _
  rw [h]; rfl
theorem pu_lx {σ ω : Type} {st : σ → Option (σ ⊕ ω)} {x : σ} {o : ω} {f : Nat} (h : st x = some (.inr o)) : loopN st (f + 1) x = some o := by
  show (st x).bind _ = _
  rw [h]; rfl
/-- a counted loop, as a fold -/
theorem pu_for {σ ω α : Type} {st : σ → Option (σ ⊕ ω)} (enc : Nat → α → σ) (f : Nat → α → α) (out : α → ω) (I : Nat → α → Prop) {N fu : Nat} {a : α}
    (hs : ∀ i x, i < N → I i x → st (enc i x) = some (.inl (enc (i + 1) (f i x))) ∧ I (i + 1) (f i x))
    (he : ∀ x, I N x → st (enc N x) = some (.inr (out x))) (h0 : I 0 a) (hf : N < fu) :
    loopN st fu (enc 0 a) = some (out (pu_it f N a)) ∧ I N (pu_it f N a) := by
  have key : ∀ k i g, i + k = N → k < g → I i (pu_it f i a) → loopN st g (enc i (pu_it f i a)) = some (out (pu_it f N a)) ∧ I N (pu_it f N a) := by
    intro k
    induction k with
    | zero =>
      intro i g hi hg hI
      obtain rfl : i = N := by omega
      obtain ⟨g, rfl⟩ : ∃ g', g = g' + 1 := ⟨g - 1, by omega⟩
      exact ⟨pu_lx (he _ hI), hI⟩
    | succ k ih =>
      intro i g hi hg hI
      obtain ⟨g, rfl⟩ : ∃ g', g = g' + 1 := ⟨g - 1, by omega⟩
      obtain ⟨h1, h2⟩ := hs i _ (by omega) hI
      rw [pu_lp h1]
      exact ih (i + 1) g (by omega) (by omega) h2
  exact key N 0 fu (by omega) hf h0
/-- a counted loop without an invariant -/
theorem pu_for0 {σ ω α : Type} {st : σ → Option (σ ⊕ ω)} (enc : Nat → α → σ) (f : Nat → α → α) (out : α → ω) {N fu : Nat} {a : α}
    (hs : ∀ i x, i < N → st (enc i x) = some (.inl (enc (i + 1) (f i x))))
    (he : ∀ x, st (enc N x) = some (.inr (out x))) (hf : N < fu) :
    loopN st fu (enc 0 a) = some (out (pu_it f N a)) :=
  (pu_for enc f out (fun _ _ => True) (fun i x hi _ => ⟨hs i x hi, trivial⟩) (fun x _ => he x) trivial hf).1
/-- a loop by an invariant: at most N rounds -/
theorem pu_wh {σ ω : Type} {st : σ → Option (σ ⊕ ω)} (I : σ → Prop) (E : ω → Prop) (ms : σ → Nat)
    (hs : ∀ x, I x → (∃ y, st x = some (.inl y) ∧ I y ∧ ms y < ms x) ∨ ∃ o, st x = some (.inr o) ∧ E o) :
    ∀ (f : Nat) (x : σ), ms x < f → I x → ∃ o, loopN st f x = some o ∧ E o := by
  intro f
  induction f with
  | zero => intro x h; exact absurd h (Nat.not_lt_zero _)
  | succ f ih =>
    intro x hf hI
    rcases hs x hI with ⟨y, h1, h2, h3⟩ | ⟨o, h1, h2⟩
    · obtain ⟨o, h4, h5⟩ := ih y (by omega) h2
      exact ⟨o, by rw [pu_lp h1]; exact h4, h5⟩
    · exact ⟨o, pu_lx h1, h2⟩
/-- two loops side by side -/
theorem pu_wh2 {σ ω τ υ : Type} {st : σ → Option (σ ⊕ ω)} {su : τ → Option (τ ⊕ υ)} (I : σ → τ → Prop) (E : ω → υ → Prop) (ms : σ → Nat)
    (hs : ∀ x y, I x y → (∃ x2 y2, st x = some (.inl x2) ∧ su y = some (.inl y2) ∧ I x2 y2 ∧ ms x2 < ms x) ∨ ∃ o u, st x = some (.inr o) ∧ su y = some (.inr u) ∧ E o u) :
    ∀ (f g : Nat) (x : σ) (y : τ), ms x < f → ms x < g → I x y → ∃ o u, loopN st f x = some o ∧ loopN su g y = some u ∧ E o u := by
  intro f
  induction f with
  | zero => intro g x y h; exact absurd h (Nat.not_lt_zero _)
  | succ f ih =>
    intro g x y hf hg hI
    obtain ⟨g, rfl⟩ : ∃ g', g = g' + 1 := ⟨g - 1, by omega⟩
    rcases hs x y hI with ⟨x2, y2, h1, h2, h3, h4⟩ | ⟨o, u, h1, h2, h3⟩
    · obtain ⟨o, u, h5, h6, h7⟩ := ih g x2 y2 (by omega) (by omega) h3
      exact ⟨o, u, by rw [pu_lp h1]; exact h5, by rw [pu_lp h2]; exact h6, h7⟩
    · exact ⟨o, u, pu_lx h1, pu_lx h2, h3⟩
theorem pu_FU {n : Nat} (h : n ≤ 5000) : n < FU := by unfold FU; omega
theorem pu_lit (n : Nat) : (OfNat.ofNat n : Int32) = nI n := rfl
theorem pu_ald {f : Nat → Int32} {n i : Nat} (h : i < n) (hn : n < 2 ^ 31) : ald f n (nI i) = some (f i) := by
  unfold ald
  rw [if_neg (nI_in h hn), nI_clamp (by omega)]
theorem pu_ast {f : Nat → Int32} {n i : Nat} {x : Int32} (h : i < n) (hn : n < 2 ^ 31) : ast f n (nI i) x = some (upd f i x) := by
  unfold ast
  rw [if_neg (nI_in h hn), nI_clamp (by omega)]
theorem pu_nz0 : nz 0 = 0 := by decide
theorem pu_nz1 : nz 1 = 1 := by decide
theorem pu_zst0 {f : Nat → Int32} {n i : Nat} (h : i < n) (hn : n < 2 ^ 31) : zst f n (nI i) 0 = some (upd f i 0) := by
  unfold zst
  rw [if_neg (nI_in h hn), nI_clamp (by omega), pu_nz0]
theorem pu_zst1 {f : Nat → Int32} {n i : Nat} (h : i < n) (hn : n < 2 ^ 31) : zst f n (nI i) 1 = some (upd f i 1) := by
  unfold zst
  rw [if_neg (nI_in h hn), nI_clamp (by omega), pu_nz1]
theorem pu_aldN {f : Nat → Nat} {n i : Nat} (h : i < n) (hn : n < 2 ^ 31) (hv : f i < 5) : aldN f n (nI i) = some (f i) := by
  unfold aldN
  rw [nI_clamp (by omega), if_neg]
  intro hc
  rcases hc with hc | hc
  · exact nI_in h hn (by rw [nI_clamp (by omega)]; exact hc)
  · omega
theorem pu_astN {f : Nat → Nat} {n i x : Nat} (h : i < n) (hn : n < 2 ^ 31) (hv : x < 5) : astN f n (nI i) x = some (updN f i x) := by
  unfold astN
  rw [nI_clamp (by omega), if_neg]
  intro hc
  rcases hc with hc | hc | hc
  · exact nI_pos (by omega) hc
  · omega
  · omega
theorem pu_idv {a d : Nat} (ha : a < 2 ^ 31) (h0 : 0 < d) (hd : d < 2 ^ 31) : idv (nI a) (nI d) = some (nI (a / d)) := by
  unfold idv
  rw [if_neg (nI_ne0 h0 hd), pk_div ha h0 hd]
theorem pu_irm {a d : Nat} (ha : a < 2 ^ 31) (h0 : 0 < d) (hd : d < 2 ^ 31) : irm (nI a) (nI d) = some (nI (a % d)) := by
  unfold irm
  rw [if_neg (nI_ne0 h0 hd), pk_rem ha h0 hd]
theorem pu_zck0 : zck 0 = some 0 := by unfold zck; rw [if_pos (Or.inl rfl)]
theorem pu_zck1 : zck 1 = some 1 := by unfold zck; rw [if_pos (Or.inr rfl)]
theorem pu_bind {α β : Type} (a : α) (k : α → Option β) : (some a).bind k = k a := rfl
theorem pu_10 : ¬ (1 : Int32) = 0 := by decide
/-- an int is the number that it shows -/
theorem pu_eqI {x y : Int32} (h : x.toInt = y.toInt) : x = y := Int32.toInt_inj.1 h
theorem pu_m9 : (-9 : Int32).toInt = -9 := by decide
theorem pu_nI_m9 {n : Nat} (h : n < 2 ^ 31) : ¬ nI n = -9 := by
  intro e
  have := nI_toInt h
  rw [e, pu_m9] at this
  omega
theorem pu_btw (a b c : Int32) : C_isBetween a b c = some (if b.toInt ≤ a.toInt ∧ a.toInt ≤ c.toInt then 1 else 0) := by
  unfold C_isBetween
  by_cases h1 : a < b
  · rw [if_pos h1, if_neg]
    rw [Int32.lt_iff_toInt_lt] at h1; omega
  · rw [if_neg h1]
    by_cases h2 : c < a
    · rw [if_pos h2, if_neg]
      rw [Int32.lt_iff_toInt_lt] at h2; omega
    · rw [if_neg h2, if_pos]
      rw [Int32.lt_iff_toInt_lt] at h1 h2; omega
theorem pu_wit (a b c : Int32) : M_within a b c = C_isBetween a b c := rfl
theorem pu_lit_toInt (n : Nat) (h : n < 2 ^ 31) : (OfNat.ofNat n : Int32).toInt = (n : Int) := nI_toInt h
/-- a truth as 0 or 1 -/
noncomputable def pu_b (P : Prop) : Int32 := @ite _ P (Classical.propDecidable P) 1 0
theorem pu_b_t {P : Prop} (h : P) : pu_b P = 1 := by unfold pu_b; exact if_pos h
theorem pu_b_f {P : Prop} (h : ¬ P) : pu_b P = 0 := by unfold pu_b; exact if_neg h
theorem pu_b_0 {P : Prop} : pu_b P = 0 ↔ ¬ P := by
  constructor
  · intro e h
    rw [pu_b_t h] at e
    exact pu_10 e
  · exact pu_b_f
theorem pu_b_1 {P : Prop} : pu_b P = 1 ↔ P := by
  constructor
  · intro e
    refine Classical.byContradiction fun h => ?_
    rw [pu_b_f h] at e
    exact pu_10 e.symm
  · exact pu_b_t
theorem pu_b_zck (P : Prop) : zck (pu_b P) = some (pu_b P) := by
  by_cases h : P
  · rw [pu_b_t h]; exact pu_zck1
  · rw [pu_b_f h]; exact pu_zck0
theorem pu_b_cong {P Q : Prop} (h : P ↔ Q) : pu_b P = pu_b Q := by rw [propext h]
theorem pu_b_ite (P : Prop) [Decidable P] : (if P then 1 else 0 : Int32) = pu_b P := by
  by_cases h : P
  · rw [if_pos h, pu_b_t h]
  · rw [if_neg h, pu_b_f h]
theorem pu_b_eti (P : Prop) [Decidable P] : (if P then 0 else 1 : Int32) = pu_b (¬ P) := by
  by_cases h : P
  · rw [if_pos h, pu_b_f (fun q => q h)]
  · rw [if_neg h, pu_b_t h]
/-- choosing by a truth -/
theorem pu_b_if {α : Type} (P : Prop) (a b : α) : (if pu_b P = 0 then a else b) = @ite _ P (Classical.propDecidable P) b a := by
  by_cases h : P
  · rw [pu_b_t h, if_neg pu_10, if_pos h]
  · rw [pu_b_f h, if_pos rfl, if_neg h]
theorem pu_us {f : Nat → Int32} {k : Nat} {x : Int32} : upd f k x k = x := if_pos rfl
theorem pu_un {f : Nat → Int32} {k j : Nat} {x : Int32} (h : j ≠ k) : upd f k x j = f j := if_neg h
