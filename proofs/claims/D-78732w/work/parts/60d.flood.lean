/-! PLAIN LAWS, 2: floods -/
set_option maxRecDepth 100000
abbrev pu_S : Type := Nat × (Nat → Int32) × (Nat → Int32)
def pu_meet (ok : Bool) (c : Nat) (s : pu_S) : pu_S := if ok = true ∧ s.2.1 c = 0 then (s.1 + 1, upd s.2.1 c 1, upd s.2.2 s.1 (nI c)) else s
def pu_mo (o : Option Nat) (ok : Nat → Bool) (s : pu_S) : pu_S := match o with
  | none => s
  | some t => pu_meet (ok t) t s
def pu_dir (w h kd : Nat) (T : Nat → Bool) (vf vb : Nat → Nat → Bool) (c d : Nat) (s : pu_S) : pu_S :=
  pu_mo (if d < kd + 2 then pu_fst w d c else none) (fun t => T t && vb t d) (pu_mo (if d < kd + 2 then pu_sec w h d c else none) (fun t => T t && vf c d) s)
def pu_node (w h kd : Nat) (T : Nat → Bool) (vf vb : Nat → Nat → Bool) (c : Nat) (s : pu_S) : pu_S := pu_it (pu_dir w h kd T vf vb c) 4 s
def pu_run (w h kd : Nat) (T : Nat → Bool) (vf vb : Nat → Nat → Bool) (n : Nat) (s : pu_S) : pu_S := pu_it (fun k s => if k < s.1 then pu_node w h kd T vf vb (s.2.2 k).toNatClampNeg s else s) n s
def pu_I (n : Nat) (s : pu_S) : Prop := s.1 = fb_ct (fun c => decide (s.2.1 c = 1)) n ∧ (∀ c, c < n → s.2.1 c = 0 ∨ s.2.1 c = 1) ∧ (∀ k, k < s.1 → ∃ c, c < n ∧ s.2.2 k = nI c ∧ s.2.1 c = 1) ∧ ∀ c, c < n → s.2.1 c = 1 → ∃ k, k < s.1 ∧ s.2.2 k = nI c
def pu_le (s t : pu_S) : Prop := s.1 ≤ t.1 ∧ (∀ j, j < s.1 → t.2.2 j = s.2.2 j) ∧ ∀ x, s.2.1 x = 1 → t.2.1 x = 1
theorem pu_le_rf (s : pu_S) : pu_le s s := ⟨Nat.le_refl _, fun _ _ => rfl, fun _ h => h⟩
theorem pu_le_tr {s t u : pu_S} (h : pu_le s t) (k : pu_le t u) : pu_le s u :=
  ⟨Nat.le_trans h.1 k.1, fun j hj => (k.2.1 j (Nat.lt_of_lt_of_le hj h.1)).trans (h.2.1 j hj), fun x hx => k.2.2 x (h.2.2 x hx)⟩
theorem pu_I_le {n : Nat} {s : pu_S} (I : pu_I n s) : s.1 ≤ n := by rw [I.1]; exact fb_ct_le _ n
theorem pu_I_lt {n : Nat} {s : pu_S} (I : pu_I n s) {c : Nat} (hc : c < n) (h0 : s.2.1 c = 0) : s.1 < n := by
  refine Nat.lt_of_le_of_ne (pu_I_le I) (fun e => ?_)
  rw [I.1, fb_ct_all] at e
  have := of_decide_eq_true (e c hc)
  rw [h0] at this
  exact pu_10 this.symm
theorem pu_meet_le (ok : Bool) (c : Nat) (s : pu_S) : pu_le s (pu_meet ok c s) := by
  unfold pu_meet
  split
  · rename_i k
    refine ⟨Nat.le_succ _, fun j hj => pu_un (by omega), fun x hx => ?_⟩
    by_cases e : x = c
    · subst e; exact pu_us
    · show upd s.2.1 c 1 x = 1
      rw [pu_un e]; exact hx
  · exact pu_le_rf s
theorem pu_meet_no {ok : Bool} {c : Nat} {s : pu_S} (h : ok = false ∨ ¬ s.2.1 c = 0) : pu_meet ok c s = s := by
  unfold pu_meet
  rw [if_neg]
  rintro ⟨h1, h2⟩
  rcases h with h | h
  · rw [h] at h1; cases h1
  · exact h h2
theorem pu_meet_yes {ok : Bool} {c : Nat} {s : pu_S} (h : ok = true) (h2 : s.2.1 c = 0) : pu_meet ok c s = (s.1 + 1, upd s.2.1 c 1, upd s.2.2 s.1 (nI c)) := by
  unfold pu_meet
  rw [if_pos ⟨h, h2⟩]
theorem pu_meet_new {ok : Bool} {c : Nat} {s : pu_S} {x : Nat} (h : (pu_meet ok c s).2.1 x = 1) : s.2.1 x = 1 ∨ (x = c ∧ ok = true) := by
  unfold pu_meet at h
  split at h
  · rename_i k
    by_cases e : x = c
    · exact Or.inr ⟨e, k.1⟩
    · refine Or.inl ?_
      have h : upd s.2.1 c 1 x = 1 := h
      rw [pu_un e] at h
      exact h
  · exact Or.inl h
theorem pu_meet_in {n : Nat} {ok : Bool} {c : Nat} {s : pu_S} (I : pu_I n s) (hc : c < n) (h : ok = true) : (pu_meet ok c s).2.1 c = 1 := by
  unfold pu_meet
  split
  · exact pu_us
  · rename_i k
    rcases I.2.1 c hc with e | e
    · exact absurd ⟨h, e⟩ k
    · exact e
theorem pu_meet_I {n : Nat} {ok : Bool} {c : Nat} {s : pu_S} (I : pu_I n s) (hc : c < n) : pu_I n (pu_meet ok c s) := by
  unfold pu_meet
  split
  · rename_i k
    obtain ⟨I1, I2, I3, I4⟩ := I
    refine ⟨?_, fun x hx => ?_, fun j hj => ?_, fun x hx h1 => ?_⟩
    · show s.1 + 1 = fb_ct (fun x => decide (upd s.2.1 c 1 x = 1)) n
      have h1 := fb_ct_upd (fun x => decide (s.2.1 x = 1)) true hc
      rw [fb_ct_cong (q := fun x => if x = c then true else decide (s.2.1 x = 1)) (fun x _ => by
        show decide (upd s.2.1 c 1 x = 1) = _
        by_cases e : x = c
        · subst e; rw [pu_us, if_pos rfl]; rfl
        · rw [pu_un e, if_neg e])]
      have h2 : decide (s.2.1 c = 1) = false := decide_eq_false (by rw [k.2]; exact fun e => pu_10 e.symm)
      simp only [h2, Bool.false_eq_true, if_false, if_true, Nat.add_zero] at h1
      rw [h1, ← I1]
    · show upd s.2.1 c 1 x = 0 ∨ upd s.2.1 c 1 x = 1
      by_cases e : x = c
      · subst e; exact Or.inr pu_us
      · rw [pu_un e]; exact I2 x hx
    · show ∃ x, x < n ∧ upd s.2.2 s.1 (nI c) j = nI x ∧ upd s.2.1 c 1 x = 1
      have hj : j < s.1 + 1 := hj
      by_cases e : j = s.1
      · subst e; exact ⟨c, hc, pu_us, pu_us⟩
      · obtain ⟨x, h1, h2, h3⟩ := I3 j (by omega)
        refine ⟨x, h1, by rw [pu_un e]; exact h2, ?_⟩
        by_cases e2 : x = c
        · subst e2; exact pu_us
        · rw [pu_un e2]; exact h3
    · show ∃ j, j < s.1 + 1 ∧ upd s.2.2 s.1 (nI c) j = nI x
      have h1 : upd s.2.1 c 1 x = 1 := h1
      by_cases e2 : x = c
      · subst e2; exact ⟨s.1, Nat.lt_succ_self _, pu_us⟩
      · rw [pu_un e2] at h1
        obtain ⟨j, h2, h3⟩ := I4 x hx h1
        exact ⟨j, by omega, by rw [pu_un (by omega)]; exact h3⟩
  · exact I
theorem pu_mo_le (o : Option Nat) (ok : Nat → Bool) (s : pu_S) : pu_le s (pu_mo o ok s) := by
  cases o with
  | none => exact pu_le_rf s
  | some t => exact pu_meet_le _ _ _
theorem pu_mo_I {n : Nat} {o : Option Nat} {ok : Nat → Bool} {s : pu_S} (I : pu_I n s) (ho : ∀ t, o = some t → t < n) : pu_I n (pu_mo o ok s) := by
  cases o with
  | none => exact I
  | some t => exact pu_meet_I I (ho t rfl)
theorem pu_mo_new {o : Option Nat} {ok : Nat → Bool} {s : pu_S} {x : Nat} (h : (pu_mo o ok s).2.1 x = 1) : s.2.1 x = 1 ∨ (o = some x ∧ ok x = true) := by
  cases o with
  | none => exact Or.inl h
  | some t =>
    rcases pu_meet_new h with k | ⟨rfl, k⟩
    · exact Or.inl k
    · exact Or.inr ⟨rfl, k⟩
theorem pu_mo_in {n : Nat} {o : Option Nat} {ok : Nat → Bool} {s : pu_S} {x : Nat} (I : pu_I n s) (hx : x < n) (e : o = some x) (h : ok x = true) : (pu_mo o ok s).2.1 x = 1 := by
  subst e
  exact pu_meet_in I hx h
/-- one step of the flood, in a direction; in any -/
def pu_adjd (w h kd : Nat) (T : Nat → Bool) (vf vb : Nat → Nat → Bool) (d c t : Nat) : Prop := d < kd + 2 ∧ ((pu_sec w h d c = some t ∧ vf c d = true) ∨ (pu_fst w d c = some t ∧ vb t d = true)) ∧ T t = true
def pu_adj (w h kd : Nat) (T : Nat → Bool) (vf vb : Nat → Nat → Bool) (c t : Nat) : Prop := ∃ d, pu_adjd w h kd T vf vb d c t
/-- what is reached from some cells -/
def pu_rch (ini : Nat → Prop) (adj : Nat → Nat → Prop) (c : Nat) : Prop := ∀ P : Nat → Prop, (∀ x, ini x → P x) → (∀ x y, P x → adj x y → P y) → P c
theorem pu_rch_0 {ini : Nat → Prop} {adj : Nat → Nat → Prop} {c : Nat} (h : ini c) : pu_rch ini adj c := fun _ h1 _ => h1 c h
theorem pu_rch_s {ini : Nat → Prop} {adj : Nat → Nat → Prop} {c t : Nat} (h : pu_rch ini adj c) (k : adj c t) : pu_rch ini adj t := fun P h1 h2 => h2 c t (h P h1 h2) k
theorem pu_rch_mono {i1 i2 : Nat → Prop} {a1 a2 : Nat → Nat → Prop} {c : Nat} (hi : ∀ x, i1 x → i2 x) (ha : ∀ x y, a1 x y → a2 x y) (h : pu_rch i1 a1 c) : pu_rch i2 a2 c :=
  h _ (fun x hx => pu_rch_0 (hi x hx)) (fun x y hx hxy => pu_rch_s hx (ha x y hxy))
section FL
variable {w h kd : Nat} {T : Nat → Bool} {vf vb : Nat → Nat → Bool}
theorem pu_o1 {d c t : Nat} (hc : c < w * h) (e : (if d < kd + 2 then pu_sec w h d c else none) = some t) : t < w * h := by
  split at e
  · exact (pu_sec_lt hc e).1
  · cases e
theorem pu_o2 {d c t : Nat} (hc : c < w * h) (e : (if d < kd + 2 then pu_fst w d c else none) = some t) : t < w * h := by
  split at e
  · exact (pu_fst_lt hc e).1
  · cases e
theorem pu_adjd_lt {d c t : Nat} (hc : c < w * h) (k : pu_adjd w h kd T vf vb d c t) : t < w * h := by
  obtain ⟨-, h1 | h1, -⟩ := k
  · exact (pu_sec_lt hc h1.1).1
  · exact (pu_fst_lt hc h1.1).1
theorem pu_dir_ok {d c : Nat} {s : pu_S} (I : pu_I (w * h) s) (hc : c < w * h) : pu_I (w * h) (pu_dir w h kd T vf vb c d s) ∧ pu_le s (pu_dir w h kd T vf vb c d s) ∧ (∀ x, (pu_dir w h kd T vf vb c d s).2.1 x = 1 → s.2.1 x = 1 ∨ pu_adjd w h kd T vf vb d c x) ∧ ∀ x, pu_adjd w h kd T vf vb d c x → (pu_dir w h kd T vf vb c d s).2.1 x = 1 := by
  have I1 := pu_mo_I (ok := fun t => T t && vf c d) I (fun t ht => pu_o1 (kd := kd) (d := d) hc ht)
  have I2 := pu_mo_I (ok := fun t => T t && vb t d) I1 (fun t ht => pu_o2 (h := h) (kd := kd) (d := d) hc ht)
  refine ⟨I2, pu_le_tr (pu_mo_le _ _ _) (pu_mo_le _ _ _), fun x hx => ?_, fun x hx => ?_⟩
  · rcases pu_mo_new hx with k | ⟨k1, k2⟩
    · rcases pu_mo_new k with k | ⟨k1, k2⟩
      · exact Or.inl k
      · rw [Bool.and_eq_true] at k2
        by_cases hd : d < kd + 2
        · rw [if_pos hd] at k1
          exact Or.inr ⟨hd, Or.inl ⟨k1, k2.2⟩, k2.1⟩
        · rw [if_neg hd] at k1; cases k1
    · rw [Bool.and_eq_true] at k2
      by_cases hd : d < kd + 2
      · rw [if_pos hd] at k1
        exact Or.inr ⟨hd, Or.inr ⟨k1, k2.2⟩, k2.1⟩
      · rw [if_neg hd] at k1; cases k1
  · have hxn := pu_adjd_lt hc hx
    obtain ⟨hd, k | k, hT⟩ := hx
    · have := pu_mo_in (o := if d < kd + 2 then pu_sec w h d c else none) (ok := fun t => T t && vf c d) I hxn (by rw [if_pos hd]; exact k.1) (by rw [Bool.and_eq_true]; exact ⟨hT, k.2⟩)
      exact (pu_mo_le _ _ _).2.2 x this
    · exact pu_mo_in I1 hxn (by rw [if_pos hd]; exact k.1) (by rw [Bool.and_eq_true]; exact ⟨hT, k.2⟩)
theorem pu_node_ok {c : Nat} {s : pu_S} (I : pu_I (w * h) s) (hc : c < w * h) : pu_I (w * h) (pu_node w h kd T vf vb c s) ∧ pu_le s (pu_node w h kd T vf vb c s) ∧ (∀ x, (pu_node w h kd T vf vb c s).2.1 x = 1 → s.2.1 x = 1 ∨ pu_adj w h kd T vf vb c x) ∧ (kd ≤ 2 → ∀ x, pu_adj w h kd T vf vb c x → (pu_node w h kd T vf vb c s).2.1 x = 1) := by
  have key := pu_it_inv (f := pu_dir w h kd T vf vb c) (n := 4) (a := s) (fun d u => pu_I (w * h) u ∧ pu_le s u ∧ (∀ x, u.2.1 x = 1 → s.2.1 x = 1 ∨ pu_adj w h kd T vf vb c x) ∧ ∀ d2, d2 < d → ∀ x, pu_adjd w h kd T vf vb d2 c x → u.2.1 x = 1)
    ⟨I, pu_le_rf s, fun x hx => Or.inl hx, fun d2 h2 => absurd h2 (Nat.not_lt_zero _)⟩ (by
      rintro d hd u ⟨J1, J2, J3, J4⟩
      obtain ⟨D1, D2, D3, D4⟩ := pu_dir_ok (kd := kd) (T := T) (vf := vf) (vb := vb) (d := d) J1 hc
      refine ⟨D1, pu_le_tr J2 D2, fun x hx => ?_, fun d2 h2 x hx => ?_⟩
      · rcases D3 x hx with k | k
        · exact J3 x k
        · exact Or.inr ⟨d, k⟩
      · rcases Nat.lt_or_ge d2 d with k | k
        · exact D2.2.2 x (J4 d2 k x hx)
        · have e : d2 = d := by omega
          subst e
          exact D4 x hx)
  obtain ⟨K1, K2, K3, K4⟩ := key
  refine ⟨K1, K2, K3, fun hk x ⟨d, hx⟩ => K4 d (by have := hx.1; omega) x hx⟩
theorem pu_run_ok {s : pu_S} (hk : kd ≤ 2) (hn : w * h < 2 ^ 31) (I : pu_I (w * h) s) : pu_I (w * h) (pu_run w h kd T vf vb (w * h) s) ∧ ∀ c, c < w * h → ((pu_run w h kd T vf vb (w * h) s).2.1 c = 1 ↔ pu_rch (fun x => x < w * h ∧ s.2.1 x = 1) (pu_adj w h kd T vf vb) c) := by
  have key := pu_it_inv (f := fun k s => if k < s.1 then pu_node w h kd T vf vb (s.2.2 k).toNatClampNeg s else s) (n := w * h) (a := s) (fun k u => pu_I (w * h) u ∧ pu_le s u ∧ (∀ x, x < w * h → u.2.1 x = 1 → pu_rch (fun x => x < w * h ∧ s.2.1 x = 1) (pu_adj w h kd T vf vb) x) ∧ ∀ j, j < k → j < u.1 → ∀ c, c < w * h → u.2.2 j = nI c → ∀ x, pu_adj w h kd T vf vb c x → u.2.1 x = 1)
    ⟨I, pu_le_rf s, fun x hx h1 => pu_rch_0 ⟨hx, h1⟩, fun j hj => absurd hj (Nat.not_lt_zero _)⟩ (by
      rintro k hkn u ⟨J1, J2, J3, J4⟩
      show pu_I (w * h) (if k < u.1 then pu_node w h kd T vf vb (u.2.2 k).toNatClampNeg u else u) ∧ _
      by_cases hku : k < u.1
      · obtain ⟨c, hc, hqc, hmc⟩ := J1.2.2.1 k hku
        have e : (if k < u.1 then pu_node w h kd T vf vb (u.2.2 k).toNatClampNeg u else u) = pu_node w h kd T vf vb c u := by
          rw [if_pos hku, hqc, nI_clamp (by omega)]
        simp only [e]
        obtain ⟨D1, D2, D3, D4⟩ := pu_node_ok (kd := kd) (T := T) (vf := vf) (vb := vb) J1 hc
        refine ⟨D1, pu_le_tr J2 D2, fun x hx h1 => ?_, fun j hj hju c2 hc2 hq2 x hx => ?_⟩
        · rcases D3 x h1 with z | z
          · exact J3 x hx z
          · exact pu_rch_s (J3 c hc hmc) z
        · rcases Nat.lt_or_ge j k with z | z
          · have hj1 : j < u.1 := by omega
            rw [D2.2.1 j hj1] at hq2
            exact D2.2.2 x (J4 j z hj1 c2 hc2 hq2 x hx)
          · have e2 : j = k := by omega
            subst e2
            rw [D2.2.1 j hku, hqc, nI_eq (by omega) (by omega)] at hq2
            subst hq2
            exact D4 hk x hx
      · simp only [if_neg hku]
        exact ⟨J1, J2, J3, fun j hj hju => J4 j (by omega) hju⟩)
  obtain ⟨K1, K2, K3, K4⟩ := key
  refine ⟨K1, fun c hc => ⟨K3 c hc, fun hr => ?_⟩⟩
  have := hr (fun x => x < w * h ∧ (pu_run w h kd T vf vb (w * h) s).2.1 x = 1) (fun x hx => ⟨hx.1, K2.2.2 x hx.2⟩) (fun x y hx hxy => by
    obtain ⟨j, hj, hq⟩ := K1.2.2.2 x hx.1 hx.2
    obtain ⟨d, hd⟩ := hxy
    exact ⟨pu_adjd_lt hx.1 hd, K4 j (Nat.lt_of_lt_of_le hj (pu_I_le K1)) hj x hx.1 hq y ⟨d, hd⟩⟩)
  exact this.2
end FL
