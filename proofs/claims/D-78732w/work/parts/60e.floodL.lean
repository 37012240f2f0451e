/-! PLAIN LAWS, 3: the component's floods and the reference's are the flood -/
set_option maxRecDepth 100000
def pu_01 (b : Bool) : Int32 := if b = true then 1 else 0
theorem pu_01t : pu_01 true = 1 := rfl
theorem pu_01f : pu_01 false = 0 := rfl
theorem pu_tz (b : Bool) : tz (some (pu_01 b)) = some (pu_01 b) := by cases b <;> decide
theorem pu_4 (c d : Nat) : (4 : Int32) * nI c + nI d = nI (4 * c + d) := by rw [pu_lit, pk_mul, nI_add]
theorem pu_cdn : pu_cd none = -9 := rfl
theorem pu_cds (t : Nat) : pu_cd (some t) = nI t := rfl
theorem pu_mos (t : Nat) (ok : Nat → Bool) (s : pu_S) : pu_mo (some t) ok s = pu_meet (ok t) t s := rfl
section LF
variable {w h kd : Nat} {T : Nat → Bool} {VF VB : Nat → Bool} {vl : Nat → Nat} {tst : Int32 → Option Int32} {tsv : Nat → Int32 → Option Int32}
theorem pu_Lj149 (G : pu_G w h kd) (hT : ∀ c, c < w * h → tst (nI c) = some (pu_01 (T c))) (hB : ∀ v, v < 5 → tsv v 0 = some (pu_01 (VB v))) (hv : ∀ i, i < 4 * (w * h) → vl i < 5) {s : pu_S} {k c d : Nat} (I : pu_I (w * h) s) (hk : k < s.1) (hqc : s.2.2 k = nI c) (hc : c < w * h) (hd : d < 4) (hdk : d < kd + 2) :
    L_flood_59_j149 (nI w) (nI h) (w * h) (4 * (w * h)) vl tst tsv (nI s.1) (nI k) (nI d) s.2.2 s.2.1 = some (.inl ((fun u : pu_S => (nI u.1, nI (d + 1), u.2.1, u.2.2)) (pu_mo (pu_fst w d c) (fun t => T t && VB (vl (4 * t + d))) s))) := by
  obtain ⟨n4, n80⟩ := pu_G80 G
  have hle := pu_I_le I
  unfold L_flood_59_j149
  rw [pu_ald (by omega) (by omega), pu_bind, hqc, pu_Lfst G hc hd, pu_bind]
  cases hf : pu_fst w d c with
  | none => rw [pu_cdn, if_pos rfl, pu_a1]; rfl
  | some t =>
    have ht := (pu_fst_lt hc hf).1
    rw [pu_cds, pu_mos]
    unfold pu_meet
    rw [if_neg (pu_nI_m9 (by omega)), pu_ald ht (by omega), pu_bind]
    by_cases m : s.2.1 t = 0
    · rw [if_pos m, hT t ht, pu_tz, pu_bind]
      cases hTt : T t with
      | false => rw [pu_01f, if_pos rfl, if_neg (by simp), pu_a1]
      | true =>
        rw [pu_01t, if_neg pu_10, pu_4, pu_aldN (by omega) (by omega) (hv _ (by omega)), pu_bind, hB _ (hv _ (by omega)), pu_tz, pu_bind]
        cases hVt : VB (vl (4 * t + d)) with
        | false => rw [pu_01f, if_pos rfl, if_neg (by simp), pu_a1]
        | true =>
          have hlt := pu_I_lt I ht m
          rw [pu_01t, if_neg pu_10, pu_zst1 ht (by omega), pu_bind, pu_ast hlt (by omega), pu_bind, if_pos ⟨rfl, m⟩, pu_a1, pu_a1]
    · rw [if_neg m, if_neg (fun z => m z.2), pu_a1]
theorem pu_L59 (G : pu_G w h kd) (hT : ∀ c, c < w * h → tst (nI c) = some (pu_01 (T c))) (hB : ∀ v, v < 5 → tsv v 0 = some (pu_01 (VB v))) (hF : ∀ v, v < 5 → tsv v 1 = some (pu_01 (VF v))) (hv : ∀ i, i < 4 * (w * h) → vl i < 5) {s : pu_S} {k c d : Nat} (I : pu_I (w * h) s) (hk : k < s.1) (hqc : s.2.2 k = nI c) (hc : c < w * h) (hdk : d < kd + 2) :
    L_flood_59 (nI k) (nI w) (nI h) kd (w * h) (4 * (w * h)) vl tst tsv (nI s.1) (nI d) s.2.1 s.2.2 = some (.inl ((fun u : pu_S => (nI u.1, nI (d + 1), u.2.1, u.2.2)) (pu_dir w h kd T (fun c d => VF (vl (4 * c + d))) (fun t d => VB (vl (4 * t + d))) c d s))) := by
  obtain ⟨n4, n80⟩ := pu_G80 G
  have G0 := G
  obtain ⟨g1, g2, g3, g4, g5⟩ := G
  have hle := pu_I_le I
  unfold L_flood_59 dirF
  rw [if_pos (by omega), pu_bind, if_neg (nI_ge hdk (by omega)), pu_ald (by omega) (by omega), pu_bind, hqc, pu_Lsec G0 hc (by omega), pu_bind]
  unfold pu_dir
  rw [if_pos hdk, if_pos hdk]
  cases hf : pu_sec w h d c with
  | none =>
    rw [pu_cdn, if_pos rfl]
    exact pu_Lj149 G0 hT hB hv I hk hqc hc (by omega) hdk
  | some t =>
    have ht := (pu_sec_lt hc hf).1
    rw [pu_cds, pu_mos, show (fun c d => VF (vl (4 * c + d))) c d = VF (vl (4 * c + d)) from rfl]
    rw [if_neg (pu_nI_m9 (by omega)), pu_ald ht (by omega), pu_bind]
    by_cases m : s.2.1 t = 0
    · rw [if_pos m, hT t ht, pu_tz, pu_bind]
      cases hTt : T t with
      | false =>
        rw [pu_01f, if_pos rfl, pu_meet_no (Or.inl (Bool.false_and _))]
        exact pu_Lj149 G0 hT hB hv I hk hqc hc (by omega) hdk
      | true =>
        rw [pu_01t, if_neg pu_10, pu_bind, pu_4, pu_aldN (by omega) (by omega) (hv _ (by omega)), pu_bind, hF _ (hv _ (by omega)), pu_tz, pu_bind, Bool.true_and]
        rcases Bool.eq_false_or_eq_true (VF (vl (4 * c + d))) with hVt | hVt
        · have hlt := pu_I_lt I ht m
          have I2 := pu_meet_I (ok := true) I ht
          rw [pu_meet_yes rfl m] at I2
          rw [hVt, pu_01t, if_neg pu_10, pu_zst1 ht (by omega), pu_bind, pu_ast hlt (by omega), pu_bind, pu_meet_yes rfl m, pu_a1]
          exact pu_Lj149 (s := (s.1 + 1, upd s.2.1 t 1, upd s.2.2 s.1 (nI t))) G0 hT hB hv I2 (Nat.lt_succ_of_lt hk) (by rw [← hqc]; exact pu_un (by omega)) hc (by omega) hdk
        · rw [hVt, pu_01f, if_pos rfl, pu_meet_no (Or.inl rfl)]
          exact pu_Lj149 G0 hT hB hv I hk hqc hc (by omega) hdk
    · rw [if_neg m, pu_meet_no (Or.inr m)]
      exact pu_Lj149 G0 hT hB hv I hk hqc hc (by omega) hdk
theorem pu_L49 (G : pu_G w h kd) (hT : ∀ c, c < w * h → tst (nI c) = some (pu_01 (T c))) (hB : ∀ v, v < 5 → tsv v 0 = some (pu_01 (VB v))) (hF : ∀ v, v < 5 → tsv v 1 = some (pu_01 (VF v))) (hv : ∀ i, i < 4 * (w * h) → vl i < 5) {s : pu_S} {k c : Nat} (I : pu_I (w * h) s) (hk : k < s.1) (hqc : s.2.2 k = nI c) (hc : c < w * h) :
    L_flood_49 (nI w) (nI h) kd (w * h) (4 * (w * h)) vl tst tsv (nI s.1) (nI k) s.2.1 s.2.2 = some (.inl ((fun u : pu_S => (nI u.1, nI (k + 1), u.2.1, u.2.2)) (pu_node w h kd T (fun c d => VF (vl (4 * c + d))) (fun t d => VB (vl (4 * t + d))) c s))) := by
  obtain ⟨n4, n80⟩ := pu_G80 G
  have G0 := G
  obtain ⟨g1, g2, g3, g4, g5⟩ := G
  have hle := pu_I_le I
  have hh := pu_for (st := fun x => L_flood_59 (nI k) (nI w) (nI h) kd (w * h) (4 * (w * h)) vl tst tsv x.1 x.2.1 x.2.2.1 x.2.2.2) (fun d (u : pu_S) => (nI u.1, nI d, u.2.1, u.2.2)) (pu_dir w h kd T (fun c d => VF (vl (4 * c + d))) (fun t d => VB (vl (4 * t + d))) c) (fun u => (nI u.1, u.2.1, u.2.2)) (fun _ u => pu_I (w * h) u ∧ k < u.1 ∧ u.2.2 k = nI c) (N := kd + 2) (fu := FU) (a := s)
    (by
      rintro d u hd ⟨J1, J2, J3⟩
      refine ⟨pu_L59 G0 hT hB hF hv J1 J2 J3 hc hd, ?_⟩
      obtain ⟨D1, D2, -⟩ := pu_dir_ok (kd := kd) (T := T) (vf := fun c d => VF (vl (4 * c + d))) (vb := fun t d => VB (vl (4 * t + d))) (d := d) J1 hc
      exact ⟨D1, Nat.lt_of_lt_of_le J2 D2.1, by rw [D2.2.1 k J2]; exact J3⟩)
    (by
      rintro u -
      show L_flood_59 (nI k) (nI w) (nI h) kd (w * h) (4 * (w * h)) vl tst tsv (nI u.1) (nI (kd + 2)) u.2.1 u.2.2 = _
      unfold L_flood_59 dirF
      rw [if_pos (by omega), pu_bind, if_pos (Int32.le_refl _)])
    ⟨I, hk, hqc⟩ (pu_FU (by omega))
  unfold L_flood_49
  rw [if_neg (nI_ge hk (by omega))]
  rw [show loopN (fun x => L_flood_59 (nI k) (nI w) (nI h) kd (w * h) (4 * (w * h)) vl tst tsv x.1 x.2.1 x.2.2.1 x.2.2.2) FU (nI s.1, 0, s.2.1, s.2.2) = _ from hh.1, pu_bind, pu_a1]
  have e : pu_node w h kd T (fun c d => VF (vl (4 * c + d))) (fun t d => VB (vl (4 * t + d))) c s = pu_it (pu_dir w h kd T (fun c d => VF (vl (4 * c + d))) (fun t d => VB (vl (4 * t + d))) c) (kd + 2) s := by
    unfold pu_node
    refine pu_it_le (by omega) (fun d h1 h2 u => ?_)
    unfold pu_dir
    rw [if_neg (by omega), if_neg (by omega)]
    rfl
  rw [e]
theorem pu_run_I {vf vb : Nat → Nat → Bool} {s : pu_S} (hn : w * h < 2 ^ 31) (I : pu_I (w * h) s) (n : Nat) : pu_I (w * h) (pu_it (fun k s => if k < s.1 then pu_node w h kd T vf vb (s.2.2 k).toNatClampNeg s else s) n s) := by
  refine pu_it_inv (fun _ u => pu_I (w * h) u) I (fun k _ u J => ?_)
  show pu_I (w * h) (if k < u.1 then pu_node w h kd T vf vb (u.2.2 k).toNatClampNeg u else u)
  by_cases hku : k < u.1
  · obtain ⟨c, hc, hqc, hmc⟩ := J.2.2.1 k hku
    rw [if_pos hku, hqc, nI_clamp (by omega)]
    exact (pu_node_ok J hc).1
  · rw [if_neg hku]; exact J
/-- the queue runs dry -/
theorem pu_dry {σ ω : Type} {st : σ → Option (σ ⊕ ω)} {vf vb : Nat → Nat → Bool} (enc : Nat → pu_S → σ) (out : pu_S → ω) {s : pu_S} {g : Nat} (hn : w * h < 2 ^ 31) (I : pu_I (w * h) s)
    (hs : ∀ k c (u : pu_S), pu_I (w * h) u → k < u.1 → u.2.2 k = nI c → c < w * h → st (enc k u) = some (.inl (enc (k + 1) (pu_node w h kd T vf vb c u))))
    (he : ∀ k (u : pu_S), pu_I (w * h) u → u.1 ≤ k → k ≤ w * h → st (enc k u) = some (.inr (out u))) (hg : w * h < g) : loopN st g (enc 0 s) = some (out (pu_run w h kd T vf vb (w * h) s)) := by
  have key : ∀ m k g, k + m = w * h → m < g → loopN st g (enc k (pu_it (fun k s => if k < s.1 then pu_node w h kd T vf vb (s.2.2 k).toNatClampNeg s else s) k s)) = some (out (pu_run w h kd T vf vb (w * h) s)) := by
    intro m
    induction m with
    | zero =>
      intro k g hk hg
      obtain ⟨g, rfl⟩ : ∃ g', g = g' + 1 := ⟨g - 1, by omega⟩
      have J := pu_run_I (kd := kd) (T := T) (vf := vf) (vb := vb) hn I k
      rw [pu_lx (he k _ J (by have := pu_I_le J; omega) (by omega))]
      unfold pu_run
      rw [show k = w * h by omega]
    | succ m ih =>
      intro k g hk hg
      obtain ⟨g, rfl⟩ : ∃ g', g = g' + 1 := ⟨g - 1, by omega⟩
      have J := pu_run_I (kd := kd) (T := T) (vf := vf) (vb := vb) hn I k
      by_cases hku : k < (pu_it (fun k s => if k < s.1 then pu_node w h kd T vf vb (s.2.2 k).toNatClampNeg s else s) k s).1
      · obtain ⟨c, hc, hqc, hmc⟩ := J.2.2.1 k hku
        rw [pu_lp (hs k c _ J hku hqc hc)]
        have := ih (k + 1) g (by omega) (by omega)
        rw [pu_it_s] at this
        rw [if_pos hku, hqc, nI_clamp (by omega)] at this
        exact this
      · rw [pu_lx (he k _ J (by omega) (by omega))]
        unfold pu_run
        rw [pu_it_stay (show k ≤ w * h by omega)]
        intro i h1 h2
        rw [if_neg (by omega)]
  exact key (w * h) 0 g (by omega) hg
end LF
