/-! PLAIN LAWS, 4: floods from beginning to end, both sides -/
set_option maxRecDepth 100000
def pu_VF (v : Nat) : Bool := decide (v ≠ 1) && decide (v ≠ 3)
def pu_VB (v : Nat) : Bool := decide (v ≠ 1) && decide (v ≠ 2)
def pu_VJ (v : Nat) : Bool := decide (v ≠ 1)
/-- the row of the reference holds the lattice (sizes, grains, valves) -/
def pu_R (w h kd : Nat) (gr : Nat → Int32) (vl : Nat → Nat) (now : Nat → Int32) : Prop := pu_N w h kd now ∧ (∀ c, c < w * h → now (7 + c) = gr c) ∧ ∀ i, i < 4 * (w * h) → now (87 + i) = nI (vl i) ∧ vl i < 5
def pu_T (gr : Nat → Int32) (t wo : Int32) (c : Nat) : Bool := decide (¬ t ≤ gr c) && decide (¬ nI c = wo)
section MF
variable {w h kd : Nat} {gr : Nat → Int32} {vl : Nat → Nat} {now : Nat → Int32}
theorem pu_Mval (R : pu_R w h kd gr vl now) (G : pu_G w h kd) {c d : Nat} (hc : c < w * h) (hd : d < 4) : M_valveOf now (nI c) (nI d) = some (nI (vl (4 * c + d))) := by
  obtain ⟨n4, n80⟩ := pu_G80 G
  unfold M_valveOf
  show (ald now 647 ((nI 87 + nI 4 * nI c) + nI d)).bind _ = _
  rw [pk_mul, nI_add, nI_add, pu_ald (by omega) (by decide), pu_bind, Nat.add_assoc, (R.2.2 _ (by omega)).1]
theorem pu_v5 {v : Nat} (hv : v < 5) : v = 0 ∨ v = 1 ∨ v = 2 ∨ v = 3 ∨ v = 4 := by omega
theorem pu_Mlets1 (R : pu_R w h kd gr vl now) (G : pu_G w h kd) {c d : Nat} (hc : c < w * h) (hd : d < 4) : M_lets now (nI c) (nI d) 1 = some (pu_01 (pu_VF (vl (4 * c + d)))) := by
  have hv := (R.2.2 (4 * c + d) (by omega)).2
  unfold M_lets
  rw [pu_Mval R G hc hd, pu_bind]
  generalize vl (4 * c + d) = v at *
  rcases pu_v5 hv with rfl | rfl | rfl | rfl | rfl <;> decide
theorem pu_Mlets0 (R : pu_R w h kd gr vl now) (G : pu_G w h kd) {c d : Nat} (hc : c < w * h) (hd : d < 4) : M_lets now (nI c) (nI d) 0 = some (pu_01 (pu_VB (vl (4 * c + d)))) := by
  have hv := (R.2.2 (4 * c + d) (by omega)).2
  unfold M_lets
  rw [pu_Mval R G hc hd, pu_bind]
  generalize vl (4 * c + d) = v at *
  rcases pu_v5 hv with rfl | rfl | rfl | rfl | rfl <;> decide
theorem pu_MisO (R : pu_R w h kd gr vl now) (G : pu_G w h kd) {c : Nat} (hc : c < w * h) (t : Int32) : M_isOpen now (nI c) t = some (pu_01 (decide (¬ t ≤ gr c))) := by
  obtain ⟨n4, n80⟩ := pu_G80 G
  unfold M_isOpen
  rw [pu_nowp now 7 c (by omega), pu_bind, R.2.1 c hc]
  by_cases k : t ≤ gr c
  · rw [if_pos k, decide_eq_false (fun z => z k)]; rfl
  · rw [if_neg k, decide_eq_true k]; rfl
theorem pu_Mmeets (R : pu_R w h kd gr vl now) (G : pu_G w h kd) {s : pu_S} (I : pu_I (w * h) s) {c : Nat} (hc : c < w * h) (t wo : Int32) : M_meets now s.2.2 s.2.1 (nI s.1) (nI c) t wo = some ((fun u : pu_S => (u.2.2, u.2.1, nI u.1)) (pu_meet (pu_T gr t wo c) c s)) := by
  obtain ⟨n4, n80⟩ := pu_G80 G
  unfold M_meets
  rw [if_neg (pu_nI_m9 (by omega))]
  by_cases k : nI c = wo
  · rw [if_pos k, pu_meet_no (Or.inl (by unfold pu_T; rw [show decide (¬ nI c = wo) = false from decide_eq_false (fun z => z k), Bool.and_false]))]
  · rw [if_neg k, pu_ald (by omega) (by decide), pu_bind]
    by_cases m : s.2.1 c = 0
    · rw [if_pos m, pu_MisO R G hc, pu_bind]
      have eT : pu_T gr t wo c = decide (¬ t ≤ gr c) := by unfold pu_T; rw [show decide (¬ nI c = wo) = true from decide_eq_true k, Bool.and_true]
      rw [eT]
      rcases Bool.eq_false_or_eq_true (decide (¬ t ≤ gr c)) with e | e
      · have hlt := pu_I_lt I hc m
        rw [e, pu_01t, if_neg pu_10, pu_zst1 (by omega) (by decide), pu_bind, pu_ast (by omega) (by decide), pu_bind, pu_meet_yes rfl m, pu_a1]
      · rw [e, pu_01f, if_pos rfl, pu_meet_no (Or.inl rfl)]
    · rw [if_neg m, pu_meet_no (Or.inr m)]
/-- by bonds that let through (0), or by those that join (1) -/
def pu_J (j : Int32) (VF VB : Nat → Bool) : Prop := (j = 0 ∧ VF = pu_VF ∧ VB = pu_VB) ∨ (¬ j = 0 ∧ VF = pu_VJ ∧ VB = pu_VJ)
theorem pu_Mpass {α : Type} (R : pu_R w h kd gr vl now) (G : pu_G w h kd) {j : Int32} {VF VB : Nat → Bool} (hJ : pu_J j VF VB) {c d : Nat} (hc : c < w * h) (hd : d < 4) (A B : Option α) :
    (if j = 0 then (M_lets now (nI c) (nI d) 0).bind (fun z => if z = 0 then A else B) else (M_valveOf now (nI c) (nI d)).bind (fun z => if z = 1 then A else B)) = if VB (vl (4 * c + d)) = true then B else A := by
  have hv := (R.2.2 (4 * c + d) (by omega)).2
  rcases hJ with ⟨rfl, rfl, rfl⟩ | ⟨h0, rfl, rfl⟩
  · rw [if_pos rfl, pu_Mlets0 R G hc hd, pu_bind]
    rcases Bool.eq_false_or_eq_true (pu_VB (vl (4 * c + d))) with e | e
    · rw [e, pu_01t, if_neg pu_10, if_pos rfl]
    · rw [e, pu_01f, if_pos rfl, if_neg (by decide)]
  · rw [if_neg h0, pu_Mval R G hc hd, pu_bind]
    unfold pu_VJ
    by_cases e : vl (4 * c + d) = 1
    · rw [e, if_pos (by decide), if_neg (by decide)]
    · rw [decide_eq_true e, if_pos rfl, if_neg]
      intro z
      rw [show (1 : Int32) = nI 1 from rfl, nI_eq (by omega) (by decide)] at z
      exact e z
theorem pu_Mpass1 {α : Type} (R : pu_R w h kd gr vl now) (G : pu_G w h kd) {j : Int32} {VF VB : Nat → Bool} (hJ : pu_J j VF VB) {c d : Nat} (hc : c < w * h) (hd : d < 4) (A B : Option α) :
    (if j = 0 then (M_lets now (nI c) (nI d) 1).bind (fun z => if z = 0 then A else B) else (M_valveOf now (nI c) (nI d)).bind (fun z => if z = 1 then A else B)) = if VF (vl (4 * c + d)) = true then B else A := by
  have hv := (R.2.2 (4 * c + d) (by omega)).2
  rcases hJ with ⟨rfl, rfl, rfl⟩ | ⟨h0, rfl, rfl⟩
  · rw [if_pos rfl, pu_Mlets1 R G hc hd, pu_bind]
    rcases Bool.eq_false_or_eq_true (pu_VF (vl (4 * c + d))) with e | e
    · rw [e, pu_01t, if_neg pu_10, if_pos rfl]
    · rw [e, pu_01f, if_pos rfl, if_neg (by decide)]
  · rw [if_neg h0, pu_Mval R G hc hd, pu_bind]
    unfold pu_VJ
    by_cases e : vl (4 * c + d) = 1
    · rw [e, if_pos (by decide), if_neg (by decide)]
    · rw [decide_eq_true e, if_pos rfl, if_neg]
      intro z
      rw [show (1 : Int32) = nI 1 from rfl, nI_eq (by omega) (by decide)] at z
      exact e z
theorem pu_Mj86 (R : pu_R w h kd gr vl now) (G : pu_G w h kd) {j : Int32} {VF VB : Nat → Bool} (hJ : pu_J j VF VB) {s : pu_S} (I : pu_I (w * h) s) {c d : Nat} (hc : c < w * h) (hd : d < 4) (t wo v4 : Int32) :
    M_walks_24_j86 now s.2.2 s.2.1 (nI s.1) t wo j v4 (nI c) (nI d) = some (.inl ((fun u : pu_S => (nI (d + 1), u.2.2, u.2.1, nI u.1)) (pu_mo (if d < kd + 2 then pu_fst w d c else none) (fun x => pu_T gr t wo x && VB (vl (4 * x + d))) s))) := by
  obtain ⟨n4, n80⟩ := pu_G80 G
  unfold M_walks_24_j86
  rw [pu_Mfst R.1 G hc hd, pu_bind]
  cases hf : (if d < kd + 2 then pu_fst w d c else none) with
  | none => rw [pu_cdn, if_pos rfl, pu_a1]; rfl
  | some x =>
    have hx := pu_o2 (h := h) hc hf
    rw [pu_cds, pu_mos, if_neg (pu_nI_m9 (by omega)), pu_Mpass R G hJ hx hd, pu_Mmeets R G I hx]
    rcases Bool.eq_false_or_eq_true (VB (vl (4 * x + d))) with e | e
    · rw [e, if_pos rfl, Bool.and_true, pu_bind, pu_a1]
    · rw [e, if_neg (by decide), Bool.and_false, pu_meet_no (Or.inl rfl), pu_a1]
theorem pu_M24 (R : pu_R w h kd gr vl now) (G : pu_G w h kd) {j : Int32} {VF VB : Nat → Bool} (hJ : pu_J j VF VB) {s : pu_S} (I : pu_I (w * h) s) {c d : Nat} (hc : c < w * h) (hd : d < 4) (t wo v4 : Int32) :
    M_walks_24 t wo j v4 (nI c) now (nI d) s.2.2 s.2.1 (nI s.1) = some (.inl ((fun u : pu_S => (nI (d + 1), u.2.2, u.2.1, nI u.1)) (pu_dir w h kd (pu_T gr t wo) (fun c d => VF (vl (4 * c + d))) (fun x d => VB (vl (4 * x + d))) c d s))) := by
  obtain ⟨n4, n80⟩ := pu_G80 G
  unfold M_walks_24
  rw [if_neg (show ¬ (4 : Int32) ≤ nI d from nI_ge (b := 4) hd (by decide)), pu_Msec R.1 G hc hd, pu_bind]
  unfold pu_dir
  cases hf : (if d < kd + 2 then pu_sec w h d c else none) with
  | none =>
    rw [pu_cdn, if_pos rfl]
    exact pu_Mj86 R G hJ I hc hd t wo v4
  | some x =>
    have hx := pu_o1 (h := h) hc hf
    rw [pu_cds, pu_mos, if_neg (pu_nI_m9 (by omega)), pu_Mpass1 R G hJ hc hd, pu_Mmeets R G I hx, show (fun c d => VF (vl (4 * c + d))) c d = VF (vl (4 * c + d)) from rfl]
    rcases Bool.eq_false_or_eq_true (VF (vl (4 * c + d))) with e | e
    · rw [e, if_pos rfl, Bool.and_true, pu_bind]
      exact pu_Mj86 R G hJ (pu_meet_I I hx) hc hd t wo v4
    · rw [e, if_neg (by decide), Bool.and_false, pu_meet_no (Or.inl rfl)]
      exact pu_Mj86 R G hJ I hc hd t wo v4
theorem pu_M3 (R : pu_R w h kd gr vl now) (G : pu_G w h kd) {j : Int32} {VF VB : Nat → Bool} (hJ : pu_J j VF VB) {s : pu_S} (I : pu_I (w * h) s) {k c : Nat} (hk : k < s.1) (hqc : s.2.2 k = nI c) (hc : c < w * h) (t wo : Int32) :
    M_walks_3 t wo j now (nI k) s.2.2 s.2.1 (nI s.1) = some (.inl ((fun u : pu_S => (nI (k + 1), u.2.2, u.2.1, nI u.1)) (pu_node w h kd (pu_T gr t wo) (fun c d => VF (vl (4 * c + d))) (fun x d => VB (vl (4 * x + d))) c s))) := by
  obtain ⟨n4, n80⟩ := pu_G80 G
  have hle := pu_I_le I
  have hh := pu_for (st := fun x => M_walks_24 t wo j (nI k) (nI c) now x.1 x.2.1 x.2.2.1 x.2.2.2) (fun d (u : pu_S) => (nI d, u.2.2, u.2.1, nI u.1)) (pu_dir w h kd (pu_T gr t wo) (fun c d => VF (vl (4 * c + d))) (fun x d => VB (vl (4 * x + d))) c) (fun u => (u.2.2, u.2.1, nI u.1)) (fun _ u => pu_I (w * h) u) (N := 4) (fu := FU) (a := s)
    (fun d u hd J => ⟨pu_M24 R G hJ J hc hd t wo (nI k), (pu_dir_ok J hc).1⟩)
    (by
      intro u _
      show M_walks_24 t wo j (nI k) (nI c) now (nI 4) u.2.2 u.2.1 (nI u.1) = _
      unfold M_walks_24
      rw [if_pos (by decide)])
    I (pu_FU (by omega))
  unfold M_walks_3
  rw [if_neg (nI_ge hk (by omega)), pu_ald (by omega) (by decide), pu_bind, hqc]
  rw [show loopN (fun x => M_walks_24 t wo j (nI k) (nI c) now x.1 x.2.1 x.2.2.1 x.2.2.2) FU (0, s.2.2, s.2.1, nI s.1) = _ from hh.1, pu_bind, pu_a1]
  rfl
theorem pu_Mwalks (R : pu_R w h kd gr vl now) (G : pu_G w h kd) {j : Int32} {VF VB : Nat → Bool} (hJ : pu_J j VF VB) {s : pu_S} (I : pu_I (w * h) s) (t wo : Int32) :
    M_walks now s.2.2 s.2.1 (nI s.1) t wo j = some ((fun u : pu_S => (u.2.2, u.2.1, nI u.1)) (pu_run w h kd (pu_T gr t wo) (fun c d => VF (vl (4 * c + d))) (fun x d => VB (vl (4 * x + d))) (w * h) s)) := by
  obtain ⟨n4, n80⟩ := pu_G80 G
  have hh := pu_dry (kd := kd) (T := pu_T gr t wo) (vf := fun c d => VF (vl (4 * c + d))) (vb := fun x d => VB (vl (4 * x + d))) (st := fun x => M_walks_3 t wo j now x.1 x.2.1 x.2.2.1 x.2.2.2) (fun k (u : pu_S) => (nI k, u.2.2, u.2.1, nI u.1)) (fun u => (u.2.2, u.2.1, nI u.1)) (s := s) (g := FU) (by omega) I
    (fun k c u J h1 h2 h3 => pu_M3 R G hJ J h1 h2 h3 t wo)
    (by
      intro k u J h1 h2
      show M_walks_3 t wo j now (nI k) u.2.2 u.2.1 (nI u.1) = _
      unfold M_walks_3
      rw [if_pos (nI_le h1 (by omega))]) (pu_FU (by omega))
  unfold M_walks
  rw [show loopN (fun x => M_walks_3 t wo j now x.1 x.2.1 x.2.2.1 x.2.2.2) FU (0, s.2.2, s.2.1, nI s.1) = _ from hh, pu_bind]
theorem pu_Mforgets (mk : Nat → Int32) (met : Int32) : ∃ mk2, M_forgets mk met = some (mk2, 0) ∧ ∀ c, c < 80 → mk2 c = 0 := by
  have hh := pu_for (st := fun x => M_forgets_7 x.1 x.2) (fun i (a : Nat → Int32) => (nI i, a)) (fun i a => upd a i 0) (fun a => a) (fun i a => ∀ c, c < i → a c = 0) (N := 80) (fu := FU) (a := mk)
    (by
      intro i a hi ha
      refine ⟨?_, fun c hc => ?_⟩
      · show M_forgets_7 (nI i) a = _
        unfold M_forgets_7
        rw [if_neg (show ¬ (80 : Int32) ≤ nI i from nI_ge (b := 80) hi (by decide)), pu_zst0 hi (by decide), pu_bind, pu_a1]
      · by_cases e : c = i
        · subst e; exact pu_us
        · rw [pu_un e]; exact ha c (by omega))
    (by
      intro a _
      show M_forgets_7 (nI 80) a = _
      unfold M_forgets_7
      rw [if_pos (by decide)]) (fun c hc => absurd hc (Nat.not_lt_zero _)) (pu_FU (by omega))
  refine ⟨_, ?_, hh.2⟩
  unfold M_forgets
  rw [show loopN (fun x => M_forgets_7 x.1 x.2) FU (0, mk) = _ from hh.1, pu_bind]
theorem pu_I_0 {n : Nat} {mk q : Nat → Int32} (h : ∀ c, c < n → mk c = 0) : pu_I n (0, mk, q) := by
  refine ⟨?_, fun c hc => Or.inl (h c hc), fun k hk => absurd hk (Nat.not_lt_zero _), fun c hc h1 => ?_⟩
  · symm
    rw [fb_ct_zero]
    intro c hc
    refine decide_eq_false ?_
    show ¬ mk c = 1
    rw [h c hc]; exact fun e => pu_10 e.symm
  · have h1 : mk c = 1 := h1
    rw [h c hc] at h1
    exact absurd h1.symm pu_10
end MF
section LG
variable {w h kd : Nat} {T : Nat → Bool} {VF VB : Nat → Bool} {vl : Nat → Nat} {tst : Int32 → Option Int32} {tsv : Nat → Int32 → Option Int32}
/-- the component's flood: what is reached, as 0 and 1 -/
theorem pu_Lflood (G : pu_G w h kd) (hT : ∀ c, c < w * h → tst (nI c) = some (pu_01 (T c))) (hB : ∀ v, v < 5 → tsv v 0 = some (pu_01 (VB v))) (hF : ∀ v, v < 5 → tsv v 1 = some (pu_01 (VF v))) (hv : ∀ i, i < 4 * (w * h) → vl i < 5) {mk : Nat → Int32} (hm : ∀ c, c < w * h → mk c = 0 ∨ mk c = 1) :
    ∃ mk2, L_flood (nI w) (nI h) kd (w * h) (4 * (w * h)) vl mk tst tsv = some mk2 ∧ ∀ c, c < w * h → mk2 c = pu_b (pu_rch (fun x => x < w * h ∧ mk x = 1) (pu_adj w h kd T (fun c d => VF (vl (4 * c + d))) (fun x d => VB (vl (4 * x + d)))) c) := by
  obtain ⟨n4, n80⟩ := pu_G80 G
  have h1 := pu_for (st := fun x => L_flood_14 (w * h) mk x.1 x.2.1 x.2.2) (fun c (u : Nat × (Nat → Int32)) => (nI u.1, nI c, u.2)) (fun c u => if mk c = 0 then u else (u.1 + 1, upd u.2 u.1 (nI c))) (fun u => (nI u.1, u.2)) (fun c u => u.1 = fb_ct (fun x => decide (mk x = 1)) c ∧ (∀ k, k < u.1 → ∃ x, x < c ∧ u.2 k = nI x ∧ mk x = 1) ∧ ∀ x, x < c → mk x = 1 → ∃ k, k < u.1 ∧ u.2 k = nI x) (N := w * h) (fu := FU) (a := ((0 : Nat), fun _ => (0 : Int32)))
    (by
      rintro c ⟨e, q⟩ hc ⟨J1, J2, J3⟩
      have hle : e ≤ c := by rw [show e = _ from J1]; exact fb_ct_le _ c
      show L_flood_14 (w * h) mk (nI e) (nI c) q = _ ∧ _
      unfold L_flood_14
      rw [if_neg (nI_ge hc (by omega)), pu_ald hc (by omega), pu_bind]
      by_cases m : mk c = 0
      · rw [if_pos m, pu_a1]
        simp only [if_pos m]
        refine ⟨trivial, ?_, fun k hk => ?_, fun x hx h1 => ?_⟩
        · rw [fb_ct_succ, decide_eq_false (by rw [m]; exact fun z => pu_10 z.symm)]
          exact J1
        · obtain ⟨x, a1, a2⟩ := J2 k hk
          exact ⟨x, by omega, a2⟩
        · refine J3 x ?_ h1
          rcases Nat.lt_or_ge x c with z | z
          · exact z
          · have e2 : x = c := by omega
            subst e2
            rw [m] at h1
            exact absurd h1.symm pu_10
      · have m1 : mk c = 1 := (hm c hc).resolve_left m
        rw [if_neg m, pu_ast (by omega) (by omega), pu_bind, pu_a1, pu_a1]
        simp only [if_neg m]
        refine ⟨trivial, ?_, fun k hk => ?_, fun x hx h1 => ?_⟩
        · rw [fb_ct_succ, decide_eq_true m1, if_pos rfl]
          exact congrArg (· + 1) J1
        · have hk : k < e + 1 := hk
          show ∃ x, x < c + 1 ∧ upd q e (nI c) k = nI x ∧ mk x = 1
          by_cases z : k = e
          · subst z; exact ⟨c, by omega, pu_us, m1⟩
          · obtain ⟨x, a1, a2, a3⟩ := J2 k (by show k < e; omega)
            exact ⟨x, by omega, by rw [pu_un z]; exact a2, a3⟩
        · show ∃ k, k < e + 1 ∧ upd q e (nI c) k = nI x
          rcases Nat.lt_or_ge x c with z | z
          · obtain ⟨k, a1, a2⟩ := J3 x z h1
            have a1 : k < e := a1
            exact ⟨k, by omega, by rw [pu_un (by omega)]; exact a2⟩
          · have e2 : x = c := by omega
            subst e2
            exact ⟨e, by omega, pu_us⟩)
    (by
      rintro ⟨e, q⟩ -
      show L_flood_14 (w * h) mk (nI e) (nI (w * h)) q = _
      unfold L_flood_14
      rw [if_pos (Int32.le_refl _)])
    ⟨rfl, fun k hk => absurd hk (Nat.not_lt_zero _), fun x hx => absurd hx (Nat.not_lt_zero _)⟩ (pu_FU (by omega))
  obtain ⟨h2, J1, J2, J3⟩ := h1
  generalize hu : pu_it (fun c (u : Nat × (Nat → Int32)) => if mk c = 0 then u else (u.1 + 1, upd u.2 u.1 (nI c))) (w * h) ((0 : Nat), fun _ => (0 : Int32)) = u at h2 J1 J2 J3
  obtain ⟨e, q⟩ := u
  have I : pu_I (w * h) (e, mk, q) := ⟨J1, hm, J2, J3⟩
  have hh := pu_dry (kd := kd) (T := T) (vf := fun c d => VF (vl (4 * c + d))) (vb := fun x d => VB (vl (4 * x + d))) (st := fun x => L_flood_49 (nI w) (nI h) kd (w * h) (4 * (w * h)) vl tst tsv x.1 x.2.1 x.2.2.1 x.2.2.2) (fun k (u : pu_S) => (nI u.1, nI k, u.2.1, u.2.2)) (fun u => (u.2.1, u.2.2)) (s := (e, mk, q)) (g := FU) (by omega) I
    (fun k c u J a1 a2 a3 => pu_L49 G hT hB hF hv J a1 a2 a3)
    (by
      intro k u J a1 a2
      show L_flood_49 (nI w) (nI h) kd (w * h) (4 * (w * h)) vl tst tsv (nI u.1) (nI k) u.2.1 u.2.2 = _
      unfold L_flood_49
      rw [if_pos (nI_le a1 (by omega))]) (pu_FU (by omega))
  obtain ⟨K1, K2⟩ := pu_run_ok (T := T) (vf := fun c d => VF (vl (4 * c + d))) (vb := fun x d => VB (vl (4 * x + d))) G.2.2.2.2 (by omega) I
  refine ⟨(pu_run w h kd T (fun c d => VF (vl (4 * c + d))) (fun x d => VB (vl (4 * x + d))) (w * h) (e, mk, q)).2.1, ?_, fun c hc => ?_⟩
  · unfold L_flood lenN
    rw [if_pos n80, pu_bind]
    rw [show loopN (fun x => L_flood_14 (w * h) mk x.1 x.2.1 x.2.2) FU (0, 0, fun _ => 0) = _ from h2, pu_bind]
    rw [show loopN (fun x => L_flood_49 (nI w) (nI h) kd (w * h) (4 * (w * h)) vl tst tsv x.1 x.2.1 x.2.2.1 x.2.2.2) FU (nI e, 0, mk, q) = _ from hh, pu_bind]
  · rcases K1.2.1 c hc with z | z
    · rw [z, pu_b_f]
      intro r
      rw [(K2 c hc).mpr r] at z
      exact pu_10 z
    · rw [z, pu_b_t ((K2 c hc).mp z)]
end LG
