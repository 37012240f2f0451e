/-! PLAIN LAWS, 5: what is reached, spans, ways, reach -/
set_option maxRecDepth 100000
/-- steps by bonds that let through, at a threshold, without a cell -/
def pu_adS (w h kd : Nat) (gr : Nat → Int32) (vl : Nat → Nat) (t wo : Int32) : Nat → Nat → Prop := pu_adj w h kd (pu_T gr t wo) (fun c d => pu_VF (vl (4 * c + d))) (fun x d => pu_VB (vl (4 * x + d)))
def pu_sp (w h kd : Nat) (gr : Nat → Int32) (vl : Nat → Nat) (t wo : Int32) : Prop := ∃ y, y < h ∧ pu_rch (fun x => x < w * h ∧ x % w = 0 ∧ pu_T gr t wo x = true) (pu_adS w h kd gr vl t wo) (y * w + (w - 1))
def pu_way (w h kd : Nat) (gr : Nat → Int32) (vl : Nat → Nat) (a b : Nat) (t : Int32) : Prop := pu_rch (fun x => x < w * h ∧ x = a ∧ pu_T gr t (-9) x = true) (pu_adS w h kd gr vl t (-9)) b
def pu_rea (w h kd : Nat) (gr : Nat → Int32) (vl : Nat → Nat) (so : Nat → Int32) (t : Int32) (dye : Int32) (c : Nat) : Prop := pu_rch (fun x => x < w * h ∧ (so x >>> (dye &&& 31)) &&& 1 = 1 ∧ pu_T gr t (-9) x = true) (pu_adS w h kd gr vl t (-9)) c
noncomputable def pu_cnt (n : Nat) (P : Nat → Prop) : Nat := fb_ct (fun c => @decide (P c) (Classical.propDecidable _)) n
theorem pu_T9 {n : Nat} (gr : Nat → Int32) (t : Int32) {c : Nat} (hc : c < n) (hn : n < 2 ^ 31) : pu_T gr t (-9) c = decide (¬ t ≤ gr c) := by
  unfold pu_T
  rw [show decide (¬ nI c = -9) = true from decide_eq_true (pu_nI_m9 (by omega)), Bool.and_true]
theorem pu_lam0 : ∀ v, v < 5 → L_lambda_reached_0 v 0 = some (pu_01 (pu_VB v)) := by
  intro v hv
  rcases pu_v5 hv with rfl | rfl | rfl | rfl | rfl <;> decide
theorem pu_lam1 : ∀ v, v < 5 → L_lambda_reached_0 v 1 = some (pu_01 (pu_VF v)) := by
  intro v hv
  rcases pu_v5 hv with rfl | rfl | rfl | rfl | rfl <;> decide
theorem pu_lamJ : ∀ v, v < 5 → L_lambda_mark_8 v = some (pu_01 (pu_VJ v)) := by
  intro v hv
  rcases pu_v5 hv with rfl | rfl | rfl | rfl | rfl <;> decide
theorem pu_01_1 {b : Bool} : pu_01 b = 1 ↔ b = true := by cases b <;> decide
theorem pu_01_0 {b : Bool} : pu_01 b = 0 ↔ b = false := by cases b <;> decide
theorem pu_or (P Q : Prop) : pu_b P ||| pu_b Q = pu_b (P ∨ Q) := by
  by_cases p : P
  · rw [pu_b_t p, pu_b_t (Or.inl p)]
    by_cases q : Q
    · rw [pu_b_t q]; decide
    · rw [pu_b_f q]; decide
  · rw [pu_b_f p]
    by_cases q : Q
    · rw [pu_b_t q, pu_b_t (Or.inr q)]; decide
    · rw [pu_b_f q, pu_b_f (fun z => z.elim p q)]; decide
theorem pu_ctI {q : Nat → Prop} [DecidablePred q] (n k : Nat) : pu_it (fun i (a : Int32) => if q i then a + 0 else a + 1) n (nI k) = nI (k + fb_ct (fun i => !decide (q i)) n) := by
  induction n with
  | zero => rfl
  | succ n ih =>
    rw [pu_it_s, ih, fb_ct_succ]
    by_cases z : q n
    · rw [if_pos z, pu_a0, decide_eq_true z]; rfl
    · rw [if_neg z, pu_a1, decide_eq_false z]; rfl
section SL
variable {w h kd : Nat} {T Sf : Nat → Bool} {vl : Nat → Nat} {tst tsa : Int32 → Option Int32}
theorem pu_Lreached (G : pu_G w h kd) (hT : ∀ c, c < w * h → tst (nI c) = some (pu_01 (T c))) (hS : ∀ c, c < w * h → tsa (nI c) = some (pu_01 (Sf c))) (hv : ∀ i, i < 4 * (w * h) → vl i < 5) :
    ∃ mk2, L_reached (nI w) (nI h) kd (w * h) (4 * (w * h)) vl tst tsa = some mk2 ∧ ∀ c, c < w * h → mk2 c = pu_b (pu_rch (fun x => x < w * h ∧ Sf x = true ∧ T x = true) (pu_adj w h kd T (fun c d => pu_VF (vl (4 * c + d))) (fun x d => pu_VB (vl (4 * x + d)))) c) := by
  obtain ⟨n4, n80⟩ := pu_G80 G
  have hh := pu_for (st := fun x => L_reached_10 (w * h) tst tsa x.1 x.2) (fun i (a : Nat → Int32) => (nI i, a)) (fun i a => upd a i (pu_01 (T i && Sf i))) (fun a => a) (fun i a => ∀ c, c < i → a c = pu_01 (T c && Sf c)) (N := w * h) (fu := FU) (a := fun _ => (0 : Int32))
    (by
      intro i a hi ha
      refine ⟨?_, fun c hc => ?_⟩
      · show L_reached_10 (w * h) tst tsa (nI i) a = _
        unfold L_reached_10
        rw [if_neg (nI_ge hi (by omega)), hT i hi, pu_tz, pu_bind]
        rcases Bool.eq_false_or_eq_true (T i) with e | e
        · rw [e, pu_01t, if_neg pu_10, hS i hi, pu_tz, pu_bind, Bool.true_and]
          rcases Bool.eq_false_or_eq_true (Sf i) with e2 | e2
          · rw [e2, pu_01t, if_neg pu_10, pu_zst1 hi (by omega), pu_bind, pu_a1]
          · rw [e2, pu_01f, if_pos rfl, pu_zst0 hi (by omega), pu_bind, pu_a1]
        · rw [e, pu_01f, if_pos rfl, pu_zst0 hi (by omega), pu_bind, pu_a1]
          rfl
      · by_cases e : c = i
        · subst e; exact pu_us
        · rw [pu_un e]; exact ha c (by omega))
    (by
      intro a _
      show L_reached_10 (w * h) tst tsa (nI (w * h)) a = _
      unfold L_reached_10
      rw [if_pos (Int32.le_refl _)]) (fun c hc => absurd hc (Nat.not_lt_zero _)) (pu_FU (by omega))
  obtain ⟨h1, h2⟩ := hh
  generalize pu_it (fun i (a : Nat → Int32) => upd a i (pu_01 (T i && Sf i))) (w * h) (fun _ => (0 : Int32)) = mk at h1 h2
  obtain ⟨mk2, h3, h4⟩ := pu_Lflood (VF := pu_VF) (VB := pu_VB) (tsv := fun x y => L_lambda_reached_0 x y) G hT pu_lam0 pu_lam1 hv (mk := mk) (fun c hc => by rw [h2 c hc]; cases T c && Sf c <;> decide)
  refine ⟨mk2, ?_, fun c hc => ?_⟩
  · unfold L_reached lenN
    rw [if_pos n80, pu_bind, show loopN (fun x => L_reached_10 (w * h) tst tsa x.1 x.2) FU (0, fun _ => 0) = _ from h1, pu_bind, h3, pu_bind]
  · rw [h4 c hc]
    apply pu_b_cong
    have e : ∀ x, (x < w * h ∧ mk x = 1) ↔ (x < w * h ∧ Sf x = true ∧ T x = true) := by
      intro x
      constructor
      · rintro ⟨a1, a2⟩
        rw [h2 x a1, pu_01_1, Bool.and_eq_true] at a2
        exact ⟨a1, a2.2, a2.1⟩
      · rintro ⟨a1, a2, a3⟩
        exact ⟨a1, by rw [h2 x a1, pu_01_1, Bool.and_eq_true]; exact ⟨a3, a2⟩⟩
    constructor
    · exact pu_rch_mono (fun x hx => (e x).mp hx) (fun _ _ z => z)
    · exact pu_rch_mono (fun x hx => (e x).mpr hx) (fun _ _ z => z)
end SL
section SM
variable {w h kd : Nat} {gr : Nat → Int32} {vl : Nat → Nat} {now : Nat → Int32}
theorem pu_Lspans (G : pu_G w h kd) (hv : ∀ i, i < 4 * (w * h) → vl i < 5) (t wo : Int32) : L_spans (nI w) (nI h) kd (w * h) (4 * (w * h)) vl gr t wo = some (pu_b (pu_sp w h kd gr vl t wo)) := by
  obtain ⟨n4, n80⟩ := pu_G80 G
  have G0 := G
  obtain ⟨g1, g2, g3, g4, g5⟩ := G
  obtain ⟨mk, h1, h2⟩ := pu_Lreached (T := pu_T gr t wo) (Sf := fun c => decide (c % w = 0)) (tst := fun x => L_lambda_spans_2 (w * h) gr t wo x) (tsa := fun x => L_lambda_spans_1 (nI w) x) G0
    (by
      intro c hc
      show L_lambda_spans_2 (w * h) gr t wo (nI c) = _
      unfold L_lambda_spans_2 pu_T
      rw [pu_ald hc (by omega), pu_bind]
      by_cases k : t ≤ gr c
      · rw [if_pos k, show decide (¬ t ≤ gr c) = false from decide_eq_false (fun z => z k), Bool.false_and]; rfl
      · rw [if_neg k, show decide (¬ t ≤ gr c) = true from decide_eq_true k, Bool.true_and]
        by_cases k2 : nI c = wo
        · rw [if_pos k2, show decide (¬ nI c = wo) = false from decide_eq_false (fun z => z k2)]; rfl
        · rw [if_neg k2, show decide (¬ nI c = wo) = true from decide_eq_true k2]; rfl)
    (by
      intro c hc
      show L_lambda_spans_1 (nI w) (nI c) = some (pu_01 (decide (c % w = 0)))
      unfold L_lambda_spans_1
      rw [pu_irm (by omega) (by omega) (by omega), pu_bind]
      by_cases k : c % w = 0
      · rw [k, if_pos nI_0, decide_eq_true rfl]; rfl
      · rw [if_neg (nI_ne0 (by omega) (by have := Nat.mod_le c w; omega)), decide_eq_false k]; rfl) hv
  have hm : ∀ y, y < h → mk (y * w + (w - 1)) = pu_b (pu_rch (fun x => x < w * h ∧ x % w = 0 ∧ pu_T gr t wo x = true) (pu_adS w h kd gr vl t wo) (y * w + (w - 1))) := by
    intro y hy
    rw [h2 _ (pu_rc hy (by omega))]
    apply pu_b_cong
    constructor
    · exact pu_rch_mono (fun x hx => ⟨hx.1, of_decide_eq_true hx.2.1, hx.2.2⟩) (fun _ _ z => z)
    · exact pu_rch_mono (fun x hx => ⟨hx.1, decide_eq_true hx.2.1, hx.2.2⟩) (fun _ _ z => z)
  have hh := pu_for (st := fun x => L_spans_30 (nI w) (w * h) mk x.1 x.2) (fun y (a : Int32) => (a, nI (y * w + (w - 1)))) (fun y a => a ||| mk (y * w + (w - 1))) (fun a => a) (fun y a => a = pu_b (∃ j, j < y ∧ pu_rch (fun x => x < w * h ∧ x % w = 0 ∧ pu_T gr t wo x = true) (pu_adS w h kd gr vl t wo) (j * w + (w - 1)))) (N := h) (fu := FU) (a := (0 : Int32))
    (by
      intro y a hy ha
      refine ⟨?_, ?_⟩
      · show L_spans_30 (nI w) (w * h) mk a (nI (y * w + (w - 1))) = _
        have hlt := pu_rc hy (show w - 1 < w by omega)
        unfold L_spans_30
        rw [if_neg (nI_ge hlt (by omega)), pu_ald hlt (by omega), pu_bind, nI_add]
        rw [show y * w + (w - 1) + w = (y + 1) * w + (w - 1) from by rw [Nat.add_mul, Nat.one_mul]; omega]
      · rw [ha, hm y hy, pu_or]
        apply pu_b_cong
        constructor
        · rintro (⟨j, a1, a2⟩ | a)
          · exact ⟨j, by omega, a2⟩
          · exact ⟨y, by omega, a⟩
        · rintro ⟨j, a1, a2⟩
          rcases Nat.lt_or_ge j y with z | z
          · exact Or.inl ⟨j, z, a2⟩
          · have e : j = y := by omega
            subst e; exact Or.inr a2)
    (by
      intro a _
      show L_spans_30 (nI w) (w * h) mk a (nI (h * w + (w - 1))) = _
      have : h * w = w * h := Nat.mul_comm _ _
      unfold L_spans_30
      rw [if_pos (nI_le (by omega) (by omega))]) (by rw [pu_b_f]; rintro ⟨j, a1, -⟩; exact absurd a1 (Nat.not_lt_zero _)) (pu_FU (by omega))
  unfold L_spans
  have h7 := hh.1
  rw [show (0 * w + (w - 1)) = w - 1 by omega] at h7
  rw [h1, pu_bind, pu_s1 (by omega), h7, pu_bind, hh.2, pu_b_zck, pu_bind]
  rfl
/-- seeds met one behind another -/
theorem pu_Mspans (R : pu_R w h kd gr vl now) (G : pu_G w h kd) (q mk : Nat → Int32) (met t wo : Int32) : ∃ q2 mk2 met2, M_spans now q mk met t wo = some (pu_b (pu_sp w h kd gr vl t wo), q2, mk2, met2) := by
  obtain ⟨n4, n80⟩ := pu_G80 G
  have G0 := G
  obtain ⟨g1, g2, g3, g4, g5⟩ := G
  obtain ⟨mk0, h1, h2⟩ := pu_Mforgets mk met
  have hh := pu_for (st := fun x => M_spans_6 t wo now x.1 x.2.1 x.2.2.1 x.2.2.2) (fun y (u : pu_S) => (nI y, u.2.2, u.2.1, nI u.1)) (fun y u => pu_meet (pu_T gr t wo (y * w)) (y * w) u) (fun u => (u.2.2, u.2.1, nI u.1)) (fun y u => pu_I (w * h) u ∧ ∀ x, x < w * h → (u.2.1 x = 1 ↔ ∃ j, j < y ∧ x = j * w ∧ pu_T gr t wo x = true)) (N := h) (fu := FU) (a := (0, mk0, q))
    (by
      rintro y u hy ⟨J1, J2⟩
      have hlt : y * w < w * h := pu_rc hy (show 0 < w by omega)
      refine ⟨?_, pu_meet_I J1 hlt, fun x hx => ?_⟩
      · show M_spans_6 t wo now (nI y) u.2.2 u.2.1 (nI u.1) = _
        unfold M_spans_6
        rw [pu_now1 R.1, pu_bind, if_neg (nI_ge hy (by omega)), pu_now0 R.1, pu_bind, pk_mul, pu_Mmeets R G0 J1 hlt, pu_bind, pu_a1]
      · constructor
        · intro a
          rcases pu_meet_new a with b | ⟨b, c⟩
          · obtain ⟨j, c1, c2⟩ := (J2 x hx).mp b
            exact ⟨j, by omega, c2⟩
          · exact ⟨y, by omega, b, by rw [b]; exact c⟩
        · rintro ⟨j, c1, c2, c3⟩
          rcases Nat.lt_or_ge j y with z | z
          · exact (pu_meet_le _ _ _).2.2 x ((J2 x hx).mpr ⟨j, z, c2, c3⟩)
          · have e : j = y := by omega
            subst e
            rw [c2]
            exact pu_meet_in J1 hlt (by rw [← c2]; exact c3))
    (by
      rintro u -
      show M_spans_6 t wo now (nI h) u.2.2 u.2.1 (nI u.1) = _
      unfold M_spans_6
      rw [pu_now1 R.1, pu_bind, if_pos (Int32.le_refl _)])
    ⟨pu_I_0 (fun c hc => h2 c (by omega)), fun x hx => ⟨fun a => by
      have a : mk0 x = 1 := a
      rw [h2 x (by omega)] at a
      exact absurd a.symm pu_10, fun ⟨j, a, _⟩ => absurd a (Nat.not_lt_zero _)⟩⟩ (pu_FU (by omega))
  obtain ⟨h3, J1, J2⟩ := hh
  generalize pu_it (fun y (u : pu_S) => pu_meet (pu_T gr t wo (y * w)) (y * w) u) h (0, mk0, q) = u at h3 J1 J2
  have h4 := pu_Mwalks R G0 (Or.inl ⟨rfl, rfl, rfl⟩) J1 t wo
  obtain ⟨K1, K2⟩ := pu_run_ok (T := pu_T gr t wo) (vf := fun c d => pu_VF (vl (4 * c + d))) (vb := fun x d => pu_VB (vl (4 * x + d))) g5 (by omega) J1
  generalize pu_run w h kd (pu_T gr t wo) (fun c d => pu_VF (vl (4 * c + d))) (fun x d => pu_VB (vl (4 * x + d))) (w * h) u = z at h4 K1 K2
  have hm : ∀ c, c < w * h → (z.2.1 c = 1 ↔ pu_rch (fun x => x < w * h ∧ x % w = 0 ∧ pu_T gr t wo x = true) (pu_adS w h kd gr vl t wo) c) := by
    intro c hc
    rw [K2 c hc]
    have e : ∀ x, (x < w * h ∧ u.2.1 x = 1) ↔ (x < w * h ∧ x % w = 0 ∧ pu_T gr t wo x = true) := by
      intro x
      constructor
      · rintro ⟨a1, a2⟩
        obtain ⟨j, b1, b2, b3⟩ := (J2 x a1).mp a2
        exact ⟨a1, by rw [b2, Nat.mul_mod_left], b3⟩
      · rintro ⟨a1, a2, a3⟩
        refine ⟨a1, (J2 x a1).mpr ⟨x / w, pu_qh a1, ?_, a3⟩⟩
        have := pu_dm (w := w) (c := x)
        omega
    exact ⟨pu_rch_mono (fun x hx => (e x).mp hx) (fun _ _ z => z), pu_rch_mono (fun x hx => (e x).mpr hx) (fun _ _ z => z)⟩
  have h5 := pu_for (st := fun x => M_spans_48 now z.2.1 x.1 x.2) (fun y (a : Int32) => (a, nI y)) (fun y a => if a = 0 then (if z.2.1 (y * w + (w - 1)) = 0 then 0 else 1) else 1) (fun a => a) (fun y a => a = pu_b (∃ j, j < y ∧ pu_rch (fun x => x < w * h ∧ x % w = 0 ∧ pu_T gr t wo x = true) (pu_adS w h kd gr vl t wo) (j * w + (w - 1)))) (N := h) (fu := FU) (a := (0 : Int32))
    (by
      intro y a hy ha
      have hlt := pu_rc hy (show w - 1 < w by omega)
      refine ⟨?_, ?_⟩
      · show M_spans_48 now z.2.1 a (nI y) = _
        unfold M_spans_48
        rw [pu_now1 R.1, pu_bind, if_neg (nI_ge hy (by omega)), pu_now0 R.1, pu_bind, pu_bind, pk_mul, nI_add, pu_s1 (by omega), show y * w + w - 1 = y * w + (w - 1) by omega, pu_ald (by omega) (by decide), pu_bind, pu_a1]
        by_cases e : a = 0
        · rw [if_pos e, if_pos e]
          by_cases e2 : z.2.1 (y * w + (w - 1)) = 0
          · rw [if_pos e2, if_pos e2]
          · rw [if_neg e2, if_neg e2]
        · rw [if_neg e, if_neg e]
      · by_cases e : a = 0
        · rw [if_pos e]
          have e0 := e
          rw [ha, pu_b_0] at e
          rcases K1.2.1 _ hlt with e2 | e2
          · rw [if_pos e2, pu_b_f]
            rintro ⟨j, a1, a2⟩
            rcases Nat.lt_or_ge j y with q | q
            · exact e ⟨j, q, a2⟩
            · have e3 : j = y := by omega
              subst e3
              rw [(hm _ hlt).mpr a2] at e2
              exact pu_10 e2
          · rw [if_neg (by rw [e2]; exact pu_10), pu_b_t]
            exact ⟨y, by omega, (hm _ hlt).mp e2⟩
        · rw [if_neg e, pu_b_t]
          rw [ha, pu_b_0] at e
          obtain ⟨j, a1, a2⟩ := Classical.not_not.mp e
          exact ⟨j, by omega, a2⟩)
    (by
      intro a _
      show M_spans_48 now z.2.1 a (nI h) = _
      unfold M_spans_48
      rw [pu_now1 R.1, pu_bind, if_pos (Int32.le_refl _)]) (by rw [pu_b_f]; rintro ⟨j, a1, -⟩; exact absurd a1 (Nat.not_lt_zero _)) (pu_FU (by omega))
  refine ⟨z.2.2, z.2.1, nI z.1, ?_⟩
  unfold M_spans
  rw [h1, pu_bind, show loopN (fun x => M_spans_6 t wo now x.1 x.2.1 x.2.2.1 x.2.2.2) FU (0, q, mk0, 0) = _ from h3, pu_bind, h4, pu_bind, show loopN (fun x => M_spans_48 now z.2.1 x.1 x.2) FU (0, 0) = _ from h5.1, pu_bind, h5.2, pu_b_zck, pu_bind]
  rfl
end SM
