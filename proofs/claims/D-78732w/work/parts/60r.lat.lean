/-! PLAIN LAWS, 16: lattices made, resized, copied; the reference's row begun anew -/
set_option maxRecDepth 100000
abbrev pu_LT : Type := Int32 × Int32 × Nat × Int32 × Int32 × Int32 × Int32 × Nat × (Nat → Int32) × Nat × (Nat → Nat) × (Nat → Int32) × (Nat → Int32) × (Nat → Int32)
/-- a lattice of the component and a row of the reference tell the same; what else holds of both -/
def pu_LJ (sh w h : Nat) (kd : Nat) (thr bt tm rea : Int32) (gr : Nat → Int32) (vl : Nat → Nat) (so dy cg now : Nat → Int32) : Prop := pu_G w h kd ∧ pu_Q w h kd thr bt tm rea gr vl so dy cg now ∧ pu_V (w * h) bt tm rea so dy cg ∧ (∃ t, t ≤ 1000 ∧ tm = nI t) ∧ (∀ c, c < w * h → 0 ≤ gr c) ∧ (∀ c d, c < w * h → d < 4 → ¬ vl (4 * c + d) = 0 → pu_bd w h kd c d = true) ∧ fb_ct (fun i => decide (vl i = 1)) (4 * (w * h)) ≤ sh
def pu_LI (sh : Nat) (x : pu_LT) (now : Nat → Int32) : Prop := ∃ w h, x.1 = nI w ∧ x.2.1 = nI h ∧ x.2.2.2.2.2.2.2.1 = w * h ∧ x.2.2.2.2.2.2.2.2.2.1 = 4 * (w * h) ∧ pu_LJ sh w h x.2.2.1 x.2.2.2.1 x.2.2.2.2.1 x.2.2.2.2.2.1 x.2.2.2.2.2.2.1 x.2.2.2.2.2.2.2.2.1 x.2.2.2.2.2.2.2.2.2.2.1 x.2.2.2.2.2.2.2.2.2.2.2.1 x.2.2.2.2.2.2.2.2.2.2.2.2.1 x.2.2.2.2.2.2.2.2.2.2.2.2.2 now
section LA
variable {w h kd : Nat} {thr bt tm rea : Int32} {gr : Nat → Int32} {vl : Nat → Nat} {so dy cg now : Nat → Int32}
theorem pu_Q_now {now2 : Nat → Int32} (G : pu_G w h kd) (Q : pu_Q w h kd thr bt tm rea gr vl so dy cg now) (e : ∀ k, k < 647 → now2 k = now k) : pu_Q w h kd thr bt tm rea gr vl so dy cg now2 := by
  obtain ⟨n4, n80⟩ := pu_G80 G
  refine ⟨⟨⟨by rw [e 0 (by decide)]; exact Q.1.1.1, by rw [e 1 (by decide)]; exact Q.1.1.2.1, by rw [e 2 (by decide)]; exact Q.1.1.2.2⟩, fun c hc => by rw [e _ (by omega)]; exact Q.1.2.1 c hc, fun i hi => by rw [e _ (by omega)]; exact Q.1.2.2 i hi⟩, by rw [e 3 (by decide)]; exact Q.2.1, by rw [e 4 (by decide)]; exact Q.2.2.1, by rw [e 5 (by decide)]; exact Q.2.2.2.1, by rw [e 6 (by decide)]; exact Q.2.2.2.2.1, fun c hc => ?_⟩
  rw [e _ (by omega), e _ (by omega), e _ (by omega)]
  exact Q.2.2.2.2.2 c hc
theorem pu_LI_now {sh : Nat} {x : pu_LT} {now now2 : Nat → Int32} (L : pu_LI sh x now) (e : ∀ k, k < 647 → now2 k = now k) : pu_LI sh x now2 := by
  obtain ⟨w, h, a1, a2, a3, a4, a5, a6, a7⟩ := L
  exact ⟨w, h, a1, a2, a3, a4, a5, pu_Q_now a5 a6 e, a7⟩
theorem pu_LI_sh {sh sh2 : Nat} {x : pu_LT} {now : Nat → Int32} (L : pu_LI sh x now) (e : sh ≤ sh2) : pu_LI sh2 x now := by
  obtain ⟨w, h, a1, a2, a3, a4, a5, a6, a7, a8, a9, a10, a11⟩ := L
  exact ⟨w, h, a1, a2, a3, a4, a5, a6, a7, a8, a9, a10, Nat.le_trans a11 e⟩
theorem pu_lenF {k mx : Nat} (h : k ≤ mx) (hm : mx < 2 ^ 31) : lenF (nI k) mx = some k := by
  unfold lenF
  rw [nI_clamp (by omega), if_neg]
  rintro (a | a)
  · exact nI_pos (by omega) a
  · omega
theorem pu_fill {N : Nat} (hN : N ≤ 320) (f : Nat → Nat) : ∃ g, L_freeValves N f = some g ∧ ∀ i, i < N → g i = 0 := by
  have hh := pu_for (st := fun x => L_freeValves_2 N x.1 x.2) (fun i (g : Nat → Nat) => (nI i, g)) (fun i g => updN g i 0) (fun g => g) (fun i g => ∀ x, x < i → g x = 0) (N := N) (fu := FU) (a := f)
    (by
      intro i g hi J
      refine ⟨?_, fun x hx => ?_⟩
      · show L_freeValves_2 N (nI i) g = _
        unfold L_freeValves_2
        rw [if_neg (nI_ge hi (by omega)), pu_astN hi (by omega) (by decide), pu_bind, pu_a1]
      · unfold updN
        by_cases e : x = i
        · rw [if_pos e]
        · rw [if_neg e]; exact J x (by omega))
    (by
      intro g _
      show L_freeValves_2 N (nI N) g = _
      unfold L_freeValves_2
      rw [if_pos (Int32.le_refl _)]) (fun x hx => absurd hx (Nat.not_lt_zero _)) (pu_FU (by omega))
  refine ⟨_, ?_, hh.2⟩
  unfold L_freeValves
  rw [show loopN (fun x => L_freeValves_2 N x.1 x.2) FU (0, f) = _ from hh.1, pu_bind]
theorem pu_Linit (G : pu_G w h kd) : ∃ gr vl, L_init (nI w) (nI h) = some (0, 50, 1, nI w, nI h, w * h, gr, 4 * (w * h), vl, (fun _ => 0), (fun _ => 0), (fun _ => 0)) ∧ (∀ c, c < w * h → gr c = 50) ∧ ∀ i, i < 4 * (w * h) → vl i = 0 := by
  obtain ⟨n4, n80⟩ := pu_G80 G
  obtain ⟨vl, v1, v2⟩ := pu_fill (N := 4 * (w * h)) (by omega) (fun _ => 5)
  have hh := pu_for (st := fun x => L_init_77 (nI (w * h)) (w * h) x.1 x.2) (fun i (g : Nat → Int32) => (nI i, g)) (fun i g => upd g i 50) (fun g => g) (fun i g => ∀ x, x < i → g x = 50) (N := w * h) (fu := FU) (a := fun _ => (0 : Int32))
    (by
      intro i g hi J
      refine ⟨?_, fun x hx => ?_⟩
      · show L_init_77 (nI (w * h)) (w * h) (nI i) g = _
        unfold L_init_77
        rw [if_neg (nI_ge hi (by omega)), pu_ast hi (by omega), pu_bind, pu_a1]
      · by_cases e : x = i
        · subst e; exact pu_us
        · rw [pu_un e]; exact J x (by omega))
    (by
      intro g _
      show L_init_77 (nI (w * h)) (w * h) (nI (w * h)) g = _
      unfold L_init_77
      rw [if_pos (Int32.le_refl _)]) (fun x hx => absurd hx (Nat.not_lt_zero _)) (pu_FU (by omega))
  refine ⟨pu_it (fun i (g : Nat → Int32) => upd g i 50) (w * h) (fun _ => 0), vl, ?_, hh.2, v2⟩
  unfold L_init
  rw [pk_mul, pu_lenF n80 (by decide), pu_bind, show (4 : Int32) * nI (w * h) = nI (4 * (w * h)) from by rw [pu_lit, pk_mul], pu_lenF (by omega) (by decide), pu_bind, show loopN (fun x => L_init_77 (nI (w * h)) (w * h) x.1 x.2) FU (0, fun _ => 0) = _ from hh.1, pu_bind, v1, pu_bind]
theorem pu_Lresized (G : pu_G w h kd) (kd2 : Nat) (thr bt rea : Int32) : ∃ gr vl, L_resized thr bt rea kd2 (nI w) (nI h) = some (nI w, nI h, kd2, thr, bt, 0, rea, w * h, gr, 4 * (w * h), vl, (fun _ => 0), (fun _ => 0), (fun _ => 0)) ∧ (∀ c, c < w * h → gr c = 50) ∧ ∀ i, i < 4 * (w * h) → vl i = 0 := by
  obtain ⟨gr, vl, a1, a2, a3⟩ := pu_Linit G
  refine ⟨gr, vl, ?_, a2, a3⟩
  unfold L_resized
  rw [a1, pu_bind]
theorem pu_cpyF {n : Nat} (hn : n ≤ 80) (f g : Nat → Int32) : ∃ g2, cpyF f n 0 g n 0 (nI n) = some g2 ∧ ∀ k, k < n → g2 k = f k := by
  refine ⟨va_cpy f g 0 0 n, ?_, fun k hk => ?_⟩
  · unfold cpyF
    rw [nI_clamp (by omega), show (0 : Int32).toNatClampNeg = 0 from rfl, if_neg]
    rintro (a | a | a | a | a)
    · exact absurd a (by decide)
    · exact absurd a (by decide)
    · exact nI_pos (by omega) a
    · omega
    · omega
  · unfold va_cpy
    rw [if_pos ⟨by omega, by omega⟩, Nat.zero_add, Nat.sub_zero]
theorem pu_cpyZ {n : Nat} (hn : n ≤ 80) (f g : Nat → Int32) (hf : ∀ c, c < n → f c = 0 ∨ f c = 1) : ∃ g2, cpyZ f n 0 g n 0 (nI n) = some g2 ∧ ∀ k, k < n → g2 k = f k := by
  obtain ⟨g2, a1, a2⟩ := pu_cpyF hn f g
  refine ⟨g2, ?_, a2⟩
  unfold cpyZ fitZ
  rw [nI_clamp (by omega), if_pos]
  · exact a1
  · rw [List.all_eq_true]
    intro i hi
    rw [List.mem_range] at hi
    rw [show (0 : Int32).toNatClampNeg + i = i from Nat.zero_add i]
    rcases hf i hi with e | e
    · rw [e]; rfl
    · rw [e]; rfl
theorem pu_cpyV {n : Nat} (hn : n ≤ 320) (f : Nat → Nat) (hf : ∀ i, i < n → f i < 5) : cpyV f n 0 n 0 (nI n) = some f := by
  unfold cpyV
  rw [if_pos]
  refine ⟨rfl, rfl, nI_pos (by omega), nI_clamp (by omega), rfl, ?_⟩
  rw [List.all_eq_true]
  intro i hi
  rw [List.mem_range] at hi
  exact decide_eq_true (hf i hi)
theorem pu_Lcopy {sh : Nat} (L : pu_LJ sh w h kd thr bt tm rea gr vl so dy cg now) : ∃ gr2 so2 dy2 cg2, L_copy (nI w) (nI h) thr bt tm rea kd (w * h) (4 * (w * h)) vl gr so dy cg = some (nI w, nI h, kd, thr, bt, tm, rea, w * h, gr2, 4 * (w * h), vl, so2, dy2, cg2) ∧ pu_LJ sh w h kd thr bt tm rea gr2 vl so2 dy2 cg2 now := by
  obtain ⟨G, Q, V, T, g0, vb, vs⟩ := L
  obtain ⟨n4, n80⟩ := pu_G80 G
  obtain ⟨gr0, vl0, r1, -, -⟩ := pu_Lresized G kd thr bt rea
  obtain ⟨gr2, b1, b2⟩ := pu_cpyF n80 gr gr0
  obtain ⟨so2, c1, c2⟩ := pu_cpyF n80 so (fun _ => 0)
  obtain ⟨dy2, d1, d2⟩ := pu_cpyF n80 dy (fun _ => 0)
  obtain ⟨cg2, e1, e2⟩ := pu_cpyZ n80 cg (fun _ => 0) (fun c hc => (V.2.2.2 c hc).2.2)
  have f1 := pu_cpyV (n := 4 * (w * h)) (by omega) vl (fun i hi => (Q.1.2.2 i hi).2)
  refine ⟨gr2, so2, dy2, cg2, ?_, G, ⟨⟨Q.1.1, fun c hc => by rw [b2 c hc]; exact Q.1.2.1 c hc, Q.1.2.2⟩, Q.2.1, Q.2.2.1, Q.2.2.2.1, Q.2.2.2.2.1, fun c hc => by rw [c2 c hc, d2 c hc, e2 c hc]; exact Q.2.2.2.2.2 c hc⟩, ⟨V.1, V.2.1, V.2.2.1, fun c hc => by rw [c2 c hc, d2 c hc, e2 c hc]; exact V.2.2.2 c hc⟩, T, fun c hc => by rw [b2 c hc]; exact g0 c hc, vb, vs⟩
  unfold L_copy
  rw [r1, pu_bind]
  dsimp only
  rw [b1, pu_bind, f1, pu_bind, c1, pu_bind, d1, pu_bind, e1, pu_bind]
/-! the reference's row -/
theorem pu_nowset (now : Nat → Int32) (k : Nat) (hk : k < 647) (x : Int32) : ast now 647 (OfNat.ofNat k) x = some (upd now k x) := pu_ast (i := k) hk (by decide)
theorem pu_Msizes (now : Nat → Int32) (w h : Nat) : ∃ now2, M_sizes now (nI w) (nI h) = some now2 ∧ now2 0 = nI w ∧ now2 1 = nI h ∧ now2 2 = now 2 ∧ now2 3 = now 3 ∧ now2 4 = now 4 ∧ now2 5 = 0 ∧ now2 6 = now 6 ∧ (∀ c, c < 80 → now2 (7 + c) = 50) ∧ ∀ k, 87 ≤ k → k < 647 → now2 k = 0 := by
  have hh := pu_for (st := fun x => M_sizes_24 x.1 x.2) (fun i (g : Nat → Int32) => (nI (7 + i), g)) (fun i g => upd g (7 + i) (if 87 ≤ 7 + i then 0 else 50)) (fun g => g) (fun i g => (∀ k, k < 7 → g k = upd (upd (upd now 0 (nI w)) 1 (nI h)) 5 0 k) ∧ ∀ k, 7 ≤ k → k < 7 + i → g k = if 87 ≤ k then 0 else 50) (N := 640) (fu := FU) (a := upd (upd (upd now 0 (nI w)) 1 (nI h)) 5 0)
    (by
      rintro i g hi ⟨J1, J2⟩
      refine ⟨?_, fun k hk => ?_, fun k h1 h2 => ?_⟩
      · show M_sizes_24 (nI (7 + i)) g = _
        unfold M_sizes_24
        rw [if_neg (show ¬ (647 : Int32) ≤ nI (7 + i) from nI_ge (b := 647) (by omega) (by decide)), pu_ast (by omega) (by decide), pu_bind, pu_ast (by omega) (by decide), pu_bind, pu_a1]
        by_cases e : 87 ≤ 7 + i
        · rw [if_pos (show (87 : Int32) ≤ nI (7 + i) from nI_le (a := 87) e (by omega)), if_pos e]; rfl
        · rw [if_neg (show ¬ (87 : Int32) ≤ nI (7 + i) from nI_ge (b := 87) (by omega) (by decide)), if_neg e]; rfl
      · rw [pu_un (by omega)]; exact J1 k hk
      · by_cases e : k = 7 + i
        · subst e; exact pu_us
        · rw [pu_un e]; exact J2 k h1 (by omega))
    (by
      intro g _
      show M_sizes_24 (nI 647) g = _
      unfold M_sizes_24
      rw [if_pos (by decide)]) ⟨fun _ _ => rfl, fun k h1 h2 => absurd h2 (by omega)⟩ (pu_FU (by decide))
  obtain ⟨b1, b2, b3⟩ := hh
  refine ⟨pu_it (fun i g => upd g (7 + i) (if 87 ≤ 7 + i then 0 else 50)) 640 (upd (upd (upd now 0 (nI w)) 1 (nI h)) 5 0), ?_, by rw [b2 0 (by decide)]; rfl, by rw [b2 1 (by decide)]; rfl, by rw [b2 2 (by decide)]; rfl, by rw [b2 3 (by decide)]; rfl, by rw [b2 4 (by decide)]; rfl, by rw [b2 5 (by decide)]; rfl, by rw [b2 6 (by decide)]; rfl, fun c hc => ?_, fun k h1 h2 => ?_⟩
  · unfold M_sizes
    rw [show ast now 647 0 (nI w) = _ from pu_nowset now 0 (by decide) _, pu_bind, show ast (upd now 0 (nI w)) 647 1 (nI h) = _ from pu_nowset _ 1 (by decide) _, pu_bind, show ast (upd (upd now 0 (nI w)) 1 (nI h)) 647 5 0 = _ from pu_nowset _ 5 (by decide) _, pu_bind, show loopN (fun x => M_sizes_24 x.1 x.2) FU (7, upd (upd (upd now 0 (nI w)) 1 (nI h)) 5 0) = _ from b1, pu_bind]
  · rw [b3 _ (by omega) (by omega), if_neg (by omega)]
  · rw [b3 _ (by omega) (by omega), if_pos h1]
theorem pu_Mkinds (now : Nat → Int32) (v : Int32) : ∃ now2, M_kinds now v = some now2 ∧ now2 2 = v ∧ (∀ k, 87 ≤ k → k < 407 → now2 k = 0) ∧ ∀ k, k ≠ 2 → (k < 87 ∨ 407 ≤ k) → now2 k = now k := by
  have hh := pu_for (st := fun x => M_kinds_10 x.1 x.2) (fun i (g : Nat → Int32) => (nI (87 + i), g)) (fun i g => upd g (87 + i) 0) (fun g => g) (fun i g => (∀ k, 87 ≤ k → k < 87 + i → g k = 0) ∧ ∀ k, (k < 87 ∨ 87 + i ≤ k) → g k = upd now 2 v k) (N := 320) (fu := FU) (a := upd now 2 v)
    (by
      rintro i g hi ⟨J1, J2⟩
      refine ⟨?_, fun k h1 h2 => ?_, fun k hk => ?_⟩
      · show M_kinds_10 (nI (87 + i)) g = _
        unfold M_kinds_10
        rw [if_neg (show ¬ (407 : Int32) ≤ nI (87 + i) from nI_ge (b := 407) (by omega) (by decide)), pu_ast (by omega) (by decide), pu_bind, pu_a1]
        rfl
      · by_cases e : k = 87 + i
        · subst e; exact pu_us
        · rw [pu_un e]; exact J1 k h1 (by omega)
      · rw [pu_un (by omega)]; exact J2 k (by omega))
    (by
      intro g _
      show M_kinds_10 (nI 407) g = _
      unfold M_kinds_10
      rw [if_pos (by decide)]) ⟨fun k h1 h2 => absurd h2 (by omega), fun _ _ => rfl⟩ (pu_FU (by decide))
  obtain ⟨b1, b2, b3⟩ := hh
  refine ⟨pu_it (fun i g => upd g (87 + i) 0) 320 (upd now 2 v), ?_, by rw [b3 2 (Or.inl (by decide))]; rfl, fun k h1 h2 => b2 k h1 (by omega), fun k h1 h2 => by rw [b3 k (by omega), pu_un h1]⟩
  unfold M_kinds
  rw [show ast now 647 2 v = _ from pu_nowset now 2 (by decide) _, pu_bind, show loopN (fun x => M_kinds_10 x.1 x.2) FU (87, upd now 2 v) = _ from b1, pu_bind]
theorem pu_Mbegins (now : Nat → Int32) : ∃ now2, M_begins now = some now2 ∧ now2 0 = nI 4 ∧ now2 1 = nI 4 ∧ now2 2 = 0 ∧ now2 3 = 50 ∧ now2 4 = 1 ∧ now2 5 = 0 ∧ now2 6 = 0 ∧ (∀ c, c < 80 → now2 (7 + c) = 50) ∧ ∀ k, 87 ≤ k → k < 647 → now2 k = 0 := by
  have hh := pu_for (st := fun x => M_begins_2 x.1 x.2) (fun i (g : Nat → Int32) => (nI i, g)) (fun i g => upd g i 0) (fun g => g) (fun i g => ∀ k, k < i → g k = 0) (N := 647) (fu := FU) (a := now)
    (by
      rintro i g hi J
      refine ⟨?_, fun k hk => ?_⟩
      · show M_begins_2 (nI i) g = _
        unfold M_begins_2
        rw [if_neg (show ¬ (647 : Int32) ≤ nI i from nI_ge (b := 647) hi (by decide)), pu_ast hi (by decide), pu_bind, pu_a1]
      · by_cases e : k = i
        · subst e; exact pu_us
        · rw [pu_un e]; exact J k (by omega))
    (by
      intro g _
      show M_begins_2 (nI 647) g = _
      unfold M_begins_2
      rw [if_pos (by decide)]) (fun k hk => absurd hk (Nat.not_lt_zero _)) (pu_FU (by decide))
  obtain ⟨b1, b2⟩ := hh
  generalize pu_it (fun i (g : Nat → Int32) => upd g i 0) 647 now = g at b1 b2
  obtain ⟨now2, c1, c2⟩ := pu_Msizes (upd (upd g 3 50) 4 1) 4 4
  refine ⟨now2, ?_, c2.1, c2.2.1, by rw [c2.2.2.1]; exact b2 2 (by decide), by rw [c2.2.2.2.1]; rfl, by rw [c2.2.2.2.2.1]; rfl, c2.2.2.2.2.2.1, by rw [c2.2.2.2.2.2.2.1]; exact b2 6 (by decide), c2.2.2.2.2.2.2.2⟩
  unfold M_begins
  rw [show loopN (fun x => M_begins_2 x.1 x.2) FU (0, now) = _ from b1, pu_bind, show ast g 647 3 50 = _ from pu_nowset g 3 (by decide) _, pu_bind, show ast (upd g 3 50) 647 4 1 = _ from pu_nowset _ 4 (by decide) _, pu_bind, show M_sizes (upd (upd g 3 50) 4 1) 4 4 = _ from c1, pu_bind]
/-- a lattice of the beginning, of any size, kind, threshold, beat and reactions -/
theorem pu_LJ_new {sh kd2 : Nat} (G : pu_G w h kd2) (hb : ∃ b, 1 ≤ b ∧ b ≤ 9 ∧ bt = nI b) (hr : pu_8 rea) {gr : Nat → Int32} {vl : Nat → Nat} (hg : ∀ c, c < w * h → gr c = 50) (hv : ∀ i, i < 4 * (w * h) → vl i = 0) (e0 : now 0 = nI w) (e1 : now 1 = nI h) (e2 : now 2 = nI kd2) (e3 : now 3 = thr) (e4 : now 4 = bt) (e5 : now 5 = 0) (e6 : now 6 = rea) (e7 : ∀ c, c < 80 → now (7 + c) = 50) (e8 : ∀ k, 87 ≤ k → k < 647 → now k = 0) : pu_LJ sh w h kd2 thr bt 0 rea gr vl (fun _ => 0) (fun _ => 0) (fun _ => 0) now := by
  obtain ⟨n4, n80⟩ := pu_G80 G
  refine ⟨G, ⟨⟨⟨e0, e1, e2⟩, fun c hc => by rw [e7 c (by omega), hg c hc], fun i hi => ⟨by rw [e8 _ (by omega) (by omega), hv i hi]; rfl, by rw [hv i hi]; decide⟩⟩, e3, e4, e5, e6, fun c hc => ⟨e8 _ (by omega) (by omega), e8 _ (by omega) (by omega), e8 _ (by omega) (by omega)⟩⟩, ⟨hb, ⟨0, by decide, rfl⟩, hr, fun c hc => ⟨pu_8_0, pu_8_0, Or.inl rfl⟩⟩, ⟨0, by decide, rfl⟩, fun c hc => by rw [hg c hc]; decide, fun c d hc hd e => absurd (hv _ (by omega)) e, ?_⟩
  rw [fb_ct_zero.mpr (fun i hi => by rw [hv i hi]; rfl)]
  exact Nat.zero_le _
end LA
