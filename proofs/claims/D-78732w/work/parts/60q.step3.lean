/-! PLAIN LAWS, 15: a step of the dyes, told of both sides at once -/
set_option maxRecDepth 100000
/-- what values a lattice holds -/
def pu_V (n : Nat) (bt tm rea : Int32) (so dy cg : Nat → Int32) : Prop := (∃ b, 1 ≤ b ∧ b ≤ 9 ∧ bt = nI b) ∧ (∃ t, t ≤ 5000 ∧ tm = nI t) ∧ pu_8 rea ∧ ∀ c, c < n → pu_8 (so c) ∧ pu_8 (dy c) ∧ (cg c = 0 ∨ cg c = 1)
section S3
variable {w h kd : Nat} {thr bt tm rea : Int32} {gr : Nat → Int32} {vl : Nat → Nat} {so dy cg now : Nat → Int32} {ob : Bool}
theorem pu_L32 (G : pu_G w h kd) (hv : ∀ i, i < 4 * (w * h) → vl i < 5) (hd8 : ∀ x, x < w * h → pu_8 (dy x)) (hs8 : ∀ x, x < w * h → pu_8 (so x)) (tm : Int32) : ∃ g, loopN (fun x => L_step_32 (pu_01 ob) (nI w) (nI h) thr tm kd (w * h) (4 * (w * h)) vl gr so dy cg x.1 x.2.1 x.2.2) FU (0, 0, fun _ => 0) = some (pu_it (fun c (a : Int32) => a + pu_bc (pu_nx w h kd thr gr so dy cg vl ob c) (dy c)) (w * h) 0, g) ∧ ∀ x, x < w * h → g x = pu_nx w h kd thr gr so dy cg vl ob x := by
  obtain ⟨n4, n80⟩ := pu_G80 G
  have hn : w * h < 2 ^ 31 := by omega
  have hh := pu_for (st := fun x => L_step_32 (pu_01 ob) (nI w) (nI h) thr tm kd (w * h) (4 * (w * h)) vl gr so dy cg x.1 x.2.1 x.2.2) (fun c (u : Int32 × (Nat → Int32)) => (u.1, nI c, u.2)) (fun c u => (u.1 + pu_bc (pu_nx w h kd thr gr so dy cg vl ob c) (dy c), upd u.2 c (pu_nx w h kd thr gr so dy cg vl ob c))) (fun u => u) (fun c u => ∀ x, x < c → u.2 x = pu_nx w h kd thr gr so dy cg vl ob x) (N := w * h) (fu := FU) (a := ((0 : Int32), fun _ => (0 : Int32)))
    (by
      rintro c ⟨a, g⟩ hc J
      dsimp only at J
      refine ⟨?_, fun x hx => ?_⟩
      · show L_step_32 (pu_01 ob) (nI w) (nI h) thr tm kd (w * h) (4 * (w * h)) vl gr so dy cg a (nI c) g = _
        have hj : ∀ s3 : Int32, dy c ||| s3 = pu_nx w h kd thr gr so dy cg vl ob c → L_step_32_j79 (w * h) dy (pu_01 ob) a (nI c) (nI c) (dy c) s3 g cg tm = some (.inl (a + pu_bc (pu_nx w h kd thr gr so dy cg vl ob c) (dy c), nI (c + 1), upd g c (pu_nx w h kd thr gr so dy cg vl ob c))) := by
          intro s3 e
          unfold L_step_32_j79
          rw [e, pu_ast hc hn, pu_bind, pu_ald hc hn, pu_bind, pu_us, pu_ald hc hn, pu_bind, pu_bits (pu_nx_8 hd8 hs8 hc) (hd8 c hc), pu_bind, pu_a1]
        unfold L_step_32
        rw [if_neg (nI_ge hc hn), pu_ald hc hn, pu_bind, pu_Lmv hn thr gr cg hc, pu_bind, pu_ald hc hn, pu_bind, pu_Lcoming G hv hc, pu_bind]
        rcases Bool.eq_false_or_eq_true (pu_mv thr gr cg c) with e | e
        · rw [e, pu_01t, if_neg pu_10]
          exact hj _ (by unfold pu_nx; rw [if_pos e])
        · rw [e, pu_01f, if_pos rfl]
          exact hj _ (by unfold pu_nx; rw [if_neg (by rw [e]; decide)])
      · show upd g c _ x = _
        by_cases e : x = c
        · subst e; exact pu_us
        · rw [pu_un e]; exact J x (by omega))
    (by
      rintro ⟨a, g⟩ -
      show L_step_32 (pu_01 ob) (nI w) (nI h) thr tm kd (w * h) (4 * (w * h)) vl gr so dy cg a (nI (w * h)) g = _
      unfold L_step_32
      rw [if_pos (Int32.le_refl _)]) (fun x hx => absurd hx (Nat.not_lt_zero _)) (pu_FU (by omega))
  obtain ⟨b1, b2⟩ := hh
  have e1 : ∀ n (a : Int32) (g : Nat → Int32), (pu_it (fun c (u : Int32 × (Nat → Int32)) => (u.1 + pu_bc (pu_nx w h kd thr gr so dy cg vl ob c) (dy c), upd u.2 c (pu_nx w h kd thr gr so dy cg vl ob c))) n (a, g)).1 = pu_it (fun c (a : Int32) => a + pu_bc (pu_nx w h kd thr gr so dy cg vl ob c) (dy c)) n a := by
    intro n a g
    induction n with
    | zero => rfl
    | succ n ih => rw [pu_it_s, pu_it_s, ← ih]
  refine ⟨_, ?_, b2⟩
  rw [← e1 (w * h) 0 (fun _ => 0)]
  exact b1
theorem pu_L115 {n : Nat} (hn : n ≤ 80) (hr : pu_8 rea) {nx : Nat → Int32} (h8 : ∀ x, x < n → pu_8 (nx x)) (hcg : ∀ c, c < n → cg c = 0 ∨ cg c = 1) : ∃ g, loopN (fun x => L_step_115 rea n nx x.1 x.2) FU (0, cg) = some g ∧ ∀ x, x < n → g x = pu_cx rea (nx x) (cg x) := by
  obtain ⟨r, hr8, rfl⟩ := hr
  have hh := pu_for (st := fun x => L_step_115 (nI r) n nx x.1 x.2) (fun c (g : Nat → Int32) => (nI c, g)) (fun c g => upd g c (pu_cx (nI r) (nx c) (cg c))) (fun g => g) (fun c g => ∀ x, x < n → (x < c → g x = pu_cx (nI r) (nx x) (cg x)) ∧ (c ≤ x → g x = cg x)) (N := n) (fu := FU) (a := cg)
    (by
      intro c g hc J
      obtain ⟨a, ha, hae⟩ := h8 c hc
      refine ⟨?_, fun x hx => ⟨fun z => ?_, fun z => ?_⟩⟩
      · show L_step_115 (nI r) n nx (nI c) g = _
        unfold L_step_115 pu_cx
        rw [if_neg (nI_ge hc (by omega)), pu_ald hc (by omega), pu_bind, pu_ald hc (by omega), pu_bind, (J c hc).2 (Nat.le_refl _), hae, (pu_rx8 r hr8 a ha).1, pu_bind, pu_a1]
        show _ = some (Sum.inl (nI (c + 1), upd g c (if cg c = 1 then 1 else pu_rx r a)))
        rcases hcg c hc with e | e
        · rw [e, Int32.zero_or, if_neg (fun z => pu_10 z.symm)]
          rcases (pu_rx8 r hr8 a ha).2 with z | z
          · rw [z, pu_zst0 hc (by omega), pu_bind]
          · rw [z, pu_zst1 hc (by omega), pu_bind]
        · rw [e, if_pos rfl]
          rcases (pu_rx8 r hr8 a ha).2 with z | z
          · rw [z, show (1 : Int32) ||| 0 = 1 from by decide, pu_zst1 hc (by omega), pu_bind]
          · rw [z, show (1 : Int32) ||| 1 = 1 from by decide, pu_zst1 hc (by omega), pu_bind]
      · by_cases e : x = c
        · subst e; exact pu_us
        · rw [pu_un e]; exact (J x hx).1 (by omega)
      · rw [pu_un (by omega)]; exact (J x hx).2 (by omega))
    (by
      intro g _
      show L_step_115 (nI r) n nx (nI n) g = _
      unfold L_step_115
      rw [if_pos (Int32.le_refl _)]) (fun x hx => ⟨fun z => absurd z (Nat.not_lt_zero _), fun _ => rfl⟩) (pu_FU (by omega))
  exact ⟨_, hh.1, fun x hx => (hh.2 x hx).1 hx⟩
theorem pu_step (Q : pu_Q w h kd thr bt tm rea gr vl so dy cg now) (G : pu_G w h kd) (V : pu_V (w * h) bt tm rea so dy cg) (fr : Nat → Int32) : ∃ r dy2 cg2 now2 fr2, L_step (nI w) (nI h) thr bt tm rea kd (w * h) (4 * (w * h)) vl gr so dy cg = some (r, tm + 1, dy2, cg2) ∧ M_steps now fr = some (r, now2, fr2) ∧ pu_Q w h kd thr bt (tm + 1) rea gr vl so dy2 cg2 now2 ∧ ∀ c, c < w * h → pu_8 (dy2 c) ∧ (cg2 c = 0 ∨ cg2 c = 1) := by
  obtain ⟨n4, n80⟩ := pu_G80 G
  obtain ⟨⟨b, hb1, hb9, hb⟩, ⟨t, ht5, ht⟩, hr, hc8⟩ := V
  have hv : ∀ i, i < 4 * (w * h) → vl i < 5 := fun i hi => (Q.1.2.2 i hi).2
  have hid : idv tm bt = some (nI (t / b)) := by rw [hb, ht]; exact pu_idv (by omega) (by omega) (by omega)
  have hle : t / b ≤ t := Nat.div_le_self t b
  have hir : irm (nI (t / b)) 2 = some (nI (t / b % 2)) := pu_irm (d := 2) (by omega) (by decide) (by decide)
  have key : ∀ ob : Bool, ∃ r dy2 cg2 now2 fr2, L_step_j19 (nI w) (nI h) thr rea kd (w * h) (4 * (w * h)) vl gr so dy (pu_01 ob) cg tm = some (r, tm + 1, dy2, cg2) ∧ M_steps_j23 now fr (pu_01 ob) = some (r, now2, fr2) ∧ pu_Q w h kd thr bt (tm + 1) rea gr vl so dy2 cg2 now2 ∧ ∀ c, c < w * h → pu_8 (dy2 c) ∧ (cg2 c = 0 ∨ cg2 c = 1) := by
    intro ob
    have h8 : ∀ x, x < w * h → pu_8 (pu_nx w h kd thr gr so dy cg vl ob x) := fun x hx => pu_nx_8 (fun x hx => (hc8 x hx).2.1) (fun x hx => (hc8 x hx).1) hx
    obtain ⟨g, a1, a2⟩ := pu_L32 (ob := ob) (thr := thr) (gr := gr) (cg := cg) (kd := kd) G hv (fun x hx => (hc8 x hx).2.1) (fun x hx => (hc8 x hx).1) tm
    obtain ⟨c2, b1, b2⟩ := pu_L115 n80 hr (nx := g) (fun x hx => by rw [a2 x hx]; exact h8 x hx) (fun c hc => (hc8 c hc).2.2)
    obtain ⟨f, d1, d2⟩ := pu_M28 Q G fr (pu_01 ob) 0
    have d3 := pu_M83 (ob := ob) Q G f 0
    have d4 : ∀ x, x < w * h → pu_it (fun i => pu_fl w h kd thr gr dy cg vl ob (i / 4) (i % 4)) (4 * (w * h)) f x = pu_nx w h kd thr gr so dy cg vl ob x := fun x hx => pu_fresh G d2 hx
    obtain ⟨now2, e1, e2, e3⟩ := pu_M198 Q G hr (fun c hc => (hc8 c hc).2.2) d4 h8
    have h5 : ald now2 647 5 = some tm := by
      rw [← Q.2.2.2.1, ← e2 5 (by decide)]; exact pu_ald (i := 5) (by decide) (by decide)
    refine ⟨pu_it (fun c (a : Int32) => a + pu_bc (pu_nx w h kd thr gr so dy cg vl ob c) (dy c)) (w * h) 0, g, c2, upd now2 5 (tm + 1), pu_it (fun i => pu_fl w h kd thr gr dy cg vl ob (i / 4) (i % 4)) (4 * (w * h)) f, ?_, ?_, ?_, fun c hc => ?_⟩
    · unfold L_step_j19 lenN
      rw [if_pos n80, pu_bind, a1, pu_bind, b1, pu_bind]
    · unfold M_steps_j23
      rw [d1, pu_bind, d3, pu_bind, e1, pu_bind, h5, pu_bind, show ast now2 647 5 (tm + 1) = some (upd now2 5 (tm + 1)) from pu_ast (i := 5) (by decide) (by decide), pu_bind]
    · have hu : ∀ k, k < 487 → k ≠ 5 → upd now2 5 (tm + 1) k = now k := fun k hk h5 => by rw [pu_un h5]; exact e2 k hk
      refine ⟨⟨⟨by rw [hu 0 (by decide) (by decide)]; exact Q.1.1.1, by rw [hu 1 (by decide) (by decide)]; exact Q.1.1.2.1, by rw [hu 2 (by decide) (by decide)]; exact Q.1.1.2.2⟩, fun c hc => by rw [hu _ (by omega) (by omega)]; exact Q.1.2.1 c hc, fun i hi => by rw [hu _ (by omega) (by omega)]; exact Q.1.2.2 i hi⟩, by rw [hu 3 (by decide) (by decide)]; exact Q.2.1, by rw [hu 4 (by decide) (by decide)]; exact Q.2.2.1, pu_us, by rw [hu 6 (by decide) (by decide)]; exact Q.2.2.2.2.1, fun c hc => ⟨by rw [hu _ (by omega) (by omega)]; exact (Q.2.2.2.2.2 c hc).1, ?_, ?_⟩⟩
      · rw [pu_un (by omega), (e3 c hc).1, a2 c hc]
      · rw [pu_un (by omega), (e3 c hc).2, b2 c hc, a2 c hc]
    · refine ⟨by rw [a2 c hc]; exact h8 c hc, ?_⟩
      rw [b2 c hc, a2 c hc]
      obtain ⟨a, ha, hae⟩ := h8 c hc
      obtain ⟨r, hr8, hre⟩ := hr
      rw [hae, hre]
      exact pu_cx01 hr8 ha _
  unfold L_step M_steps
  rw [hid, pu_bind, hir, pu_bind, pu_now5 Q, pu_bind, pu_now4 Q, pu_bind, hid, pu_bind, hir, pu_bind]
  by_cases e : nI (t / b % 2) = 0
  · rw [if_pos e, if_pos e]; exact key true
  · rw [if_neg e, if_neg e]; exact key false
end S3
