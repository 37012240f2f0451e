/-! PLAIN LAWS, 18: a lattice and a row changed alike -/
set_option maxRecDepth 100000
section CH
variable {sh w h kd : Nat} {thr bt tm rea : Int32} {gr : Nat → Int32} {vl : Nat → Nat} {so dy cg now : Nat → Int32}
theorem pu_LJ_gr (L : pu_LJ sh w h kd thr bt tm rea gr vl so dy cg now) {c : Nat} (hc : c < w * h) {v : Int32} (hv : 0 ≤ v) : pu_LJ sh w h kd thr bt tm rea (upd gr c v) vl so dy cg (upd now (7 + c) v) := by
  obtain ⟨G, Q, V, T, g0, vb, vs⟩ := L
  obtain ⟨n4, n80⟩ := pu_G80 G
  refine ⟨G, ⟨⟨⟨by rw [pu_un (by omega)]; exact Q.1.1.1, by rw [pu_un (by omega)]; exact Q.1.1.2.1, by rw [pu_un (by omega)]; exact Q.1.1.2.2⟩, fun x hx => ?_, fun i hi => by rw [pu_un (by omega)]; exact Q.1.2.2 i hi⟩, by rw [pu_un (by omega)]; exact Q.2.1, by rw [pu_un (by omega)]; exact Q.2.2.1, by rw [pu_un (by omega)]; exact Q.2.2.2.1, by rw [pu_un (by omega)]; exact Q.2.2.2.2.1, fun x hx => by rw [pu_un (by omega), pu_un (by omega), pu_un (by omega)]; exact Q.2.2.2.2.2 x hx⟩, V, T, fun x hx => ?_, vb, vs⟩
  · by_cases e : x = c
    · subst e; rw [pu_us, pu_us]
    · rw [pu_un (by omega), pu_un e]; exact Q.1.2.1 x hx
  · by_cases e : x = c
    · subst e; rw [pu_us]; exact hv
    · rw [pu_un e]; exact g0 x hx
theorem pu_LJ_thr (L : pu_LJ sh w h kd thr bt tm rea gr vl so dy cg now) (v : Int32) : pu_LJ sh w h kd v bt tm rea gr vl so dy cg (upd now 3 v) := by
  obtain ⟨G, Q, V, T, g0, vb, vs⟩ := L
  exact ⟨G, ⟨⟨⟨by rw [pu_un (by omega)]; exact Q.1.1.1, by rw [pu_un (by omega)]; exact Q.1.1.2.1, by rw [pu_un (by omega)]; exact Q.1.1.2.2⟩, fun x hx => by rw [pu_un (by omega)]; exact Q.1.2.1 x hx, fun i hi => by rw [pu_un (by omega)]; exact Q.1.2.2 i hi⟩, pu_us, by rw [pu_un (by omega)]; exact Q.2.2.1, by rw [pu_un (by omega)]; exact Q.2.2.2.1, by rw [pu_un (by omega)]; exact Q.2.2.2.2.1, fun x hx => by rw [pu_un (by omega), pu_un (by omega), pu_un (by omega)]; exact Q.2.2.2.2.2 x hx⟩, V, T, g0, vb, vs⟩
theorem pu_LJ_bt (L : pu_LJ sh w h kd thr bt tm rea gr vl so dy cg now) {v : Int32} (hv : ∃ b, 1 ≤ b ∧ b ≤ 9 ∧ v = nI b) : pu_LJ sh w h kd thr v tm rea gr vl so dy cg (upd now 4 v) := by
  obtain ⟨G, Q, V, T, g0, vb, vs⟩ := L
  exact ⟨G, ⟨⟨⟨by rw [pu_un (by omega)]; exact Q.1.1.1, by rw [pu_un (by omega)]; exact Q.1.1.2.1, by rw [pu_un (by omega)]; exact Q.1.1.2.2⟩, fun x hx => by rw [pu_un (by omega)]; exact Q.1.2.1 x hx, fun i hi => by rw [pu_un (by omega)]; exact Q.1.2.2 i hi⟩, by rw [pu_un (by omega)]; exact Q.2.1, pu_us, by rw [pu_un (by omega)]; exact Q.2.2.2.1, by rw [pu_un (by omega)]; exact Q.2.2.2.2.1, fun x hx => by rw [pu_un (by omega), pu_un (by omega), pu_un (by omega)]; exact Q.2.2.2.2.2 x hx⟩, ⟨hv, V.2⟩, T, g0, vb, vs⟩
theorem pu_LJ_rea (L : pu_LJ sh w h kd thr bt tm rea gr vl so dy cg now) {v : Int32} (hv : pu_8 v) : pu_LJ sh w h kd thr bt tm v gr vl so dy cg (upd now 6 v) := by
  obtain ⟨G, Q, V, T, g0, vb, vs⟩ := L
  exact ⟨G, ⟨⟨⟨by rw [pu_un (by omega)]; exact Q.1.1.1, by rw [pu_un (by omega)]; exact Q.1.1.2.1, by rw [pu_un (by omega)]; exact Q.1.1.2.2⟩, fun x hx => by rw [pu_un (by omega)]; exact Q.1.2.1 x hx, fun i hi => by rw [pu_un (by omega)]; exact Q.1.2.2 i hi⟩, by rw [pu_un (by omega)]; exact Q.2.1, by rw [pu_un (by omega)]; exact Q.2.2.1, by rw [pu_un (by omega)]; exact Q.2.2.2.1, pu_us, fun x hx => by rw [pu_un (by omega), pu_un (by omega), pu_un (by omega)]; exact Q.2.2.2.2.2 x hx⟩, ⟨V.1, V.2.1, hv, V.2.2.2⟩, T, g0, vb, vs⟩
theorem pu_LJ_so (L : pu_LJ sh w h kd thr bt tm rea gr vl so dy cg now) {c : Nat} (hc : c < w * h) {v : Int32} (hv : pu_8 v) : pu_LJ sh w h kd thr bt tm rea gr vl (upd so c v) dy cg (upd now (407 + c) v) := by
  obtain ⟨G, Q, V, T, g0, vb, vs⟩ := L
  obtain ⟨n4, n80⟩ := pu_G80 G
  refine ⟨G, ⟨⟨⟨by rw [pu_un (by omega)]; exact Q.1.1.1, by rw [pu_un (by omega)]; exact Q.1.1.2.1, by rw [pu_un (by omega)]; exact Q.1.1.2.2⟩, fun x hx => by rw [pu_un (by omega)]; exact Q.1.2.1 x hx, fun i hi => by rw [pu_un (by omega)]; exact Q.1.2.2 i hi⟩, by rw [pu_un (by omega)]; exact Q.2.1, by rw [pu_un (by omega)]; exact Q.2.2.1, by rw [pu_un (by omega)]; exact Q.2.2.2.1, by rw [pu_un (by omega)]; exact Q.2.2.2.2.1, fun x hx => ?_⟩, ⟨V.1, V.2.1, V.2.2.1, fun x hx => ?_⟩, T, g0, vb, vs⟩
  · obtain ⟨q1, q2, q3⟩ := Q.2.2.2.2.2 x hx
    refine ⟨?_, by rw [pu_un (by omega)]; exact q2, by rw [pu_un (by omega)]; exact q3⟩
    by_cases e : x = c
    · subst e; rw [pu_us, pu_us]
    · rw [pu_un (by omega), pu_un e]; exact q1
  · refine ⟨?_, (V.2.2.2 x hx).2⟩
    by_cases e : x = c
    · subst e; rw [pu_us]; exact hv
    · rw [pu_un e]; exact (V.2.2.2 x hx).1
theorem pu_LJ_vl (L : pu_LJ sh w h kd thr bt tm rea gr vl so dy cg now) {c d v : Nat} (hc : c < w * h) (hd : d < 4) (hb : pu_bd w h kd c d = true) (hv : v < 5) : pu_LJ (sh + 1) w h kd thr bt tm rea gr (updN vl (4 * c + d) v) so dy cg (upd now (87 + (4 * c + d)) (nI v)) := by
  obtain ⟨G, Q, V, T, g0, vb, vs⟩ := L
  obtain ⟨n4, n80⟩ := pu_G80 G
  refine ⟨G, ⟨⟨⟨by rw [pu_un (by omega)]; exact Q.1.1.1, by rw [pu_un (by omega)]; exact Q.1.1.2.1, by rw [pu_un (by omega)]; exact Q.1.1.2.2⟩, fun x hx => by rw [pu_un (by omega)]; exact Q.1.2.1 x hx, fun i hi => ?_⟩, by rw [pu_un (by omega)]; exact Q.2.1, by rw [pu_un (by omega)]; exact Q.2.2.1, by rw [pu_un (by omega)]; exact Q.2.2.2.1, by rw [pu_un (by omega)]; exact Q.2.2.2.2.1, fun x hx => by rw [pu_un (by omega), pu_un (by omega), pu_un (by omega)]; exact Q.2.2.2.2.2 x hx⟩, V, T, g0, fun c2 d2 hc2 hd2 e => ?_, ?_⟩
  · unfold updN
    by_cases e : i = 4 * c + d
    · subst e; rw [pu_us, if_pos rfl]; exact ⟨rfl, hv⟩
    · rw [pu_un (by omega), if_neg e]; exact Q.1.2.2 i hi
  · unfold updN at e
    by_cases e2 : 4 * c2 + d2 = 4 * c + d
    · have : c2 = c ∧ d2 = d := by omega
      rw [this.1, this.2]; exact hb
    · rw [if_neg e2] at e
      exact vb c2 d2 hc2 hd2 e
  · have h1 := fb_ct_upd (fun i => decide (vl i = 1)) (decide (v = 1)) (show 4 * c + d < 4 * (w * h) by omega)
    rw [fb_ct_cong (q := fun k => if k = 4 * c + d then decide (v = 1) else decide (vl k = 1)) (fun k _ => by
      show decide (updN vl (4 * c + d) v k = 1) = _
      unfold updN
      by_cases e : k = 4 * c + d
      · rw [if_pos e, if_pos e]
      · rw [if_neg e, if_neg e])]
    have h2 : (if decide (v = 1) = true then 1 else 0) ≤ 1 := by split <;> omega
    omega
theorem pu_LJ_kd (L : pu_LJ sh w h kd thr bt tm rea gr vl so dy cg now) {k2 : Nat} (hk : k2 ≤ 2) {vl2 : Nat → Nat} (hv : ∀ i, i < 4 * (w * h) → vl2 i = 0) {now2 : Nat → Int32} (e2 : now2 2 = nI k2) (e87 : ∀ k, 87 ≤ k → k < 407 → now2 k = 0) (er : ∀ k, k ≠ 2 → (k < 87 ∨ 407 ≤ k) → now2 k = now k) : pu_LJ sh w h k2 thr bt tm rea gr vl2 so dy cg now2 := by
  obtain ⟨G, Q, V, T, g0, vb, vs⟩ := L
  obtain ⟨n4, n80⟩ := pu_G80 G
  refine ⟨⟨G.1, G.2.1, G.2.2.1, G.2.2.2.1, hk⟩, ⟨⟨⟨by rw [er 0 (by decide) (by decide)]; exact Q.1.1.1, by rw [er 1 (by decide) (by decide)]; exact Q.1.1.2.1, e2⟩, fun x hx => by rw [er _ (by omega) (by omega)]; exact Q.1.2.1 x hx, fun i hi => ⟨by rw [e87 _ (by omega) (by omega), hv i hi]; rfl, by rw [hv i hi]; decide⟩⟩, by rw [er 3 (by decide) (by decide)]; exact Q.2.1, by rw [er 4 (by decide) (by decide)]; exact Q.2.2.1, by rw [er 5 (by decide) (by decide)]; exact Q.2.2.2.1, by rw [er 6 (by decide) (by decide)]; exact Q.2.2.2.2.1, fun x hx => by rw [er _ (by omega) (by omega), er _ (by omega) (by omega), er _ (by omega) (by omega)]; exact Q.2.2.2.2.2 x hx⟩, V, T, g0, fun c d hc hd e => absurd (hv _ (by omega)) e, ?_⟩
  rw [fb_ct_zero.mpr (fun i hi => by rw [hv i hi]; rfl)]
  exact Nat.zero_le _
/-- the fill, both sides -/
theorem pu_fills (L : pu_LJ sh w h kd thr bt tm rea gr vl so dy cg now) {s : Nat} (hs : s ≤ 9999) : ∃ gr2 now2, loopN (fun x => L_fill_4 (w * h) x.1 x.2.1 x.2.2) FU (nI s, 0, gr) = some gr2 ∧ M_fills now (nI s) = some now2 ∧ pu_LJ sh w h kd thr bt tm rea gr2 vl so dy cg now2 := by
  obtain ⟨n4, n80⟩ := pu_G80 L.1
  have hstep : ∀ v : Nat, v ≤ 65536 → irm (75 * nI v + 74) 65537 = some (nI ((75 * v + 74) % 65537)) := by
    intro v hv
    rw [show (75 : Int32) * nI v + 74 = nI (75 * v + 74) from by rw [pu_lit, pk_mul]; exact nI_add _ 74]
    exact pu_irm (d := 65537) (by omega) (by decide) (by decide)
  have h100 : ∀ v : Nat, v ≤ 65536 → irm (nI v) 100 = some (nI (v % 100)) := fun v hv => pu_irm (d := 100) (by omega) (by decide) (by decide)
  have key : ∀ m c f1 f2 v (gr now : Nat → Int32), c + m = w * h → m < f1 → m < f2 → v ≤ 65536 → pu_LJ sh w h kd thr bt tm rea gr vl so dy cg now → ∃ gr2 now2, loopN (fun x => L_fill_4 (w * h) x.1 x.2.1 x.2.2) f1 (nI v, nI c, gr) = some gr2 ∧ loopN (fun x => M_fills_4 x.1 x.2.1 x.2.2) f2 (nI v, nI c, now) = some now2 ∧ pu_LJ sh w h kd thr bt tm rea gr2 vl so dy cg now2 := by
    intro m
    induction m with
    | zero =>
      intro c f1 f2 v gr now hc h1 h2 hv L
      obtain ⟨f1, rfl⟩ : ∃ f', f1 = f' + 1 := ⟨f1 - 1, by omega⟩
      obtain ⟨f2, rfl⟩ : ∃ f', f2 = f' + 1 := ⟨f2 - 1, by omega⟩
      refine ⟨gr, now, pu_lx ?_, pu_lx ?_, L⟩
      · show L_fill_4 (w * h) (nI v) (nI c) gr = _
        unfold L_fill_4
        rw [if_pos (nI_le (by omega) (by omega))]
      · show M_fills_4 (nI v) (nI c) now = _
        unfold M_fills_4
        rw [pu_Mcells L.2.1.1.1, pu_bind, if_pos (nI_le (by omega) (by omega))]
    | succ m ih =>
      intro c f1 f2 v gr now hc h1 h2 hv L
      obtain ⟨f1, rfl⟩ : ∃ f', f1 = f' + 1 := ⟨f1 - 1, by omega⟩
      obtain ⟨f2, rfl⟩ : ∃ f', f2 = f' + 1 := ⟨f2 - 1, by omega⟩
      have hlt : (75 * v + 74) % 65537 < 65537 := Nat.mod_lt _ (by decide)
      have L2 := pu_LJ_gr L (c := c) (by omega) (v := nI ((75 * v + 74) % 65537 % 100)) (nI_pos' (by omega))
      obtain ⟨gr2, now2, a1, a2, a3⟩ := ih (c + 1) f1 f2 ((75 * v + 74) % 65537) _ _ (by omega) (by omega) (by omega) (by omega) L2
      refine ⟨gr2, now2, ?_, ?_, a3⟩
      · rw [pu_lp (y := (nI ((75 * v + 74) % 65537), nI (c + 1), upd gr c (nI ((75 * v + 74) % 65537 % 100))))]
        · exact a1
        · show L_fill_4 (w * h) (nI v) (nI c) gr = _
          unfold L_fill_4
          rw [if_neg (nI_ge (by omega) (by omega)), hstep v hv, pu_bind, h100 _ (by omega), pu_bind, pu_ast (by omega) (by omega), pu_bind, pu_a1]
      · rw [pu_lp (y := (nI ((75 * v + 74) % 65537), nI (c + 1), upd now (7 + c) (nI ((75 * v + 74) % 65537 % 100))))]
        · exact a2
        · show M_fills_4 (nI v) (nI c) now = _
          unfold M_fills_4
          rw [pu_Mcells L.2.1.1.1, pu_bind, if_neg (nI_ge (by omega) (by omega)), hstep v hv, pu_bind, h100 _ (by omega), pu_bind, pu_nows now 7 c _ (by omega), pu_bind, pu_a1]
  obtain ⟨gr2, now2, a1, a2, a3⟩ := key (w * h) 0 FU FU s gr now (by omega) (pu_FU (by omega)) (pu_FU (by omega)) (by omega) L
  refine ⟨gr2, now2, a1, ?_, a3⟩
  unfold M_fills
  rw [show loopN (fun x => M_fills_4 x.1 x.2.1 x.2.2) FU (nI s, 0, now) = _ from a2, pu_bind]
theorem pu_fill2 (L : pu_LJ sh w h kd thr bt tm rea gr vl so dy cg now) {s : Nat} (hs : s ≤ 9999) : ∃ r gr2 now2, L_fill thr (w * h) gr (nI s) = some (r, gr2) ∧ M_fills now (nI s) = some now2 ∧ M_openAt now2 thr = some r ∧ pu_LJ sh w h kd thr bt tm rea gr2 vl so dy cg now2 := by
  obtain ⟨n4, n80⟩ := pu_G80 L.1
  obtain ⟨gr2, now2, a1, a2, a3⟩ := pu_fills L hs
  refine ⟨pu_open (w * h) gr2 thr, gr2, now2, ?_, a2, pu_Mopen a3.2.1.1 a3.1 thr, a3⟩
  unfold L_fill
  rw [a1, pu_bind, pu_Lopen n80, pu_bind]
end CH
