/-! PLAIN LAWS, 12: bonds at a cell, cell, count -/
set_option maxRecDepth 100000
section CE
variable {w h kd : Nat} {thr bt tm rea : Int32} {gr : Nat → Int32} {vl : Nat → Nat} {so dy cg now : Nat → Int32} {t : Int32}
def pu_n01 (b : Bool) : Nat := if b = true then 1 else 0
/-- does a bond begin at the cell; end there -/
def pu_be (w h kd cell d : Nat) : Bool := decide (d < kd + 2) && (pu_sec w h d cell).isSome
def pu_en (w kd cell d : Nat) : Bool := decide (d < kd + 2) && (pu_fst w d cell).isSome
theorem pu_LbondsAt (G : pu_G w h kd) {c : Nat} (hc : c < w * h) : L_bondsAt (nI w) (nI h) kd (nI c) = some (nI (fb_sm (fun d => pu_n01 (pu_be w h kd c d) + pu_n01 (pu_en w kd c d)) 4)) := by
  obtain ⟨n4, n80⟩ := pu_G80 G
  have G0 := G
  obtain ⟨g1, g2, g3, g4, g5⟩ := G
  have hh := pu_for0 (st := fun x => L_bondsAt_4 (nI c) (nI w) (nI h) kd x.1 x.2) (fun d (a : Nat) => (nI a, nI d)) (fun d a => a + (pu_n01 (pu_be w h kd c d) + pu_n01 (pu_en w kd c d))) (fun a => nI a) (N := kd + 2) (fu := FU) (a := (0 : Nat))
    (by
      intro d a hd
      show L_bondsAt_4 (nI c) (nI w) (nI h) kd (nI a) (nI d) = _
      have hL := pu_Lsec G0 hc (show d < 4 by omega)
      have hF := pu_Lfst G0 hc (show d < 4 by omega)
      unfold L_bondsAt_4 L_bondsAt_4_j32 dirF pu_be pu_en
      rw [if_pos (by omega), pu_bind, if_neg (nI_ge hd (by omega)), hL, pu_bind, hF, pu_bind, decide_eq_true hd, Bool.true_and, Bool.true_and]
      cases hs : pu_sec w h d c with
      | none =>
        rw [pu_cdn, if_pos rfl]
        cases hf : pu_fst w d c with
        | none => rw [pu_cdn, if_pos rfl, show (0 : Int32) + 0 = nI 0 from rfl, nI_add, pu_a1]; rfl
        | some y =>
          have := (pu_fst_lt hc hf).1
          rw [pu_cds, if_neg (pu_nI_m9 (by omega)), show (0 : Int32) + 1 = nI 1 from rfl, nI_add, pu_a1]; rfl
      | some x =>
        have := (pu_sec_lt hc hs).1
        rw [pu_cds, if_neg (pu_nI_m9 (by omega))]
        cases hf : pu_fst w d c with
        | none => rw [pu_cdn, pu_bind, if_pos rfl, show (1 : Int32) + 0 = nI 1 from rfl, nI_add, pu_a1]; rfl
        | some y =>
          have := (pu_fst_lt hc hf).1
          rw [pu_cds, pu_bind, if_neg (pu_nI_m9 (by omega)), show (1 : Int32) + 1 = nI 2 from rfl, nI_add, pu_a1]; rfl)
    (by
      intro a
      show L_bondsAt_4 (nI c) (nI w) (nI h) kd (nI a) (nI (kd + 2)) = _
      unfold L_bondsAt_4 dirF
      rw [if_pos (by omega), pu_bind, if_pos (Int32.le_refl _)]) (pu_FU (by omega))
  unfold L_bondsAt
  rw [show loopN (fun x => L_bondsAt_4 (nI c) (nI w) (nI h) kd x.1 x.2) FU (0, 0) = _ from hh, pu_bind]
  have e1 : ∀ n, pu_it (fun d a => a + (pu_n01 (pu_be w h kd c d) + pu_n01 (pu_en w kd c d))) n 0 = fb_sm (fun d => pu_n01 (pu_be w h kd c d) + pu_n01 (pu_en w kd c d)) n := by
    intro n
    induction n with
    | zero => rfl
    | succ n ih => rw [pu_it_s, fb_sm_succ, ih]
  rw [← e1 4, pu_it_le (m := kd + 2) (n := 4) (by omega)]
  intro d h1 h2 x
  unfold pu_be pu_en
  rw [decide_eq_false (by omega)]
  rfl
/-- the ends at a cell, bond by bond -/
def pu_eg (w h kd cell c d : Nat) : Bool := match (if d < kd + 2 then pu_sec w h d c else none) with
  | none => false
  | some x => decide (c = cell) || decide (x = cell)
theorem pu_sm_one {n b : Nat} (hb : b < n) (v : Nat) : fb_sm (fun c => if c = b then v else 0) n = v := by
  have := fb_sm_upd (fun _ => 0) v hb
  have h2 := fb_sm_const 0 n
  simp only [Nat.mul_zero] at h2
  rw [h2] at this
  omega
theorem pu_eg_sum {c : Nat} (hc : c < w * h) (d : Nat) : fb_sm (fun x => pu_n01 (pu_eg w h kd c x d)) (w * h) = pu_n01 (pu_be w h kd c d) + pu_n01 (pu_en w kd c d) := by
  by_cases hd : d < kd + 2
  · have e1 : pu_be w h kd c d = (pu_sec w h d c).isSome := by unfold pu_be; rw [decide_eq_true hd, Bool.true_and]
    have e2 : pu_en w kd c d = (pu_fst w d c).isSome := by unfold pu_en; rw [decide_eq_true hd, Bool.true_and]
    have key : ∀ x, x < w * h → pu_n01 (pu_eg w h kd c x d) = (if x = c then pu_n01 (pu_be w h kd c d) else 0) + (match pu_fst w d c with | none => 0 | some y => if x = y then 1 else 0) := by
      intro x hx
      unfold pu_eg
      rw [if_pos hd]
      cases hs : pu_sec w h d x with
      | none =>
        have h1 : (if x = c then pu_n01 (pu_be w h kd c d) else 0) = 0 := by
          by_cases e : x = c
          · subst e; rw [if_pos rfl, e1, hs]; rfl
          · rw [if_neg e]
        rw [h1]
        cases hf : pu_fst w d c with
        | none => rfl
        | some y =>
          by_cases e : x = y
          · subst e
            rw [(pu_sf2 hc hf).1] at hs
            cases hs
          · show 0 = 0 + (if x = y then 1 else 0)
            rw [if_neg e]
      | some z =>
        have hz := pu_sec_lt hx hs
        by_cases e : x = c
        · subst e
          rw [if_pos rfl, e1, hs]
          cases hf : pu_fst w d x with
          | none =>
            show pu_n01 (decide (x = x) || decide (z = x)) = _
            rw [decide_eq_true rfl, Bool.true_or]; rfl
          | some y =>
            have hy := pu_fst_lt hx hf
            show pu_n01 (decide (x = x) || decide (z = x)) = pu_n01 true + (if x = y then 1 else 0)
            rw [decide_eq_true rfl, Bool.true_or, if_neg (fun q => hy.2 q.symm)]
            rfl
        · rw [if_neg e]
          show pu_n01 (decide (x = c) || decide (z = c)) = _
          rw [decide_eq_false e, Bool.false_or]
          by_cases e3 : z = c
          · subst e3
            rw [pu_sf1 hx hs, decide_eq_true rfl]
            show 1 = 0 + (if x = x then 1 else 0)
            rw [if_pos rfl]
          · rw [decide_eq_false e3]
            cases hf : pu_fst w d c with
            | none => rfl
            | some y =>
              show 0 = 0 + (if x = y then 1 else 0)
              rw [if_neg]
              intro e4
              subst e4
              have := (pu_sf2 hc hf).1
              rw [hs] at this
              exact e3 (Option.some.inj this)
    rw [fb_sm_cong key, fb_sm_add, pu_sm_one hc, e2]
    congr 1
    cases hf : pu_fst w d c with
    | none => have := fb_sm_const 0 (w * h); simp only [Nat.mul_zero] at this; exact this
    | some y => exact pu_sm_one (pu_fst_lt hc hf).1 1
  · have e1 : pu_be w h kd c d = false := by unfold pu_be; rw [decide_eq_false hd, Bool.false_and]
    have e2 : pu_en w kd c d = false := by unfold pu_en; rw [decide_eq_false hd, Bool.false_and]
    rw [e1, e2, fb_sm_cong (g := fun _ => 0) (fun x _ => by unfold pu_eg; rw [if_neg hd]; rfl)]
    have := fb_sm_const 0 (w * h); simp only [Nat.mul_zero] at this; exact this
theorem pu_MendsAt (N : pu_N w h kd now) (G : pu_G w h kd) {cell : Nat} (hcell : cell < w * h) : M_endsAt now (nI cell) = some (nI (fb_sm (fun d => pu_n01 (pu_be w h kd cell d) + pu_n01 (pu_en w kd cell d)) 4)) := by
  obtain ⟨n4, n80⟩ := pu_G80 G
  have hh := pu_for0 (st := fun x => M_endsAt_4 (nI cell) now x.1 x.2) (fun i (a : Nat) => (nI a, nI i)) (fun c a => a + fb_sm (fun d => pu_n01 (pu_eg w h kd cell c d)) 4) (fun a => nI a) (N := w * h) (fu := FU) (a := (0 : Nat))
    (by
      intro c a hc
      have h1 := pu_for (st := fun x => M_endsAt_15 (nI cell) (nI c) now x.1 x.2) (fun d (b : Nat) => (nI b, nI d)) (fun d b => b + pu_n01 (pu_eg w h kd cell c d)) (fun b => nI b) (fun d b => b = a + fb_sm (fun d => pu_n01 (pu_eg w h kd cell c d)) d) (N := 4) (fu := FU) (a := a)
        (by
          intro d b hd Jb
          refine ⟨?_, by rw [Jb, fb_sm_succ, Nat.add_assoc]⟩
          show M_endsAt_15 (nI cell) (nI c) now (nI b) (nI d) = _
          unfold M_endsAt_15 pu_eg
          rw [if_neg (show ¬ (4 : Int32) ≤ nI d from nI_ge (b := 4) hd (by decide)), pu_Msec N G hc hd, pu_bind, pu_a1, pu_a1, pu_a0]
          cases hs : (if d < kd + 2 then pu_sec w h d c else none) with
          | none => rw [pu_cdn, if_pos rfl]; rfl
          | some x =>
            have hx := pu_o1 (h := h) hc hs
            rw [pu_cds, if_neg (pu_nI_m9 (by omega)), pu_nIe (by omega) (by omega), pu_nIe (by omega) (by omega)]
            by_cases e1 : c = cell
            · rw [if_pos e1]
              show _ = some (Sum.inl (nI (b + pu_n01 (decide (c = cell) || decide (x = cell))), nI (d + 1)))
              rw [decide_eq_true e1, Bool.true_or]; rfl
            · rw [if_neg e1]
              show _ = some (Sum.inl (nI (b + pu_n01 (decide (c = cell) || decide (x = cell))), nI (d + 1)))
              rw [decide_eq_false e1, Bool.false_or]
              by_cases e2 : x = cell
              · rw [if_pos e2, decide_eq_true e2]; rfl
              · rw [if_neg e2, decide_eq_false e2]; rfl)
        (by
          intro b _
          show M_endsAt_15 (nI cell) (nI c) now (nI b) (nI 4) = _
          unfold M_endsAt_15
          rw [if_pos (by decide)]) rfl (pu_FU (by omega))
      show M_endsAt_4 (nI cell) now (nI a) (nI c) = _
      unfold M_endsAt_4
      rw [pu_Mcells N, pu_bind, if_neg (nI_ge hc (by omega)), show loopN (fun x => M_endsAt_15 (nI cell) (nI c) now x.1 x.2) FU (nI a, 0) = _ from h1.1, pu_bind, h1.2, pu_a1])
    (by
      intro a
      show M_endsAt_4 (nI cell) now (nI a) (nI (w * h)) = _
      unfold M_endsAt_4
      rw [pu_Mcells N, pu_bind, if_pos (Int32.le_refl _)]) (pu_FU (by omega))
  unfold M_endsAt
  rw [show loopN (fun x => M_endsAt_4 (nI cell) now x.1 x.2) FU (0, 0) = _ from hh, pu_bind]
  have e1 : ∀ n, pu_it (fun c a => a + fb_sm (fun d => pu_n01 (pu_eg w h kd cell c d)) 4) n 0 = fb_sm (fun c => fb_sm (fun d => pu_n01 (pu_eg w h kd cell c d)) 4) n := by
    intro n
    induction n with
    | zero => rfl
    | succ n ih => rw [pu_it_s, ih]; rfl
  rw [e1]
  refine congrArg some (congrArg nI ?_)
  have e4 : ∀ f : Nat → Nat, fb_sm f 4 = f 0 + f 1 + f 2 + f 3 := fun f => by show 0 + f 0 + f 1 + f 2 + f 3 = _; omega
  rw [fb_sm_cong (g := fun c => pu_n01 (pu_eg w h kd cell c 0) + pu_n01 (pu_eg w h kd cell c 1) + pu_n01 (pu_eg w h kd cell c 2) + pu_n01 (pu_eg w h kd cell c 3)) (fun c _ => e4 _), fb_sm_add, fb_sm_add, fb_sm_add, pu_eg_sum hcell, pu_eg_sum hcell, pu_eg_sum hcell, pu_eg_sum hcell, e4]
/-- cell -/
theorem pu_cell (Q : pu_Q w h kd thr bt tm rea gr vl so dy cg now) (G : pu_G w h kd) (hv : ∀ i, i < 4 * (w * h) → vl i < 5) (hcg : ∀ c, c < w * h → cg c = 0 ∨ cg c = 1) (q mk cl : Nat → Int32) (met clus v1 v2 : Int32) : ∃ r q2 mk2 cl2 met2 clus2, C_cell (nI w) (nI h) thr kd (w * h) (4 * (w * h)) vl gr so dy cg v1 v2 = some r ∧ M_cell now q mk cl met clus v1 v2 = some (r, q2, mk2, cl2, met2, clus2) := by
  obtain ⟨n4, n80⟩ := pu_G80 G
  unfold C_cell M_cell
  rcases pu_dich v1 (w * h) with ⟨c, hc, rfl⟩ | hn
  · obtain ⟨clu, k, clm, q2, mk2, met2, a1, a2, J, C⟩ := pu_clus (t := thr) Q.1 G hv q mk cl met clus
    rw [pu_LisC1 (by omega) hc, pu_bind, if_neg pu_10, pu_MisC1 Q.1.1 (by omega) hc, pu_bind, if_neg pu_10, pu_now3 Q, pu_bind, a2, pu_bind, pu_bind]
    dsimp only
    rw [pu_ald hc (by omega), pu_bind, pu_LisO (by omega) thr gr hc, pu_bind, pu_ald hc (by omega), pu_bind, pu_ald hc (by omega), pu_bind, pu_ald hc (by omega), pu_bind, a1, pu_bind, pu_ald hc (by omega), pu_bind, pu_LbondsAt G hc, pu_bind]
    rw [pu_nowG Q.1 G hc, pu_bind, pu_MisO Q.1 G hc, pu_bind, pu_nowS Q G hc, pu_bind, pu_nowD Q G hc, pu_bind, pu_nowC Q G hc, pu_bind, pu_ald (by omega) (by decide), pu_bind, J c hc, pu_MendsAt Q.1.1 G hc, pu_bind]
    by_cases e0 : v2 = 0
    · rw [if_pos e0, if_pos e0]; exact ⟨_, _, _, _, _, _, rfl, rfl⟩
    rw [if_neg e0, if_neg e0]
    by_cases e1 : v2 = 1
    · rw [if_pos e1, if_pos e1]
      by_cases z : pu_01 (decide (¬ thr ≤ gr c)) = 0
      · rw [if_pos z, if_pos z]; exact ⟨_, _, _, _, _, _, rfl, rfl⟩
      · rw [if_neg z, if_neg z]; exact ⟨_, _, _, _, _, _, rfl, rfl⟩
    rw [if_neg e1, if_neg e1]
    by_cases e2 : v2 = 2
    · rw [if_pos e2, if_pos e2]; exact ⟨_, _, _, _, _, _, rfl, rfl⟩
    rw [if_neg e2, if_neg e2]
    by_cases e3 : v2 = 3
    · rw [if_pos e3, if_pos e3]; exact ⟨_, _, _, _, _, _, rfl, rfl⟩
    rw [if_neg e3, if_neg e3]
    by_cases e4 : v2 = 4
    · rw [if_pos e4, if_pos e4]
      rcases hcg c hc with z | z
      · rw [if_pos z, z]; exact ⟨_, _, _, _, _, _, rfl, rfl⟩
      · rw [if_neg (by rw [z]; exact pu_10), z]; exact ⟨_, _, _, _, _, _, rfl, rfl⟩
    rw [if_neg e4, if_neg e4]
    by_cases e5 : v2 = 5
    · rw [if_pos e5, if_pos e5]; exact ⟨_, _, _, _, _, _, rfl, rfl⟩
    rw [if_neg e5, if_neg e5]
    by_cases e6 : v2 = 6
    · rw [if_pos e6, if_pos e6]; exact ⟨_, _, _, _, _, _, rfl, rfl⟩
    rw [if_neg e6, if_neg e6]; exact ⟨_, _, _, _, _, _, rfl, rfl⟩
  · rw [pu_LisC0 (by omega) (by omega) hn, pu_bind, if_pos rfl, pu_MisC0 Q.1.1 (by omega) (by omega) hn, pu_bind, if_pos rfl]
    exact ⟨_, _, _, _, _, _, rfl, rfl⟩
/-- count -/
theorem pu_count (Q : pu_Q w h kd thr bt tm rea gr vl so dy cg now) (G : pu_G w h kd) (hv : ∀ i, i < 4 * (w * h) → vl i < 5) (hcg : ∀ c, c < w * h → cg c = 0 ∨ cg c = 1) {kr : Nat} (hr : rea = nI kr) (hr8 : kr < 8) {ne : Nat} {hd tl saved cnt length : Int32} (hsz : J2_size ne hd tl = some saved) (hcn : cnt = length) (q mk cl : Nat → Int32) (met clus v1 : Int32) : ∃ r q2 mk2 cl2 met2 clus2, C_count (nI w) (nI h) thr bt tm rea kd (w * h) (4 * (w * h)) vl gr cg ne hd tl cnt v1 = some r ∧ M_count now q mk cl saved length met clus v1 = some (r, q2, mk2, cl2, met2, clus2) := by
  obtain ⟨n4, n80⟩ := pu_G80 G
  have g5 := G.2.2.2.2
  unfold C_count M_count
  rw [pu_wit]
  rcases pu_dich v1 6 with ⟨m, hm, rfl⟩ | hn
  · rw [pu_btw, show (5 : Int32) = nI 6 - 1 from by decide, if_pos (pu_yes (by decide) hm), pu_bind, if_neg pu_10, pu_ald (by omega) (by decide), pu_bind]
    have hm6 : m = 0 ∨ m = 1 ∨ m = 2 ∨ m = 3 ∨ m = 4 ∨ m = 5 := by omega
    rcases hm6 with rfl | rfl | rfl | rfl | rfl | rfl
    · rw [if_pos nI_0, Q.1.1.1]; exact ⟨_, _, _, _, _, _, rfl, rfl⟩
    · rw [if_neg (by decide), if_pos (by decide), Q.1.1.2.1]; exact ⟨_, _, _, _, _, _, rfl, rfl⟩
    · rw [if_neg (by decide), if_neg (by decide), if_pos (by decide), Q.1.1.2.2]
      unfold ordK
      rw [if_pos (by omega), pu_bind]; exact ⟨_, _, _, _, _, _, rfl, rfl⟩
    · rw [if_neg (by decide), if_neg (by decide), if_neg (by decide), if_pos (by decide), Q.2.1]; exact ⟨_, _, _, _, _, _, rfl, rfl⟩
    · rw [if_neg (by decide), if_neg (by decide), if_neg (by decide), if_neg (by decide), if_pos (by decide), Q.2.2.1]; exact ⟨_, _, _, _, _, _, rfl, rfl⟩
    · rw [if_neg (by decide), if_neg (by decide), if_neg (by decide), if_neg (by decide), if_neg (by decide), if_pos (by decide), Q.2.2.2.1]; exact ⟨_, _, _, _, _, _, rfl, rfl⟩
  · have hne : ∀ j : Nat, j < 6 → ¬ v1 = nI j := fun j hj => hn j hj
    obtain ⟨clu, k, clm, q2, mk2, met2, a1, a2, J, C⟩ := pu_clus (t := thr) Q.1 G hv q mk cl met clus
    obtain ⟨rc, c1, c2⟩ := pu_clogged Q G hcg
    obtain ⟨rp, p1, p2⟩ := pu_pairs Q hr hr8
    rw [pu_btw, show (5 : Int32) = nI 6 - 1 from by decide, if_neg (pu_no (by decide) (by decide) hn), pu_bind, if_pos rfl, pu_now3 Q, pu_bind, a2, pu_bind, pu_bind]
    dsimp only
    rw [if_neg (show ¬ v1 = 0 from hne 0 (by decide)), if_neg (show ¬ v1 = 1 from hne 1 (by decide)), if_neg (show ¬ v1 = 2 from hne 2 (by decide)), if_neg (show ¬ v1 = 3 from hne 3 (by decide)), if_neg (show ¬ v1 = 4 from hne 4 (by decide)), if_neg (show ¬ v1 = nI 6 - 1 from by rw [show nI 6 - 1 = nI 5 from by decide]; exact hne 5 (by decide))]
    unfold J4_length J3_length
    rw [pu_Lbonds G, pu_bind, pu_Lopen n80, pu_bind, a1, pu_bind, pu_countOf G C, pu_bind, c1, pu_bind, p1, pu_bind, hsz, pu_bind, pu_bind, pu_bind]
    rw [pu_Mbonds Q.1.1 G, pu_bind, pu_Mopen Q.1 G, pu_bind, c2, pu_bind, p2, pu_bind, hcn]
    by_cases e6 : v1 = 6
    · rw [if_pos e6, if_pos e6]; exact ⟨_, _, _, _, _, _, rfl, rfl⟩
    rw [if_neg e6, if_neg e6]
    by_cases e7 : v1 = 7
    · rw [if_pos e7, if_pos e7]; exact ⟨_, _, _, _, _, _, rfl, rfl⟩
    rw [if_neg e7, if_neg e7]
    by_cases e8 : v1 = 8
    · rw [if_pos e8, if_pos e8]; exact ⟨_, _, _, _, _, _, rfl, rfl⟩
    rw [if_neg e8, if_neg e8]
    by_cases e9 : v1 = 9
    · rw [if_pos e9, if_pos e9]; exact ⟨_, _, _, _, _, _, rfl, rfl⟩
    rw [if_neg e9, if_neg e9]
    by_cases e10 : v1 = 10
    · rw [if_pos e10, if_pos e10]; exact ⟨_, _, _, _, _, _, rfl, rfl⟩
    rw [if_neg e10, if_neg e10]
    by_cases e11 : v1 = 11
    · rw [if_pos e11, if_pos e11]; exact ⟨_, _, _, _, _, _, rfl, rfl⟩
    rw [if_neg e11, if_neg e11]
    by_cases e12 : v1 = 12
    · rw [if_pos e12, if_pos e12]; exact ⟨_, _, _, _, _, _, rfl, rfl⟩
    rw [if_neg e12, if_neg e12]; exact ⟨_, _, _, _, _, _, rfl, rfl⟩
end CE
