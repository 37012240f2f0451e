/-! PLAIN LAWS, 11: cluster, ledger, bonds at a cell, cell, count -/
set_option maxRecDepth 100000
section C2
variable {w h kd : Nat} {thr bt tm rea : Int32} {gr : Nat → Int32} {vl : Nat → Nat} {so dy cg now : Nat → Int32} {t : Int32}
/-- what a scan of a cluster gathers -/
theorem pu_C57 (G : pu_G w h kd) (v v2 : Int32) (clu : Nat → Int32) (c0 : Nat) (h0 : c0 < w * h) (h1 : clu c0 = v) (h2 : ∀ x, x < c0 → ¬ clu x = v) : loopN (fun x => C_cluster_57 v v2 (nI w) (nI h) (w * h) gr clu x.1 x.2.1 x.2.2.1 x.2.2.2.1 x.2.2.2.2) FU ((-9), 0, 0, 0, 0) = some (nI c0, nI (pu_sz (w * h) clu v), pu_grs (w * h) gr clu v, pu_sds w h (w * h) clu v) := by
  obtain ⟨n4, n80⟩ := pu_G80 G
  have hh := pu_for (st := fun x => C_cluster_57 v v2 (nI w) (nI h) (w * h) gr clu x.1 x.2.1 x.2.2.1 x.2.2.2.1 x.2.2.2.2) (fun i (u : Int32 × Int32 × Int32 × Int32) => (u.1, u.2.1, u.2.2.1, u.2.2.2, nI i)) (fun i u => if clu i = v then ((if u.2.1 = 0 then nI i else u.1), u.2.1 + 1, u.2.2.1 + gr i, u.2.2.2 ||| pu_sd w h i) else u) (fun u => u) (fun i u => u.2.1 = nI (pu_sz i clu v) ∧ u.2.2.1 = pu_grs i gr clu v ∧ u.2.2.2 = pu_sds w h i clu v ∧ (i ≤ c0 → pu_sz i clu v = 0) ∧ (c0 < i → u.1 = nI c0 ∧ 0 < pu_sz i clu v)) (N := w * h) (fu := FU) (a := ((-9 : Int32), (0 : Int32), (0 : Int32), (0 : Int32)))
    (by
      rintro i ⟨u1, u2, u3, u4⟩ hi ⟨J1, J2, J3, J4, J5⟩
      dsimp only at J1 J2 J3 J5
      have hle : pu_sz i clu v ≤ i := fb_ct_le _ i
      have hs : pu_sz (i + 1) clu v = pu_sz i clu v + (if decide (clu i = v) = true then 1 else 0) := rfl
      have hg : pu_grs (i + 1) gr clu v = if clu i = v then pu_grs i gr clu v + gr i else pu_grs i gr clu v := rfl
      have hd : pu_sds w h (i + 1) clu v = if clu i = v then pu_sds w h i clu v ||| pu_sd w h i else pu_sds w h i clu v := rfl
      refine ⟨?_, ?_⟩
      · show C_cluster_57 v v2 (nI w) (nI h) (w * h) gr clu u1 u2 u3 u4 (nI i) = _
        unfold C_cluster_57 C_cluster_57_j84
        rw [if_neg (nI_ge hi (by omega)), pu_ald hi (by omega), pu_bind]
        by_cases e : clu i = v
        · rw [if_pos e, if_pos e]
          simp only [pu_ald hi (show w * h < 2 ^ 31 by omega), pu_bind, pu_Csides G hi, pu_a1]
          by_cases e2 : u2 = 0
          · rw [if_pos e2, if_pos e2]
          · rw [if_neg e2, if_neg e2]
        · rw [if_neg e, if_neg e, pu_a1]
      · rw [hs, hg, hd]
        by_cases e : clu i = v
        · rw [if_pos e, if_pos e, if_pos e, decide_eq_true e, if_pos rfl]
          dsimp only
          have hci : c0 ≤ i := by
            rcases Nat.lt_or_ge i c0 with q | q
            · exact absurd e (h2 i q)
            · exact q
          refine ⟨by rw [J1, pu_a1], by rw [J2], by rw [J3], fun q => by omega, fun q => ⟨?_, by omega⟩⟩
          rw [J1]
          rcases Nat.lt_or_ge c0 i with q | q
          · obtain ⟨a1, a2⟩ := J5 q
            rw [if_neg (nI_ne0 a2 (by omega))]; exact a1
          · have e2 : i = c0 := by omega
            rw [J4 q, if_pos nI_0, e2]
        · rw [if_neg e, if_neg e, if_neg e, decide_eq_false e, if_neg (by decide), Nat.add_zero]
          refine ⟨J1, J2, J3, fun q => J4 (by omega), fun q => J5 ?_⟩
          rcases Nat.lt_or_ge c0 i with z | z
          · exact z
          · have e2 : c0 = i := by omega
            rw [e2] at h1
            exact absurd h1 e)
    (by
      rintro ⟨u1, u2, u3, u4⟩ -
      show C_cluster_57 v v2 (nI w) (nI h) (w * h) gr clu u1 u2 u3 u4 (nI (w * h)) = _
      unfold C_cluster_57
      rw [if_pos (Int32.le_refl _)]) ⟨rfl, rfl, rfl, fun _ => rfl, fun q => absurd q (Nat.not_lt_zero _)⟩ (pu_FU (by omega))
  obtain ⟨b1, J1, J2, J3, J4, J5⟩ := hh
  rw [show loopN (fun x => C_cluster_57 v v2 (nI w) (nI h) (w * h) gr clu x.1 x.2.1 x.2.2.1 x.2.2.2.1 x.2.2.2.2) FU ((-9), 0, 0, 0, 0) = _ from b1]
  generalize pu_it (fun i (u : Int32 × Int32 × Int32 × Int32) => if clu i = v then ((if u.2.1 = 0 then nI i else u.1), u.2.1 + 1, u.2.2.1 + gr i, u.2.2.2 ||| pu_sd w h i) else u) (w * h) ((-9 : Int32), (0 : Int32), (0 : Int32), (0 : Int32)) = u at J1 J2 J3 J5
  obtain ⟨u1, u2, u3, u4⟩ := u
  dsimp only at J1 J2 J3 J5
  rw [J1, J2, J3, (J5 h0).1]
theorem pu_cluster (Q : pu_Q w h kd thr bt tm rea gr vl so dy cg now) (G : pu_G w h kd) (hv : ∀ i, i < 4 * (w * h) → vl i < 5) (q mk cl : Nat → Int32) (met clus v1 v2 : Int32) : ∃ r q2 mk2 cl2 met2 clus2, C_cluster (nI w) (nI h) thr kd (w * h) (4 * (w * h)) vl gr v1 v2 = some r ∧ M_cluster now q mk cl met clus v1 v2 = some (r, q2, mk2, cl2, met2, clus2) := by
  obtain ⟨n4, n80⟩ := pu_G80 G
  unfold C_cluster M_cluster
  by_cases e0 : v1 < 0
  · rw [if_pos e0, if_pos e0]
    exact ⟨_, _, _, _, _, _, rfl, rfl⟩
  · rw [if_neg e0, if_neg e0, pu_wit]
    rcases pu_dich v2 6 with ⟨m, hm, rfl⟩ | hn
    · rw [pu_btw, show (5 : Int32) = nI 6 - 1 from by decide, if_pos (pu_yes (by decide) hm), pu_bind, pu_bind, if_neg pu_10, if_neg pu_10]
      obtain ⟨clu, k, clm, q2, mk2, met2, a1, a2, J, C⟩ := pu_clus (t := thr) Q.1 G hv q mk cl met clus
      rw [a1, pu_bind, pu_countOf G C, pu_bind, pu_now3 Q, pu_bind, a2, pu_bind]
      dsimp only
      by_cases e1 : v1 < nI k
      · rw [if_pos e1, if_pos e1]
        obtain ⟨j, hj, rfl⟩ : ∃ j, j < k ∧ v1 = nI j := by
          obtain ⟨j, a, rfl⟩ := nI_of e0
          exact ⟨j, (nI_ltI a (by have := C.1; omega)).mp e1, rfl⟩
        obtain ⟨c0, b1, b2, b3⟩ := fb_first (p := fun x => clu x = nI j) (C.2.2.2.1 j hj)
        have hf : loopN (fun x => M_cluster_38 (nI j) (nI m) clm x) FU 0 = some (nI c0) := by
          have hh := pu_for (st := fun x => M_cluster_38 (nI j) (nI m) clm x) (fun i (_ : Unit) => nI i) (fun _ u => u) (fun _ => nI c0) (fun _ _ => True) (N := c0) (fu := FU) (a := ())
            (by
              intro i _ hi _
              refine ⟨?_, trivial⟩
              show M_cluster_38 (nI j) (nI m) clm (nI i) = _
              unfold M_cluster_38
              rw [pu_ald (by omega) (by decide), pu_bind, J i (by omega), if_neg (b3 i hi), pu_a1])
            (by
              intro _ _
              show M_cluster_38 (nI j) (nI m) clm (nI c0) = _
              unfold M_cluster_38
              rw [pu_ald (by omega) (by decide), pu_bind, J c0 b1, if_pos b2]) trivial (pu_FU (by omega))
          exact hh.1
        rw [pu_C57 G (nI j) (nI m) clu c0 b1 b2 b3, pu_bind, hf, pu_bind, pu_MsizeOf Q.1.1 G J, pu_bind, pu_MgrainsOf Q.1 G J, pu_bind, pu_MsidesOf Q.1 G J, pu_bind]
        dsimp only
        have hm6 : m = 0 ∨ m = 1 ∨ m = 2 ∨ m = 3 ∨ m = 4 ∨ m = 5 := by omega
        rcases hm6 with rfl | rfl | rfl | rfl | rfl | rfl
        · rw [if_pos nI_0, if_pos nI_0]
          exact ⟨_, _, _, _, _, _, rfl, rfl⟩
        · rw [if_neg (by decide), if_pos (by decide), if_neg (by decide), if_pos (by decide)]
          exact ⟨_, _, _, _, _, _, rfl, rfl⟩
        · rw [if_neg (by decide), if_neg (by decide), if_pos (by decide), if_neg (by decide), if_neg (by decide), if_pos (by decide)]
          exact ⟨_, _, _, _, _, _, rfl, rfl⟩
        · rw [if_neg (by decide), if_neg (by decide), if_neg (by decide), if_pos (by decide), if_neg (by decide), if_neg (by decide), if_neg (by decide), if_pos (by decide)]
          exact ⟨_, _, _, _, _, _, rfl, rfl⟩
        · rw [if_neg (by decide), if_neg (by decide), if_neg (by decide), if_neg (by decide), if_neg (by decide), if_neg (by decide), if_neg (by decide), if_neg (by decide), if_neg (by decide)]
          rw [show C_bondsOf (nI w) (nI h) kd (w * h) (4 * (w * h)) vl clu (nI j) 0 = _ from pu_CbondsOf G hv clu (nI j) false, pu_bind, show M_bondsOf now clm (nI j) (nI 4 - 3) = _ from pu_MbondsOf Q.1 G J (nI j) false, pu_bind]
          exact ⟨_, _, _, _, _, _, rfl, rfl⟩
        · rw [if_neg (by decide), if_neg (by decide), if_neg (by decide), if_neg (by decide), if_pos (by decide), if_neg (by decide), if_neg (by decide), if_neg (by decide), if_neg (by decide)]
          rw [show C_bondsOf (nI w) (nI h) kd (w * h) (4 * (w * h)) vl clu (nI j) 1 = _ from pu_CbondsOf G hv clu (nI j) true, pu_bind, show M_bondsOf now clm (nI j) (nI 5 - 3) = _ from pu_MbondsOf Q.1 G J (nI j) true, pu_bind]
          exact ⟨_, _, _, _, _, _, rfl, rfl⟩
      · rw [if_neg e1, if_neg e1]
        exact ⟨_, _, _, _, _, _, rfl, rfl⟩
    · rw [pu_btw, show (5 : Int32) = nI 6 - 1 from by decide, if_neg (pu_no (by decide) (by decide) hn), pu_bind, pu_bind, if_pos rfl, if_pos rfl]
      exact ⟨_, _, _, _, _, _, rfl, rfl⟩
/-- the open cells are those in clusters -/
theorem pu_CI_open (G : pu_G w h kd) {k : Nat} {clu : Nat → Int32} (C : pu_CI w h kd gr vl t (w * h) k clu) {x : Nat} (hx : x < w * h) : clu x = -9 ↔ t ≤ gr x := by
  obtain ⟨n4, n80⟩ := pu_G80 G
  have eT : pu_T gr t (-9) x = true ↔ ¬ t ≤ gr x := by rw [pu_T9 gr t hx (by omega), decide_eq_true_iff]
  constructor
  · intro e
    refine Classical.byContradiction fun z => ?_
    exact C.2.2.2.2 x hx hx (eT.mpr z) e
  · intro e
    refine Classical.byContradiction fun z => ?_
    exact eT.mp (C.2.2.1 x hx z).1 e
theorem pu_ledger (R : pu_R w h kd gr vl now) (G : pu_G w h kd) (hv : ∀ i, i < 4 * (w * h) → vl i < 5) (q mk cl : Nat → Int32) (met clus v1 v2 : Int32) : ∃ r q2 mk2 cl2 met2 clus2, C_ledger (nI w) (nI h) kd (w * h) (4 * (w * h)) vl gr v1 v2 = some r ∧ M_ledger now q mk cl met clus v1 v2 = some (r, q2, mk2, cl2, met2, clus2) := by
  obtain ⟨n4, n80⟩ := pu_G80 G
  unfold C_ledger M_ledger
  rw [pu_wit, pu_btw, pu_bind, pu_bind]
  split
  · rw [if_neg pu_10, if_neg pu_10, pu_wit]
    rw [pu_btw, pu_bind, pu_bind]
    split
    · rw [if_neg pu_10, if_neg pu_10]
      by_cases e4 : v2 = 4
      · rw [if_pos e4, if_pos e4]
        obtain ⟨q2, mk2, met2, s1⟩ := pu_Mspans R G q mk met v1 (-9)
        rw [pu_Lspans G hv, pu_bind, s1, pu_bind]
        dsimp only
        by_cases p : pu_b (pu_sp w h kd gr vl v1 (-9)) = 0
        · rw [if_pos p, if_pos p]; exact ⟨_, _, _, _, _, _, rfl, rfl⟩
        · rw [if_neg p, if_neg p]; exact ⟨_, _, _, _, _, _, rfl, rfl⟩
      · rw [if_neg e4, if_neg e4]
        obtain ⟨clu, k, clm, q2, mk2, met2, a1, a2, J, C⟩ := pu_clus (t := v1) R G hv q mk cl met clus
        have hk : k ≤ w * h := C.1
        rw [a1, pu_bind, a2, pu_bind]
        unfold lenN
        rw [if_pos n80, pu_bind]
        dsimp only
        have hS := pu_for (st := fun x => C_ledger_74 (nI (w * h)) (w * h) clu x.1 x.2.1 x.2.2) (fun i (u : Int32 × (Nat → Int32)) => (u.1, nI i, u.2)) (fun i u => if clu i = -9 then u else (u.1 + 1, upd u.2 (clu i).toNatClampNeg (u.2 (clu i).toNatClampNeg + 1))) (fun u => u) (fun i u => u.1 = nI (fb_ct (fun x => !decide (v1 ≤ gr x)) i) ∧ ∀ j, j < w * h → u.2 j = nI (pu_sz i clu (nI j))) (N := w * h) (fu := FU) (a := ((0 : Int32), fun _ => (0 : Int32)))
          (by
            rintro i ⟨u1, u2⟩ hi ⟨J1, J2⟩
            dsimp only at J1 J2
            have hs : ∀ j, pu_sz (i + 1) clu (nI j) = pu_sz i clu (nI j) + (if decide (clu i = nI j) = true then 1 else 0) := fun j => rfl
            have hop := pu_CI_open G C hi
            rcases C.2.1 i hi with e | ⟨m, hm, e⟩
            · refine ⟨?_, ?_⟩
              · show C_ledger_74 (nI (w * h)) (w * h) clu u1 (nI i) u2 = _
                unfold C_ledger_74
                rw [if_neg (nI_ge hi (by omega)), pu_ald hi (by omega), pu_bind, if_pos e, if_pos e, pu_a1]
              · rw [if_pos e]
                refine ⟨?_, fun j hj => ?_⟩
                · rw [fb_ct_succ, decide_eq_true (hop.mp e)]; exact J1
                · rw [hs, decide_eq_false (fun z => pu_nI_m9 (n := j) (by omega) (z.symm.trans e)), if_neg (by decide), Nat.add_zero]; exact J2 j hj
            · have e9 : ¬ clu i = -9 := by rw [e]; exact pu_nI_m9 (by omega)
              rw [if_neg e9, e, nI_clamp (by omega)]
              refine ⟨?_, ?_⟩
              · show C_ledger_74 (nI (w * h)) (w * h) clu u1 (nI i) u2 = _
                unfold C_ledger_74
                rw [if_neg (nI_ge hi (by omega)), pu_ald hi (by omega), pu_bind, if_neg e9, e, pu_ald (by omega) (by omega), pu_bind, pu_ast (by omega) (by omega), pu_bind, pu_a1]
              · refine ⟨?_, fun j hj => ?_⟩
                · rw [fb_ct_succ, decide_eq_false (fun z => e9 (hop.mpr z))]
                  show u1 + 1 = nI (_ + 1)
                  rw [J1, pu_a1]
                · rw [hs]
                  show upd u2 m (u2 m + 1) j = _
                  by_cases ej : j = m
                  · subst ej
                    rw [pu_us, J2 j hj, pu_a1, decide_eq_true e, if_pos rfl]
                  · rw [pu_un ej, J2 j hj, decide_eq_false (fun z => ej ((nI_eq (by omega) (by omega)).mp (z.symm.trans e))), if_neg (by decide), Nat.add_zero])
          (by
            rintro ⟨u1, u2⟩ -
            show C_ledger_74 (nI (w * h)) (w * h) clu u1 (nI (w * h)) u2 = _
            unfold C_ledger_74
            rw [if_pos (Int32.le_refl _)]) ⟨rfl, fun j _ => rfl⟩ (pu_FU (by omega))
        obtain ⟨b1, b2, b3⟩ := hS
        generalize pu_it (fun i (u : Int32 × (Nat → Int32)) => if clu i = -9 then u else (u.1 + 1, upd u.2 (clu i).toNatClampNeg (u.2 (clu i).toNatClampNeg + 1))) (w * h) ((0 : Int32), fun _ => (0 : Int32)) = u at b1 b2 b3
        obtain ⟨u1, sz⟩ := u
        dsimp only at b2 b3
        have hC := pu_for0 (st := fun x => C_ledger_131 (nI (w * h)) (w * h) sz x.1 x.2.1 x.2.2) (fun i (u : Int32 × Int32) => (u.1, u.2, nI i)) (fun i u => ((if u.1 < sz i then sz i else u.1), u.2 + sz i * sz i)) (fun u => u) (N := w * h) (fu := FU) (a := ((0 : Int32), (0 : Int32)))
          (by
            rintro i ⟨u1, u2⟩ hi
            show C_ledger_131 (nI (w * h)) (w * h) sz u1 u2 (nI i) = _
            unfold C_ledger_131
            rw [if_neg (nI_ge hi (by omega)), pu_ald hi (by omega), pu_bind, pu_a1])
          (by
            rintro ⟨u1, u2⟩
            show C_ledger_131 (nI (w * h)) (w * h) sz u1 u2 (nI (w * h)) = _
            unfold C_ledger_131
            rw [if_pos (Int32.le_refl _)]) (pu_FU (by omega))
        have hM := pu_for0 (st := fun x => M_ledger_55 v1 v2 now clm (nI k) x.1 x.2.1 x.2.2) (fun i (u : Int32 × Int32) => (u.1, u.2, nI i)) (fun i u => ((if u.1 < sz i then sz i else u.1), u.2 + sz i * sz i)) (fun u => u) (N := k) (fu := FU) (a := ((0 : Int32), (0 : Int32)))
          (by
            rintro i ⟨u1, u2⟩ hi
            show M_ledger_55 v1 v2 now clm (nI k) u1 u2 (nI i) = _
            unfold M_ledger_55
            rw [if_neg (nI_ge hi (by omega)), pu_MsizeOf R.1 G J, pu_bind, ← b3 i (by omega), pu_a1]
            by_cases e : sz i ≤ u1
            · rw [if_pos e]
              dsimp only
              rw [if_neg]
              intro z
              rw [Int32.le_iff_toInt_le] at e
              rw [Int32.lt_iff_toInt_lt] at z
              omega
            · rw [if_neg e]
              dsimp only
              rw [if_pos]
              rw [Int32.le_iff_toInt_le] at e
              rw [Int32.lt_iff_toInt_lt]
              omega)
          (by
            rintro ⟨u1, u2⟩
            show M_ledger_55 v1 v2 now clm (nI k) u1 u2 (nI k) = _
            unfold M_ledger_55
            rw [if_pos (Int32.le_refl _)]) (pu_FU (by omega))
        have hnn : ∃ m, (pu_it (fun i (u : Int32 × Int32) => ((if u.1 < sz i then sz i else u.1), u.2 + sz i * sz i)) k ((0 : Int32), (0 : Int32))).1 = nI m ∧ m ≤ 80 := by
          refine pu_it_inv (fun _ (u : Int32 × Int32) => ∃ m, u.1 = nI m ∧ m ≤ 80) ⟨0, rfl, by decide⟩ (fun i hi u ⟨m, a1, a2⟩ => ?_)
          show ∃ m, (if u.1 < sz i then sz i else u.1) = nI m ∧ m ≤ 80
          by_cases e : u.1 < sz i
          · rw [if_pos e, b3 i (by omega)]
            have : pu_sz (w * h) clu (nI i) ≤ w * h := fb_ct_le _ _
            exact ⟨_, rfl, by omega⟩
          · rw [if_neg e]; exact ⟨m, a1, a2⟩
        have hst : pu_it (fun i (u : Int32 × Int32) => ((if u.1 < sz i then sz i else u.1), u.2 + sz i * sz i)) (w * h) ((0 : Int32), (0 : Int32)) = pu_it (fun i (u : Int32 × Int32) => ((if u.1 < sz i then sz i else u.1), u.2 + sz i * sz i)) k ((0 : Int32), (0 : Int32)) := by
          refine pu_it_stay hk (fun i h1 h2 => ?_)
          obtain ⟨m, a1, a2⟩ := hnn
          have hz : sz i = 0 := by
            rw [b3 i h2]
            have : pu_sz (w * h) clu (nI i) = 0 := by
              unfold pu_sz
              rw [fb_ct_zero]
              intro x hx
              refine decide_eq_false fun e => ?_
              rcases C.2.1 x hx with e2 | ⟨j, hj, e2⟩
              · rw [e] at e2; exact pu_nI_m9 (n := i) (by omega) e2
              · rw [e, nI_eq (by omega) (by omega)] at e2; omega
            rw [this]; rfl
          rw [hz]
          generalize pu_it (fun i (u : Int32 × Int32) => ((if u.1 < sz i then sz i else u.1), u.2 + sz i * sz i)) k ((0 : Int32), (0 : Int32)) = u at a1
          obtain ⟨x1, x2⟩ := u
          dsimp only at a1 ⊢
          rw [a1, if_neg (nI_pos (by omega)), show (0 : Int32) * 0 = 0 from rfl, pu_a00]
        rw [show loopN (fun x => C_ledger_74 (nI (w * h)) (w * h) clu x.1 x.2.1 x.2.2) FU (0, 0, fun _ => 0) = _ from b1, pu_bind, show loopN (fun x => C_ledger_131 (nI (w * h)) (w * h) sz x.1 x.2.1 x.2.2) FU (0, 0, 0) = _ from hC, pu_bind, hst, show loopN (fun x => M_ledger_55 v1 v2 now clm (nI k) x.1 x.2.1 x.2.2) FU (0, 0, 0) = _ from hM, pu_bind, pu_countOf G C, pu_bind, pu_Mopen R G, pu_bind]
        dsimp only
        by_cases e0 : v2 = 0
        · rw [if_pos e0, if_pos e0]
          refine ⟨u1, q2, mk2, clm, met2, nI k, rfl, ?_⟩
          unfold pu_open
          rw [b2, Nat.zero_add]
        · rw [if_neg e0, if_neg e0]
          by_cases e1 : v2 = 1
          · rw [if_pos e1, if_pos e1]; exact ⟨_, _, _, _, _, _, rfl, rfl⟩
          · rw [if_neg e1, if_neg e1]
            by_cases e2 : v2 = 2
            · rw [if_pos e2, if_pos e2]; exact ⟨_, _, _, _, _, _, rfl, rfl⟩
            · rw [if_neg e2, if_neg e2]; exact ⟨_, _, _, _, _, _, rfl, rfl⟩
    · rw [if_pos rfl, if_pos rfl]; exact ⟨_, _, _, _, _, _, rfl, rfl⟩
  · rw [if_pos rfl, if_pos rfl]; exact ⟨_, _, _, _, _, _, rfl, rfl⟩
end C2
