/-! PLAIN LAWS, 9: clusters -/
set_option maxRecDepth 100000
def pu_adJ (w h kd : Nat) (gr : Nat → Int32) (vl : Nat → Nat) (t : Int32) : Nat → Nat → Prop := pu_adj w h kd (pu_T gr t (-9)) (fun c d => pu_VJ (vl (4 * c + d))) (fun x d => pu_VJ (vl (4 * x + d)))
/-- what is joined with a cell -/
def pu_jn (w h kd : Nat) (gr : Nat → Int32) (vl : Nat → Nat) (t : Int32) (a x : Nat) : Prop := pu_rch (fun y => y < w * h ∧ y = a) (pu_adJ w h kd gr vl t) x
section CU
variable {w h kd : Nat} {thr bt tm rea : Int32} {gr : Nat → Int32} {vl : Nat → Nat} {so dy cg now : Nat → Int32} {t : Int32}
theorem pu_adJ_lt {x y : Nat} (hx : x < w * h) (a : pu_adJ w h kd gr vl t x y) : y < w * h ∧ pu_T gr t (-9) y = true := by
  obtain ⟨d, hd⟩ := a
  exact ⟨pu_adjd_lt hx hd, hd.2.2⟩
theorem pu_adJ_sy {x y : Nat} (hx : x < w * h) (hT : pu_T gr t (-9) x = true) (a : pu_adJ w h kd gr vl t x y) : pu_adJ w h kd gr vl t y x := by
  obtain ⟨d, h1, h2, h3⟩ := a
  rcases h2 with ⟨b1, b2⟩ | ⟨b1, b2⟩
  · exact ⟨d, h1, Or.inr ⟨pu_sf1 hx b1, b2⟩, hT⟩
  · exact ⟨d, h1, Or.inl ⟨(pu_sf2 hx b1).1, b2⟩, hT⟩
theorem pu_jn_tr {a b c : Nat} (h1 : pu_jn w h kd gr vl t a b) (h2 : pu_jn w h kd gr vl t b c) : pu_jn w h kd gr vl t a c :=
  h2 _ (fun x hx => by rw [hx.2]; exact h1) (fun x y hx hxy => pu_rch_s hx hxy)
theorem pu_jn_rf {a : Nat} (ha : a < w * h) : pu_jn w h kd gr vl t a a := pu_rch_0 ⟨ha, rfl⟩
theorem pu_jn_sy {a x : Nat} (ha : a < w * h) (hT : pu_T gr t (-9) a = true) (hx : pu_jn w h kd gr vl t a x) : x < w * h ∧ pu_T gr t (-9) x = true ∧ pu_jn w h kd gr vl t x a := by
  refine hx (fun x => x < w * h ∧ pu_T gr t (-9) x = true ∧ pu_jn w h kd gr vl t x a) (fun y hy => ?_) (fun y z hy hyz => ?_)
  · rw [hy.2]; exact ⟨ha, hT, pu_jn_rf ha⟩
  · obtain ⟨y1, y2, y3⟩ := hy
    obtain ⟨z1, z2⟩ := pu_adJ_lt y1 hyz
    exact ⟨z1, z2, pu_jn_tr (pu_rch_s (pu_jn_rf z1) (pu_adJ_sy y1 y2 hyz)) y3⟩
theorem pu_Lmark (G : pu_G w h kd) (hv : ∀ i, i < 4 * (w * h) → vl i < 5) {a k : Nat} (ha : a < w * h) (clu : Nat → Int32) : ∃ clu2, L_mark (nI w) (nI h) kd (w * h) (4 * (w * h)) vl gr clu (nI a) (nI k) t = some clu2 ∧ ∀ x, x < w * h → (pu_jn w h kd gr vl t a x → clu2 x = nI k) ∧ (¬ pu_jn w h kd gr vl t a x → clu2 x = clu x) := by
  obtain ⟨n4, n80⟩ := pu_G80 G
  obtain ⟨mk, h1, h2⟩ := pu_Lflood (T := pu_T gr t (-9)) (VF := pu_VJ) (VB := pu_VJ) (tst := fun x => L_lambda_mark_7 (w * h) gr t x) (tsv := fun x y => L_lambda_mark_8 x) G
    (by
      intro c hc
      show L_lambda_mark_7 (w * h) gr t (nI c) = _
      unfold L_lambda_mark_7
      rw [pu_T9 gr t hc (by omega), pu_ald hc (by omega), pu_bind]
      by_cases k : t ≤ gr c
      · rw [if_pos k, show decide (¬ t ≤ gr c) = false from decide_eq_false (fun z => z k)]; rfl
      · rw [if_neg k, show decide (¬ t ≤ gr c) = true from decide_eq_true k]; rfl) pu_lamJ pu_lamJ hv (mk := upd (fun _ => (0 : Int32)) a 1) (by
      intro c hc
      by_cases e : c = a
      · subst e; exact Or.inr pu_us
      · exact Or.inl (pu_un e))
  have hJ : ∀ c, c < w * h → mk c = pu_b (pu_jn w h kd gr vl t a c) := by
    intro c hc
    rw [h2 c hc]
    refine pu_b_cong ⟨pu_rch_mono (fun x hx => ⟨hx.1, ?_⟩) (fun _ _ z => z), pu_rch_mono (fun x hx => ⟨hx.1, by rw [hx.2]; exact pu_us⟩) (fun _ _ z => z)⟩
    refine Classical.byContradiction fun e => ?_
    have hx2 := hx.2
    rw [pu_un e] at hx2
    exact pu_10 hx2.symm
  have hh := pu_for (st := fun x => L_mark_35 (nI k) (w * h) mk x.1 x.2) (fun i (g : Nat → Int32) => (nI i, g)) (fun i g => upd g i (if mk i = 0 then g i else nI k)) (fun g => g) (fun i g => (∀ x, x < i → (pu_jn w h kd gr vl t a x → g x = nI k) ∧ (¬ pu_jn w h kd gr vl t a x → g x = clu x)) ∧ ∀ x, i ≤ x → g x = clu x) (N := w * h) (fu := FU) (a := clu)
    (by
      rintro i g hi ⟨J1, J2⟩
      refine ⟨?_, fun x hx => ?_, fun x hx => ?_⟩
      · show L_mark_35 (nI k) (w * h) mk (nI i) g = _
        unfold L_mark_35
        rw [if_neg (nI_ge hi (by omega)), pu_ald hi (by omega), pu_bind, pu_ald hi (by omega), pu_bind, pu_ast hi (by omega), pu_bind, pu_ast hi (by omega), pu_bind, pu_a1]
        by_cases e : mk i = 0
        · rw [if_pos e, if_pos e]
        · rw [if_neg e, if_neg e]
      · by_cases e : x = i
        · subst e
          rw [pu_us, hJ x hi]
          refine ⟨fun p => ?_, fun p => ?_⟩
          · rw [pu_b_t p, if_neg pu_10]
          · rw [pu_b_f p, if_pos rfl]; exact J2 x (Nat.le_refl _)
        · rw [pu_un e]; exact J1 x (by omega)
      · rw [pu_un (by omega)]; exact J2 x (by omega))
    (by
      rintro g -
      show L_mark_35 (nI k) (w * h) mk (nI (w * h)) g = _
      unfold L_mark_35
      rw [if_pos (Int32.le_refl _)]) ⟨fun x hx => absurd hx (Nat.not_lt_zero _), fun x _ => rfl⟩ (pu_FU (by omega))
  refine ⟨pu_it (fun i g => upd g i (if mk i = 0 then g i else nI k)) (w * h) clu, ?_, hh.2.1⟩
  unfold L_mark lenN
  rw [if_pos n80, pu_bind, pu_zst1 ha (by omega), pu_bind, h1, pu_bind, show loopN (fun x => L_mark_35 (nI k) (w * h) mk x.1 x.2) FU (0, clu) = _ from hh.1, pu_bind]
/-- the reference writes a cluster's number over its queue -/
theorem pu_M81 {n : Nat} (hn : n ≤ 80) {z : pu_S} (I : pu_I n z) (v1 v2 : Int32) (k : Nat) (cl : Nat → Int32) : ∃ cl2, loopN (fun x => M_laysClusters_81 v1 v2 z.2.2 (nI z.1) (nI k) x.1 x.2) FU (0, cl) = some cl2 ∧ ∀ x, x < n → (z.2.1 x = 1 → cl2 x = nI k) ∧ (¬ z.2.1 x = 1 → cl2 x = cl x) := by
  have hle := pu_I_le I
  have hh := pu_for (st := fun x => M_laysClusters_81 v1 v2 z.2.2 (nI z.1) (nI k) x.1 x.2) (fun i (g : Nat → Int32) => (nI i, g)) (fun i g => upd g (z.2.2 i).toNatClampNeg (nI k)) (fun g => g) (fun i g => ∀ x, x < n → ((∃ j, j < i ∧ z.2.2 j = nI x) → g x = nI k) ∧ ((¬ ∃ j, j < i ∧ z.2.2 j = nI x) → g x = cl x)) (N := z.1) (fu := FU) (a := cl)
    (by
      intro i g hi J
      obtain ⟨c, hc, hq, -⟩ := I.2.2.1 i hi
      rw [hq, nI_clamp (by omega)]
      refine ⟨?_, fun x hx => ?_⟩
      · show M_laysClusters_81 v1 v2 z.2.2 (nI z.1) (nI k) (nI i) g = _
        unfold M_laysClusters_81
        rw [if_neg (nI_ge hi (by omega)), pu_ald (by omega) (by decide), pu_bind, hq, pu_ast (by omega) (by decide), pu_bind, pu_a1]
      · by_cases e : x = c
        · subst e
          rw [pu_us]
          exact ⟨fun _ => rfl, fun b => absurd ⟨i, Nat.lt_succ_self _, hq⟩ b⟩
        · rw [pu_un e]
          refine ⟨fun ⟨j, b1, b2⟩ => (J x hx).1 ⟨j, ?_, b2⟩, fun b => (J x hx).2 (fun ⟨j, b1, b2⟩ => b ⟨j, by omega, b2⟩)⟩
          rcases Nat.lt_or_ge j i with q | q
          · exact q
          · have e2 : j = i := by omega
            subst e2
            rw [hq, nI_eq (by omega) (by omega)] at b2
            exact absurd b2.symm e)
    (by
      intro g _
      show M_laysClusters_81 v1 v2 z.2.2 (nI z.1) (nI k) (nI z.1) g = _
      unfold M_laysClusters_81
      rw [if_pos (Int32.le_refl _)]) (fun x hx => ⟨fun ⟨j, b1, _⟩ => absurd b1 (Nat.not_lt_zero _), fun _ => rfl⟩) (pu_FU (by omega))
  refine ⟨_, hh.1, fun x hx => ?_⟩
  obtain ⟨b1, b2⟩ := hh.2 x hx
  refine ⟨fun e => b1 ?_, fun e => b2 ?_⟩
  · obtain ⟨j, c1, c2⟩ := I.2.2.2 x hx e
    exact ⟨j, c1, c2⟩
  · rintro ⟨j, c1, c2⟩
    obtain ⟨c, hc, hq, hm⟩ := I.2.2.1 j c1
    rw [c2, nI_eq (by omega) (by omega)] at hq
    subst hq
    exact e hm
/-- clusters laid so far -/
def pu_CI (w h kd : Nat) (gr : Nat → Int32) (vl : Nat → Nat) (t : Int32) (c k : Nat) (clu : Nat → Int32) : Prop := k ≤ c ∧ (∀ x, x < w * h → clu x = -9 ∨ ∃ j, j < k ∧ clu x = nI j) ∧ (∀ x, x < w * h → ¬ clu x = -9 → pu_T gr t (-9) x = true ∧ ∀ y, y < w * h → pu_jn w h kd gr vl t x y → clu y = clu x) ∧ (∀ j, j < k → ∃ x, x < w * h ∧ clu x = nI j) ∧ ∀ x, x < c → x < w * h → pu_T gr t (-9) x = true → ¬ clu x = -9
theorem pu_CI_new (hn : w * h ≤ 80) {c k : Nat} {clu clu2 : Nat → Int32} (C : pu_CI w h kd gr vl t c k clu) (hc : c < w * h) (hT : pu_T gr t (-9) c = true) (h9 : clu c = -9) (h2 : ∀ x, x < w * h → (pu_jn w h kd gr vl t c x → clu2 x = nI k) ∧ (¬ pu_jn w h kd gr vl t c x → clu2 x = clu x)) : pu_CI w h kd gr vl t (c + 1) (k + 1) clu2 := by
  obtain ⟨C1, C2, C3, C4, C5⟩ := C
  have k9 : ¬ nI k = -9 := pu_nI_m9 (by omega)
  have fresh : ∀ x, x < w * h → pu_jn w h kd gr vl t c x → clu x = -9 := by
    intro x hx hj
    refine Classical.byContradiction fun e => ?_
    have := (C3 x hx e).2 c hc (pu_jn_sy hc hT hj).2.2
    rw [h9] at this
    exact e this.symm
  refine ⟨by omega, fun x hx => ?_, fun x hx hne => ?_, fun j hj => ?_, fun x hx hxn hTx => ?_⟩
  · by_cases e : pu_jn w h kd gr vl t c x
    · exact Or.inr ⟨k, by omega, (h2 x hx).1 e⟩
    · rw [(h2 x hx).2 e]
      rcases C2 x hx with a | ⟨j, a, b⟩
      · exact Or.inl a
      · exact Or.inr ⟨j, by omega, b⟩
  · by_cases e : pu_jn w h kd gr vl t c x
    · refine ⟨(pu_jn_sy hc hT e).2.1, fun y hy hj => ?_⟩
      rw [(h2 x hx).1 e, (h2 y hy).1 (pu_jn_tr e hj)]
    · rw [(h2 x hx).2 e] at hne
      obtain ⟨a1, a2⟩ := C3 x hx hne
      refine ⟨a1, fun y hy hj => ?_⟩
      have e2 : ¬ pu_jn w h kd gr vl t c y := fun q => e (pu_jn_tr q (pu_jn_sy hx a1 hj).2.2)
      rw [(h2 x hx).2 e, (h2 y hy).2 e2]
      exact a2 y hy hj
  · rcases Nat.lt_or_ge j k with q | q
    · obtain ⟨x, a1, a2⟩ := C4 j q
      refine ⟨x, a1, ?_⟩
      rw [(h2 x a1).2 (fun e => by rw [fresh x a1 e] at a2; exact pu_nI_m9 (n := j) (by omega) a2.symm)]
      exact a2
    · have e : j = k := by omega
      subst e
      exact ⟨c, hc, (h2 c hc).1 (pu_jn_rf hc)⟩
  · by_cases e : pu_jn w h kd gr vl t c x
    · rw [(h2 x hxn).1 e]; exact k9
    · rw [(h2 x hxn).2 e]
      rcases Nat.lt_or_ge x c with q | q
      · exact C5 x q hxn hTx
      · have e2 : x = c := by omega
        subst e2
        exact absurd (pu_jn_rf hxn) e
theorem pu_CI_skip {c k : Nat} {clu : Nat → Int32} (C : pu_CI w h kd gr vl t c k clu) (hx : pu_T gr t (-9) c = true → ¬ clu c = -9) : pu_CI w h kd gr vl t (c + 1) k clu := by
  obtain ⟨C1, C2, C3, C4, C5⟩ := C
  refine ⟨by omega, C2, C3, C4, fun x a1 a2 a3 => ?_⟩
  rcases Nat.lt_or_ge x c with q | q
  · exact C5 x q a2 a3
  · have e2 : x = c := by omega
    subst e2
    exact hx a3
theorem pu_clus (R : pu_R w h kd gr vl now) (G : pu_G w h kd) (hv : ∀ i, i < 4 * (w * h) → vl i < 5) (q mk cl : Nat → Int32) (met clus : Int32) : ∃ clu k clm q2 mk2 met2, L_clusters (nI w) (nI h) kd (w * h) (4 * (w * h)) vl gr t = some clu ∧ M_laysClusters now q mk cl met clus t = some (q2, mk2, clm, met2, nI k) ∧ (∀ x, x < w * h → clm x = clu x) ∧ pu_CI w h kd gr vl t (w * h) k clu := by
  obtain ⟨n4, n80⟩ := pu_G80 G
  have hL := pu_for (st := fun x => L_clusters_9 (w * h) x.1 x.2) (fun i (g : Nat → Int32) => (nI i, g)) (fun i g => upd g i (-9)) (fun g => g) (fun i g => ∀ x, x < i → g x = -9) (N := w * h) (fu := FU) (a := fun _ => (0 : Int32))
    (by
      intro i g hi J
      refine ⟨?_, fun x hx => ?_⟩
      · show L_clusters_9 (w * h) (nI i) g = _
        unfold L_clusters_9
        rw [if_neg (nI_ge hi (by omega)), pu_ast hi (by omega), pu_bind, pu_a1]
      · by_cases e : x = i
        · subst e; exact pu_us
        · rw [pu_un e]; exact J x (by omega))
    (by
      intro g _
      show L_clusters_9 (w * h) (nI (w * h)) g = _
      unfold L_clusters_9
      rw [if_pos (Int32.le_refl _)]) (fun x hx => absurd hx (Nat.not_lt_zero _)) (pu_FU (by omega))
  have hM := pu_for (st := fun x => M_laysClusters_7 t now x.1 x.2) (fun i (g : Nat → Int32) => (nI i, g)) (fun i g => upd g i (-9)) (fun g => g) (fun i g => ∀ x, x < i → g x = -9) (N := w * h) (fu := FU) (a := cl)
    (by
      intro i g hi J
      refine ⟨?_, fun x hx => ?_⟩
      · show M_laysClusters_7 t now (nI i) g = _
        unfold M_laysClusters_7
        rw [pu_Mcells R.1, pu_bind, if_neg (nI_ge hi (by omega)), pu_ast (by omega) (by decide), pu_bind, pu_a1]
      · by_cases e : x = i
        · subst e; exact pu_us
        · rw [pu_un e]; exact J x (by omega))
    (by
      intro g _
      show M_laysClusters_7 t now (nI (w * h)) g = _
      unfold M_laysClusters_7
      rw [pu_Mcells R.1, pu_bind, if_pos (Int32.le_refl _)]) (fun x hx => absurd hx (Nat.not_lt_zero _)) (pu_FU (by omega))
  obtain ⟨hL1, hL2⟩ := hL
  obtain ⟨hM1, hM2⟩ := hM
  generalize pu_it (fun i (g : Nat → Int32) => upd g i (-9)) (w * h) (fun _ => (0 : Int32)) = clu0 at hL1 hL2
  generalize pu_it (fun i (g : Nat → Int32) => upd g i (-9)) (w * h) cl = clm0 at hM1 hM2
  obtain ⟨o, u, b1, b2, k, clm, q2, mk2, met2, rfl, b4, b5⟩ := pu_wh2 (st := fun x => L_clusters_33 t (nI w) (nI h) kd (w * h) (4 * (w * h)) vl gr x.1 x.2.1 x.2.2) (su := fun x => M_laysClusters_31 t now x.1 x.2.1 x.2.2.1 x.2.2.2.1 x.2.2.2.2.1 x.2.2.2.2.2) (fun x y => ∃ c k clu clm q mk met, c ≤ w * h ∧ x = (nI k, nI c, clu) ∧ y = (nI c, q, mk, clm, met, nI k) ∧ (∀ x, x < w * h → clm x = clu x) ∧ pu_CI w h kd gr vl t c k clu) (fun (o : Nat → Int32) u => ∃ k clm q mk met, u = (q, mk, clm, met, nI k) ∧ (∀ x, x < w * h → clm x = o x) ∧ pu_CI w h kd gr vl t (w * h) k o) (fun x => w * h - x.2.1.toNatClampNeg)
    (by
      rintro _ _ ⟨c, k, clu, clm, q, mk, met, hc, rfl, rfl, J, C⟩
      rcases Nat.lt_or_ge c (w * h) with e | e
      · refine Or.inl ?_
        have hms : w * h - (nI (c + 1)).toNatClampNeg < w * h - (nI c).toNatClampNeg := by rw [nI_clamp (by omega), nI_clamp (by omega)]; omega
        have eT : pu_T gr t (-9) c = true ↔ ¬ t ≤ gr c := by rw [pu_T9 gr t e (by omega), decide_eq_true_iff]
        by_cases e1 : t ≤ gr c
        · refine ⟨(nI k, nI (c + 1), clu), (nI (c + 1), q, mk, clm, met, nI k), ?_, ?_, ⟨c + 1, k, clu, clm, q, mk, met, e, rfl, rfl, J, pu_CI_skip C (fun a => absurd e1 (eT.mp a))⟩, hms⟩
          · show L_clusters_33 t (nI w) (nI h) kd (w * h) (4 * (w * h)) vl gr (nI k) (nI c) clu = _
            unfold L_clusters_33
            rw [if_neg (nI_ge e (by omega)), pu_ald e (by omega), pu_bind, if_pos e1, pu_a1]
          · show M_laysClusters_31 t now (nI c) q mk clm met (nI k) = _
            unfold M_laysClusters_31
            rw [pu_Mcells R.1, pu_bind, if_neg (nI_ge e (by omega)), pu_MisO R G e, pu_bind, show decide (¬ t ≤ gr c) = false from decide_eq_false (fun z => z e1), pu_01f, if_pos rfl, pu_a1]
        · by_cases e2 : clu c = -9
          · obtain ⟨clu2, a1, a2⟩ := pu_Lmark (t := t) (gr := gr) (k := k) G hv e clu
            obtain ⟨mk0, f1, f2⟩ := pu_Mforgets mk met
            have I0 : pu_I (w * h) (0, mk0, q) := pu_I_0 (fun c hc => f2 c (by omega))
            have h3 := pu_Mmeets R G I0 e t (-9)
            have I1 := pu_meet_I (ok := pu_T gr t (-9) c) I0 e
            have hS : ∀ x, x < w * h → ((pu_meet (pu_T gr t (-9) c) c (0, mk0, q)).2.1 x = 1 ↔ x = c) := by
              intro x hx
              constructor
              · intro a
                rcases pu_meet_new a with z | ⟨z1, z2⟩
                · have z : mk0 x = 1 := z
                  rw [f2 x (by omega)] at z
                  exact absurd z.symm pu_10
                · exact z1
              · rintro rfl
                exact pu_meet_in I0 hx (eT.mpr e1)
            generalize pu_meet (pu_T gr t (-9) c) c (0, mk0, q) = s1 at h3 I1 hS
            obtain ⟨z, h4, I2, h5⟩ := pu_Mrun R G (j := 1) (VF := pu_VJ) (VB := pu_VJ) (Or.inr ⟨pu_10, rfl, rfl⟩) I1 t (-9) _ hS
            obtain ⟨cl2, h6, h7⟩ := pu_M81 n80 I2 t (nI c) k clm
            refine ⟨(nI (k + 1), nI (c + 1), clu2), (nI (c + 1), z.2.2, z.2.1, cl2, nI z.1, nI (k + 1)), ?_, ?_, ⟨c + 1, k + 1, clu2, cl2, z.2.2, z.2.1, nI z.1, e, rfl, rfl, fun x hx => ?_, pu_CI_new n80 C e (eT.mpr e1) e2 a2⟩, hms⟩
            · show L_clusters_33 t (nI w) (nI h) kd (w * h) (4 * (w * h)) vl gr (nI k) (nI c) clu = _
              unfold L_clusters_33
              rw [if_neg (nI_ge e (by omega)), pu_ald e (by omega), pu_bind, if_neg e1, pu_ald e (by omega), pu_bind, if_pos e2, a1, pu_bind, pu_a1, pu_a1]
            · show M_laysClusters_31 t now (nI c) q mk clm met (nI k) = _
              unfold M_laysClusters_31
              rw [pu_Mcells R.1, pu_bind, if_neg (nI_ge e (by omega)), pu_MisO R G e, pu_bind, show decide (¬ t ≤ gr c) = true from decide_eq_true e1, pu_01t, if_neg pu_10, pu_ald (by omega) (by decide), pu_bind, J c e, if_pos e2, f1, pu_bind, show M_meets now q mk0 0 (nI c) t (-9) = _ from h3, pu_bind, h4, pu_bind]
              dsimp only
              rw [h6, pu_bind, pu_a1, pu_a1]
            · have hz : z.2.1 x = 1 ↔ pu_jn w h kd gr vl t c x := h5 x hx
              by_cases p : pu_jn w h kd gr vl t c x
              · rw [(h7 x hx).1 (hz.mpr p), (a2 x hx).1 p]
              · rw [(h7 x hx).2 (fun y => p (hz.mp y)), (a2 x hx).2 p]; exact J x hx
          · refine ⟨(nI k, nI (c + 1), clu), (nI (c + 1), q, mk, clm, met, nI k), ?_, ?_, ⟨c + 1, k, clu, clm, q, mk, met, e, rfl, rfl, J, pu_CI_skip C (fun _ => e2)⟩, hms⟩
            · show L_clusters_33 t (nI w) (nI h) kd (w * h) (4 * (w * h)) vl gr (nI k) (nI c) clu = _
              unfold L_clusters_33
              rw [if_neg (nI_ge e (by omega)), pu_ald e (by omega), pu_bind, if_neg e1, pu_ald e (by omega), pu_bind, if_neg e2, pu_a1]
            · show M_laysClusters_31 t now (nI c) q mk clm met (nI k) = _
              unfold M_laysClusters_31
              rw [pu_Mcells R.1, pu_bind, if_neg (nI_ge e (by omega)), pu_MisO R G e, pu_bind, show decide (¬ t ≤ gr c) = true from decide_eq_true e1, pu_01t, if_neg pu_10, pu_ald (by omega) (by decide), pu_bind, J c e, if_neg e2, pu_a1]
      · refine Or.inr ⟨clu, (q, mk, clm, met, nI k), ?_, ?_, k, clm, q, mk, met, rfl, J, ?_⟩
        · show L_clusters_33 t (nI w) (nI h) kd (w * h) (4 * (w * h)) vl gr (nI k) (nI c) clu = _
          unfold L_clusters_33
          rw [if_pos (nI_le e (by omega))]
        · show M_laysClusters_31 t now (nI c) q mk clm met (nI k) = _
          unfold M_laysClusters_31
          rw [pu_Mcells R.1, pu_bind, if_pos (nI_le e (by omega))]
        · have e3 : c = w * h := by omega
          rw [e3] at C
          exact C) 81 FU (0, 0, clu0) (0, q, mk, clm0, met, 0) (by show w * h - (nI 0).toNatClampNeg < 81; omega) (Nat.lt_of_le_of_lt (Nat.sub_le _ _) (pu_FU (by omega))) ⟨0, 0, clu0, clm0, q, mk, met, Nat.zero_le _, rfl, rfl, fun x hx => by rw [hL2 x hx, hM2 x hx], Nat.le_refl _, fun x hx => Or.inl (hL2 x hx), fun x hx a => absurd (hL2 x hx) a, fun j hj => absurd hj (Nat.not_lt_zero _), fun x hx => absurd hx (Nat.not_lt_zero _)⟩
  refine ⟨o, k, clm, q2, mk2, met2, ?_, ?_, b4, b5⟩
  · unfold L_clusters lenN
    rw [if_pos n80, pu_bind, show loopN (fun x => L_clusters_9 (w * h) x.1 x.2) FU (0, fun _ => 0) = _ from hL1, pu_bind, b1, pu_bind]
  · unfold M_laysClusters
    rw [show loopN (fun x => M_laysClusters_7 t now x.1 x.2) FU (0, cl) = _ from hM1, pu_bind, b2, pu_bind]
end CU
