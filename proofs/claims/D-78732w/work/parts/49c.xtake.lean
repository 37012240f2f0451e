set_option maxRecDepth 100000
theorem fresh_alike {s U : State} {c : ClassId} {k : Class} {ce : Cell} (hal : s.vm.Alike U.vm) (hk : s.vm.classes[c]? = some k) (hc : ce = Jvm.freshCell c k) : ∃ k2 : Class, U.vm.classes[c]? = some k2 ∧ ce = Jvm.freshCell c k2 := by
  obtain ⟨k2, h1, h2⟩ := hal.2.2 c k hk
  have e : k2.instanceTypes = k.instanceTypes := by
    have e0 := congrArg (fun z : Class => z.instanceTypes) h2
    exact e0
  refine ⟨k2, h1, ?_⟩
  rw [hc]
  show ({ cls := c, slots := k.instanceTypes.map defaultValue, vm := .none } : Cell) = { cls := c, slots := k2.instanceTypes.map defaultValue, vm := .none }
  rw [e]
section TKX
variable {p : Program} {l : Launch} {e : Env} {s : State} {m : MethodId} {args : Array Value} {below : List Frame} {meth : Method} {c : Code} {D : va_G} {A : Nat → Prop} {Q : State → Prop}
/-- the constructor and the throw, behind new, dup and the position -/
theorem take_thr (X : CX p s m args meth c D A cX5_take 2 "DyeLattice$Parser") (hNT : NT c) (hst : l.stackTraces = false) (hAm : AMB D A s) {ws base : va_W} {wi : Nat} {H H1 : Heap} {locs : List Loc} {ls : Array Slot} {kC : Class} {pos : Int32} {lv : VW} (hwi : ws.length = wi) (hbase : [0, 1, 2].map (fun i => ws[i]?) = base.map some)
    (hP : va_P D CL (ws ++ x0W H.size) H1) (hD : va_D A (ws ++ x0W H.size)) (hS : va_S A s.heap H1 locs) (hl : lv_has ls 2 lv) (hkC : s.vm.classes[D.1 7]? = some kC) (hq : H1[H.size]? = some (blank (D.1 7) kC)) (hC : [wi].map (fun i => (ws ++ x0W H.size)[i]?) = (x0W H.size).map some) (hn : va_nd (List.range wi) = true) (hdis : ∀ i ∈ List.range wi, i ∉ [wi]) (hnC : va_nd [wi] = true) (hlt : 2 < wi) (hR : (List.range wi).map (fun i => (ws ++ x0W H.size)[i]?) = ws.map some) :
    W p l e rmX5_take s m args below meth c H1 locs 1 7 (TQ below D base pos A args s rmX5_take.cells rmX5_take.slots) (F0 m 15 ls (.int pos :: .ref H.size :: [.ref H.size])) := by
  have hPc := pc_sub [wi] hC hP
  have hDc := pc_subD [wi] hnC hC hD
  have hFc := va_free (wc := x0W H.size) hD hS X.hA [wi] hC
  have hXc : ∀ U : State, U.heap = H1 → s.WarmedH U.vm → xFr D H.size (va_A (x0W H.size) H1.size) U := by
    intro U hU hW
    refine ⟨(pass_amb hAm).2 _ H1 locs U hFc hS hU hW, ?_⟩
    obtain ⟨k2, h1, h2⟩ := fresh_alike hW.alike hkC (ce := blank (D.1 7) kC) rfl
    exact ⟨k2, h1, by rw [hU, hq, h2]⟩
  have hbl : FrameBlind (Pre D H1.size (x0W H.size) [.ref H.size, .int pos] (xFr D H.size)) := pre_blind (fun A a U g mk h => ⟨(pass_amb hAm).1 A a U g mk h.1, h.2⟩)
  refine va_callv (va_runI (As := [.int pos]) (rest := [.ref H.size]) ⟨X.hx, X.hb, X.hml, X.hown, X.hts⟩ (w_X10_init (l := l) (D := D) hst H.size pos H1.size) (cwI 1 X.hts (lw_meth q850) rfl rfl rfl (X.hts _ q110) (X.hts _ q848) (X.hts _ q849) rfl hdX10_init ⟨Nat.le_of_ble_eq_true rfl, Nat.le_of_ble_eq_true rfl⟩) ⟨hbl, fun U hU hW => ⟨rfl, by rw [hU], by rw [hU]; exact hPc, va_K.moved hW.alike X.hK, hDc, hXc U hU hW⟩⟩ rfl rfl hl.1 rfl (lv_room (Nat.le_of_ble_eq_true rfl)) dX5_take_15 ⟨Nat.le_of_ble_eq_true rfl, Nat.le_of_ble_eq_true rfl⟩) hS (fun q _ h => hFc q h) hFc (fun u t H2 locs2 ht hvm hpo hB hz1 hk1 hS2 => ?_)
  obtain ⟨hP1, hD1⟩ := hB
  rw [ht] at hP1
  obtain ⟨hP2, hD2⟩ := va_join hP hD [wi] (List.range wi) hC hR hn hdis hk1 hFc hP1 hD1
  obtain ⟨v0, v1, v2, v3, v4, v5, rfl⟩ := hpo
  refine vx_athrow X.hx X.hb dX5_take_18 ?_
  obtain ⟨qc, hc1, ce, g1, g2, g3, -⟩ := hP1 0 _ rfl
  have hkn := X.hK.1 7 _ rfl
  cases Option.some.inj hc1
  have hsub : ([0, 1, 2, wi]).map (fun i => (ws ++ ([] ++ ([(H.size, .inr (7, [v0, v1, v2, v3, v4, v5, .int pos]))] : va_W)))[i]?) = (base ++ ([(H.size, .inr (7, [v0, v1, v2, v3, v4, v5, .int pos]))] : va_W)).map some := by
    rw [show [0, 1, 2, wi] = [0, 1, 2] ++ [wi] from rfl, List.map_append, List.map_append, ← hbase]
    congr 1
    · apply List.map_congr_left
      intro i hi
      have hi2 : i < ws.length := by
        simp only [List.mem_cons, List.not_mem_nil, or_false] at hi
        omega
      exact List.getElem?_append_left hi2
    · show [(ws ++ _)[wi]?] = _
      rw [← hwi, List.getElem?_append_right (Nat.le_refl _), Nat.sub_self]
      rfl
  have hnd : va_nd [0, 1, 2, wi] = true := nd_of (List.nodup_cons.mpr ⟨by simp; omega, List.nodup_cons.mpr ⟨by simp; omega, List.nodup_cons.mpr ⟨by simp; omega, by simp⟩⟩⟩)
  exact vx_out (fun x hx => (hNT x hx).elim) X.hlk g1 g3 (by rw [g2]; exact hkn.2.1) (fun t2 ht2 hal => ⟨rfl, ⟨_, ⟨v0, v1, v2, v3, v4, v5, rfl⟩, by rw [ht2]; exact pc_sub _ hsub hP2, hD2.sub _ hnd hsub⟩, hS2.F ht2⟩) hS2.2.2 (Nat.le_of_ble_eq_true rfl) (Nat.le_of_ble_eq_true rfl)
end TKX
section XTK
variable {l : Launch} {D : va_G} {a0 b0 hq tx av nb pq io : Nat} {byt : Nat → Int32} {ml cnt pp : Int32} {tkq : TQ3} {tkt : Tok}
theorem x_X5_take (hst : l.stackTraces = false) (v1 : Int32) (r : Int32) (hF : P_take_x tkt v1 = some r) : CTt l yX5_take cX5_take 2 (Option.none : Option Jvm.ClassFile.FieldType) rmX5_take D (([(a0, .inr (0, [.ref b0, .ref hq, .ref tx])), (tx, .inr (9, [.ref av, .int 0, .int ml, .int cnt])), (av, .inl (D.1 102, nb, .inl byt)), (pq, .inr (3, [.ref io, .int pp, .ref tkq.1, .ref a0]))]) ++ TKW D tkq tkt) [.ref pq, .int v1] (AMB D) [(a0, .inr (0, [.ref b0, .ref hq, .ref tx])), (tx, .inr (9, [.ref av, .int 0, .int ml, .int cnt])), (av, .inl (D.1 102, nb, .inl byt))] r := by
  refine m_t (by decide) (Nat.le_of_ble_eq_true rfl) ?_
  intro p e s m args below meth c A B hNT
  obtain ⟨X, hr, hAm, -, hnm, hnmd⟩ := B
  replace X : CX p s m args meth c D A cX5_take 2 "DyeLattice$Parser" := X
  refine v_lv (lv' := [(0, .ref pq), (1, .int v1)]) [0, 1] rfl ?_
  unfold P_take_x at hF
  refine v_iload_n 1 X 1 dX5_take_0 rfl rfl rfl ?_
  refine v_if_ne 4 19 X dX5_take_1 rfl (by decide) (fun h1 => ?_) (fun h1 => ?_)
  · replace hF := ifn h1 hF
    cases hF
  · replace hF := ifp h1 hF
    obtain rfl := Option.some.inj hF
    rcases tkt with x | x | x
    · intro H locs ls hP hD hS hl
      have hKn := X.hK.1 7 _ rfl
      refine W.newcK X.hx X.hb X.hown (X.hts _ q811) (X.hts _ q812) (X.hts _ q110) rfl dX5_take_4 (Nat.le_of_ble_eq_true rfl) (Nat.le_of_ble_eq_true rfl) hKn.2.1 rfl (fun H1 kC hkC e1 z1 o1 => ?_)
      have hk1 : ∀ (k : Nat) (y : Nat × va_E), (([(a0, .inr (0, [.ref b0, .ref hq, .ref tx])), (tx, .inr (9, [.ref av, .int 0, .int ml, .int cnt])), (av, .inl (D.1 102, nb, .inl byt)), (pq, .inr (3, [.ref io, .int pp, .ref tkq.1, .ref a0]))]) ++ TKW D tkq (.inl x))[k]? = some y → H1[y.1]? = H[y.1]? := fun k y hy => o1 y.1 ((hP k y hy).lt)
      have hP1 : va_P D CL ((([(a0, .inr (0, [.ref b0, .ref hq, .ref tx])), (tx, .inr (9, [.ref av, .int 0, .int ml, .int cnt])), (av, .inl (D.1 102, nb, .inl byt)), (pq, .inr (3, [.ref io, .int pp, .ref tkq.1, .ref a0]))]) ++ TKW D tkq (.inl x)) ++ x0W H.size) H1 := by
        refine (hP.kept hk1).app (fun k y hy => ?_)
        have hz : k < 1 := (List.getElem?_eq_some_iff.mp hy).1
        rw [show k = 0 by omega] at hy
        cases hy
        exact ⟨_, rfl, (u_born _ X.hts in_X10 hKn hkC e1 tyX10_ok).to (by decide)⟩
      have hD1 : va_D A ((([(a0, .inr (0, [.ref b0, .ref hq, .ref tx])), (tx, .inr (9, [.ref av, .int 0, .int ml, .int cnt])), (av, .inl (D.1 102, nb, .inl byt)), (pq, .inr (3, [.ref io, .int pp, .ref tkq.1, .ref a0]))]) ++ TKW D tkq (.inl x)) ++ x0W H.size) := hD.push hP rfl (X.hA _ hS.1)
      have hS1 : va_S A s.heap H1 locs := ⟨Nat.le_trans hS.1 (by omega), fun y h1 h2 => (o1 y (Nat.lt_of_lt_of_le h1 hS.1)).trans (hS.2.1 y h1 h2), hS.2.2⟩
      refine lv_dup X.hx X.hb dX5_take_7 rfl ?_
      refine lv_aload_n X.hx X.hb dX5_take_8 rfl (lv_at hl 0 rfl) ?_
      refine va_get X.hx X.hb X.hts in_X5 X.hown X.hK hP1 3 rfl (ci := 3) rfl 2 (by decide) (X.hts _ q648) (fun _ z => z) rfl dX5_take_9 ?_
      refine va_getN X.hx X.hb X.hts in_X7 X.hown X.hK hP1 4 rfl (ci := 4) rfl 0 (by decide) (hAm.use q639 rfl rfl) (fun _ z => z) rfl dX5_take_12 ?_
      exact take_thr X hNT hst hAm (ws := (([(a0, .inr (0, [.ref b0, .ref hq, .ref tx])), (tx, .inr (9, [.ref av, .int 0, .int ml, .int cnt])), (av, .inl (D.1 102, nb, .inl byt)), (pq, .inr (3, [.ref io, .int pp, .ref tkq.1, .ref a0]))]) ++ TKW D tkq (.inl x))) (wi := 5) rfl rfl hP1 hD1 hS1 hl hkC e1 rfl (by decide) (by decide) (by decide) (by decide) rfl
    · intro H locs ls hP hD hS hl
      have hKn := X.hK.1 7 _ rfl
      refine W.newcK X.hx X.hb X.hown (X.hts _ q811) (X.hts _ q812) (X.hts _ q110) rfl dX5_take_4 (Nat.le_of_ble_eq_true rfl) (Nat.le_of_ble_eq_true rfl) hKn.2.1 rfl (fun H1 kC hkC e1 z1 o1 => ?_)
      have hk1 : ∀ (k : Nat) (y : Nat × va_E), (([(a0, .inr (0, [.ref b0, .ref hq, .ref tx])), (tx, .inr (9, [.ref av, .int 0, .int ml, .int cnt])), (av, .inl (D.1 102, nb, .inl byt)), (pq, .inr (3, [.ref io, .int pp, .ref tkq.1, .ref a0]))]) ++ TKW D tkq (.inr (.inl x)))[k]? = some y → H1[y.1]? = H[y.1]? := fun k y hy => o1 y.1 ((hP k y hy).lt)
      have hP1 : va_P D CL ((([(a0, .inr (0, [.ref b0, .ref hq, .ref tx])), (tx, .inr (9, [.ref av, .int 0, .int ml, .int cnt])), (av, .inl (D.1 102, nb, .inl byt)), (pq, .inr (3, [.ref io, .int pp, .ref tkq.1, .ref a0]))]) ++ TKW D tkq (.inr (.inl x))) ++ x0W H.size) H1 := by
        refine (hP.kept hk1).app (fun k y hy => ?_)
        have hz : k < 1 := (List.getElem?_eq_some_iff.mp hy).1
        rw [show k = 0 by omega] at hy
        cases hy
        exact ⟨_, rfl, (u_born _ X.hts in_X10 hKn hkC e1 tyX10_ok).to (by decide)⟩
      have hD1 : va_D A ((([(a0, .inr (0, [.ref b0, .ref hq, .ref tx])), (tx, .inr (9, [.ref av, .int 0, .int ml, .int cnt])), (av, .inl (D.1 102, nb, .inl byt)), (pq, .inr (3, [.ref io, .int pp, .ref tkq.1, .ref a0]))]) ++ TKW D tkq (.inr (.inl x))) ++ x0W H.size) := hD.push hP rfl (X.hA _ hS.1)
      have hS1 : va_S A s.heap H1 locs := ⟨Nat.le_trans hS.1 (by omega), fun y h1 h2 => (o1 y (Nat.lt_of_lt_of_le h1 hS.1)).trans (hS.2.1 y h1 h2), hS.2.2⟩
      refine lv_dup X.hx X.hb dX5_take_7 rfl ?_
      refine lv_aload_n X.hx X.hb dX5_take_8 rfl (lv_at hl 0 rfl) ?_
      refine va_get X.hx X.hb X.hts in_X5 X.hown X.hK hP1 3 rfl (ci := 3) rfl 2 (by decide) (X.hts _ q648) (fun _ z => z) rfl dX5_take_9 ?_
      refine va_getN X.hx X.hb X.hts in_X9 X.hown X.hK hP1 4 rfl (ci := 6) rfl 0 (by decide) (hAm.use q639 rfl rfl) (fun _ z => z) rfl dX5_take_12 ?_
      exact take_thr X hNT hst hAm (ws := (([(a0, .inr (0, [.ref b0, .ref hq, .ref tx])), (tx, .inr (9, [.ref av, .int 0, .int ml, .int cnt])), (av, .inl (D.1 102, nb, .inl byt)), (pq, .inr (3, [.ref io, .int pp, .ref tkq.1, .ref a0]))]) ++ TKW D tkq (.inr (.inl x)))) (wi := 5) rfl rfl hP1 hD1 hS1 hl hkC e1 rfl (by decide) (by decide) (by decide) (by decide) rfl
    · intro H locs ls hP hD hS hl
      have hKn := X.hK.1 7 _ rfl
      refine W.newcK X.hx X.hb X.hown (X.hts _ q811) (X.hts _ q812) (X.hts _ q110) rfl dX5_take_4 (Nat.le_of_ble_eq_true rfl) (Nat.le_of_ble_eq_true rfl) hKn.2.1 rfl (fun H1 kC hkC e1 z1 o1 => ?_)
      have hk1 : ∀ (k : Nat) (y : Nat × va_E), (([(a0, .inr (0, [.ref b0, .ref hq, .ref tx])), (tx, .inr (9, [.ref av, .int 0, .int ml, .int cnt])), (av, .inl (D.1 102, nb, .inl byt)), (pq, .inr (3, [.ref io, .int pp, .ref tkq.1, .ref a0]))]) ++ TKW D tkq (.inr (.inr x)))[k]? = some y → H1[y.1]? = H[y.1]? := fun k y hy => o1 y.1 ((hP k y hy).lt)
      have hP1 : va_P D CL ((([(a0, .inr (0, [.ref b0, .ref hq, .ref tx])), (tx, .inr (9, [.ref av, .int 0, .int ml, .int cnt])), (av, .inl (D.1 102, nb, .inl byt)), (pq, .inr (3, [.ref io, .int pp, .ref tkq.1, .ref a0]))]) ++ TKW D tkq (.inr (.inr x))) ++ x0W H.size) H1 := by
        refine (hP.kept hk1).app (fun k y hy => ?_)
        have hz : k < 1 := (List.getElem?_eq_some_iff.mp hy).1
        rw [show k = 0 by omega] at hy
        cases hy
        exact ⟨_, rfl, (u_born _ X.hts in_X10 hKn hkC e1 tyX10_ok).to (by decide)⟩
      have hD1 : va_D A ((([(a0, .inr (0, [.ref b0, .ref hq, .ref tx])), (tx, .inr (9, [.ref av, .int 0, .int ml, .int cnt])), (av, .inl (D.1 102, nb, .inl byt)), (pq, .inr (3, [.ref io, .int pp, .ref tkq.1, .ref a0]))]) ++ TKW D tkq (.inr (.inr x))) ++ x0W H.size) := hD.push hP rfl (X.hA _ hS.1)
      have hS1 : va_S A s.heap H1 locs := ⟨Nat.le_trans hS.1 (by omega), fun y h1 h2 => (o1 y (Nat.lt_of_lt_of_le h1 hS.1)).trans (hS.2.1 y h1 h2), hS.2.2⟩
      refine lv_dup X.hx X.hb dX5_take_7 rfl ?_
      refine lv_aload_n X.hx X.hb dX5_take_8 rfl (lv_at hl 0 rfl) ?_
      refine va_get X.hx X.hb X.hts in_X5 X.hown X.hK hP1 3 rfl (ci := 3) rfl 2 (by decide) (X.hts _ q648) (fun _ z => z) rfl dX5_take_9 ?_
      refine va_getN X.hx X.hb X.hts in_X8 X.hown X.hK hP1 4 rfl (ci := 5) rfl 0 (by decide) (hAm.use q639 rfl rfl) (fun _ z => z) rfl dX5_take_12 ?_
      exact take_thr X hNT hst hAm (ws := (([(a0, .inr (0, [.ref b0, .ref hq, .ref tx])), (tx, .inr (9, [.ref av, .int 0, .int ml, .int cnt])), (av, .inl (D.1 102, nb, .inl byt)), (pq, .inr (3, [.ref io, .int pp, .ref tkq.1, .ref a0]))]) ++ TKW D tkq (.inr (.inr x)))) (wi := 7) rfl rfl hP1 hD1 hS1 hl hkC e1 rfl (by decide) (by decide) (by decide) (by decide) rfl
end XTK
