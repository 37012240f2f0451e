set_option maxRecDepth 100000
set_option maxHeartbeats 2000000
theorem sel_priv {C : String} {y : MethodName} {s : State} {args : Array Value} {n : Nat} (hins : (Cond.instantiable C n).before args s = true) (hsame : (Cond.sameMethod y.cls y.cls y.name y.desc).before args s = true) (hpriv : (Cond.privateMethod y).before args s = true) (hinst : (Cond.instanceMethod y).before args s = true) : (Cond.selects C y y).before args s = true := by
  obtain ⟨c, k, hc, hk, -, hniab, -, -⟩ := Cond.instantiable_spec hins
  obtain ⟨mk, methM, hnamed, hmethM, -, -⟩ := Cond.instanceMethod_spec hinst
  obtain ⟨cn, ck0, r1, hcn, hck0, hni, hf, hn1⟩ := Cond.sameMethod_found hsame
  have hn2 : s.methodNamed? y = some r1 := hn1
  cases hnamed.symm.trans hn2
  have hcls : mk.cls = cn := Option.some.inj ((findClass_of_methodNamed hnamed).symm.trans hcn)
  have hsel : selectMethod {} s.vm c mk = .method mk := selectMethod_private hmethM (Cond.privateMethod_at hpriv mk methM hnamed hmethM)
  simp only [Cond.before, Cond.holds, Cond.value, hc, hf, hnamed, hsel, hcls, hck0]
  simp
  exact hni
theorem lw_SU {own : String} {idx : Nat} {y : MethodName} {b : ByteArray} {L : Nat} {r : Option FieldType} (h1 : Cond.methodLink own idx y ∈ lw_all) (hs : Cond.sameMethod y.cls y.cls y.name y.desc ∈ lw_all) (h3 : Cond.superclass own y.cls ∈ lw_all) (h2 : Cond.instanceMethod y ∈ lw_all) (h4 : Cond.initialized y.cls ∈ lw_all) (h5 : Cond.code y b L r ∈ lw_all) : GoodIn lw_all (va_wsSU own idx y (ws_ y b L r)) := by
  refine lw_app ?_ (lw_meth h5)
  intro w hw
  simp only [List.mem_cons, List.not_mem_nil, or_false] at hw
  rcases hw with e | e | e | e | e
  · rw [e]; exact h1
  · rw [e]; exact hs
  · rw [e]; exact h3
  · rw [e]; exact h2
  · rw [e]; exact h4
section V6
variable {p : Program} {l : Launch} {e : Env} {R : Room} {s : State} {m : MethodId} {args : Array Value} {below : List Frame} {meth : Method} {c : Code} {D : va_G} {A : Nat → Prop} {cells slots : Nat} {Q : State → Prop} {cc : ByteArray} {nL : Nat} {own : String} {ws : va_W} {pc : Nat} {lv : VW} {st : List Value}
theorem vc_Pi (pc' c' s' : Nat) (X : CX p s m args meth c D A cc nL own) {y : MethodName} {b : ByteArray} {L index : Nat} {r : Option FieldType} {rm : Room} {Xp : (Nat → Prop) → State → Prop} {post : Int32 → va_W → Prop} {b0 : Nat} (n : Nat) (As : List Value) {rest : List Value} (isC isR : List Nat) (wc : va_W) {wr : va_W} (hC : isC.map (fun i => ws[i]?) = wc.map some) (hR : isR.map (fun i => ws[i]?) = wr.map some) (hn : va_nd isR = true) (hdis : ∀ i ∈ isR, i ∉ isC) (hnC : va_nd isC = true) (hM : CTi l y b L r rm D wc (.ref b0 :: As) Xp post) {C : String} (h1 : Cond.methodLink own index y ∈ lw_all) (hsm : Cond.sameMethod y.cls y.cls y.name y.desc ∈ lw_all) (hsel : (Cond.selects C y y).before args s = true) (h2 : Cond.instanceMethod y ∈ lw_all) (h4 : Cond.initialized y.cls ∈ lw_all) (h5 : Cond.code y b L r ∈ lw_all) (hd : y.cls ≠ "java/lang/invoke/MethodHandle" ∧ y.cls ≠ "java/lang/invoke/VarHandle" ∧ (parseMethodDescriptor y.desc).map (fun d => d.parameters.length) = some n) (q0 : Nat) {ci : Nat} {fs : List Value} {T : u_T} {N : Nat} (he : ws[q0]? = some (b0, .inr (ci, fs))) (hci : CL[ci]? = some (C, T, N))
    (hX : Pass Xp s A) (hroom : rm.frames + 1 ≤ R.frames ∧ 8 + (L + 11) + rm.locals ≤ R.locals) (hcs : cells + rm.cells ≤ R.cells ∧ slots + rm.slots ≤ R.slots) (hnA : As.length = n) (hst : st = As.reverse ++ .ref b0 :: rest) (hrest : (rest.map fun v => v.category).sum ≤ 8) (d : decode cc pc = .ok (.invokevirtual index, 3)) (hp : pc + 3 = pc') (hc : cells + rm.cells = c') (hs : slots + rm.slots = s') (k : ∀ (r1 : Int32) (u : va_W), post r1 u → V p l e R s m args below meth c D A nL Q (wr ++ u) c' s' pc' lv (.int r1 :: rest)) : V p l e R s m args below meth c D A nL Q ws cells slots pc lv st := by
  subst hp; subst hst; subst hc; subst hs
  intro H locs ls hP hD hS hl
  have hPc := pc_sub isC hC hP
  have hDc := pc_subD isC hnC hC hD
  have hFc := va_free (wc := wc) hD hS X.hA isC hC
  have hbl := pre_blind (D := D) (sz := H.size) (w0 := wc) (av := .ref b0 :: As) hX.1
  have hXc : ∀ U : State, U.heap = H → s.WarmedH U.vm → Xp (va_A wc H.size) U := fun U hU hW => hX.2 _ H locs U hFc hS hU hW
  have cw : va_CU R s args own C y.cls index y y b L r (ws_ y b L r) rm rm.cells rm.slots n := ⟨⟨rfl, rfl, hroom.1, hroom.2, pay_in X.hts (lw_meth h5), List.mem_cons_self⟩, X.hts _ h5, X.hts _ h4, ⟨hd.1, hd.2.1⟩, fun sig h => by have h2 := hd.2.2; rw [h] at h2; exact (Option.some.inj h2).symm, X.hts _ h1, X.hts _ hsm, va_Decl.of (X.hts _ h2) (X.hts _ h5), hsel, X.hts _ h2⟩
  refine va_calli (va_runU (C := C) (owner := y.cls) (x := y) (As := As) (rest := rest) ⟨X.hx, X.hb, X.hml, X.hown, X.hts⟩ (hM H.size) cw ⟨hbl, va_recv X.hK hP hci he, fun U hU hW => ⟨rfl, by rw [hU], by rw [hU]; exact hPc, va_K.moved hW.alike X.hK, hDc, hXc U hU hW⟩⟩ rfl hnA hl.1 rfl (lv_room hrest) d hcs) hS (fun q _ h => hFc q h) hFc (fun r1 u t H1 locs1 ht hvm hpo hB hz1 hk1 hS1 => ?_)
  obtain ⟨hP1, hD1⟩ := hB
  rw [ht] at hP1
  obtain ⟨hP, hD⟩ := va_join hP hD isC isR hC hR hn hdis hk1 hFc hP1 hD1
  exact k r1 u hpo H1 locs1 ls hP hD hS1 hl
theorem vc_Pv (pc' c' s' : Nat) (X : CX p s m args meth c D A cc nL own) {y : MethodName} {b : ByteArray} {L index : Nat} {r : Option FieldType} {rm : Room} {Xp : (Nat → Prop) → State → Prop} {post : va_W → Prop} {b0 : Nat} (n : Nat) (As : List Value) {rest : List Value} (isC isR : List Nat) (wc : va_W) {wr : va_W} (hC : isC.map (fun i => ws[i]?) = wc.map some) (hR : isR.map (fun i => ws[i]?) = wr.map some) (hn : va_nd isR = true) (hdis : ∀ i ∈ isR, i ∉ isC) (hnC : va_nd isC = true) (hM : CTv l y b L r rm D wc (.ref b0 :: As) Xp post) {C : String} (h1 : Cond.methodLink own index y ∈ lw_all) (hsm : Cond.sameMethod y.cls y.cls y.name y.desc ∈ lw_all) (hsel : (Cond.selects C y y).before args s = true) (h2 : Cond.instanceMethod y ∈ lw_all) (h4 : Cond.initialized y.cls ∈ lw_all) (h5 : Cond.code y b L r ∈ lw_all) (hd : y.cls ≠ "java/lang/invoke/MethodHandle" ∧ y.cls ≠ "java/lang/invoke/VarHandle" ∧ (parseMethodDescriptor y.desc).map (fun d => d.parameters.length) = some n) (q0 : Nat) {ci : Nat} {fs : List Value} {T : u_T} {N : Nat} (he : ws[q0]? = some (b0, .inr (ci, fs))) (hci : CL[ci]? = some (C, T, N))
    (hX : Pass Xp s A) (hroom : rm.frames + 1 ≤ R.frames ∧ 8 + (L + 11) + rm.locals ≤ R.locals) (hcs : cells + rm.cells ≤ R.cells ∧ slots + rm.slots ≤ R.slots) (hnA : As.length = n) (hst : st = As.reverse ++ .ref b0 :: rest) (hrest : (rest.map fun v => v.category).sum ≤ 8) (d : decode cc pc = .ok (.invokevirtual index, 3)) (hp : pc + 3 = pc') (hc : cells + rm.cells = c') (hs : slots + rm.slots = s') (k : ∀ u : va_W, post u → V p l e R s m args below meth c D A nL Q (wr ++ u) c' s' pc' lv rest) : V p l e R s m args below meth c D A nL Q ws cells slots pc lv st := by
  subst hp; subst hst; subst hc; subst hs
  intro H locs ls hP hD hS hl
  have hPc := pc_sub isC hC hP
  have hDc := pc_subD isC hnC hC hD
  have hFc := va_free (wc := wc) hD hS X.hA isC hC
  have hbl := pre_blind (D := D) (sz := H.size) (w0 := wc) (av := .ref b0 :: As) hX.1
  have hXc : ∀ U : State, U.heap = H → s.WarmedH U.vm → Xp (va_A wc H.size) U := fun U hU hW => hX.2 _ H locs U hFc hS hU hW
  have cw : va_CU R s args own C y.cls index y y b L r (ws_ y b L r) rm rm.cells rm.slots n := ⟨⟨rfl, rfl, hroom.1, hroom.2, pay_in X.hts (lw_meth h5), List.mem_cons_self⟩, X.hts _ h5, X.hts _ h4, ⟨hd.1, hd.2.1⟩, fun sig h => by have h2 := hd.2.2; rw [h] at h2; exact (Option.some.inj h2).symm, X.hts _ h1, X.hts _ hsm, va_Decl.of (X.hts _ h2) (X.hts _ h5), hsel, X.hts _ h2⟩
  refine va_callv (va_runU (C := C) (owner := y.cls) (x := y) (As := As) (rest := rest) ⟨X.hx, X.hb, X.hml, X.hown, X.hts⟩ (hM H.size) cw ⟨hbl, va_recv X.hK hP hci he, fun U hU hW => ⟨rfl, by rw [hU], by rw [hU]; exact hPc, va_K.moved hW.alike X.hK, hDc, hXc U hU hW⟩⟩ rfl hnA hl.1 rfl (lv_room hrest) d hcs) hS (fun q _ h => hFc q h) hFc (fun u t H1 locs1 ht hvm hpo hB hz1 hk1 hS1 => ?_)
  obtain ⟨hP1, hD1⟩ := hB
  rw [ht] at hP1
  obtain ⟨hP, hD⟩ := va_join hP hD isC isR hC hR hn hdis hk1 hFc hP1 hD1
  exact k u hpo H1 locs1 ls hP hD hS1 hl
theorem vc_Pr (pc' c' s' : Nat) (X : CX p s m args meth c D A cc nL own) {y : MethodName} {b : ByteArray} {L index : Nat} {r : Option FieldType} {rm : Room} {Xp : (Nat → Prop) → State → Prop} {post : Nat → va_W → Prop} {b0 : Nat} (n : Nat) (As : List Value) {rest : List Value} (isC isR : List Nat) (wc : va_W) {wr : va_W} (hC : isC.map (fun i => ws[i]?) = wc.map some) (hR : isR.map (fun i => ws[i]?) = wr.map some) (hn : va_nd isR = true) (hdis : ∀ i ∈ isR, i ∉ isC) (hnC : va_nd isC = true) (hM : CTr l y b L r rm D wc (.ref b0 :: As) Xp post) {C : String} (h1 : Cond.methodLink own index y ∈ lw_all) (hsm : Cond.sameMethod y.cls y.cls y.name y.desc ∈ lw_all) (hsel : (Cond.selects C y y).before args s = true) (h2 : Cond.instanceMethod y ∈ lw_all) (h4 : Cond.initialized y.cls ∈ lw_all) (h5 : Cond.code y b L r ∈ lw_all) (hd : y.cls ≠ "java/lang/invoke/MethodHandle" ∧ y.cls ≠ "java/lang/invoke/VarHandle" ∧ (parseMethodDescriptor y.desc).map (fun d => d.parameters.length) = some n) (q0 : Nat) {ci : Nat} {fs : List Value} {T : u_T} {N : Nat} (he : ws[q0]? = some (b0, .inr (ci, fs))) (hci : CL[ci]? = some (C, T, N))
    (hX : Pass Xp s A) (hroom : rm.frames + 1 ≤ R.frames ∧ 8 + (L + 11) + rm.locals ≤ R.locals) (hcs : cells + rm.cells ≤ R.cells ∧ slots + rm.slots ≤ R.slots) (hnA : As.length = n) (hst : st = As.reverse ++ .ref b0 :: rest) (hrest : (rest.map fun v => v.category).sum ≤ 8) (d : decode cc pc = .ok (.invokevirtual index, 3)) (hp : pc + 3 = pc') (hc : cells + rm.cells = c') (hs : slots + rm.slots = s') (k : ∀ (a1 : Nat) (u : va_W), post a1 u → V p l e R s m args below meth c D A nL Q (wr ++ u) c' s' pc' lv (.ref a1 :: rest)) : V p l e R s m args below meth c D A nL Q ws cells slots pc lv st := by
  subst hp; subst hst; subst hc; subst hs
  intro H locs ls hP hD hS hl
  have hPc := pc_sub isC hC hP
  have hDc := pc_subD isC hnC hC hD
  have hFc := va_free (wc := wc) hD hS X.hA isC hC
  have hbl := pre_blind (D := D) (sz := H.size) (w0 := wc) (av := .ref b0 :: As) hX.1
  have hXc : ∀ U : State, U.heap = H → s.WarmedH U.vm → Xp (va_A wc H.size) U := fun U hU hW => hX.2 _ H locs U hFc hS hU hW
  have cw : va_CU R s args own C y.cls index y y b L r (ws_ y b L r) rm rm.cells rm.slots n := ⟨⟨rfl, rfl, hroom.1, hroom.2, pay_in X.hts (lw_meth h5), List.mem_cons_self⟩, X.hts _ h5, X.hts _ h4, ⟨hd.1, hd.2.1⟩, fun sig h => by have h2 := hd.2.2; rw [h] at h2; exact (Option.some.inj h2).symm, X.hts _ h1, X.hts _ hsm, va_Decl.of (X.hts _ h2) (X.hts _ h5), hsel, X.hts _ h2⟩
  refine va_callr (va_runU (C := C) (owner := y.cls) (x := y) (As := As) (rest := rest) ⟨X.hx, X.hb, X.hml, X.hown, X.hts⟩ (hM H.size) cw ⟨hbl, va_recv X.hK hP hci he, fun U hU hW => ⟨rfl, by rw [hU], by rw [hU]; exact hPc, va_K.moved hW.alike X.hK, hDc, hXc U hU hW⟩⟩ rfl hnA hl.1 rfl (lv_room hrest) d hcs) hS (fun q _ h => hFc q h) hFc (fun uu ra t H1 locs1 ht hvm hpo hB hz1 hk1 hS1 => ?_)
  obtain ⟨rfl, hP1, hD1⟩ := hB
  rw [ht] at hP1
  obtain ⟨hP, hD⟩ := va_join hP hD isC isR hC hR hn hdis hk1 hFc hP1 hD1
  exact k uu.2 uu.1 hpo H1 locs1 ls hP hD hS1 hl
theorem vc_Bi (pc' c' s' : Nat) (X : CX p s m args meth c D A cc nL own) {y : MethodName} {b : ByteArray} {L index : Nat} {r : Option FieldType} {rm : Room} {Xp : (Nat → Prop) → State → Prop} {post : Int32 → va_W → Prop} {b0 : Nat} (n : Nat) (As : List Value) {rest : List Value} (isC isR : List Nat) (wc : va_W) {wr : va_W} (hC : isC.map (fun i => ws[i]?) = wc.map some) (hR : isR.map (fun i => ws[i]?) = wr.map some) (hn : va_nd isR = true) (hdis : ∀ i ∈ isR, i ∉ isC) (hnC : va_nd isC = true) (hM : CTi l y b L r rm D wc (.ref b0 :: As) Xp post) {C : String} {nI0 : Nat} (hI : Cond.instantiable C nI0 ∈ lw_all) (h1 : Cond.methodLink own index y ∈ lw_all) (hsm : Cond.sameMethod y.cls y.cls y.name y.desc ∈ lw_all) (hsu : Cond.superclass own y.cls ∈ lw_all) (h2 : Cond.instanceMethod y ∈ lw_all) (h4 : Cond.initialized y.cls ∈ lw_all) (h5 : Cond.code y b L r ∈ lw_all) (hd : y.name ≠ "<init>" ∧ (parseMethodDescriptor y.desc).map (fun d => d.parameters.length) = some n) (q0 : Nat) {ci : Nat} {fs : List Value} {T : u_T} {N : Nat} (he : ws[q0]? = some (b0, .inr (ci, fs))) (hci : CL[ci]? = some (C, T, N))
    (hX : Pass Xp s A) (hroom : rm.frames + 1 ≤ R.frames ∧ 8 + (L + 11) + rm.locals ≤ R.locals) (hcs : cells + rm.cells ≤ R.cells ∧ slots + rm.slots ≤ R.slots) (hnA : As.length = n) (hst : st = As.reverse ++ .ref b0 :: rest) (hrest : (rest.map fun v => v.category).sum ≤ 8) (d : decode cc pc = .ok (.invokespecial index, 3)) (hp : pc + 3 = pc') (hc : cells + rm.cells = c') (hs : slots + rm.slots = s') (k : ∀ (r1 : Int32) (u : va_W), post r1 u → V p l e R s m args below meth c D A nL Q (wr ++ u) c' s' pc' lv (.int r1 :: rest)) : V p l e R s m args below meth c D A nL Q ws cells slots pc lv st := by
  subst hp; subst hst; subst hc; subst hs
  intro H locs ls hP hD hS hl
  have hPc := pc_sub isC hC hP
  have hDc := pc_subD isC hnC hC hD
  have hFc := va_free (wc := wc) hD hS X.hA isC hC
  have hbl := pre_blind (D := D) (sz := H.size) (w0 := wc) (av := .ref b0 :: As) hX.1
  have hXc : ∀ U : State, U.heap = H → s.WarmedH U.vm → Xp (va_A wc H.size) U := fun U hU hW => hX.2 _ H locs U hFc hS hU hW
  obtain ⟨cC, kC, hcC, hkC, hkd, -⟩ := Cond.instantiable_spec (X.hts _ hI)
  refine va_calli (va_runSU (C := C) (As := As) (rest := rest) ⟨hcC, kC, hkC, hkd⟩ ⟨X.hx, X.hb, X.hml, X.hown, X.hts⟩ (hM H.size) (va_cwSU n X.hts (lw_SU h1 hsm hsu h2 h4 h5) rfl rfl rfl hd hroom) ⟨hbl, va_recv X.hK hP hci he, fun U hU hW => ⟨rfl, by rw [hU], by rw [hU]; exact hPc, va_K.moved hW.alike X.hK, hDc, hXc U hU hW⟩⟩ rfl hnA hl.1 rfl (lv_room hrest) d hcs) hS (fun q _ h => hFc q h) hFc (fun r1 u t H1 locs1 ht hvm hpo hB hz1 hk1 hS1 => ?_)
  obtain ⟨hP1, hD1⟩ := hB
  rw [ht] at hP1
  obtain ⟨hP, hD⟩ := va_join hP hD isC isR hC hR hn hdis hk1 hFc hP1 hD1
  exact k r1 u hpo H1 locs1 ls hP hD hS1 hl
theorem vc_Bv (pc' c' s' : Nat) (X : CX p s m args meth c D A cc nL own) {y : MethodName} {b : ByteArray} {L index : Nat} {r : Option FieldType} {rm : Room} {Xp : (Nat → Prop) → State → Prop} {post : va_W → Prop} {b0 : Nat} (n : Nat) (As : List Value) {rest : List Value} (isC isR : List Nat) (wc : va_W) {wr : va_W} (hC : isC.map (fun i => ws[i]?) = wc.map some) (hR : isR.map (fun i => ws[i]?) = wr.map some) (hn : va_nd isR = true) (hdis : ∀ i ∈ isR, i ∉ isC) (hnC : va_nd isC = true) (hM : CTv l y b L r rm D wc (.ref b0 :: As) Xp post) {C : String} {nI0 : Nat} (hI : Cond.instantiable C nI0 ∈ lw_all) (h1 : Cond.methodLink own index y ∈ lw_all) (hsm : Cond.sameMethod y.cls y.cls y.name y.desc ∈ lw_all) (hsu : Cond.superclass own y.cls ∈ lw_all) (h2 : Cond.instanceMethod y ∈ lw_all) (h4 : Cond.initialized y.cls ∈ lw_all) (h5 : Cond.code y b L r ∈ lw_all) (hd : y.name ≠ "<init>" ∧ (parseMethodDescriptor y.desc).map (fun d => d.parameters.length) = some n) (q0 : Nat) {ci : Nat} {fs : List Value} {T : u_T} {N : Nat} (he : ws[q0]? = some (b0, .inr (ci, fs))) (hci : CL[ci]? = some (C, T, N))
    (hX : Pass Xp s A) (hroom : rm.frames + 1 ≤ R.frames ∧ 8 + (L + 11) + rm.locals ≤ R.locals) (hcs : cells + rm.cells ≤ R.cells ∧ slots + rm.slots ≤ R.slots) (hnA : As.length = n) (hst : st = As.reverse ++ .ref b0 :: rest) (hrest : (rest.map fun v => v.category).sum ≤ 8) (d : decode cc pc = .ok (.invokespecial index, 3)) (hp : pc + 3 = pc') (hc : cells + rm.cells = c') (hs : slots + rm.slots = s') (k : ∀ u : va_W, post u → V p l e R s m args below meth c D A nL Q (wr ++ u) c' s' pc' lv rest) : V p l e R s m args below meth c D A nL Q ws cells slots pc lv st := by
  subst hp; subst hst; subst hc; subst hs
  intro H locs ls hP hD hS hl
  have hPc := pc_sub isC hC hP
  have hDc := pc_subD isC hnC hC hD
  have hFc := va_free (wc := wc) hD hS X.hA isC hC
  have hbl := pre_blind (D := D) (sz := H.size) (w0 := wc) (av := .ref b0 :: As) hX.1
  have hXc : ∀ U : State, U.heap = H → s.WarmedH U.vm → Xp (va_A wc H.size) U := fun U hU hW => hX.2 _ H locs U hFc hS hU hW
  obtain ⟨cC, kC, hcC, hkC, hkd, -⟩ := Cond.instantiable_spec (X.hts _ hI)
  refine va_callv (va_runSU (C := C) (As := As) (rest := rest) ⟨hcC, kC, hkC, hkd⟩ ⟨X.hx, X.hb, X.hml, X.hown, X.hts⟩ (hM H.size) (va_cwSU n X.hts (lw_SU h1 hsm hsu h2 h4 h5) rfl rfl rfl hd hroom) ⟨hbl, va_recv X.hK hP hci he, fun U hU hW => ⟨rfl, by rw [hU], by rw [hU]; exact hPc, va_K.moved hW.alike X.hK, hDc, hXc U hU hW⟩⟩ rfl hnA hl.1 rfl (lv_room hrest) d hcs) hS (fun q _ h => hFc q h) hFc (fun u t H1 locs1 ht hvm hpo hB hz1 hk1 hS1 => ?_)
  obtain ⟨hP1, hD1⟩ := hB
  rw [ht] at hP1
  obtain ⟨hP, hD⟩ := va_join hP hD isC isR hC hR hn hdis hk1 hFc hP1 hD1
  exact k u hpo H1 locs1 ls hP hD hS1 hl
theorem vc_Br (pc' c' s' : Nat) (X : CX p s m args meth c D A cc nL own) {y : MethodName} {b : ByteArray} {L index : Nat} {r : Option FieldType} {rm : Room} {Xp : (Nat → Prop) → State → Prop} {post : Nat → va_W → Prop} {b0 : Nat} (n : Nat) (As : List Value) {rest : List Value} (isC isR : List Nat) (wc : va_W) {wr : va_W} (hC : isC.map (fun i => ws[i]?) = wc.map some) (hR : isR.map (fun i => ws[i]?) = wr.map some) (hn : va_nd isR = true) (hdis : ∀ i ∈ isR, i ∉ isC) (hnC : va_nd isC = true) (hM : CTr l y b L r rm D wc (.ref b0 :: As) Xp post) {C : String} {nI0 : Nat} (hI : Cond.instantiable C nI0 ∈ lw_all) (h1 : Cond.methodLink own index y ∈ lw_all) (hsm : Cond.sameMethod y.cls y.cls y.name y.desc ∈ lw_all) (hsu : Cond.superclass own y.cls ∈ lw_all) (h2 : Cond.instanceMethod y ∈ lw_all) (h4 : Cond.initialized y.cls ∈ lw_all) (h5 : Cond.code y b L r ∈ lw_all) (hd : y.name ≠ "<init>" ∧ (parseMethodDescriptor y.desc).map (fun d => d.parameters.length) = some n) (q0 : Nat) {ci : Nat} {fs : List Value} {T : u_T} {N : Nat} (he : ws[q0]? = some (b0, .inr (ci, fs))) (hci : CL[ci]? = some (C, T, N))
    (hX : Pass Xp s A) (hroom : rm.frames + 1 ≤ R.frames ∧ 8 + (L + 11) + rm.locals ≤ R.locals) (hcs : cells + rm.cells ≤ R.cells ∧ slots + rm.slots ≤ R.slots) (hnA : As.length = n) (hst : st = As.reverse ++ .ref b0 :: rest) (hrest : (rest.map fun v => v.category).sum ≤ 8) (d : decode cc pc = .ok (.invokespecial index, 3)) (hp : pc + 3 = pc') (hc : cells + rm.cells = c') (hs : slots + rm.slots = s') (k : ∀ (a1 : Nat) (u : va_W), post a1 u → V p l e R s m args below meth c D A nL Q (wr ++ u) c' s' pc' lv (.ref a1 :: rest)) : V p l e R s m args below meth c D A nL Q ws cells slots pc lv st := by
  subst hp; subst hst; subst hc; subst hs
  intro H locs ls hP hD hS hl
  have hPc := pc_sub isC hC hP
  have hDc := pc_subD isC hnC hC hD
  have hFc := va_free (wc := wc) hD hS X.hA isC hC
  have hbl := pre_blind (D := D) (sz := H.size) (w0 := wc) (av := .ref b0 :: As) hX.1
  have hXc : ∀ U : State, U.heap = H → s.WarmedH U.vm → Xp (va_A wc H.size) U := fun U hU hW => hX.2 _ H locs U hFc hS hU hW
  obtain ⟨cC, kC, hcC, hkC, hkd, -⟩ := Cond.instantiable_spec (X.hts _ hI)
  refine va_callr (va_runSU (C := C) (As := As) (rest := rest) ⟨hcC, kC, hkC, hkd⟩ ⟨X.hx, X.hb, X.hml, X.hown, X.hts⟩ (hM H.size) (va_cwSU n X.hts (lw_SU h1 hsm hsu h2 h4 h5) rfl rfl rfl hd hroom) ⟨hbl, va_recv X.hK hP hci he, fun U hU hW => ⟨rfl, by rw [hU], by rw [hU]; exact hPc, va_K.moved hW.alike X.hK, hDc, hXc U hU hW⟩⟩ rfl hnA hl.1 rfl (lv_room hrest) d hcs) hS (fun q _ h => hFc q h) hFc (fun uu ra t H1 locs1 ht hvm hpo hB hz1 hk1 hS1 => ?_)
  obtain ⟨rfl, hP1, hD1⟩ := hB
  rw [ht] at hP1
  obtain ⟨hP, hD⟩ := va_join hP hD isC isR hC hR hn hdis hk1 hFc hP1 hD1
  exact k uu.2 uu.1 hpo H1 locs1 ls hP hD hS1 hl
/-- statics that are never written -/
theorem v_getZ (pc' : Nat) (X : CX p s m args meth c D A cc nL own) {C n dd : String} {v : Value} {index : Nat} (hZ : va_Z C n dd v A s s.heap) (hlink : Cond.fieldLink own index C n dd ∈ lw_all) (d : decode cc pc = .ok (.getstatic index, 3)) (hp : pc + 3 = pc') (k : V p l e R s m args below meth c D A nL Q ws cells slots pc' lv (v :: st)) : V p l e R s m args below meth c D A nL Q ws cells slots pc lv st := by
  subst hp
  exact fun H locs ls hP hD hS hl => va_gets X.hx X.hb hZ hS X.hown (X.hts _ hlink) (fun _ z => z) d (k H locs ls hP hD hS hl)
theorem v_ldcS (pc' : Nat) (X : CX p s m args meth c D A cc nL own) {tx : String} {index q : Nat} (hZ : vk_R own index tx q s) (d : decode cc pc = .ok (.ldc index, 2)) (hp : pc + 2 = pc') (k : V p l e R s m args below meth c D A nL Q ws cells slots pc' lv (.ref q :: st)) : V p l e R s m args below meth c D A nL Q ws cells slots pc lv st := by
  subst hp
  exact fun H locs ls hP hD hS hl => va_ldcS X.hx X.hb X.hown hZ d (k H locs ls hP hD hS hl)
theorem v_instH (pc' : Nat) (X : CX p s m args meth c D A cc nL own) {z index : Nat} {nm : String} (hO : va_O nm z A s s.heap) (hlink : Cond.classLink own index nm ∈ lw_all) (d : decode cc pc = .ok (.instanceof index, 3)) (hp : pc + 3 = pc') (k : V p l e R s m args below meth c D A nL Q ws cells slots pc' lv (.int 1 :: st)) : V p l e R s m args below meth c D A nL Q ws cells slots pc lv (.ref z :: st) := by
  subst hp
  intro H locs ls hP hD hS hl
  obtain ⟨cell, h1, h2, h3, -⟩ := hO.kept hS.2.1
  exact va_instE X.hx X.hb X.hown (X.hts _ hlink) ⟨cell, h1, h2, h3⟩ d (k H locs ls hP hD hS hl)
end V6
