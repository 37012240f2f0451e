set_option maxRecDepth 100000
set_option maxHeartbeats 2000000
theorem lw_U {own : String} {idx : Nat} {C owner : String} {x y : MethodName} {b : ByteArray} {L : Nat} {r : Option FieldType} (h1 : Cond.methodLink own idx x ∈ lw_all) (hs : Cond.sameMethod x.cls owner x.name x.desc ∈ lw_all) (h3 : Cond.selects C x y ∈ lw_all) (h2 : Cond.instanceMethod y ∈ lw_all) (h4 : Cond.initialized y.cls ∈ lw_all) (h5 : Cond.code y b L r ∈ lw_all) : GoodIn lw_all (va_wsU own idx C owner x y (ws_ y b L r)) := by
  refine lw_app ?_ (lw_meth h5)
  intro w hw
  simp only [List.mem_cons, List.not_mem_nil, or_false] at hw
  rcases hw with e | e | e | e | e
  · rw [e]; exact h1
  · rw [e]; exact hs
  · rw [e]; exact h3
  · rw [e]; exact h2
  · rw [e]; exact h4
section V4
variable {p : Program} {l : Launch} {e : Env} {R : Room} {s : State} {m : MethodId} {args : Array Value} {below : List Frame} {meth : Method} {c : Code} {D : va_G} {A : Nat → Prop} {cells slots : Nat} {Q : State → Prop} {cc : ByteArray} {nL : Nat} {own : String} {ws : va_W} {pc : Nat} {lv : VW} {st : List Value}
theorem vc_Ui (pc' c' s' : Nat) (X : CX p s m args meth c D A cc nL own) {y x : MethodName} {b : ByteArray} {L index : Nat} {r : Option FieldType} {rm : Room} {Xp : (Nat → Prop) → State → Prop} {post : Int32 → va_W → Prop} {b0 : Nat} (n : Nat) (As : List Value) {rest : List Value} (isC isR : List Nat) (wc : va_W) {wr : va_W} (hC : isC.map (fun i => ws[i]?) = wc.map some) (hR : isR.map (fun i => ws[i]?) = wr.map some) (hn : va_nd isR = true) (hdis : ∀ i ∈ isR, i ∉ isC) (hnC : va_nd isC = true) (hM : CTi l y b L r rm D wc (.ref b0 :: As) Xp post) {C owner : String} (h1 : Cond.methodLink own index x ∈ lw_all) (hsm : Cond.sameMethod x.cls owner x.name x.desc ∈ lw_all) (h3 : Cond.selects C x y ∈ lw_all) (h2 : Cond.instanceMethod y ∈ lw_all) (h4 : Cond.initialized y.cls ∈ lw_all) (h5 : Cond.code y b L r ∈ lw_all) (hyx : y = ⟨owner, x.name, x.desc⟩) (hd : owner ≠ "java/lang/invoke/MethodHandle" ∧ owner ≠ "java/lang/invoke/VarHandle" ∧ (parseMethodDescriptor x.desc).map (fun d => d.parameters.length) = some n)
    (hO : ∀ (H : Heap) (locs : List Loc), va_P D CL ws H → va_S A s.heap H locs → ∃ cell : Cell, H[b0]? = some cell ∧ cell.vm.isStatics = false ∧ s.vm.findClass C = some cell.cls) (hX : Pass Xp s A) (hroom : rm.frames + 1 ≤ R.frames ∧ 8 + (L + 11) + rm.locals ≤ R.locals) (hcs : cells + rm.cells ≤ R.cells ∧ slots + rm.slots ≤ R.slots) (hnA : As.length = n) (hst : st = As.reverse ++ .ref b0 :: rest) (hrest : (rest.map fun v => v.category).sum ≤ 8) (d : decode cc pc = .ok (.invokevirtual index, 3)) (hp : pc + 3 = pc') (hc : cells + rm.cells = c') (hs : slots + rm.slots = s') (k : ∀ (r1 : Int32) (u : va_W), post r1 u → V p l e R s m args below meth c D A nL Q (wr ++ u) c' s' pc' lv (.int r1 :: rest)) : V p l e R s m args below meth c D A nL Q ws cells slots pc lv st := by
  subst hp; subst hst; subst hc; subst hs
  intro H locs ls hP hD hS hl
  have hPc := pc_sub isC hC hP
  have hDc := pc_subD isC hnC hC hD
  have hFc := va_free (wc := wc) hD hS X.hA isC hC
  have hbl := pre_blind (D := D) (sz := H.size) (w0 := wc) (av := .ref b0 :: As) hX.1
  have hXc : ∀ U : State, U.heap = H → s.WarmedH U.vm → Xp (va_A wc H.size) U := fun U hU hW => hX.2 _ H locs U hFc hS hU hW
  refine va_calli (va_runU (C := C) (owner := owner) (x := x) (As := As) (rest := rest) ⟨X.hx, X.hb, X.hml, X.hown, X.hts⟩ (hM H.size) (va_cwU n X.hts (lw_U h1 hsm h3 h2 h4 h5) rfl rfl rfl hyx hd hroom) ⟨hbl, hO H locs hP hS, fun U hU hW => ⟨rfl, by rw [hU], by rw [hU]; exact hPc, va_K.moved hW.alike X.hK, hDc, hXc U hU hW⟩⟩ rfl hnA hl.1 rfl (lv_room hrest) d hcs) hS (fun q _ h => hFc q h) hFc (fun r1 u t H1 locs1 ht hvm hpo hB hz1 hk1 hS1 => ?_)
  obtain ⟨hP1, hD1⟩ := hB
  rw [ht] at hP1
  obtain ⟨hP, hD⟩ := va_join hP hD isC isR hC hR hn hdis hk1 hFc hP1 hD1
  exact k r1 u hpo H1 locs1 ls hP hD hS1 hl
theorem vc_Uv (pc' c' s' : Nat) (X : CX p s m args meth c D A cc nL own) {y x : MethodName} {b : ByteArray} {L index : Nat} {r : Option FieldType} {rm : Room} {Xp : (Nat → Prop) → State → Prop} {post : va_W → Prop} {b0 : Nat} (n : Nat) (As : List Value) {rest : List Value} (isC isR : List Nat) (wc : va_W) {wr : va_W} (hC : isC.map (fun i => ws[i]?) = wc.map some) (hR : isR.map (fun i => ws[i]?) = wr.map some) (hn : va_nd isR = true) (hdis : ∀ i ∈ isR, i ∉ isC) (hnC : va_nd isC = true) (hM : CTv l y b L r rm D wc (.ref b0 :: As) Xp post) {C owner : String} (h1 : Cond.methodLink own index x ∈ lw_all) (hsm : Cond.sameMethod x.cls owner x.name x.desc ∈ lw_all) (h3 : Cond.selects C x y ∈ lw_all) (h2 : Cond.instanceMethod y ∈ lw_all) (h4 : Cond.initialized y.cls ∈ lw_all) (h5 : Cond.code y b L r ∈ lw_all) (hyx : y = ⟨owner, x.name, x.desc⟩) (hd : owner ≠ "java/lang/invoke/MethodHandle" ∧ owner ≠ "java/lang/invoke/VarHandle" ∧ (parseMethodDescriptor x.desc).map (fun d => d.parameters.length) = some n)
    (hO : ∀ (H : Heap) (locs : List Loc), va_P D CL ws H → va_S A s.heap H locs → ∃ cell : Cell, H[b0]? = some cell ∧ cell.vm.isStatics = false ∧ s.vm.findClass C = some cell.cls) (hX : Pass Xp s A) (hroom : rm.frames + 1 ≤ R.frames ∧ 8 + (L + 11) + rm.locals ≤ R.locals) (hcs : cells + rm.cells ≤ R.cells ∧ slots + rm.slots ≤ R.slots) (hnA : As.length = n) (hst : st = As.reverse ++ .ref b0 :: rest) (hrest : (rest.map fun v => v.category).sum ≤ 8) (d : decode cc pc = .ok (.invokevirtual index, 3)) (hp : pc + 3 = pc') (hc : cells + rm.cells = c') (hs : slots + rm.slots = s') (k : ∀ u : va_W, post u → V p l e R s m args below meth c D A nL Q (wr ++ u) c' s' pc' lv rest) : V p l e R s m args below meth c D A nL Q ws cells slots pc lv st := by
  subst hp; subst hst; subst hc; subst hs
  intro H locs ls hP hD hS hl
  have hPc := pc_sub isC hC hP
  have hDc := pc_subD isC hnC hC hD
  have hFc := va_free (wc := wc) hD hS X.hA isC hC
  have hbl := pre_blind (D := D) (sz := H.size) (w0 := wc) (av := .ref b0 :: As) hX.1
  have hXc : ∀ U : State, U.heap = H → s.WarmedH U.vm → Xp (va_A wc H.size) U := fun U hU hW => hX.2 _ H locs U hFc hS hU hW
  refine va_callv (va_runU (C := C) (owner := owner) (x := x) (As := As) (rest := rest) ⟨X.hx, X.hb, X.hml, X.hown, X.hts⟩ (hM H.size) (va_cwU n X.hts (lw_U h1 hsm h3 h2 h4 h5) rfl rfl rfl hyx hd hroom) ⟨hbl, hO H locs hP hS, fun U hU hW => ⟨rfl, by rw [hU], by rw [hU]; exact hPc, va_K.moved hW.alike X.hK, hDc, hXc U hU hW⟩⟩ rfl hnA hl.1 rfl (lv_room hrest) d hcs) hS (fun q _ h => hFc q h) hFc (fun u t H1 locs1 ht hvm hpo hB hz1 hk1 hS1 => ?_)
  obtain ⟨hP1, hD1⟩ := hB
  rw [ht] at hP1
  obtain ⟨hP, hD⟩ := va_join hP hD isC isR hC hR hn hdis hk1 hFc hP1 hD1
  exact k u hpo H1 locs1 ls hP hD hS1 hl
theorem vc_Ur (pc' c' s' : Nat) (X : CX p s m args meth c D A cc nL own) {y x : MethodName} {b : ByteArray} {L index : Nat} {r : Option FieldType} {rm : Room} {Xp : (Nat → Prop) → State → Prop} {post : Nat → va_W → Prop} {b0 : Nat} (n : Nat) (As : List Value) {rest : List Value} (isC isR : List Nat) (wc : va_W) {wr : va_W} (hC : isC.map (fun i => ws[i]?) = wc.map some) (hR : isR.map (fun i => ws[i]?) = wr.map some) (hn : va_nd isR = true) (hdis : ∀ i ∈ isR, i ∉ isC) (hnC : va_nd isC = true) (hM : CTr l y b L r rm D wc (.ref b0 :: As) Xp post) {C owner : String} (h1 : Cond.methodLink own index x ∈ lw_all) (hsm : Cond.sameMethod x.cls owner x.name x.desc ∈ lw_all) (h3 : Cond.selects C x y ∈ lw_all) (h2 : Cond.instanceMethod y ∈ lw_all) (h4 : Cond.initialized y.cls ∈ lw_all) (h5 : Cond.code y b L r ∈ lw_all) (hyx : y = ⟨owner, x.name, x.desc⟩) (hd : owner ≠ "java/lang/invoke/MethodHandle" ∧ owner ≠ "java/lang/invoke/VarHandle" ∧ (parseMethodDescriptor x.desc).map (fun d => d.parameters.length) = some n)
    (hO : ∀ (H : Heap) (locs : List Loc), va_P D CL ws H → va_S A s.heap H locs → ∃ cell : Cell, H[b0]? = some cell ∧ cell.vm.isStatics = false ∧ s.vm.findClass C = some cell.cls) (hX : Pass Xp s A) (hroom : rm.frames + 1 ≤ R.frames ∧ 8 + (L + 11) + rm.locals ≤ R.locals) (hcs : cells + rm.cells ≤ R.cells ∧ slots + rm.slots ≤ R.slots) (hnA : As.length = n) (hst : st = As.reverse ++ .ref b0 :: rest) (hrest : (rest.map fun v => v.category).sum ≤ 8) (d : decode cc pc = .ok (.invokevirtual index, 3)) (hp : pc + 3 = pc') (hc : cells + rm.cells = c') (hs : slots + rm.slots = s') (k : ∀ (a1 : Nat) (u : va_W), post a1 u → V p l e R s m args below meth c D A nL Q (wr ++ u) c' s' pc' lv (.ref a1 :: rest)) : V p l e R s m args below meth c D A nL Q ws cells slots pc lv st := by
  subst hp; subst hst; subst hc; subst hs
  intro H locs ls hP hD hS hl
  have hPc := pc_sub isC hC hP
  have hDc := pc_subD isC hnC hC hD
  have hFc := va_free (wc := wc) hD hS X.hA isC hC
  have hbl := pre_blind (D := D) (sz := H.size) (w0 := wc) (av := .ref b0 :: As) hX.1
  have hXc : ∀ U : State, U.heap = H → s.WarmedH U.vm → Xp (va_A wc H.size) U := fun U hU hW => hX.2 _ H locs U hFc hS hU hW
  refine va_callr (va_runU (C := C) (owner := owner) (x := x) (As := As) (rest := rest) ⟨X.hx, X.hb, X.hml, X.hown, X.hts⟩ (hM H.size) (va_cwU n X.hts (lw_U h1 hsm h3 h2 h4 h5) rfl rfl rfl hyx hd hroom) ⟨hbl, hO H locs hP hS, fun U hU hW => ⟨rfl, by rw [hU], by rw [hU]; exact hPc, va_K.moved hW.alike X.hK, hDc, hXc U hU hW⟩⟩ rfl hnA hl.1 rfl (lv_room hrest) d hcs) hS (fun q _ h => hFc q h) hFc (fun uu ra t H1 locs1 ht hvm hpo hB hz1 hk1 hS1 => ?_)
  obtain ⟨rfl, hP1, hD1⟩ := hB
  rw [ht] at hP1
  obtain ⟨hP, hD⟩ := va_join hP hD isC isR hC hR hn hdis hk1 hFc hP1 hD1
  exact k uu.2 uu.1 hpo H1 locs1 ls hP hD hS1 hl
/-- a field of an object that is never written -/
theorem v_getO (pc' : Nat) (X : CX p s m args meth c D A cc nL own) {o n dd : String} {v : Value} {q index : Nat} (hE : va_OF o n dd v q A s s.heap) (hlink : Cond.fieldLink own index o n dd ∈ lw_all) (d : decode cc pc = .ok (.getfield index, 3)) (hp : pc + 3 = pc') (k : V p l e R s m args below meth c D A nL Q ws cells slots pc' lv (v :: st)) : V p l e R s m args below meth c D A nL Q ws cells slots pc lv (.ref q :: st) := by
  subst hp
  exact fun H locs ls hP hD hS hl => vk_getf X.hx X.hb hE hS X.hown (X.hts _ hlink) (fun _ z => z) d (k H locs ls hP hD hS hl)
/-- an element of an array of references -/
theorem v_aldq (pc' : Nat) (X : CX p s m args meth c D A cc nL own) (q0 t0 : Nat) {a n : Nat} {C : String} {f : Nat → Option Nat} {i : Int32} (hin : vp_in i n) (ha : ws[q0]? = some (a, .inl (D.1 (100 + t0), n, .inr (.inr (.inr (.inr f)))))) (ht : (TYS D)[t0]? = some (D.1 (100 + t0), .object C)) {v : Value} (hv : va_rf (f i.toNatClampNeg) = v) (d : decode cc pc = .ok (.aaload, 1)) (hp : pc + 1 = pc') (k : V p l e R s m args below meth c D A nL Q ws cells slots pc' lv (v :: st)) : V p l e R s m args below meth c D A nL Q ws cells slots pc lv (.int i :: .ref a :: st) := by
  subst hp; subst hv
  exact fun H locs ls hP hD hS hl => va_aldq X.hx X.hb X.hK hP q0 t0 ha ht hin d (k H locs ls hP hD hS hl)
/-- a copy of an enum's table of constants -/
theorem v_cloneX (pc' c' s' : Nat) (X : CX p s m args meth c D A cc nL own) {C ad dd : String} {t N t0 index : Nat} {f : Nat → Nat} (hX : AX C ad dd t N f A s s.heap) (hlink : Cond.methodLink own index ⟨ad, "clone", "()Ljava/lang/Object;"⟩ ∈ lw_all) (hsame : Cond.sameMethod ad "java/lang/Object" "clone" "()Ljava/lang/Object;" ∈ lw_all) (hsel : Cond.selects ad ⟨ad, "clone", "()Ljava/lang/Object;"⟩ ⟨"java/lang/Object", "clone", "()Ljava/lang/Object;"⟩ ∈ lw_all) (hcl : va_Nw (.castable ad "java/lang/Cloneable") s) (ht : (TYS D)[t0]? = some (D.1 (100 + t0), .object C)) (hnm : ad = "[" ++ (FieldType.object C).toString)
    (hframes : 1 ≤ R.frames) (hlocals : (st.map fun v => v.category).sum + 14 ≤ R.locals) (hcells : cells + 1 ≤ R.cells) (hslots : slots + N ≤ R.slots) (d : decode cc pc = .ok (.invokevirtual index, 3)) (hp : pc + 3 = pc') (hc : cells + 1 = c') (hs : slots + N = s')
    (k : ∀ q : Nat, V p l e R s m args below meth c D A nL Q (ws ++ [(q, .inl (D.1 (100 + t0), N, .inr (.inr (.inr (.inr (fun j => some (f j)))))))]) c' s' pc' lv (.ref q :: st)) : V p l e R s m args below meth c D A nL Q ws cells slots pc lv (.ref t :: st) := by
  subst hp; subst hc; subst hs
  intro H locs ls hP hD hS hl T hT XS
  obtain ⟨-, cell, c1, c2, c3, c4, c5, c6, c7⟩ := hX
  have hcT : H[t]? = some cell := by rw [hS.2.1 t (Array.getElem?_eq_some_iff.mp c1).1 c7]; exact c1
  obtain ⟨-, kA, comp, hkA, hkind, hcomp, hfa⟩ := (X.hK.2 t0 _ ht).2.elim (fun kA h => h.elim (fun comp h => (⟨trivial, kA, comp, h⟩ : True ∧ ∃ (kA : Class) (comp : ClassId), s.vm.classes[D.1 (100 + t0)]? = some kA ∧ kA.kind = .array comp (.object C) ∧ s.vm.findClass C = some comp ∧ s.vm.findClass ("[" ++ (FieldType.object C).toString) = some (D.1 (100 + t0)))))
  rw [← hnm] at hfa
  have hcls : cell.cls = D.1 (100 + t0) := Option.some.inj (c2.symm.trans hfa)
  have hcellE : ({ cls := cell.cls, slots := cell.slots } : Cell) = vp_cell (D.1 (100 + t0)) (N, .inr (.inr (.inr (.inr (fun j => some (f j)))))) := by
    rw [hcls]
    show ({ cls := D.1 (100 + t0), slots := cell.slots } : Cell) = arrV (D.1 (100 + t0)) N (fun j => va_rf (some (f j)))
    unfold arrV
    congr 1
    apply Array.ext
    · simp [c5]
    · intro i h1 h2
      have h3 := c6 i (by omega)
      have h4 : cell.slots[i]? = some cell.slots[i] := Array.getElem?_eq_getElem h1
      rw [h4] at h3
      have h5 := Option.some.inj h3
      rw [h5]
      simp
      rfl
  obtain ⟨c0, t0', f1, f2, f3⟩ := Cond.castable_spec (va_Nw.use (A := args) rfl hcl)
  cases c2.symm.trans f1
  obtain ⟨kB, hkB, he⟩ := XS.warmed.alike.2.2 _ _ hkA
  have hkB2 : kB.kind = .array comp (.object C) := by rw [he]; exact hkind
  obtain ⟨vm', X', stp⟩ := XS.cloneArray X.hx X.hown (X.hts _ hlink) (X.hts _ hsame) (X.hts _ q375) (X.hts _ q376) (X.hts _ hsel) (a := t) (cell := cell) (by rw [hT]; exact hcT) (fun k h => by rw [h] at c3; cases c3) c4 c2 f2 f3
    (fun i v hv => by
      have hi : i < N := by rw [← c5]; exact (Array.getElem?_eq_some_iff.mp hv).1
      rw [c6 i hi] at hv
      cases hv
      rw [hcls]
      simp [State.fitsSlot, State.slotType?, hkB, hkB2, fits])
    (g := F0 m pc ls (.ref t :: st)) rfl (by rw [X.hml]; exact hl.1) rfl (by rw [X.hb]; exact d) hframes (by show 2 * 0 + _ + 14 ≤ _; omega) hcells (by rw [c5]; exact hslots) (hloader := by rw [hcls]; exact Vm.clonesLoader_of_array hkA hkind)
  rw [hcellE, c5] at X'
  generalize hH1 : H.push (vp_cell (D.1 (100 + t0)) (N, .inr (.inr (.inr (.inr (fun j => some (f j))))))) = H1
  have z1 : H1.size = H.size + 1 := by rw [← hH1, Array.size_push]
  have e1 : H1[H.size]? = some (vp_cell (D.1 (100 + t0)) (N, .inr (.inr (.inr (.inr (fun j => some (f j))))))) := by rw [← hH1, Array.getElem?_push_size]
  have o1 : ∀ q : Nat, q < H.size → H1[q]? = H[q]? := fun q hq => by rw [← hH1, Array.getElem?_push, if_neg (Nat.ne_of_lt hq)]
  have hk : ∀ (k : Nat) (y : Nat × va_E), ws[k]? = some y → H1[y.1]? = H[y.1]? := fun k y hy => o1 y.1 ((hP k y hy).lt)
  obtain ⟨tt, b1, b2⟩ := k H.size H1 locs ls ((hP.kept hk).app (fun k y hy => by
      have hz : k < 1 := (List.getElem?_eq_some_iff.mp hy).1
      rw [show k = 0 by omega] at hy
      cases hy
      exact e1)) (hD.push hP rfl (X.hA _ hS.1)) ⟨Nat.le_trans hS.1 (by omega), fun y h1 h2 => (o1 y (Nat.lt_of_lt_of_le h1 hS.1)).trans (hS.2.1 y h1 h2), hS.2.2⟩ hl
    ((T.setVm vm').pushCell (vp_cell (D.1 (100 + t0)) (N, .inr (.inr (.inr (.inr (fun j => some (f j)))))))) (by rw [← hH1, ← hT]; rfl) X'
  refine ⟨tt, stp tt ?_, b2⟩
  rw [hcellE, hT]
  exact b1
/-- a cast of an array to its own class -/
theorem v_castA (pc' : Nat) (X : CX p s m args meth c D A cc nL own) (q0 t0 : Nat) {a : Nat} {C nm : String} {x : vp_A} {index : Nat} (ha : ws[q0]? = some (a, .inl (D.1 (100 + t0), x))) (ht : (TYS D)[t0]? = some (D.1 (100 + t0), .object C)) (hnm : nm = "[" ++ (FieldType.object C).toString) (hlink : Cond.classLink own index nm ∈ lw_all) (d : decode cc pc = .ok (.checkcast index, 3)) (hp : pc + 3 = pc') (k : V p l e R s m args below meth c D A nL Q ws cells slots pc' lv (.ref a :: st)) : V p l e R s m args below meth c D A nL Q ws cells slots pc lv (.ref a :: st) := by
  subst hp
  obtain ⟨kA, comp, hkA, hkind, hcomp, hfa⟩ := (X.hK.2 t0 _ ht).2
  rw [← hnm] at hfa
  exact fun H locs ls hP hD hS hl => va_castA X.hx X.hb X.hown (X.hts _ hlink) hP q0 ha hfa d (k H locs ls hP hD hS hl)
abbrev rm_ord : Room := { frames := 0, cells := 0, slots := 0, locals := 0 }
theorem w_ordK {l : Launch} {D : va_G} (i : Nat) (hi : i < 3) : CTi l yJ0_ordinal cJ0_ordinal 1 (Option.some Jvm.ClassFile.FieldType.int) rm_ord D [] [.ref (adK D i)] (AMB D) (fun r1 u => r1 = nI i ∧ u = []) := by
  refine m_i (by decide) (Nat.le_of_ble_eq_true rfl) ?_
  intro p e s m args below meth c A B
  obtain ⟨X, hr, hAm, -, -, -⟩ := B
  refine v_lv (lv' := [(0, .ref (adK D i))]) [0] rfl ?_
  refine v_aload_n 1 X 0 dJ0_ordinal_0 rfl rfl rfl ?_
  refine v_getO 4 X (hAm.2.1.1 i hi).2.2.1 q1580 dJ0_ordinal_1 rfl ?_
  exact v_iret X hr ⟨rfl, rfl⟩ (Nat.le_of_ble_eq_true rfl) (Nat.le_of_ble_eq_true rfl) dJ0_ordinal_4
theorem w_ordV {l : Launch} {D : va_G} (i : Nat) (hi : i < 5) : CTi l yJ0_ordinal cJ0_ordinal 1 (Option.some Jvm.ClassFile.FieldType.int) rm_ord D [] [.ref (adV D i)] (AMB D) (fun r1 u => r1 = nI i ∧ u = []) := by
  refine m_i (by decide) (Nat.le_of_ble_eq_true rfl) ?_
  intro p e s m args below meth c A B
  obtain ⟨X, hr, hAm, -, -, -⟩ := B
  refine v_lv (lv' := [(0, .ref (adV D i))]) [0] rfl ?_
  refine v_aload_n 1 X 0 dJ0_ordinal_0 rfl rfl rfl ?_
  refine v_getO 4 X (hAm.2.2.1.1 i hi).2.2 q1580 dJ0_ordinal_1 rfl ?_
  exact v_iret X hr ⟨rfl, rfl⟩ (Nat.le_of_ble_eq_true rfl) (Nat.le_of_ble_eq_true rfl) dJ0_ordinal_4
theorem v_ordK (pc' : Nat) (X : CX p s m args meth c D A cc nL own) (hAm : AMB D A s) {i index : Nat} {z : Int32} (h : ordK i = some z) (isR : List Nat) (hR : isR.map (fun i => ws[i]?) = ws.map some) (hn : va_nd isR = true) (h1 : Cond.methodLink own index ⟨"DyeLattice$Kind", "ordinal", "()I"⟩ ∈ lw_all) (hroom : 0 + 1 ≤ R.frames ∧ 8 + (1 + 11) + 0 ≤ R.locals) (hcs : cells + 0 ≤ R.cells ∧ slots + 0 ≤ R.slots) (hrest : (st.map fun v => v.category).sum ≤ 8) (d : decode cc pc = .ok (.invokevirtual index, 3)) (hp : pc + 3 = pc') (k : V p l e R s m args below meth c D A nL Q ws cells slots pc' lv (.int z :: st)) : V p l e R s m args below meth c D A nL Q ws cells slots pc lv (.ref (adK D i) :: st) := by
  obtain ⟨hi, rfl⟩ := ordK_s h
  refine vc_Ui (wr := ws) (C := "DyeLattice$Kind") (owner := "java/lang/Enum") pc' cells slots X 0 [] [] isR [] rfl hR hn (fun _ _ h => by cases h) rfl (w_ordK i hi) h1 q999 q1000 q445 q86 q446 rfl ⟨by decide, by decide, by decide +kernel⟩ (fun H locs _ hS => ?_) (pass_amb hAm) hroom hcs rfl rfl hrest d hp rfl rfl (fun r1 u e1 => ?_)
  · obtain ⟨cell, a1, a2, a3, -⟩ := (hAm.2.1.1 i hi).2.1.kept hS.2.1
    exact ⟨cell, a1, a2, a3⟩
  · obtain ⟨rfl, rfl⟩ := e1
    rw [List.append_nil]
    exact k
theorem v_ordV (pc' : Nat) (X : CX p s m args meth c D A cc nL own) (hAm : AMB D A s) {i index : Nat} {z : Int32} (h : ordV i = some z) (isR : List Nat) (hR : isR.map (fun i => ws[i]?) = ws.map some) (hn : va_nd isR = true) (h1 : Cond.methodLink own index ⟨"DyeLattice$Valve", "ordinal", "()I"⟩ ∈ lw_all) (hroom : 0 + 1 ≤ R.frames ∧ 8 + (1 + 11) + 0 ≤ R.locals) (hcs : cells + 0 ≤ R.cells ∧ slots + 0 ≤ R.slots) (hrest : (st.map fun v => v.category).sum ≤ 8) (d : decode cc pc = .ok (.invokevirtual index, 3)) (hp : pc + 3 = pc') (k : V p l e R s m args below meth c D A nL Q ws cells slots pc' lv (.int z :: st)) : V p l e R s m args below meth c D A nL Q ws cells slots pc lv (.ref (adV D i) :: st) := by
  obtain ⟨hi, rfl⟩ := ordV_s h
  have go : ∀ {C : String}, vCl.getD i "" = C → Cond.selects C ⟨"DyeLattice$Valve", "ordinal", "()I"⟩ yJ0_ordinal ∈ lw_all → V p l e R s m args below meth c D A nL Q ws cells slots pc lv (.ref (adV D i) :: st) := by
    intro C hC hsel
    subst hC
    refine vc_Ui (wr := ws) (C := vCl.getD i "") (owner := "java/lang/Enum") pc' cells slots X 0 [] [] isR [] rfl hR hn (fun _ _ h => by cases h) rfl (w_ordV i hi) h1 q438 hsel q445 q86 q446 rfl ⟨by decide, by decide, by decide +kernel⟩ (fun H locs _ hS => ?_) (pass_amb hAm) hroom hcs rfl rfl hrest d hp rfl rfl (fun r1 u e1 => ?_)
    · obtain ⟨cell, a1, a2, a3, -⟩ := (hAm.2.2.1.1 i hi).2.1.kept hS.2.1
      exact ⟨cell, a1, a2, a3⟩
    · obtain ⟨rfl, rfl⟩ := e1
      rw [List.append_nil]
      exact k
  rcases (show i = 0 ∨ i = 1 ∨ i = 2 ∨ i = 3 ∨ i = 4 by omega) with rfl | rfl | rfl | rfl | rfl
  · exact go rfl q440
  · exact go rfl q441
  · exact go rfl q442
  · exact go rfl q443
  · exact go rfl q444
end V4
abbrev rmX2_values : Room := { frames := 1, cells := 1, slots := 3, locals := 32 }
theorem hdX2_values : yX2_values.cls ≠ "java/lang/invoke/MethodHandle" ∧ yX2_values.cls ≠ "java/lang/invoke/VarHandle" ∧ (parseMethodDescriptor yX2_values.desc).map (fun d => d.parameters.length) = some 0 := by decide +kernel
theorem w_X2_values {l : Launch} {D : va_G} : CTr l yX2_values cX2_values 0 (Option.some (Jvm.ClassFile.FieldType.array (Jvm.ClassFile.FieldType.object "DyeLattice$Kind"))) rmX2_values D [] [] (AMB D) (fun a1 u => ∃ q : Nat, a1 = q ∧ u = [(q, .inl (D.1 106, 3, .inr (.inr (.inr (.inr (fun j => some (adK D j)))))))]) := by
  refine m_r (by decide) (Nat.le_of_ble_eq_true rfl) ?_
  intro p e s m args below meth c A B
  obtain ⟨X, hr, hAm, -, -, -⟩ := B
  refine v_lv (lv' := []) [] rfl ?_
  refine (fun H locs ls hP hD hS hl => va_gets X.hx X.hb hAm.2.2.2.1.1 hS X.hown (X.hts _ q371) (fun _ z => z) dX2_values_0 ((?_ : V p l e rmX2_values s m args below meth c D A 0 _ [] 0 0 3 [] [.ref (D.2 203 0)]) H locs ls hP hD hS hl))
  refine v_cloneX (t0 := 6) 6 1 3 X hAm.2.2.2.1 q373 q374 q377 (hAm.nw q378 rfl) rfl (by decide) (Nat.le_of_ble_eq_true rfl) (Nat.le_of_ble_eq_true rfl) (Nat.le_of_ble_eq_true rfl) (Nat.le_of_ble_eq_true rfl) dX2_values_3 rfl rfl rfl (fun q => ?_)
  refine v_castA (C := "DyeLattice$Kind") 9 X 0 6 rfl rfl (by decide) q380 dX2_values_6 rfl ?_
  refine v_aret (post := (fun a1 u => ∃ q : Nat, a1 = q ∧ u = [(q, .inl (D.1 106, 3, .inr (.inr (.inr (.inr (fun j => some (adK D j)))))))])) X hr (Or.inr ⟨_, rfl⟩) ?_ ?_ ?_ dX2_values_9
  · exact ⟨q, rfl, rfl⟩
  · exact Nat.le_of_ble_eq_true rfl
  · exact Nat.le_of_ble_eq_true rfl
abbrev rmX2_of : Room := { frames := 2, cells := 1, slots := 3, locals := 64 }
def ofK (x : Int32) : Option Nat := if x < 0 ∨ 3 ≤ x.toNatClampNeg then none else some x.toNatClampNeg
theorem hdX2_of : yX2_of.cls ≠ "java/lang/invoke/MethodHandle" ∧ yX2_of.cls ≠ "java/lang/invoke/VarHandle" ∧ (parseMethodDescriptor yX2_of.desc).map (fun d => d.parameters.length) = some 1 := by decide +kernel
theorem w_X2_of {l : Launch} {D : va_G} {x : Int32} {i : Nat} (h : ofK x = some i) : CTr l yX2_of cX2_of 1 (Option.some (Jvm.ClassFile.FieldType.object "DyeLattice$Kind")) rmX2_of D [] [.int x] (AMB D) (fun a1 u => a1 = adK D i ∧ u = []) := by
  have hh : vp_in x 3 ∧ x.toNatClampNeg = i := by
    unfold ofK at h
    split at h
    · cases h
    · rename_i h1
      exact ⟨h1, Option.some.inj h⟩
  obtain ⟨hin, rfl⟩ := hh
  refine m_r (by decide) (Nat.le_of_ble_eq_true rfl) ?_
  intro p e s m args below meth c A B
  obtain ⟨X, hr, hAm, -, -, -⟩ := B
  refine v_lv (lv' := [(0, .int x)]) [0] rfl ?_
  refine vc_Sr (wr := ([] : va_W)) 3 1 3 X 0 [] [] [] ([] : va_W) rfl rfl (by decide) (by decide) (by decide) w_X2_values q368 q369 q87 q370 hdX2_values (pass_amb hAm) ⟨Nat.le_of_ble_eq_true rfl, Nat.le_of_ble_eq_true rfl⟩ ⟨Nat.le_of_ble_eq_true rfl, Nat.le_of_ble_eq_true rfl⟩ rfl rfl (Nat.le_of_ble_eq_true rfl) dX2_of_0 rfl rfl rfl (fun a1 u e1 => ?_)
  obtain ⟨q, rfl, rfl⟩ := e1
  refine v_iload_n 4 X 0 dX2_of_3 rfl rfl rfl ?_
  refine v_aldq (C := "DyeLattice$Kind") 5 X 0 6 hin rfl rfl rfl dX2_of_4 rfl ?_
  refine v_ws (ws' := ([] : va_W)) [] (by decide) rfl ?_
  refine v_aret (post := (fun a1 u => a1 = adK D x.toNatClampNeg ∧ u = [])) X hr (Or.inl ⟨_, rfl⟩) ?_ ?_ ?_ dX2_of_5
  · exact ⟨rfl, rfl⟩
  · exact Nat.le_of_ble_eq_true rfl
  · exact Nat.le_of_ble_eq_true rfl
abbrev rmX3_values : Room := { frames := 1, cells := 1, slots := 5, locals := 32 }
theorem hdX3_values : yX3_values.cls ≠ "java/lang/invoke/MethodHandle" ∧ yX3_values.cls ≠ "java/lang/invoke/VarHandle" ∧ (parseMethodDescriptor yX3_values.desc).map (fun d => d.parameters.length) = some 0 := by decide +kernel
theorem w_X3_values {l : Launch} {D : va_G} : CTr l yX3_values cX3_values 0 (Option.some (Jvm.ClassFile.FieldType.array (Jvm.ClassFile.FieldType.object "DyeLattice$Valve"))) rmX3_values D [] [] (AMB D) (fun a1 u => ∃ q : Nat, a1 = q ∧ u = [(q, .inl (D.1 104, 5, .inr (.inr (.inr (.inr (fun j => some (adV D j)))))))]) := by
  refine m_r (by decide) (Nat.le_of_ble_eq_true rfl) ?_
  intro p e s m args below meth c A B
  obtain ⟨X, hr, hAm, -, -, -⟩ := B
  refine v_lv (lv' := []) [] rfl ?_
  refine (fun H locs ls hP hD hS hl => va_gets X.hx X.hb hAm.2.2.2.2.1.1 hS X.hown (X.hts _ q453) (fun _ z => z) dX3_values_0 ((?_ : V p l e rmX3_values s m args below meth c D A 0 _ [] 0 0 3 [] [.ref (D.2 203 1)]) H locs ls hP hD hS hl))
  refine v_cloneX (t0 := 4) 6 1 5 X hAm.2.2.2.2.1 q455 q456 q457 (hAm.nw q458 rfl) rfl (by decide) (Nat.le_of_ble_eq_true rfl) (Nat.le_of_ble_eq_true rfl) (Nat.le_of_ble_eq_true rfl) (Nat.le_of_ble_eq_true rfl) dX3_values_3 rfl rfl rfl (fun q => ?_)
  refine v_castA (C := "DyeLattice$Valve") 9 X 0 4 rfl rfl (by decide) q459 dX3_values_6 rfl ?_
  refine v_aret (post := (fun a1 u => ∃ q : Nat, a1 = q ∧ u = [(q, .inl (D.1 104, 5, .inr (.inr (.inr (.inr (fun j => some (adV D j)))))))])) X hr (Or.inr ⟨_, rfl⟩) ?_ ?_ ?_ dX3_values_9
  · exact ⟨q, rfl, rfl⟩
  · exact Nat.le_of_ble_eq_true rfl
  · exact Nat.le_of_ble_eq_true rfl
abbrev rmX3_of : Room := { frames := 2, cells := 1, slots := 5, locals := 64 }
def ofV (x : Int32) : Option Nat := if x < 0 ∨ 5 ≤ x.toNatClampNeg then none else some x.toNatClampNeg
theorem hdX3_of : yX3_of.cls ≠ "java/lang/invoke/MethodHandle" ∧ yX3_of.cls ≠ "java/lang/invoke/VarHandle" ∧ (parseMethodDescriptor yX3_of.desc).map (fun d => d.parameters.length) = some 1 := by decide +kernel
theorem w_X3_of {l : Launch} {D : va_G} {x : Int32} {i : Nat} (h : ofV x = some i) : CTr l yX3_of cX3_of 1 (Option.some (Jvm.ClassFile.FieldType.object "DyeLattice$Valve")) rmX3_of D [] [.int x] (AMB D) (fun a1 u => a1 = adV D i ∧ u = []) := by
  have hh : vp_in x 5 ∧ x.toNatClampNeg = i := by
    unfold ofV at h
    split at h
    · cases h
    · rename_i h1
      exact ⟨h1, Option.some.inj h⟩
  obtain ⟨hin, rfl⟩ := hh
  refine m_r (by decide) (Nat.le_of_ble_eq_true rfl) ?_
  intro p e s m args below meth c A B
  obtain ⟨X, hr, hAm, -, -, -⟩ := B
  refine v_lv (lv' := [(0, .int x)]) [0] rfl ?_
  refine vc_Sr (wr := ([] : va_W)) 3 1 5 X 0 [] [] [] ([] : va_W) rfl rfl (by decide) (by decide) (by decide) w_X3_values q450 q451 q88 q452 hdX3_values (pass_amb hAm) ⟨Nat.le_of_ble_eq_true rfl, Nat.le_of_ble_eq_true rfl⟩ ⟨Nat.le_of_ble_eq_true rfl, Nat.le_of_ble_eq_true rfl⟩ rfl rfl (Nat.le_of_ble_eq_true rfl) dX3_of_0 rfl rfl rfl (fun a1 u e1 => ?_)
  obtain ⟨q, rfl, rfl⟩ := e1
  refine v_iload_n 4 X 0 dX3_of_3 rfl rfl rfl ?_
  refine v_aldq (C := "DyeLattice$Valve") 5 X 0 4 hin rfl rfl rfl dX3_of_4 rfl ?_
  refine v_ws (ws' := ([] : va_W)) [] (by decide) rfl ?_
  refine v_aret (post := (fun a1 u => a1 = adV D x.toNatClampNeg ∧ u = [])) X hr (Or.inl ⟨_, rfl⟩) ?_ ?_ ?_ dX3_of_5
  · exact ⟨rfl, rfl⟩
  · exact Nat.le_of_ble_eq_true rfl
  · exact Nat.le_of_ble_eq_true rfl
