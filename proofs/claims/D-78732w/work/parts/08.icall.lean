set_option maxRecDepth 100000
set_option maxHeartbeats 2000000
/-- a lambda's object: its captured values -/
def LamO (c : ClassId) (vals : List Value) (q : Nat) (A : Nat → Prop) (H : Heap) : Prop := H[q]? = some { cls := c, slots := vals.toArray, vm := .none } ∧ ¬ A q
theorem LamO.go {c : ClassId} {vals : List Value} {q : Nat} {A B : Nat → Prop} {H H1 : Heap} (h : LamO c vals q A H) (hq : ∀ a : Nat, a < H.size → ¬ A a → H1[a]? = H[a]?) (hAB : ∀ q, B q → A q) : LamO c vals q B H1 :=
  ⟨by rw [hq q (Array.getElem?_eq_some_iff.mp h.1).1 h.2]; exact h.1, fun z => h.2 (hAB _ z)⟩
def IQ (D : va_G) (wc : va_W) (z : Int32) : Array Value → State → Outcome → State → Prop := fun _ st o t => o = .returned (some (.int z)) ∧ va_P D CL wc t.heap ∧ va_D (va_A wc st.heap.size) wc ∧ va_F (va_A wc st.heap.size) st t
section IC
variable {p : Program} {l : Launch} {e : Env} {R : Room} {s : State} {m : MethodId} {args : Array Value} {below : List Frame} {meth : Method} {c : Code} {D : va_G}
theorem fw_tail (hx : p.tables.exec = Jvm.exec) {cc : ByteArray} (hb : c.code = cc) (hlk : meth.locks = false) (hret : meth.sig.returnType = some .boolean) {pc mc ms : Nat} {ls : Array Slot} {z : Int32} {wc : va_W} {st0 : List Value} {a : Array Value} (hnz : narrow .boolean (.int z) = .int z)
    (hrun : va_Run p l e R s m args below meth c s.heap [] 0 0 mc ms (F0 m pc ls st0) [] (va_Qi (fun (r1 : Int32) u => r1 = z ∧ u = wc) (Wd D (va_A wc s.heap.size)) (va_A wc s.heap.size) a) (va_A wc s.heap.size)) (d : decode cc (pc + 3) = .ok (.ireturn, 1)) :
    W p l e R s m args below meth c s.heap [] 0 0 (MQ below (IQ D wc z) args s mc ms (va_A wc s.heap.size)) (F0 m pc ls st0) := by
  refine va_calli hrun va_S.rf (fun q _ h => h) (fun q h => h) (fun r1 u t H1 locs1 ht hvm hpo hB hz1 hk1 hS1 => ?_)
  obtain ⟨rfl, rfl⟩ := hpo
  obtain ⟨hP1, hD1⟩ := hB
  rw [Nat.zero_add, Nat.zero_add]
  exact W.zret hx hb hret hnz (fun t2 ht2 hW => ⟨rfl, by rw [ht2, ← ht]; exact hP1, hD1, hS1.F ht2⟩) hS1.2.2 d hlk
/-- the forwarder's body, over the run of what it calls -/
def FB (l : Launch) (D : va_G) (q : Nat) (vals av0 As : List Value) (mc ms : Nat) (wc : va_W) (z : Int32) (bytes : ByteArray) (mL pcx jm jc jn : Nat) (fls : List Nat) (cn tn iname idesc : String) : Prop :=
  ∀ (p : Program) (e : Env) (R : Room) (s : State) (c0 : ClassId) (below : List Frame) (meth : Method) (c : Code), p.tables.exec = Jvm.exec → c.code = bytes → meth.locks = false → meth.sig.returnType = some .boolean →
    (∀ T : State, s.WarmedH T.vm → MFx T.vm c0 cn bytes mL jm jc jn fls tn iname idesc) → s.heap[q]? = some { cls := c0, slots := vals.toArray, vm := .none } → narrow .boolean (.int z) = .int z →
    (∀ (ls : Array Slot), ls.size = mL → ∃ a, va_Run p l e R s ⟨c0, 1⟩ av0.toArray below meth c s.heap [] 0 0 mc ms (F0 ⟨c0, 1⟩ pcx ls As.reverse) [] (va_Qi (fun (r1 : Int32) u => r1 = z ∧ u = wc) (Wd D (va_A wc s.heap.size)) (va_A wc s.heap.size) a) (va_A wc s.heap.size)) →
    W p l e R s ⟨c0, 1⟩ av0.toArray below meth c s.heap [] 0 0 (MQ below (IQ D wc z) av0.toArray s mc ms (va_A wc s.heap.size)) (entryFrame ⟨c0, 1⟩ av0.toArray mL)
theorem mf_field {T : State} {c0 : ClassId} {cn : String} {bytes : ByteArray} {mL jm jc jn : Nat} {fls : List Nat} {tn iname idesc : String} (h : MFx T.vm c0 cn bytes mL jm jc jn fls tn iname idesc) {i j : Nat} (hij : fls[i]? = some j) : ∃ f : Field, T.vm.fieldReady c0 j c0 f ∧ f.isStatic = false ∧ f.slot = i := by
  obtain ⟨k, tk, file, methk, ck, toy, t, -, -, -, -, -, -, -, -, -, -, -, -, -, -, -, -, -, -, hf⟩ := h
  exact hf i j hij
end IC
theorem fbI1 {l : Launch} {D : va_G} {q : Nat} {b : Nat} {x : Int32} {mc ms : Nat} {wc : va_W} {z : Int32} {bytes : ByteArray} {jm jc jn : Nat} {j0 : Nat} {cn tn iname idesc : String} (d0 : decode bytes 0 = .ok (.aload_n 0, 1)) (d1 : decode bytes 1 = .ok (.getfield j0, 3)) (d4 : decode bytes 4 = .ok (.iload_n 1, 1)) (d5 : decode bytes 5 = .ok (.invokevirtual jm, 3)) (d8 : decode bytes 8 = .ok (.ireturn, 1)) : FB l D q [.ref b] [.ref q, .int x] [.ref b, .int x] mc ms wc z bytes 2 5 jm jc jn [j0] cn tn iname idesc := by
  intro p e R s c0 below meth c hx hb hlk hret hmf hcell hnz hrun
  rw [lg_entry_eq]
  have hl := lv_entry ([.ref q, .int x]) (n := 2) (Nat.le_of_ble_eq_true rfl)
  generalize (lg_sl ([.ref q, .int x]) ++ List.replicate (2 - (lg_sl ([.ref q, .int x])).length) Slot.unset).toArray = ls at hl ⊢
  refine lv_aload_n hx hb d0 rfl (lv_at hl 0 rfl) ?_
  refine w_gf (i := 0) hx hb (fun T hW => mf_field (hmf T hW) rfl) hcell (fun h => by cases h) rfl d1 ?_
  refine lv_iload_n hx hb d4 rfl (lv_at hl 1 rfl) ?_
  obtain ⟨a, hr⟩ := hrun ls hl.1
  exact fw_tail hx hb hlk hret hnz hr d8
theorem fbI2 {l : Launch} {D : va_G} {q : Nat} {b : Nat} {k0 : Int32} {x : Int32} {mc ms : Nat} {wc : va_W} {z : Int32} {bytes : ByteArray} {jm jc jn : Nat} {j0 : Nat} {j1 : Nat} {cn tn iname idesc : String} (d0 : decode bytes 0 = .ok (.aload_n 0, 1)) (d1 : decode bytes 1 = .ok (.getfield j0, 3)) (d4 : decode bytes 4 = .ok (.aload_n 0, 1)) (d5 : decode bytes 5 = .ok (.getfield j1, 3)) (d8 : decode bytes 8 = .ok (.iload_n 1, 1)) (d9 : decode bytes 9 = .ok (.invokevirtual jm, 3)) (d12 : decode bytes 12 = .ok (.ireturn, 1)) : FB l D q [.ref b, .int k0] [.ref q, .int x] [.ref b, .int k0, .int x] mc ms wc z bytes 2 9 jm jc jn [j0, j1] cn tn iname idesc := by
  intro p e R s c0 below meth c hx hb hlk hret hmf hcell hnz hrun
  rw [lg_entry_eq]
  have hl := lv_entry ([.ref q, .int x]) (n := 2) (Nat.le_of_ble_eq_true rfl)
  generalize (lg_sl ([.ref q, .int x]) ++ List.replicate (2 - (lg_sl ([.ref q, .int x])).length) Slot.unset).toArray = ls at hl ⊢
  refine lv_aload_n hx hb d0 rfl (lv_at hl 0 rfl) ?_
  refine w_gf (i := 0) hx hb (fun T hW => mf_field (hmf T hW) rfl) hcell (fun h => by cases h) rfl d1 ?_
  refine lv_aload_n hx hb d4 rfl (lv_at hl 0 rfl) ?_
  refine w_gf (i := 1) hx hb (fun T hW => mf_field (hmf T hW) rfl) hcell (fun h => by cases h) rfl d5 ?_
  refine lv_iload_n hx hb d8 rfl (lv_at hl 1 rfl) ?_
  obtain ⟨a, hr⟩ := hrun ls hl.1
  exact fw_tail hx hb hlk hret hnz hr d12
theorem fbI3 {l : Launch} {D : va_G} {q : Nat} {b : Nat} {k0 k1 : Int32} {x : Int32} {mc ms : Nat} {wc : va_W} {z : Int32} {bytes : ByteArray} {jm jc jn : Nat} {j0 : Nat} {j1 : Nat} {j2 : Nat} {cn tn iname idesc : String} (d0 : decode bytes 0 = .ok (.aload_n 0, 1)) (d1 : decode bytes 1 = .ok (.getfield j0, 3)) (d4 : decode bytes 4 = .ok (.aload_n 0, 1)) (d5 : decode bytes 5 = .ok (.getfield j1, 3)) (d8 : decode bytes 8 = .ok (.aload_n 0, 1)) (d9 : decode bytes 9 = .ok (.getfield j2, 3)) (d12 : decode bytes 12 = .ok (.iload_n 1, 1)) (d13 : decode bytes 13 = .ok (.invokevirtual jm, 3)) (d16 : decode bytes 16 = .ok (.ireturn, 1)) : FB l D q [.ref b, .int k0, .int k1] [.ref q, .int x] [.ref b, .int k0, .int k1, .int x] mc ms wc z bytes 2 13 jm jc jn [j0, j1, j2] cn tn iname idesc := by
  intro p e R s c0 below meth c hx hb hlk hret hmf hcell hnz hrun
  rw [lg_entry_eq]
  have hl := lv_entry ([.ref q, .int x]) (n := 2) (Nat.le_of_ble_eq_true rfl)
  generalize (lg_sl ([.ref q, .int x]) ++ List.replicate (2 - (lg_sl ([.ref q, .int x])).length) Slot.unset).toArray = ls at hl ⊢
  refine lv_aload_n hx hb d0 rfl (lv_at hl 0 rfl) ?_
  refine w_gf (i := 0) hx hb (fun T hW => mf_field (hmf T hW) rfl) hcell (fun h => by cases h) rfl d1 ?_
  refine lv_aload_n hx hb d4 rfl (lv_at hl 0 rfl) ?_
  refine w_gf (i := 1) hx hb (fun T hW => mf_field (hmf T hW) rfl) hcell (fun h => by cases h) rfl d5 ?_
  refine lv_aload_n hx hb d8 rfl (lv_at hl 0 rfl) ?_
  refine w_gf (i := 2) hx hb (fun T hW => mf_field (hmf T hW) rfl) hcell (fun h => by cases h) rfl d9 ?_
  refine lv_iload_n hx hb d12 rfl (lv_at hl 1 rfl) ?_
  obtain ⟨a, hr⟩ := hrun ls hl.1
  exact fw_tail hx hb hlk hret hnz hr d16
theorem fbS1 {l : Launch} {D : va_G} {q : Nat} {k0 : Int32} {x : Int32} {mc ms : Nat} {wc : va_W} {z : Int32} {bytes : ByteArray} {jm jc jn : Nat} {j0 : Nat} {cn tn iname idesc : String} (d0 : decode bytes 0 = .ok (.aload_n 0, 1)) (d1 : decode bytes 1 = .ok (.getfield j0, 3)) (d4 : decode bytes 4 = .ok (.iload_n 1, 1)) (d5 : decode bytes 5 = .ok (.invokestatic jm, 3)) (d8 : decode bytes 8 = .ok (.ireturn, 1)) : FB l D q [.int k0] [.ref q, .int x] [.int k0, .int x] mc ms wc z bytes 2 5 jm jc jn [j0] cn tn iname idesc := by
  intro p e R s c0 below meth c hx hb hlk hret hmf hcell hnz hrun
  rw [lg_entry_eq]
  have hl := lv_entry ([.ref q, .int x]) (n := 2) (Nat.le_of_ble_eq_true rfl)
  generalize (lg_sl ([.ref q, .int x]) ++ List.replicate (2 - (lg_sl ([.ref q, .int x])).length) Slot.unset).toArray = ls at hl ⊢
  refine lv_aload_n hx hb d0 rfl (lv_at hl 0 rfl) ?_
  refine w_gf (i := 0) hx hb (fun T hW => mf_field (hmf T hW) rfl) hcell (fun h => by cases h) rfl d1 ?_
  refine lv_iload_n hx hb d4 rfl (lv_at hl 1 rfl) ?_
  obtain ⟨a, hr⟩ := hrun ls hl.1
  exact fw_tail hx hb hlk hret hnz hr d8
theorem fbS0 {l : Launch} {D : va_G} {q : Nat}  {v : Nat} {x : Int32} {mc ms : Nat} {wc : va_W} {z : Int32} {bytes : ByteArray} {jm jc jn : Nat}  {cn tn iname idesc : String} (d0 : decode bytes 0 = .ok (.aload_n 1, 1)) (d1 : decode bytes 1 = .ok (.iload_n 2, 1)) (d2 : decode bytes 2 = .ok (.invokestatic jm, 3)) (d5 : decode bytes 5 = .ok (.ireturn, 1)) : FB l D q [] [.ref q, .ref v, .int x] [.ref v, .int x] mc ms wc z bytes 3 2 jm jc jn [] cn tn iname idesc := by
  intro p e R s c0 below meth c hx hb hlk hret hmf hcell hnz hrun
  rw [lg_entry_eq]
  have hl := lv_entry ([.ref q, .ref v, .int x]) (n := 3) (Nat.le_of_ble_eq_true rfl)
  generalize (lg_sl ([.ref q, .ref v, .int x]) ++ List.replicate (3 - (lg_sl ([.ref q, .ref v, .int x])).length) Slot.unset).toArray = ls at hl ⊢
  refine lv_aload_n hx hb d0 rfl (lv_at hl 1 rfl) ?_
  refine lv_iload_n hx hb d1 rfl (lv_at hl 2 rfl) ?_
  obtain ⟨a, hr⟩ := hrun ls hl.1
  exact fw_tail hx hb hlk hret hnz hr d5
section IC2
variable {p : Program} {l : Launch} {e : Env} {R : Room} {s : State} {m : MethodId} {args : Array Value} {below : List Frame} {meth : Method} {c : Code} {D : va_G} {A : Nat → Prop} {cells slots : Nat} {Q : State → Prop} {cc : ByteArray} {nL : Nat} {own : String} {ws : va_W} {pc : Nat} {lv : VW} {st : List Value}
theorem obj0 (X : CX p s m args meth c D A cc nL own) {U : State} (hW : s.WarmedH U.vm) : ∀ o ok, U.vm.findClass "java/lang/Object" = some o → U.vm.classes[o]? = some ok → ok.instanceTypes = #[] := by
  intro o ok h1 h2
  obtain ⟨cO, kO, hfO, hkO, -, -, -, hsz⟩ := Cond.instantiable_spec (X.hts _ q1586)
  obtain ⟨k', hk', he⟩ := hW.alike.2.2 _ _ hkO
  have h3 : U.vm.findClass "java/lang/Object" = some cO := by rw [hW.alike.findClass]; exact hfO
  cases h1.symm.trans h3
  cases h2.symm.trans hk'
  rw [he]
  exact Array.eq_empty_of_size_eq_zero hsz
theorem v_icI (pc' : Nat) (X : CX p s m args meth c D A cc nL own) (hAm : AMB D A s) (ik k : Nat) (hik : ik < 3) (hk : k < 11) {σ : Lambda.Shape} (hσ : (sX k).2.2.2 = σ) (hif1 : σ.iface = (ifM ik).cls) (hif2 : σ.name = (ifM ik).name) (hif3 : σ.sam.toString = (ifM ik).desc) (hitf : σ.implItf = false) {dn : String} (hdn : (sX k).1.cls = dn) (hpl : plainName (dn ++ "$$Lambda") = true)
    {bytes : ByteArray} {mL pcx jm jc jn ju : Nat} {fls : List Nat} (hFO : FileOK σ dn bytes mL jm jc jn ju fls) (dx : decode bytes pcx = .ok (.invokevirtual jm, 3)) {q : Nat} {vals : List Value} (hlo : LamO (D.1 (300 + k)) vals q A s.heap) {y : MethodName} (hy1 : y.cls = σ.implClass) (hy2 : y.name = σ.implName) (hy3 : y.desc = σ.implDesc.toString)
    {b : ByteArray} {L : Nat} {rm : Room} {z : Int32} {b0 : Nat} (As As0 : List Value) {rest : List Value} (isC isR : List Nat) (wc : va_W) {wr : va_W} (hC : isC.map (fun i => ws[i]?) = wc.map some) (hR : isR.map (fun i => ws[i]?) = wr.map some) (hn : va_nd isR = true) (hdis : ∀ i ∈ isR, i ∉ isC) (hnC : va_nd isC = true)
    (hM : CTi l y b L (some .boolean) rm D wc (.ref b0 :: As) (AMB D) (fun (r1 : Int32) u => r1 = z ∧ u = wc)) (hfb : FB l D q vals (.ref q :: As0) (.ref b0 :: As) rm.cells rm.slots wc z bytes mL pcx jm jc jn fls (dn ++ "$$Lambda") σ.implClass σ.implName σ.implDesc.toString) (hnz : narrow .boolean (.int z) = .int z)
    (hlink : ∀ index, (∃ cnt, decode cc pc = .ok (.invokeinterface index cnt, 5)) → Cond.methodLink own index (ifM ik) ∈ lw_all) {C : String} (hinst : Cond.instanceMethod y ∈ lw_all) (hsel : Cond.selects C y y ∈ lw_all) (q0 : Nat) {ci : Nat} {fs : List Value} {T0 : u_T} {N0 : Nat} (he : ws[q0]? = some (b0, .inr (ci, fs))) (hci : CL[ci]? = some (C, T0, N0)) (hini : Cond.initialized y.cls ∈ lw_all) (hcode : Cond.code y b L (some .boolean) ∈ lw_all) (hy : y.cls ≠ "java/lang/invoke/MethodHandle" ∧ y.cls ≠ "java/lang/invoke/VarHandle") (hln : (parseMethodDescriptor y.desc).map (fun d => d.parameters.length) = some As.length)
    (hsg : (parseMethodDescriptor (ifM ik).desc).map (fun d => d.parameters.length) = some As0.length)
    (hroom : rm.frames + 2 ≤ R.frames ∧ 8 + (mL + 11) + (8 + (L + 11) + rm.locals) ≤ R.locals) (hcs : cells + rm.cells ≤ R.cells ∧ slots + rm.slots ≤ R.slots) (hst : st = As0.reverse ++ .ref q :: rest) (hrest : (rest.map fun v => v.category).sum ≤ 8) {index count : Nat} (d : decode cc pc = .ok (.invokeinterface index count, 5)) (hp : pc + 5 = pc')
    (kk : V p l e R s m args below meth c D A nL Q (wr ++ wc) (cells + rm.cells) (slots + rm.slots) pc' lv (.int z :: rest)) : V p l e R s m args below meth c D A nL Q ws cells slots pc lv st := by
  subst hp
  subst hst
  subst hσ
  subst hdn
  intro H locs ls hP hD hS hl T hT XS
  have hlink := hlink index ⟨count, d⟩
  obtain ⟨hcellS, hnA⟩ := hlo.go (B := A) hS.2.1 (fun _ z => z)
  obtain ⟨m0, k0, cf0, i0, p0, lk, s1, s2, s3, s4, s5, hmade, hcan, -⟩ := hAm.2.2.2.2.2.1 k hk
  obtain ⟨kN, hkN, hnameD⟩ := className_of_methodNamed s1
  cases s2.symm.trans hkN
  obtain ⟨hdecl, hface⟩ := hAm.2.2.2.2.2.2 ik hik
  obtain ⟨r0, r, hnR, hrm, hstR, hsigR⟩ := Cond.declares_spec hdecl
  obtain ⟨cL, kL, r1, hcL, hkL, hiL, hfoundL, hn1⟩ := Cond.interfaceMethod_spec hface
  cases hnR.symm.trans hn1
  have hr0cls : r0.cls = cL := Option.some.inj ((findClass_of_methodNamed hnR).symm.trans hcL)
  obtain ⟨hnameR, hdescR⟩ := name_of_methodNamed hnR hrm
  obtain ⟨-, kK, -, -, -, -, -, iface', -, -, -, -, found, -, hkK, -, -, -, hi', -, -, -, -, -, -, hfound', -, -, -, -, -, -, -, -, -, -, hselM⟩ := Lambda.isMade_spec hmade
  have hcL' : s.vm.findClass (sX k).2.2.2.iface = some cL := by rw [hif1]; exact hcL
  cases hcL'.symm.trans hi'
  have hfr : found = r0 := by
    have h1 : s.methodFound? (ifM ik).cls (ifM ik).name (ifM ik).desc = some r0 := hfoundL
    simp only [State.methodFound?, hcL, hkL, hiL, Option.bind_eq_bind, Option.bind_some] at h1
    rw [← hif2, ← hif3] at h1
    rw [hfound'] at h1
    exact Option.some.inj h1
  subst hfr
  obtain ⟨i2, hi2, hasg, hway⟩ := State.lambdaCallable_spec hcan
  cases hcL'.symm.trans hi2
  have hmf0 := (mf_of hFO hitf s2 hnameD hmade (obj0 X (State.WarmedH.refl s))).1
  obtain ⟨kK0, tk0, file0, methk0, ck0, toy0, t0, g1, g2, g3, g4, g5, g6, g7, g8, g9, g10, g11, g12, -⟩ := hmf0
  have hlenR : As0.length = r.sig.parameters.length := by
    rw [show parseMethodDescriptor (ifM ik).desc = some r.sig from hsigR] at hsg
    exact (Option.some.inj hsg).symm
  obtain ⟨vm₁, X₁, hstep₁⟩ := XS.invokeinterface X.hx X.hown (X.hts _ hlink) hnR hrm hstR (by rw [hr0cls]; exact hkL) hiL (by rcases (show ik = 0 ∨ ik = 1 ∨ ik = 2 by omega) with rfl | rfl | rfl <;> decide) (a := q) (cell := { cls := D.1 (300 + k), slots := vals.toArray, vm := .none }) (kcell := kK) (by rw [hT]; exact hcellS) (fun z h => by cases h) hkK (by rw [hr0cls]; exact hasg)
    (m' := ⟨D.1 (300 + k), 1⟩) (meth' := methk0) (by rw [Launch.admits_selectMethod XS.admits]; exact hselM) g6 (by rw [hnameR, hdescR, ← hif2, ← hif3]; exact hway) (by rw [g11]; decide) (by simp [Method.isAbstract, g11, hasFlag, Acc.abstract])
    (g := F0 m pc ls (As0.reverse ++ .ref q :: rest)) rfl (argsL := As0) (rest := rest) hlenR rfl (by rw [X.hb]; exact d)
  have hPc := pc_sub isC hC hP
  have hDc := pc_subD isC hnC hC hD
  have hFc := va_free (wc := wc) hD hS X.hA isC hC
  have hWm := X₁.warmed
  -- facts at warmer tables
  have hmfU : ∀ U : State, s.WarmedH U.vm → MFx U.vm (D.1 (300 + k)) ((sX k).1.cls ++ "$$Lambda") bytes mL jm jc jn fls (sX k).2.2.2.implClass (sX k).2.2.2.implName (sX k).2.2.2.implDesc.toString := by
    intro U hU
    obtain ⟨k3, hk3, he3⟩ := hU.alike.2.2 _ _ s2
    exact (mf_of hFO hitf hk3 (by rw [he3]; exact hnameD) (Lambda.isMade_warmer hU hmade) (obj0 X hU)).1
  obtain ⟨kK1, tk1, file1, methk1, ck1, toy1, t1, w1, w2, w3, w4, w5, w6, w7, w8, w9, w10, w11, w12, -⟩ := hmfU (T.setVm vm₁) hWm
  obtain ⟨v0, t, T', L1, X', hL, e1, e2, ⟨ho, hPt, hDt, hFt⟩, hst⟩ := inl_run X₁ (g := F0 m pc ls rest) rfl (by rw [X.hml]; exact hl.1) (by rw [X.hb]; exact d) (mk := ⟨D.1 (300 + k), 1⟩) (.ref q :: As0 : List Value).toArray (R' := ({ frames := rm.frames + 1, cells := rm.cells, slots := rm.slots, locals := 8 + (L + 11) + rm.locals } : Room)) w6 w7 w10
    (State.plainMethod.of_name (fun k' hk' => by cases hk'.symm.trans w1; rw [w2]; exact hpl)) hroom.1 (by rw [w9]; show 2 * 0 + (rest.map fun v => v.category).sum + (mL + 11) + (8 + (L + 11) + rm.locals) ≤ _; have := hroom.2; omega) hcs.1 hcs.2 (Qc := IQ D wc z) (mc := rm.cells) (ms := rm.slots) (free := va_A wc H.size) (by
      have hh : ((T.setVm vm₁).calling (F0 m pc ls rest) ⟨D.1 (300 + k), 1⟩ (.ref q :: As0 : List Value).toArray).heap = H := hT
      have hsW : ∀ U : State, ((T.setVm vm₁).calling (F0 m pc ls rest) ⟨D.1 (300 + k), 1⟩ (.ref q :: As0 : List Value).toArray).WarmedH U.vm → s.WarmedH U.vm := fun U hU => State.WarmedH.trans (t := (T.setVm vm₁).calling (F0 m pc ls rest) ⟨D.1 (300 + k), 1⟩ (.ref q :: As0 : List Value).toArray) hWm hU
      generalize hs' : (T.setVm vm₁).calling (F0 m pc ls rest) ⟨D.1 (300 + k), 1⟩ (.ref q :: As0 : List Value).toArray = s' at hh hsW ⊢
      have hs0 : s.WarmedH s'.vm := by rw [← hs']; exact hWm
      have hth : (T.setVm vm₁).heap = s'.heap := by rw [← hs']; rfl
      rw [hth, w9]
      have hB := hfb p e ({ frames := rm.frames + 1, cells := rm.cells, slots := rm.slots, locals := 8 + (L + 11) + rm.locals } : Room) s' (D.1 (300 + k)) (.java (F0 m pc ls rest) :: below) methk1 ck1 X.hx w8 w10 w12 (fun U hU => hmfU U (hsW U hU)) (by rw [hh]; exact hcellS) hnz (fun ls' hls' => ⟨(.ref b0 :: As).toArray, ?_⟩)
      · rw [hh] at hB ⊢
        exact hB
      · rw [hh]
        refine va_runR (n := 0) (As := As) (rest := []) (nL := mL) (C := C) (b := b0) (bytes := b) (maxL := L) (ret := some .boolean) X.hx w8 w9 (hM H.size) ⟨rfl, rfl, Nat.le_refl _, Nat.le_refl _, fun w hw a' U hU => pay_in X.hts (lw_meth hcode) w hw a' U (hsW U hU), List.mem_cons_self, fun a' U hU => word_at (hsW U hU) (Or.inl (by first | rfl | simp [Cond.onTables, Cond.keeps, Cond.steady])) (X.hts _ hini)⟩ (word_at hs0 (Or.inl rfl) (X.hts _ hinst)) (word_at hs0 (good_of_word (List.mem_filter.mp hsel).2 |>.elim Or.inl Or.inr) (X.hts _ hsel)) hy hln ?_ ?_ rfl hls' (by simp) (Nat.le_of_ble_eq_true rfl) dx ⟨by show 0 + rm.cells ≤ rm.cells; omega, by show 0 + rm.slots ≤ rm.slots; omega⟩
        · intro U r2 hU hr2
          obtain ⟨kK2, tk2, file2, methk2, ck2, toy2, t2, u1, u2, u3, u4, u5, -, -, -, -, -, -, -, u13, u14, u15, u16, u17, u18, -⟩ := hmfU U (hsW U hU)
          have htr : t2 = r2 := by
            have hnU : U.methodNamed? y = some r2 := by
              have h9 := State.methodNamed?_setVm (s := s') hU.alike y
              rw [hr2] at h9
              exact h9
            have h1 := State.methodFound?_of_named hnU hy
            rw [hy1, hy2, hy3] at h1
            simp only [State.methodFound?, u13, u14, Option.bind_eq_bind, Option.bind_some] at h1
            rw [u16] at h1
            exact Option.some.inj h1
          subst htr
          skip
          exact ⟨⟨kK2, file2, jc, jn, toy2, tk2, u1, u3, u4, u18, u14, u15⟩, u17⟩
        · exact ⟨pre_blind (pass_amb hAm).1, (by obtain ⟨cb, z1, z2, z3⟩ := va_recv X.hK hP hci he; exact ⟨cb, z1, z2, by rw [hs0.alike.findClass]; exact z3⟩), fun U hU hWU => ⟨rfl, by rw [hU], by rw [hU]; exact hPc, va_K.moved (hsW U hWU).alike X.hK, hDc, (pass_amb hAm).2 _ H locs U hFc hS hU (hsW U hWU)⟩⟩)
  cases ho
  have hst0 : ((T.setVm vm₁).calling (F0 m pc ls rest) ⟨D.1 (300 + k), 1⟩ (.ref q :: As0 : List Value).toArray).heap = H := hT
  unfold va_F at hFt
  rw [hst0] at hDt hFt
  have hk1 : ∀ a : Nat, a < H.size → ¬ va_A wc H.size a → T'.heap[a]? = H[a]? := fun a h1 h2 => by rw [e1]; exact hFt.2 a h1 h2
  obtain ⟨hP2, hD2⟩ := va_join hP hD isC isR hC hR hn hdis hk1 hFc (by rw [e1]; exact hPt) hDt
  have hS2 : va_S A s.heap T'.heap (locs ++ L1) := ⟨Nat.le_trans hS.1 (by rw [e1]; exact hFt.1), fun a h1 h2 => by rw [hk1 a (Nat.lt_of_lt_of_le h1 hS.1) (fun z => h2 (hFc a z))]; exact hS.2.1 a h1 h2, fun a ha => by
    rcases List.mem_append.mp ha with h | h
    · exact hS.2.2 a h
    · exact hFc _ (hL a h)⟩
  obtain ⟨tt, a1, b1⟩ := kk T'.heap (locs ++ L1) ls hP2 hD2 hS2 hl T' rfl X'
  exact ⟨tt, hstep₁ _ fun acts => (hst acts).trans a1, b1⟩
theorem v_icS (pc' : Nat) (X : CX p s m args meth c D A cc nL own) (hAm : AMB D A s) (ik k : Nat) (hik : ik < 3) (hk : k < 11) {σ : Lambda.Shape} (hσ : (sX k).2.2.2 = σ) (hif1 : σ.iface = (ifM ik).cls) (hif2 : σ.name = (ifM ik).name) (hif3 : σ.sam.toString = (ifM ik).desc) (hitf : σ.implItf = false) {dn : String} (hdn : (sX k).1.cls = dn) (hpl : plainName (dn ++ "$$Lambda") = true)
    {bytes : ByteArray} {mL pcx jm jc jn ju : Nat} {fls : List Nat} (hFO : FileOK σ dn bytes mL jm jc jn ju fls) (dx : decode bytes pcx = .ok (.invokestatic jm, 3)) {q : Nat} {vals : List Value} (hlo : LamO (D.1 (300 + k)) vals q A s.heap) {y : MethodName} (hy1 : y.cls = σ.implClass) (hy2 : y.name = σ.implName) (hy3 : y.desc = σ.implDesc.toString)
    {b : ByteArray} {L : Nat} {rm : Room} {z : Int32} (As As0 : List Value) {rest : List Value} (isC isR : List Nat) (wc : va_W) {wr : va_W} (hC : isC.map (fun i => ws[i]?) = wc.map some) (hR : isR.map (fun i => ws[i]?) = wr.map some) (hn : va_nd isR = true) (hdis : ∀ i ∈ isR, i ∉ isC) (hnC : va_nd isC = true)
    (hM : CTi l y b L (some .boolean) rm D wc As (AMB D) (fun (r1 : Int32) u => r1 = z ∧ u = wc)) (hfb : FB l D q vals (.ref q :: As0) As rm.cells rm.slots wc z bytes mL pcx jm jc jn fls (dn ++ "$$Lambda") σ.implClass σ.implName σ.implDesc.toString) (hnz : narrow .boolean (.int z) = .int z)
    (hlink : ∀ index, (∃ cnt, decode cc pc = .ok (.invokeinterface index cnt, 5)) → Cond.methodLink own index (ifM ik) ∈ lw_all) (hstat : Cond.static y ∈ lw_all) (hini : Cond.initialized y.cls ∈ lw_all) (hcode : Cond.code y b L (some .boolean) ∈ lw_all) (hy : y.cls ≠ "java/lang/invoke/MethodHandle" ∧ y.cls ≠ "java/lang/invoke/VarHandle") (hln : (parseMethodDescriptor y.desc).map (fun d => d.parameters.length) = some As.length)
    (hsg : (parseMethodDescriptor (ifM ik).desc).map (fun d => d.parameters.length) = some As0.length)
    (hroom : rm.frames + 2 ≤ R.frames ∧ 8 + (mL + 11) + (8 + (L + 11) + rm.locals) ≤ R.locals) (hcs : cells + rm.cells ≤ R.cells ∧ slots + rm.slots ≤ R.slots) (hst : st = As0.reverse ++ .ref q :: rest) (hrest : (rest.map fun v => v.category).sum ≤ 8) {index count : Nat} (d : decode cc pc = .ok (.invokeinterface index count, 5)) (hp : pc + 5 = pc')
    (kk : V p l e R s m args below meth c D A nL Q (wr ++ wc) (cells + rm.cells) (slots + rm.slots) pc' lv (.int z :: rest)) : V p l e R s m args below meth c D A nL Q ws cells slots pc lv st := by
  subst hp
  subst hst
  subst hσ
  subst hdn
  intro H locs ls hP hD hS hl T hT XS
  have hlink := hlink index ⟨count, d⟩
  obtain ⟨hcellS, hnA⟩ := hlo.go (B := A) hS.2.1 (fun _ z => z)
  obtain ⟨m0, k0, cf0, i0, p0, lk, s1, s2, s3, s4, s5, hmade, hcan, -⟩ := hAm.2.2.2.2.2.1 k hk
  obtain ⟨kN, hkN, hnameD⟩ := className_of_methodNamed s1
  cases s2.symm.trans hkN
  obtain ⟨hdecl, hface⟩ := hAm.2.2.2.2.2.2 ik hik
  obtain ⟨r0, r, hnR, hrm, hstR, hsigR⟩ := Cond.declares_spec hdecl
  obtain ⟨cL, kL, r1, hcL, hkL, hiL, hfoundL, hn1⟩ := Cond.interfaceMethod_spec hface
  cases hnR.symm.trans hn1
  have hr0cls : r0.cls = cL := Option.some.inj ((findClass_of_methodNamed hnR).symm.trans hcL)
  obtain ⟨hnameR, hdescR⟩ := name_of_methodNamed hnR hrm
  obtain ⟨-, kK, -, -, -, -, -, iface', -, -, -, -, found, -, hkK, -, -, -, hi', -, -, -, -, -, -, hfound', -, -, -, -, -, -, -, -, -, -, hselM⟩ := Lambda.isMade_spec hmade
  have hcL' : s.vm.findClass (sX k).2.2.2.iface = some cL := by rw [hif1]; exact hcL
  cases hcL'.symm.trans hi'
  have hfr : found = r0 := by
    have h1 : s.methodFound? (ifM ik).cls (ifM ik).name (ifM ik).desc = some r0 := hfoundL
    simp only [State.methodFound?, hcL, hkL, hiL, Option.bind_eq_bind, Option.bind_some] at h1
    rw [← hif2, ← hif3] at h1
    rw [hfound'] at h1
    exact Option.some.inj h1
  subst hfr
  obtain ⟨i2, hi2, hasg, hway⟩ := State.lambdaCallable_spec hcan
  cases hcL'.symm.trans hi2
  have hmf0 := (mf_of hFO hitf s2 hnameD hmade (obj0 X (State.WarmedH.refl s))).1
  obtain ⟨kK0, tk0, file0, methk0, ck0, toy0, t0, g1, g2, g3, g4, g5, g6, g7, g8, g9, g10, g11, g12, -⟩ := hmf0
  have hlenR : As0.length = r.sig.parameters.length := by
    rw [show parseMethodDescriptor (ifM ik).desc = some r.sig from hsigR] at hsg
    exact (Option.some.inj hsg).symm
  obtain ⟨vm₁, X₁, hstep₁⟩ := XS.invokeinterface X.hx X.hown (X.hts _ hlink) hnR hrm hstR (by rw [hr0cls]; exact hkL) hiL (by rcases (show ik = 0 ∨ ik = 1 ∨ ik = 2 by omega) with rfl | rfl | rfl <;> decide) (a := q) (cell := { cls := D.1 (300 + k), slots := vals.toArray, vm := .none }) (kcell := kK) (by rw [hT]; exact hcellS) (fun z h => by cases h) hkK (by rw [hr0cls]; exact hasg)
    (m' := ⟨D.1 (300 + k), 1⟩) (meth' := methk0) (by rw [Launch.admits_selectMethod XS.admits]; exact hselM) g6 (by rw [hnameR, hdescR, ← hif2, ← hif3]; exact hway) (by rw [g11]; decide) (by simp [Method.isAbstract, g11, hasFlag, Acc.abstract])
    (g := F0 m pc ls (As0.reverse ++ .ref q :: rest)) rfl (argsL := As0) (rest := rest) hlenR rfl (by rw [X.hb]; exact d)
  have hPc := pc_sub isC hC hP
  have hDc := pc_subD isC hnC hC hD
  have hFc := va_free (wc := wc) hD hS X.hA isC hC
  have hWm := X₁.warmed
  -- facts at warmer tables
  have hmfU : ∀ U : State, s.WarmedH U.vm → MFx U.vm (D.1 (300 + k)) ((sX k).1.cls ++ "$$Lambda") bytes mL jm jc jn fls (sX k).2.2.2.implClass (sX k).2.2.2.implName (sX k).2.2.2.implDesc.toString := by
    intro U hU
    obtain ⟨k3, hk3, he3⟩ := hU.alike.2.2 _ _ s2
    exact (mf_of hFO hitf hk3 (by rw [he3]; exact hnameD) (Lambda.isMade_warmer hU hmade) (obj0 X hU)).1
  obtain ⟨kK1, tk1, file1, methk1, ck1, toy1, t1, w1, w2, w3, w4, w5, w6, w7, w8, w9, w10, w11, w12, -⟩ := hmfU (T.setVm vm₁) hWm
  obtain ⟨v0, t, T', L1, X', hL, e1, e2, ⟨ho, hPt, hDt, hFt⟩, hst⟩ := inl_run X₁ (g := F0 m pc ls rest) rfl (by rw [X.hml]; exact hl.1) (by rw [X.hb]; exact d) (mk := ⟨D.1 (300 + k), 1⟩) (.ref q :: As0 : List Value).toArray (R' := ({ frames := rm.frames + 1, cells := rm.cells, slots := rm.slots, locals := 8 + (L + 11) + rm.locals } : Room)) w6 w7 w10
    (State.plainMethod.of_name (fun k' hk' => by cases hk'.symm.trans w1; rw [w2]; exact hpl)) hroom.1 (by rw [w9]; show 2 * 0 + (rest.map fun v => v.category).sum + (mL + 11) + (8 + (L + 11) + rm.locals) ≤ _; have := hroom.2; omega) hcs.1 hcs.2 (Qc := IQ D wc z) (mc := rm.cells) (ms := rm.slots) (free := va_A wc H.size) (by
      have hh : ((T.setVm vm₁).calling (F0 m pc ls rest) ⟨D.1 (300 + k), 1⟩ (.ref q :: As0 : List Value).toArray).heap = H := hT
      have hsW : ∀ U : State, ((T.setVm vm₁).calling (F0 m pc ls rest) ⟨D.1 (300 + k), 1⟩ (.ref q :: As0 : List Value).toArray).WarmedH U.vm → s.WarmedH U.vm := fun U hU => State.WarmedH.trans (t := (T.setVm vm₁).calling (F0 m pc ls rest) ⟨D.1 (300 + k), 1⟩ (.ref q :: As0 : List Value).toArray) hWm hU
      generalize hs' : (T.setVm vm₁).calling (F0 m pc ls rest) ⟨D.1 (300 + k), 1⟩ (.ref q :: As0 : List Value).toArray = s' at hh hsW ⊢
      have hs0 : s.WarmedH s'.vm := by rw [← hs']; exact hWm
      have hth : (T.setVm vm₁).heap = s'.heap := by rw [← hs']; rfl
      rw [hth, w9]
      have hB := hfb p e ({ frames := rm.frames + 1, cells := rm.cells, slots := rm.slots, locals := 8 + (L + 11) + rm.locals } : Room) s' (D.1 (300 + k)) (.java (F0 m pc ls rest) :: below) methk1 ck1 X.hx w8 w10 w12 (fun U hU => hmfU U (hsW U hU)) (by rw [hh]; exact hcellS) hnz (fun ls' hls' => ⟨As.toArray, ?_⟩)
      · rw [hh] at hB ⊢
        exact hB
      · rw [hh]
        refine va_runRS (As := As) (rest := []) (nL := mL) (bytes := b) (maxL := L) (ret := some .boolean) X.hx w8 w9 (hM H.size) ⟨rfl, rfl, Nat.le_refl _, Nat.le_refl _, fun w hw a' U hU => pay_in X.hts (lw_meth hcode) w hw a' U (hsW U hU), List.mem_cons_self, fun a' U hU => word_at (hsW U hU) (Or.inl (by first | rfl | simp [Cond.onTables, Cond.keeps, Cond.steady])) (X.hts _ hini)⟩ (word_at hs0 (Or.inl rfl) (X.hts _ hstat)) hy hln ?_ ?_ rfl hls' (by simp) (Nat.le_of_ble_eq_true rfl) dx ⟨by show 0 + rm.cells ≤ rm.cells; omega, by show 0 + rm.slots ≤ rm.slots; omega⟩
        · intro U r2 hU hr2
          obtain ⟨kK2, tk2, file2, methk2, ck2, toy2, t2, u1, u2, u3, u4, u5, -, -, -, -, -, -, -, u13, u14, u15, u16, u17, u18, -⟩ := hmfU U (hsW U hU)
          have htr : t2 = r2 := by
            have hnU : U.methodNamed? y = some r2 := by
              have h9 := State.methodNamed?_setVm (s := s') hU.alike y
              rw [hr2] at h9
              exact h9
            have h1 := State.methodFound?_of_named hnU hy
            rw [hy1, hy2, hy3] at h1
            simp only [State.methodFound?, u13, u14, Option.bind_eq_bind, Option.bind_some] at h1
            rw [u16] at h1
            exact Option.some.inj h1
          subst htr
          obtain ⟨bb, hmem⟩ := memberRef_ask' (e := e) (vm := U.vm) (d := D.1 (300 + k)) (index := jm) u1 u3 (Or.inl u4) u5
          refine ⟨⟨jc, _, _, bb, toy2, tk2, hmem, u18, u14, ?_⟩, u17⟩
          have hnt : tk2.name = y.cls := by
            have hnU : U.methodNamed? y = some t2 := by
              have h9 := State.methodNamed?_setVm (s := s') hU.alike y
              rw [hr2] at h9
              exact h9
            obtain ⟨kq, hkq, hnq⟩ := className_of_methodNamed hnU
            have hcq := findClass_of_methodNamed hnU
            rw [hy1, u13] at hcq
            cases hcq
            cases u14.symm.trans hkq
            exact hnq
          have hsp : ∀ y0 : Method, signaturePolymorphic tk2 y0 = false := fun y0 => signaturePolymorphic_of_name (by rw [hnt]; exact hy) y0
          simp [hsp]
        · exact ⟨pre_blind (pass_amb hAm).1, fun U hU hWU => ⟨rfl, by rw [hU], by rw [hU]; exact hPc, va_K.moved (hsW U hWU).alike X.hK, hDc, (pass_amb hAm).2 _ H locs U hFc hS hU (hsW U hWU)⟩⟩)
  cases ho
  have hst0 : ((T.setVm vm₁).calling (F0 m pc ls rest) ⟨D.1 (300 + k), 1⟩ (.ref q :: As0 : List Value).toArray).heap = H := hT
  unfold va_F at hFt
  rw [hst0] at hDt hFt
  have hk1 : ∀ a : Nat, a < H.size → ¬ va_A wc H.size a → T'.heap[a]? = H[a]? := fun a h1 h2 => by rw [e1]; exact hFt.2 a h1 h2
  obtain ⟨hP2, hD2⟩ := va_join hP hD isC isR hC hR hn hdis hk1 hFc (by rw [e1]; exact hPt) hDt
  have hS2 : va_S A s.heap T'.heap (locs ++ L1) := ⟨Nat.le_trans hS.1 (by rw [e1]; exact hFt.1), fun a h1 h2 => by rw [hk1 a (Nat.lt_of_lt_of_le h1 hS.1) (fun z => h2 (hFc a z))]; exact hS.2.1 a h1 h2, fun a ha => by
    rcases List.mem_append.mp ha with h | h
    · exact hS.2.2 a h
    · exact hFc _ (hL a h)⟩
  obtain ⟨tt, a1, b1⟩ := kk T'.heap (locs ++ L1) ls hP2 hD2 hS2 hl T' rfl X'
  exact ⟨tt, hstep₁ _ fun acts => (hst acts).trans a1, b1⟩
end IC2
