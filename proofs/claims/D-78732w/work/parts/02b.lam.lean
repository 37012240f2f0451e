set_option maxRecDepth 100000
abbrev St0 : Setting := { classPath := fun _ => none }
theorem three_of {α : Type} {x : Array Nat} {f : Nat → Nat → Nat → Option α} {r : α} (h : Lambda.shapeOf?.match_15 (fun _ => Option α) x f (fun _ => none) = some r) : ∃ a0 a1 a2, f a0 a1 a2 = some r := by
  obtain ⟨L⟩ := x
  rcases L with _ | ⟨a0, _ | ⟨a1, _ | ⟨a2, _ | ⟨a3, L⟩⟩⟩⟩
  · cases h
  · cases h
  · cases h
  · exact ⟨a0, a1, a2, h⟩
  · cases h
/-- what a site's shape says of its entry -/
theorem shape_site {cf : ClassFile} {index : Nat} {σ : Lambda.Shape} (h : Lambda.shapeOf? cf index = some σ) :
    ∃ (b nt : Nat) (desc : String) (site : MethodDescriptor), cf.constantPool[index]? = some (.invokeDynamic b nt) ∧ cf.constantPool.nameAndType? nt = some (σ.name, desc) ∧ parseMethodDescriptor desc = some site ∧ site.parameters = σ.captured := by
  unfold Lambda.shapeOf? at h
  split at h
  · rename_i b nt hc
    obtain ⟨entries, -, h⟩ := Option.bind_eq_some_iff.mp h
    obtain ⟨bm, -, h⟩ := Option.bind_eq_some_iff.mp h
    split at h
    · obtain ⟨g1, -, h⟩ := Option.bind_eq_some_iff.mp h
      obtain ⟨a0, a1, a2, h⟩ := three_of h
      · split at h
        · split at h
          · split at h
            · obtain ⟨⟨name, desc⟩, hnt, h⟩ := Option.bind_eq_some_iff.mp h
              obtain ⟨site, hsite, h⟩ := Option.bind_eq_some_iff.mp h
              split at h
              · obtain ⟨⟨i1, i2, i3, i4⟩, -, h⟩ := Option.bind_eq_some_iff.mp h
                obtain ⟨x1, -, h⟩ := Option.bind_eq_some_iff.mp h
                obtain ⟨x2, -, h⟩ := Option.bind_eq_some_iff.mp h
                obtain ⟨x3, -, h⟩ := Option.bind_eq_some_iff.mp h
                obtain ⟨x4, -, h⟩ := Option.bind_eq_some_iff.mp h
                obtain ⟨x5, -, h⟩ := Option.bind_eq_some_iff.mp h
                cases h
                exact ⟨b, nt, desc, site, hc, hnt, hsite, rfl⟩
              · cases h
            · cases h
          · cases h
        · cases h
    · cases h
  · cases h
section LAM
variable {p : Program} {l : Launch} {e : Env} {R : Room} {s : State} {m : MethodId} {args : Array Value} {below : List Frame} {meth : Method} {c : Code} {H : Heap} {locs : List Loc} {cells slots : Nat} {Q : State → Prop} {cc : ByteArray} {pc : Nat} {ls : Array Slot} {rest : List Value}
/-- a captured value is read -/
theorem w_gf (hx : p.tables.exec = Jvm.exec) (hb : c.code = cc) {j i q : Nat} {cell : Cell} {v : Value} (hr : ∀ T : State, s.WarmedH T.vm → ∃ f : Field, T.vm.fieldReady m.cls j m.cls f ∧ f.isStatic = false ∧ f.slot = i) (hcell : H[q]? = some cell) (hkn : cell.vm ≠ .unknown) (hv : cell.slots[i]? = some v) (d : decode cc pc = .ok (.getfield j, 3))
    (k : W p l e R s m args below meth c H locs cells slots Q (F0 m (pc + 3) ls (v :: rest))) : W p l e R s m args below meth c H locs cells slots Q (F0 m pc ls (.ref q :: rest)) := by
  intro T hT X
  obtain ⟨f, hf, hfs, hsl⟩ := hr T X.warmed
  obtain ⟨t, a, b⟩ := k T hT X
  refine ⟨t, ?_, b⟩
  subst hb
  jvm_step X.here [hx, d, getfield.wp_ready (e := e) (s := T) (c := m.cls) (field := f) (a := q) (rest := rest) (cell := cell) (v := v) (f := F0 m pc ls (.ref q :: rest)) X.here.top hf hfs rfl (by rw [hT]; exact hcell) hkn (by rw [hsl]; exact hv)]
  exact a
/-- what of a callee's contract a call asks, whoever calls -/
def CBk (R : Room) (s : State) (y : MethodName) (bytes : ByteArray) (maxL : Nat) (ret : Option FieldType) (ws : List Cond) (rm : Room) (mc ms : Nat) : Prop := rm.cells = mc ∧ rm.slots = ms ∧ rm.frames + 1 ≤ R.frames ∧ 8 + (maxL + 11) + rm.locals ≤ R.locals ∧ (∀ w ∈ ws, ∀ (a' : Array Value) (U : State), s.WarmedH U.vm → w.before a' U = true) ∧ Cond.code y bytes maxL ret ∈ ws ∧ (∀ (a' : Array Value) (U : State), s.WarmedH U.vm → (Cond.initialized y.cls).before a' U = true)
theorem va_runR {y : MethodName} {bytes : ByteArray} {maxL nL mc ms n index : Nat} {ret : Option FieldType} {ws : List Cond} {rm : Room} {Pc : Array Value → State → Prop} {Qc : Array Value → State → Outcome → State → Prop} {free : Addr → Prop} {C : String} {b : Addr} {As : List Value} {g : JFrame}
    (hx : p.tables.exec = Jvm.exec) (hb : c.code = cc) (hml : c.maxLocals = nL) (hM : Met l y ws rm Pc Qc mc ms free) (cb : CBk R s y bytes maxL ret ws rm mc ms) (hinst : (Cond.instanceMethod y).before args s = true) (hsel : (Cond.selects C y y).before args s = true)
    (hy : y.cls ≠ "java/lang/invoke/MethodHandle" ∧ y.cls ≠ "java/lang/invoke/VarHandle") (hlen0 : (parseMethodDescriptor y.desc).map (fun d => d.parameters.length) = some As.length) (hready : ∀ (U : State) (r : MethodId), s.WarmedH U.vm → s.methodNamed? y = some r → namesAClass U m.cls index ∧ U.vm.methodReady m.cls index r)
    (hp : PreV s H C b Pc As) (hg : g.method = m) (hsize : g.locals.size = nL) (hstack : g.stack = As.reverse ++ .ref b :: rest) (hW : 2 * g.monitorRoom + (rest.map fun v => v.category).sum ≤ 8) (hdg : decode cc g.pc = .ok (.invokevirtual index, 3)) (hf : cells + mc ≤ R.cells ∧ slots + ms ≤ R.slots) :
    va_Run p l e R s m args below meth c H locs cells slots mc ms g rest (Qc (Value.ref b :: As).toArray) free := by
  obtain ⟨hrc, hrs, hfr, hlo, hws, hcw, hini⟩ := cb
  have hK : Back l R p e below s args y 3 8 (PreOf R mc ms Pc) (PostOf Qc mc ms free) := back_of (bytes := bytes) (maxL := maxL) (ret := ret) hM hp.1 hrc hrs hfr hlo hws hcw hini
  obtain ⟨-, ⟨cellB, hcB, hoB, hclB⟩, hPc⟩ := hp
  intro T hT X
  subst hb
  obtain ⟨mk, methM, hnamed, hmethM, hstM, habM⟩ := Cond.instanceMethod_spec hinst
  obtain ⟨c2, r2, m2, q1, q2, q3, q4, kP, hkP, hkPi⟩ := Cond.selects_spec hsel
  cases hclB.symm.trans q1
  cases (State.methodFound?_of_named hnamed hy).symm.trans q2
  cases hnamed.symm.trans q3
  have hcode : (Cond.code y bytes maxL ret).before args s = true := hws _ hcw args s (State.WarmedH.refl s)
  obtain ⟨methM2, cM, hm2, -, -, -, -, -, -, hsigM⟩ := Cond.code_spec hnamed hcode
  cases hmethM.symm.trans hm2
  have hA := X.warmed.alike
  obtain ⟨hnc, hr⟩ := hready T mk X.warmed hnamed
  obtain ⟨kP', hkP', heP⟩ := hA.2.2 _ _ hkP
  have hmT : T.vm.method? mk = some methM := by rw [hA.method?]; exact hmethM
  have hitf : kP'.isInterface = false := by
    have h9 : kP'.isInterface = kP.isInterface := by rw [heP]; rfl
    rw [h9]; exact hkPi
  have hselT : selectMethod e.platform T.vm cellB.cls mk = .method mk := by
    have q : selectMethod e.platform s.vm cellB.cls mk = .method mk := by rw [Launch.admits_selectMethod X.admits]; exact q4
    rw [hA.selectMethod]; exact q
  have hpoly : signaturePolymorphic kP' methM = false := by
    obtain ⟨kN, hkN, hname⟩ := className_of_methodNamed hnamed
    cases hkP.symm.trans hkN
    have hn' : kP'.name = y.cls := by rw [heP]; exact hname
    exact signaturePolymorphic_of_name (by rw [hn']; exact hy) methM
  have hlenA : As.length = methM.sig.parameters.length := by
    rw [hsigM] at hlen0
    exact (Option.some.inj hlen0).symm
  obtain ⟨v, ⟨U', l2, c3, s2⟩, X', ⟨g', mk', t, L, e1, e2, hq, h1, hL, h2, h3⟩, hsteps⟩ := hK m meth c ⟨T, locs, cells, slots⟩ { g with stack := rest } (.invokevirtual index) mk (Value.ref b :: As).toArray X hg (hsize.trans hml.symm) hdg hW (X.named hnamed) ⟨hf.1, hf.2, hPc T hT X.warmed⟩
  dsimp only [Pt.U, Pt.locs, Pt.cells, Pt.slots] at X' e1 e2 h1 h2 h3 hsteps
  subst h1; subst h2; subst h3
  refine ⟨v, T.calling g' mk' (Value.ref b :: As).toArray, t, U', L, hT, X', hL, e1, e2, hq, fun target h => ?_⟩
  subst hg
  jvm_step X.here [hx, hdg, invokevirtual.wp_ready (e := e) (s := T) (r := mk) (m := mk) (k := kP') (mk := kP') (rmeth := methM) (meth := methM) (a := b) (args := As) (rest := rest) (cell := cellB) (f := g) X.here.top hnc hr hkP' hmT hpoly hstM hlenA hstack (by rw [hT]; exact hcB) (fun z h => by rw [h] at hoB; cases hoB) hselT hmT habM hkP' hitf]
  intro acts
  rw [doInvoke_state]
  exact hsteps.trans h
theorem va_runRS {y : MethodName} {bytes : ByteArray} {maxL nL mc ms index : Nat} {ret : Option FieldType} {ws : List Cond} {rm : Room} {Pc : Array Value → State → Prop} {Qc : Array Value → State → Outcome → State → Prop} {free : Addr → Prop} {As : List Value} {g : JFrame}
    (hx : p.tables.exec = Jvm.exec) (hb : c.code = cc) (hml : c.maxLocals = nL) (hM : Met l y ws rm Pc Qc mc ms free) (cb : CBk R s y bytes maxL ret ws rm mc ms) (hstat : (Cond.static y).before args s = true)
    (hy : y.cls ≠ "java/lang/invoke/MethodHandle" ∧ y.cls ≠ "java/lang/invoke/VarHandle") (hlen0 : (parseMethodDescriptor y.desc).map (fun d => d.parameters.length) = some As.length) (hready : ∀ (U : State) (r : MethodId), s.WarmedH U.vm → s.methodNamed? y = some r → plainRef U e m.cls index ∧ U.vm.methodReady m.cls index r)
    (hp : PreS s H Pc As) (hg : g.method = m) (hsize : g.locals.size = nL) (hstack : g.stack = As.reverse ++ rest) (hW : 2 * g.monitorRoom + (rest.map fun v => v.category).sum ≤ 8) (hdg : decode cc g.pc = .ok (.invokestatic index, 3)) (hf : cells + mc ≤ R.cells ∧ slots + ms ≤ R.slots) :
    va_Run p l e R s m args below meth c H locs cells slots mc ms g rest (Qc As.toArray) free := by
  obtain ⟨hrc, hrs, hfr, hlo, hws, hcw, hini⟩ := cb
  have hK : Back l R p e below s args y 3 8 (PreOf R mc ms Pc) (PostOf Qc mc ms free) := back_of (bytes := bytes) (maxL := maxL) (ret := ret) hM hp.1 hrc hrs hfr hlo hws hcw hini
  obtain ⟨-, hPc⟩ := hp
  intro T hT X
  subst hb
  have hcode : (Cond.code y bytes maxL ret).before args s = true := hws _ hcw args s (State.WarmedH.refl s)
  obtain ⟨mk, hnamed⟩ := Cond.code_named hcode
  obtain ⟨methM, cM, hmethM, -, -, -, -, -, -, hsigM⟩ := Cond.code_spec hnamed hcode
  have hstM : methM.isStatic = true := Cond.static_spec hnamed hmethM hstat
  obtain ⟨kP, hkP, hname⟩ := className_of_methodNamed hnamed
  have hinitP : kP.init = .initialized := Cond.initialized_spec (findClass_of_methodNamed hnamed) hkP (hini args s (State.WarmedH.refl s))
  have hA := X.warmed.alike
  obtain ⟨hnc, hr⟩ := hready T mk X.warmed hnamed
  obtain ⟨kP', hkP', heP⟩ := hA.2.2 _ _ hkP
  have hmT : T.vm.method? mk = some methM := by rw [hA.method?]; exact hmethM
  have hpoly : signaturePolymorphic kP' methM = false := by
    have hn' : kP'.name = y.cls := by rw [heP]; exact hname
    exact signaturePolymorphic_of_name (by rw [hn']; exact hy) methM
  have hlenA : As.length = methM.sig.parameters.length := by
    rw [hsigM] at hlen0
    exact (Option.some.inj hlen0).symm
  obtain ⟨v, ⟨U', l2, c3, s2⟩, X', ⟨g', mk', t, L, e1, e2, hq, h1, hL, h2, h3⟩, hsteps⟩ := hK m meth c ⟨T, locs, cells, slots⟩ { g with stack := rest } (.invokestatic index) mk As.toArray X hg (hsize.trans hml.symm) hdg hW (X.named hnamed) ⟨hf.1, hf.2, hPc T hT X.warmed⟩
  dsimp only [Pt.U, Pt.locs, Pt.cells, Pt.slots] at X' e1 e2 h1 h2 h3 hsteps
  subst h1; subst h2; subst h3
  refine ⟨v, T.calling g' mk' As.toArray, t, U', L, hT, X', hL, e1, e2, hq, fun target h => ?_⟩
  subst hg
  jvm_step X.here [hx, hdg, invokestatic.wp_ready (e := e) (s := T) (m := mk) (k := kP') (meth := methM) (args := As) (rest := rest) (f := g) X.here.top hnc hr hkP' hmT hpoly hstM (by rw [heP]; exact hinitP) hlenA hstack]
  intro acts
  rw [doInvoke_state]
  exact hsteps.trans h
end LAM
/-- what is known of a class that was made for a shape -/
def MFx (vm : Vm) (c : ClassId) (cn : String) (bytes : ByteArray) (mL jm jc jn : Nat) (fls : List Nat) (tn iname idesc : String) : Prop :=
  ∃ (k tk : Class) (file : ClassFile) (methk : Method) (ck : Code) (toy : ClassId) (t : MethodId),
    vm.classes[c]? = some k ∧ k.name = cn ∧ k.cf = some file ∧ file.constantPool[jm]? = some (.methodref jc jn) ∧ file.constantPool.nameAndType? jn = some (iname, idesc) ∧
    vm.method? ⟨c, 1⟩ = some methk ∧ methk.code = some ck ∧ ck.code = bytes ∧ ck.maxLocals = mL ∧ methk.locks = false ∧ methk.accessFlags = 0x0001 ∧ methk.sig.returnType = some .boolean ∧
    vm.findClass tn = some toy ∧ vm.classes[toy]? = some tk ∧ tk.isInterface = false ∧ ((methodIn toy iname idesc tk.isInterface none).ask St0 vm).1 = .ok t ∧ vm.methodReady c jm t ∧ vm.classReady c jc toy ∧
    ∀ (i j : Nat), fls[i]? = some j → ∃ f : Field, vm.fieldReady c j c f ∧ f.isStatic = false ∧ f.slot = i
def noFile : ClassFile := { minorVersion := 0, majorVersion := 0, constantPool := #[], accessFlags := 0, thisClass := 0, superClass := 0, interfaces := #[], fields := #[], methods := #[], attributes := #[] }
/-- what the kernel says of the file of a shape: its second method, its fields, its entries -/
def FileOK (σ : Lambda.Shape) (dn : String) (bytes : ByteArray) (mL jm jc jn ju : Nat) (fls : List Nat) : Prop :=
  ∃ (F : ClassFile) (fw : Method) (lay : Array Field × Array FieldType × Array FieldType), σ.file dn = some F ∧ (∀ ms, layoutMethods F = some ms → ms[1]? = some fw) ∧ layoutFields F 0 = some lay ∧
    (fw.code.map fun c => (c.code.data, c.maxLocals)) = some (bytes.data, mL) ∧ (fw.accessFlags, fw.sig.returnType) = (0x0001, some FieldType.boolean) ∧
    (F.constantPool[jm]? = some (.methodref jc jn) ∧ F.constantPool.className? jc = some σ.implClass ∧ F.constantPool.nameAndType? jn = some (σ.implName, σ.implDesc.toString)) ∧ (F.constantPool[jc]? = some (.class_ ju) ∧ F.constantPool.string? ju = some σ.implClass ∧ jc ≠ F.thisClass) ∧
    (∀ (i j : Nat), fls[i]? = some j → ∃ (cj nj : Nat) (nm ds : String), F.constantPool[j]? = some (.fieldref cj nj) ∧ F.constantPool.nameAndType? nj = some (nm, ds) ∧ lay.1.findIdx? (·.name == nm) = some i ∧ (lay.1[i]?).map (fun f => (f.isStatic, f.slot)) = some (false, i)) ∧ lay.2.1 = σ.captured.toArray
theorem mf_of {vm : Vm} {d c : ClassId} {dk : Class} {σ : Lambda.Shape} {dn : String} {bytes : ByteArray} {mL jm jc jn ju : Nat} {fls : List Nat} (hF : FileOK σ dn bytes mL jm jc jn ju fls) (hitf0 : σ.implItf = false) (hd : vm.classes[d]? = some dk) (hname : dk.name = dn) (h : Lambda.isMade St0 vm d σ c = true)
    (hO : ∀ o ok, vm.findClass "java/lang/Object" = some o → vm.classes[o]? = some ok → ok.instanceTypes = #[]) : MFx vm c (dn ++ "$$Lambda") bytes mL jm jc jn fls σ.implClass σ.implName σ.implDesc.toString ∧ ∃ k, vm.classes[c]? = some k ∧ k.instanceTypes = σ.captured.toArray ∧ k.kind = .ordinary := by
  obtain ⟨F, fw, lay0, f1, f2, f3, fc, ff, eM, eC, eF, fty⟩ := hF
  obtain ⟨dk', k, ok, tk, file, cf, object, iface, toy, lay, methods, target, found, hd', hk, hfile, hcf, hobj, -, hok, hlay, hms, ht, htk, hg, -, hrec, -, -, -, hitf, hpool, hmeth, hfields, hty, hres, -⟩ := Lambda.isMade_spec h
  cases hd.symm.trans hd'
  rw [hname, f1] at hcf
  cases hcf
  have hemp := hO object ok hobj hok
  rw [hemp] at hlay
  cases f3.symm.trans hlay
  obtain ⟨b, hb, hsame⟩ := hmeth 1 fw (f2 methods hms)
  simp only [Lambda.sameMethod, Bool.and_eq_true, decide_eq_true_eq] at hsame
  obtain ⟨⟨hn, -, hsig, hfl⟩, hcode⟩ := hsame
  simp only [Prod.mk.injEq] at ff
  refine ⟨?_, k, hk, by rw [hty.1, hemp, fty]; simp, hrec.2.1⟩
  cases hfc : fw.code with
  | none => rw [hfc] at fc; cases fc
  | some x =>
    cases hbc : b.code with
    | none => simp [hfc, hbc] at hcode
    | some y =>
      simp only [hfc, hbc, Bool.and_eq_true, decide_eq_true_eq] at hcode
      simp only [hfc, Option.map_some, Option.some.injEq, Prod.mk.injEq] at fc
      refine ⟨k, tk, file, b, y, toy, target, hk, by rw [hrec.1, hname], hfile, by rw [hpool.2.1]; exact eM.1, by rw [hpool.2.1]; exact eM.2.2, by simp [Vm.method?, hk, hb], hbc, ?_, by rw [← hcode.1.1.1.1.2.1]; exact fc.2, ?_, by rw [← hfl]; exact ff.1, by rw [← hsig]; exact ff.2, ht, htk, by rw [hitf, hitf0], hg,
        ⟨k, hk, hres jm _ (Lambda.resolvedOf_method eM.1 eM.2.1 ht htk eM.2.2 hg)⟩, ⟨k, hk, hres jc _ (Lambda.resolvedOf_class eC.1 eC.2.2 eC.2.1 ht)⟩, ?_⟩
      · rw [← hcode.1.1.1.1.2.2]
        exact ByteArray.ext fc.1
      · simp [Method.locks, Method.isSynchronized, ← hfl, ff.1, hasFlag, Acc.synchronized]
      · intro i j hij
        obtain ⟨cj, nj, nm, ds, g1, g2, g3, g4⟩ := eF i j hij
        obtain ⟨g0, hg0, hp0⟩ := Option.map_eq_some_iff.mp g4
        simp only [Prod.mk.injEq] at hp0
        exact ⟨g0, ⟨k, i, k, hk, hres j _ (Lambda.resolvedOf_field g1 g2 g3), hk, hfields i _ hg0⟩, hp0.1, hp0.2⟩
def sg0 : Lambda.Shape := ({ iface := "DyeLattice$CellTest", name := "is", sam := ({ parameters := [Jvm.ClassFile.FieldType.int], returnType := (Option.some Jvm.ClassFile.FieldType.boolean) } : Jvm.ClassFile.MethodDescriptor), captured := [(Jvm.ClassFile.FieldType.object "DyeLattice$Lattice"), Jvm.ClassFile.FieldType.int], kind := 5, implClass := "DyeLattice$Lattice", implName := "lambda$mark$7", implDesc := ({ parameters := [Jvm.ClassFile.FieldType.int, Jvm.ClassFile.FieldType.int], returnType := (Option.some Jvm.ClassFile.FieldType.boolean) } : Jvm.ClassFile.MethodDescriptor), implItf := false, inst := ({ parameters := [Jvm.ClassFile.FieldType.int], returnType := (Option.some Jvm.ClassFile.FieldType.boolean) } : Jvm.ClassFile.MethodDescriptor) } : Jvm.Lambda.Shape)
def fb0 : ByteArray := ⟨#[42, 180, 0, 17, 42, 180, 0, 19, 27, 182, 0, 27, 172]⟩
theorem fd0_0 : decode fb0 0 = .ok (.aload_n 0, 1) := by decide +kernel
theorem fd0_1 : decode fb0 1 = .ok (.getfield 17, 3) := by decide +kernel
theorem fd0_4 : decode fb0 4 = .ok (.aload_n 0, 1) := by decide +kernel
theorem fd0_5 : decode fb0 5 = .ok (.getfield 19, 3) := by decide +kernel
theorem fd0_8 : decode fb0 8 = .ok (.iload_n 1, 1) := by decide +kernel
theorem fd0_9 : decode fb0 9 = .ok (.invokevirtual 27, 3) := by decide +kernel
theorem fd0_12 : decode fb0 12 = .ok (.ireturn, 1) := by decide +kernel
def sf0 : ClassFile := (sg0.file "DyeLattice$Lattice").getD noFile
theorem sok0 : FileOK sg0 "DyeLattice$Lattice" fb0 2 27 23 26 22 [17, 19] := by
  refine ⟨sf0, ((layoutMethods sf0).bind (·[1]?)).getD default, (layoutFields sf0 0).getD (#[], #[], #[]), ?_, ?_, ?_, by decide +kernel, by decide +kernel, by decide +kernel, by decide +kernel, ?_, by decide +kernel⟩
  · have h : (sg0.file "DyeLattice$Lattice").isSome = true := by decide +kernel
    obtain ⟨x, hx⟩ := Option.isSome_iff_exists.mp h
    simp [sf0, hx]
  · intro ms hms
    have h : ((layoutMethods sf0).bind (·[1]?)).isSome = true := by decide +kernel
    obtain ⟨x, hx⟩ := Option.isSome_iff_exists.mp h
    rw [hx]
    rw [hms] at hx
    exact hx
  · have h : (layoutFields sf0 0).isSome = true := by decide +kernel
    obtain ⟨x, hx⟩ := Option.isSome_iff_exists.mp h
    simp [hx]
  · intro i j hij
    have hi : i = 0 ∨ i = 1 := by
      have := (List.getElem?_eq_some_iff.mp hij).1
      simp only [List.length_cons, List.length_nil] at this
      omega
    rcases hi with rfl | rfl
    · obtain rfl : 17 = j := Option.some.inj hij
      exact ⟨2, 16, "arg$1", "LDyeLattice$Lattice;", by decide +kernel, by decide +kernel, by decide +kernel, by decide +kernel⟩
    · obtain rfl : 19 = j := Option.some.inj hij
      exact ⟨2, 18, "arg$2", "I", by decide +kernel, by decide +kernel, by decide +kernel, by decide +kernel⟩
def sg1 : Lambda.Shape := ({ iface := "DyeLattice$ValveTest", name := "lets", sam := ({ parameters := [(Jvm.ClassFile.FieldType.object "DyeLattice$Valve"), Jvm.ClassFile.FieldType.boolean], returnType := (Option.some Jvm.ClassFile.FieldType.boolean) } : Jvm.ClassFile.MethodDescriptor), captured := [], kind := 6, implClass := "DyeLattice$Lattice", implName := "lambda$mark$8", implDesc := ({ parameters := [(Jvm.ClassFile.FieldType.object "DyeLattice$Valve"), Jvm.ClassFile.FieldType.boolean], returnType := (Option.some Jvm.ClassFile.FieldType.boolean) } : Jvm.ClassFile.MethodDescriptor), implItf := false, inst := ({ parameters := [(Jvm.ClassFile.FieldType.object "DyeLattice$Valve"), Jvm.ClassFile.FieldType.boolean], returnType := (Option.some Jvm.ClassFile.FieldType.boolean) } : Jvm.ClassFile.MethodDescriptor) } : Jvm.Lambda.Shape)
def fb1 : ByteArray := ⟨#[43, 28, 184, 0, 17, 172]⟩
theorem fd1_0 : decode fb1 0 = .ok (.aload_n 1, 1) := by decide +kernel
theorem fd1_1 : decode fb1 1 = .ok (.iload_n 2, 1) := by decide +kernel
theorem fd1_2 : decode fb1 2 = .ok (.invokestatic 17, 3) := by decide +kernel
theorem fd1_5 : decode fb1 5 = .ok (.ireturn, 1) := by decide +kernel
def sf1 : ClassFile := (sg1.file "DyeLattice$Lattice").getD noFile
theorem sok1 : FileOK sg1 "DyeLattice$Lattice" fb1 3 17 14 16 13 [] := by
  refine ⟨sf1, ((layoutMethods sf1).bind (·[1]?)).getD default, (layoutFields sf1 0).getD (#[], #[], #[]), ?_, ?_, ?_, by decide +kernel, by decide +kernel, by decide +kernel, by decide +kernel, ?_, by decide +kernel⟩
  · have h : (sg1.file "DyeLattice$Lattice").isSome = true := by decide +kernel
    obtain ⟨x, hx⟩ := Option.isSome_iff_exists.mp h
    simp [sf1, hx]
  · intro ms hms
    have h : ((layoutMethods sf1).bind (·[1]?)).isSome = true := by decide +kernel
    obtain ⟨x, hx⟩ := Option.isSome_iff_exists.mp h
    rw [hx]
    rw [hms] at hx
    exact hx
  · have h : (layoutFields sf1 0).isSome = true := by decide +kernel
    obtain ⟨x, hx⟩ := Option.isSome_iff_exists.mp h
    simp [hx]
  · intro i j hij
    cases hij
def sg2 : Lambda.Shape := ({ iface := "DyeLattice$CellTest", name := "is", sam := ({ parameters := [Jvm.ClassFile.FieldType.int], returnType := (Option.some Jvm.ClassFile.FieldType.boolean) } : Jvm.ClassFile.MethodDescriptor), captured := [(Jvm.ClassFile.FieldType.object "DyeLattice$Lattice"), Jvm.ClassFile.FieldType.int], kind := 5, implClass := "DyeLattice$Lattice", implName := "lambda$reach$5", implDesc := ({ parameters := [Jvm.ClassFile.FieldType.int, Jvm.ClassFile.FieldType.int], returnType := (Option.some Jvm.ClassFile.FieldType.boolean) } : Jvm.ClassFile.MethodDescriptor), implItf := false, inst := ({ parameters := [Jvm.ClassFile.FieldType.int], returnType := (Option.some Jvm.ClassFile.FieldType.boolean) } : Jvm.ClassFile.MethodDescriptor) } : Jvm.Lambda.Shape)
def fb2 : ByteArray := ⟨#[42, 180, 0, 17, 42, 180, 0, 19, 27, 182, 0, 27, 172]⟩
theorem fd2_0 : decode fb2 0 = .ok (.aload_n 0, 1) := by decide +kernel
theorem fd2_1 : decode fb2 1 = .ok (.getfield 17, 3) := by decide +kernel
theorem fd2_4 : decode fb2 4 = .ok (.aload_n 0, 1) := by decide +kernel
theorem fd2_5 : decode fb2 5 = .ok (.getfield 19, 3) := by decide +kernel
theorem fd2_8 : decode fb2 8 = .ok (.iload_n 1, 1) := by decide +kernel
theorem fd2_9 : decode fb2 9 = .ok (.invokevirtual 27, 3) := by decide +kernel
theorem fd2_12 : decode fb2 12 = .ok (.ireturn, 1) := by decide +kernel
def sf2 : ClassFile := (sg2.file "DyeLattice$Lattice").getD noFile
theorem sok2 : FileOK sg2 "DyeLattice$Lattice" fb2 2 27 23 26 22 [17, 19] := by
  refine ⟨sf2, ((layoutMethods sf2).bind (·[1]?)).getD default, (layoutFields sf2 0).getD (#[], #[], #[]), ?_, ?_, ?_, by decide +kernel, by decide +kernel, by decide +kernel, by decide +kernel, ?_, by decide +kernel⟩
  · have h : (sg2.file "DyeLattice$Lattice").isSome = true := by decide +kernel
    obtain ⟨x, hx⟩ := Option.isSome_iff_exists.mp h
    simp [sf2, hx]
  · intro ms hms
    have h : ((layoutMethods sf2).bind (·[1]?)).isSome = true := by decide +kernel
    obtain ⟨x, hx⟩ := Option.isSome_iff_exists.mp h
    rw [hx]
    rw [hms] at hx
    exact hx
  · have h : (layoutFields sf2 0).isSome = true := by decide +kernel
    obtain ⟨x, hx⟩ := Option.isSome_iff_exists.mp h
    simp [hx]
  · intro i j hij
    have hi : i = 0 ∨ i = 1 := by
      have := (List.getElem?_eq_some_iff.mp hij).1
      simp only [List.length_cons, List.length_nil] at this
      omega
    rcases hi with rfl | rfl
    · obtain rfl : 17 = j := Option.some.inj hij
      exact ⟨2, 16, "arg$1", "LDyeLattice$Lattice;", by decide +kernel, by decide +kernel, by decide +kernel, by decide +kernel⟩
    · obtain rfl : 19 = j := Option.some.inj hij
      exact ⟨2, 18, "arg$2", "I", by decide +kernel, by decide +kernel, by decide +kernel, by decide +kernel⟩
def sg3 : Lambda.Shape := ({ iface := "DyeLattice$CellTest", name := "is", sam := ({ parameters := [Jvm.ClassFile.FieldType.int], returnType := (Option.some Jvm.ClassFile.FieldType.boolean) } : Jvm.ClassFile.MethodDescriptor), captured := [(Jvm.ClassFile.FieldType.object "DyeLattice$Lattice")], kind := 5, implClass := "DyeLattice$Lattice", implName := "lambda$reach$6", implDesc := ({ parameters := [Jvm.ClassFile.FieldType.int], returnType := (Option.some Jvm.ClassFile.FieldType.boolean) } : Jvm.ClassFile.MethodDescriptor), implItf := false, inst := ({ parameters := [Jvm.ClassFile.FieldType.int], returnType := (Option.some Jvm.ClassFile.FieldType.boolean) } : Jvm.ClassFile.MethodDescriptor) } : Jvm.Lambda.Shape)
def fb3 : ByteArray := ⟨#[42, 180, 0, 15, 27, 182, 0, 22, 172]⟩
theorem fd3_0 : decode fb3 0 = .ok (.aload_n 0, 1) := by decide +kernel
theorem fd3_1 : decode fb3 1 = .ok (.getfield 15, 3) := by decide +kernel
theorem fd3_4 : decode fb3 4 = .ok (.iload_n 1, 1) := by decide +kernel
theorem fd3_5 : decode fb3 5 = .ok (.invokevirtual 22, 3) := by decide +kernel
theorem fd3_8 : decode fb3 8 = .ok (.ireturn, 1) := by decide +kernel
def sf3 : ClassFile := (sg3.file "DyeLattice$Lattice").getD noFile
theorem sok3 : FileOK sg3 "DyeLattice$Lattice" fb3 2 22 19 21 18 [15] := by
  refine ⟨sf3, ((layoutMethods sf3).bind (·[1]?)).getD default, (layoutFields sf3 0).getD (#[], #[], #[]), ?_, ?_, ?_, by decide +kernel, by decide +kernel, by decide +kernel, by decide +kernel, ?_, by decide +kernel⟩
  · have h : (sg3.file "DyeLattice$Lattice").isSome = true := by decide +kernel
    obtain ⟨x, hx⟩ := Option.isSome_iff_exists.mp h
    simp [sf3, hx]
  · intro ms hms
    have h : ((layoutMethods sf3).bind (·[1]?)).isSome = true := by decide +kernel
    obtain ⟨x, hx⟩ := Option.isSome_iff_exists.mp h
    rw [hx]
    rw [hms] at hx
    exact hx
  · have h : (layoutFields sf3 0).isSome = true := by decide +kernel
    obtain ⟨x, hx⟩ := Option.isSome_iff_exists.mp h
    simp [hx]
  · intro i j hij
    have hi : i = 0 := by
      have := (List.getElem?_eq_some_iff.mp hij).1
      simp only [List.length_cons, List.length_nil] at this
      omega
    subst hi
    · obtain rfl : 15 = j := Option.some.inj hij
      exact ⟨2, 14, "arg$1", "LDyeLattice$Lattice;", by decide +kernel, by decide +kernel, by decide +kernel, by decide +kernel⟩
def sg4 : Lambda.Shape := ({ iface := "DyeLattice$ValveTest", name := "lets", sam := ({ parameters := [(Jvm.ClassFile.FieldType.object "DyeLattice$Valve"), Jvm.ClassFile.FieldType.boolean], returnType := (Option.some Jvm.ClassFile.FieldType.boolean) } : Jvm.ClassFile.MethodDescriptor), captured := [], kind := 6, implClass := "DyeLattice$Lattice", implName := "lambda$reached$0", implDesc := ({ parameters := [(Jvm.ClassFile.FieldType.object "DyeLattice$Valve"), Jvm.ClassFile.FieldType.boolean], returnType := (Option.some Jvm.ClassFile.FieldType.boolean) } : Jvm.ClassFile.MethodDescriptor), implItf := false, inst := ({ parameters := [(Jvm.ClassFile.FieldType.object "DyeLattice$Valve"), Jvm.ClassFile.FieldType.boolean], returnType := (Option.some Jvm.ClassFile.FieldType.boolean) } : Jvm.ClassFile.MethodDescriptor) } : Jvm.Lambda.Shape)
def fb4 : ByteArray := ⟨#[43, 28, 184, 0, 17, 172]⟩
theorem fd4_0 : decode fb4 0 = .ok (.aload_n 1, 1) := by decide +kernel
theorem fd4_1 : decode fb4 1 = .ok (.iload_n 2, 1) := by decide +kernel
theorem fd4_2 : decode fb4 2 = .ok (.invokestatic 17, 3) := by decide +kernel
theorem fd4_5 : decode fb4 5 = .ok (.ireturn, 1) := by decide +kernel
def sf4 : ClassFile := (sg4.file "DyeLattice$Lattice").getD noFile
theorem sok4 : FileOK sg4 "DyeLattice$Lattice" fb4 3 17 14 16 13 [] := by
  refine ⟨sf4, ((layoutMethods sf4).bind (·[1]?)).getD default, (layoutFields sf4 0).getD (#[], #[], #[]), ?_, ?_, ?_, by decide +kernel, by decide +kernel, by decide +kernel, by decide +kernel, ?_, by decide +kernel⟩
  · have h : (sg4.file "DyeLattice$Lattice").isSome = true := by decide +kernel
    obtain ⟨x, hx⟩ := Option.isSome_iff_exists.mp h
    simp [sf4, hx]
  · intro ms hms
    have h : ((layoutMethods sf4).bind (·[1]?)).isSome = true := by decide +kernel
    obtain ⟨x, hx⟩ := Option.isSome_iff_exists.mp h
    rw [hx]
    rw [hms] at hx
    exact hx
  · have h : (layoutFields sf4 0).isSome = true := by decide +kernel
    obtain ⟨x, hx⟩ := Option.isSome_iff_exists.mp h
    simp [hx]
  · intro i j hij
    cases hij
def sg5 : Lambda.Shape := ({ iface := "DyeLattice$CellTest", name := "is", sam := ({ parameters := [Jvm.ClassFile.FieldType.int], returnType := (Option.some Jvm.ClassFile.FieldType.boolean) } : Jvm.ClassFile.MethodDescriptor), captured := [(Jvm.ClassFile.FieldType.object "DyeLattice$Lattice")], kind := 5, implClass := "DyeLattice$Lattice", implName := "lambda$spans$1", implDesc := ({ parameters := [Jvm.ClassFile.FieldType.int], returnType := (Option.some Jvm.ClassFile.FieldType.boolean) } : Jvm.ClassFile.MethodDescriptor), implItf := false, inst := ({ parameters := [Jvm.ClassFile.FieldType.int], returnType := (Option.some Jvm.ClassFile.FieldType.boolean) } : Jvm.ClassFile.MethodDescriptor) } : Jvm.Lambda.Shape)
def fb5 : ByteArray := ⟨#[42, 180, 0, 15, 27, 182, 0, 22, 172]⟩
theorem fd5_0 : decode fb5 0 = .ok (.aload_n 0, 1) := by decide +kernel
theorem fd5_1 : decode fb5 1 = .ok (.getfield 15, 3) := by decide +kernel
theorem fd5_4 : decode fb5 4 = .ok (.iload_n 1, 1) := by decide +kernel
theorem fd5_5 : decode fb5 5 = .ok (.invokevirtual 22, 3) := by decide +kernel
theorem fd5_8 : decode fb5 8 = .ok (.ireturn, 1) := by decide +kernel
def sf5 : ClassFile := (sg5.file "DyeLattice$Lattice").getD noFile
theorem sok5 : FileOK sg5 "DyeLattice$Lattice" fb5 2 22 19 21 18 [15] := by
  refine ⟨sf5, ((layoutMethods sf5).bind (·[1]?)).getD default, (layoutFields sf5 0).getD (#[], #[], #[]), ?_, ?_, ?_, by decide +kernel, by decide +kernel, by decide +kernel, by decide +kernel, ?_, by decide +kernel⟩
  · have h : (sg5.file "DyeLattice$Lattice").isSome = true := by decide +kernel
    obtain ⟨x, hx⟩ := Option.isSome_iff_exists.mp h
    simp [sf5, hx]
  · intro ms hms
    have h : ((layoutMethods sf5).bind (·[1]?)).isSome = true := by decide +kernel
    obtain ⟨x, hx⟩ := Option.isSome_iff_exists.mp h
    rw [hx]
    rw [hms] at hx
    exact hx
  · have h : (layoutFields sf5 0).isSome = true := by decide +kernel
    obtain ⟨x, hx⟩ := Option.isSome_iff_exists.mp h
    simp [hx]
  · intro i j hij
    have hi : i = 0 := by
      have := (List.getElem?_eq_some_iff.mp hij).1
      simp only [List.length_cons, List.length_nil] at this
      omega
    subst hi
    · obtain rfl : 15 = j := Option.some.inj hij
      exact ⟨2, 14, "arg$1", "LDyeLattice$Lattice;", by decide +kernel, by decide +kernel, by decide +kernel, by decide +kernel⟩
def sg6 : Lambda.Shape := ({ iface := "DyeLattice$CellTest", name := "is", sam := ({ parameters := [Jvm.ClassFile.FieldType.int], returnType := (Option.some Jvm.ClassFile.FieldType.boolean) } : Jvm.ClassFile.MethodDescriptor), captured := [(Jvm.ClassFile.FieldType.object "DyeLattice$Lattice"), Jvm.ClassFile.FieldType.int, Jvm.ClassFile.FieldType.int], kind := 5, implClass := "DyeLattice$Lattice", implName := "lambda$spans$2", implDesc := ({ parameters := [Jvm.ClassFile.FieldType.int, Jvm.ClassFile.FieldType.int, Jvm.ClassFile.FieldType.int], returnType := (Option.some Jvm.ClassFile.FieldType.boolean) } : Jvm.ClassFile.MethodDescriptor), implItf := false, inst := ({ parameters := [Jvm.ClassFile.FieldType.int], returnType := (Option.some Jvm.ClassFile.FieldType.boolean) } : Jvm.ClassFile.MethodDescriptor) } : Jvm.Lambda.Shape)
def fb6 : ByteArray := ⟨#[42, 180, 0, 18, 42, 180, 0, 20, 42, 180, 0, 22, 27, 182, 0, 30, 172]⟩
theorem fd6_0 : decode fb6 0 = .ok (.aload_n 0, 1) := by decide +kernel
theorem fd6_1 : decode fb6 1 = .ok (.getfield 18, 3) := by decide +kernel
theorem fd6_4 : decode fb6 4 = .ok (.aload_n 0, 1) := by decide +kernel
theorem fd6_5 : decode fb6 5 = .ok (.getfield 20, 3) := by decide +kernel
theorem fd6_8 : decode fb6 8 = .ok (.aload_n 0, 1) := by decide +kernel
theorem fd6_9 : decode fb6 9 = .ok (.getfield 22, 3) := by decide +kernel
theorem fd6_12 : decode fb6 12 = .ok (.iload_n 1, 1) := by decide +kernel
theorem fd6_13 : decode fb6 13 = .ok (.invokevirtual 30, 3) := by decide +kernel
theorem fd6_16 : decode fb6 16 = .ok (.ireturn, 1) := by decide +kernel
def sf6 : ClassFile := (sg6.file "DyeLattice$Lattice").getD noFile
theorem sok6 : FileOK sg6 "DyeLattice$Lattice" fb6 2 30 26 29 25 [18, 20, 22] := by
  refine ⟨sf6, ((layoutMethods sf6).bind (·[1]?)).getD default, (layoutFields sf6 0).getD (#[], #[], #[]), ?_, ?_, ?_, by decide +kernel, by decide +kernel, by decide +kernel, by decide +kernel, ?_, by decide +kernel⟩
  · have h : (sg6.file "DyeLattice$Lattice").isSome = true := by decide +kernel
    obtain ⟨x, hx⟩ := Option.isSome_iff_exists.mp h
    simp [sf6, hx]
  · intro ms hms
    have h : ((layoutMethods sf6).bind (·[1]?)).isSome = true := by decide +kernel
    obtain ⟨x, hx⟩ := Option.isSome_iff_exists.mp h
    rw [hx]
    rw [hms] at hx
    exact hx
  · have h : (layoutFields sf6 0).isSome = true := by decide +kernel
    obtain ⟨x, hx⟩ := Option.isSome_iff_exists.mp h
    simp [hx]
  · intro i j hij
    have hi : i = 0 ∨ i = 1 ∨ i = 2 := by
      have := (List.getElem?_eq_some_iff.mp hij).1
      simp only [List.length_cons, List.length_nil] at this
      omega
    rcases hi with rfl | rfl | rfl
    · obtain rfl : 18 = j := Option.some.inj hij
      exact ⟨2, 17, "arg$1", "LDyeLattice$Lattice;", by decide +kernel, by decide +kernel, by decide +kernel, by decide +kernel⟩
    · obtain rfl : 20 = j := Option.some.inj hij
      exact ⟨2, 19, "arg$2", "I", by decide +kernel, by decide +kernel, by decide +kernel, by decide +kernel⟩
    · obtain rfl : 22 = j := Option.some.inj hij
      exact ⟨2, 21, "arg$3", "I", by decide +kernel, by decide +kernel, by decide +kernel, by decide +kernel⟩
def sg7 : Lambda.Shape := ({ iface := "DyeLattice$ThresholdTest", name := "holds", sam := ({ parameters := [Jvm.ClassFile.FieldType.int], returnType := (Option.some Jvm.ClassFile.FieldType.boolean) } : Jvm.ClassFile.MethodDescriptor), captured := [(Jvm.ClassFile.FieldType.object "DyeLattice$Lattice")], kind := 5, implClass := "DyeLattice$Lattice", implName := "lambda$spanningThreshold$9", implDesc := ({ parameters := [Jvm.ClassFile.FieldType.int], returnType := (Option.some Jvm.ClassFile.FieldType.boolean) } : Jvm.ClassFile.MethodDescriptor), implItf := false, inst := ({ parameters := [Jvm.ClassFile.FieldType.int], returnType := (Option.some Jvm.ClassFile.FieldType.boolean) } : Jvm.ClassFile.MethodDescriptor) } : Jvm.Lambda.Shape)
def fb7 : ByteArray := ⟨#[42, 180, 0, 15, 27, 182, 0, 22, 172]⟩
theorem fd7_0 : decode fb7 0 = .ok (.aload_n 0, 1) := by decide +kernel
theorem fd7_1 : decode fb7 1 = .ok (.getfield 15, 3) := by decide +kernel
theorem fd7_4 : decode fb7 4 = .ok (.iload_n 1, 1) := by decide +kernel
theorem fd7_5 : decode fb7 5 = .ok (.invokevirtual 22, 3) := by decide +kernel
theorem fd7_8 : decode fb7 8 = .ok (.ireturn, 1) := by decide +kernel
def sf7 : ClassFile := (sg7.file "DyeLattice$Lattice").getD noFile
theorem sok7 : FileOK sg7 "DyeLattice$Lattice" fb7 2 22 19 21 18 [15] := by
  refine ⟨sf7, ((layoutMethods sf7).bind (·[1]?)).getD default, (layoutFields sf7 0).getD (#[], #[], #[]), ?_, ?_, ?_, by decide +kernel, by decide +kernel, by decide +kernel, by decide +kernel, ?_, by decide +kernel⟩
  · have h : (sg7.file "DyeLattice$Lattice").isSome = true := by decide +kernel
    obtain ⟨x, hx⟩ := Option.isSome_iff_exists.mp h
    simp [sf7, hx]
  · intro ms hms
    have h : ((layoutMethods sf7).bind (·[1]?)).isSome = true := by decide +kernel
    obtain ⟨x, hx⟩ := Option.isSome_iff_exists.mp h
    rw [hx]
    rw [hms] at hx
    exact hx
  · have h : (layoutFields sf7 0).isSome = true := by decide +kernel
    obtain ⟨x, hx⟩ := Option.isSome_iff_exists.mp h
    simp [hx]
  · intro i j hij
    have hi : i = 0 := by
      have := (List.getElem?_eq_some_iff.mp hij).1
      simp only [List.length_cons, List.length_nil] at this
      omega
    subst hi
    · obtain rfl : 15 = j := Option.some.inj hij
      exact ⟨2, 14, "arg$1", "LDyeLattice$Lattice;", by decide +kernel, by decide +kernel, by decide +kernel, by decide +kernel⟩
def sg8 : Lambda.Shape := ({ iface := "DyeLattice$ThresholdTest", name := "holds", sam := ({ parameters := [Jvm.ClassFile.FieldType.int], returnType := (Option.some Jvm.ClassFile.FieldType.boolean) } : Jvm.ClassFile.MethodDescriptor), captured := [(Jvm.ClassFile.FieldType.object "DyeLattice"), Jvm.ClassFile.FieldType.int, Jvm.ClassFile.FieldType.int], kind := 5, implClass := "DyeLattice", implName := "lambda$thresholdBetween$0", implDesc := ({ parameters := [Jvm.ClassFile.FieldType.int, Jvm.ClassFile.FieldType.int, Jvm.ClassFile.FieldType.int], returnType := (Option.some Jvm.ClassFile.FieldType.boolean) } : Jvm.ClassFile.MethodDescriptor), implItf := false, inst := ({ parameters := [Jvm.ClassFile.FieldType.int], returnType := (Option.some Jvm.ClassFile.FieldType.boolean) } : Jvm.ClassFile.MethodDescriptor) } : Jvm.Lambda.Shape)
def fb8 : ByteArray := ⟨#[42, 180, 0, 18, 42, 180, 0, 20, 42, 180, 0, 22, 27, 182, 0, 30, 172]⟩
theorem fd8_0 : decode fb8 0 = .ok (.aload_n 0, 1) := by decide +kernel
theorem fd8_1 : decode fb8 1 = .ok (.getfield 18, 3) := by decide +kernel
theorem fd8_4 : decode fb8 4 = .ok (.aload_n 0, 1) := by decide +kernel
theorem fd8_5 : decode fb8 5 = .ok (.getfield 20, 3) := by decide +kernel
theorem fd8_8 : decode fb8 8 = .ok (.aload_n 0, 1) := by decide +kernel
theorem fd8_9 : decode fb8 9 = .ok (.getfield 22, 3) := by decide +kernel
theorem fd8_12 : decode fb8 12 = .ok (.iload_n 1, 1) := by decide +kernel
theorem fd8_13 : decode fb8 13 = .ok (.invokevirtual 30, 3) := by decide +kernel
theorem fd8_16 : decode fb8 16 = .ok (.ireturn, 1) := by decide +kernel
def sf8 : ClassFile := (sg8.file "DyeLattice").getD noFile
theorem sok8 : FileOK sg8 "DyeLattice" fb8 2 30 26 29 25 [18, 20, 22] := by
  refine ⟨sf8, ((layoutMethods sf8).bind (·[1]?)).getD default, (layoutFields sf8 0).getD (#[], #[], #[]), ?_, ?_, ?_, by decide +kernel, by decide +kernel, by decide +kernel, by decide +kernel, ?_, by decide +kernel⟩
  · have h : (sg8.file "DyeLattice").isSome = true := by decide +kernel
    obtain ⟨x, hx⟩ := Option.isSome_iff_exists.mp h
    simp [sf8, hx]
  · intro ms hms
    have h : ((layoutMethods sf8).bind (·[1]?)).isSome = true := by decide +kernel
    obtain ⟨x, hx⟩ := Option.isSome_iff_exists.mp h
    rw [hx]
    rw [hms] at hx
    exact hx
  · have h : (layoutFields sf8 0).isSome = true := by decide +kernel
    obtain ⟨x, hx⟩ := Option.isSome_iff_exists.mp h
    simp [hx]
  · intro i j hij
    have hi : i = 0 ∨ i = 1 ∨ i = 2 := by
      have := (List.getElem?_eq_some_iff.mp hij).1
      simp only [List.length_cons, List.length_nil] at this
      omega
    rcases hi with rfl | rfl | rfl
    · obtain rfl : 18 = j := Option.some.inj hij
      exact ⟨2, 17, "arg$1", "LDyeLattice;", by decide +kernel, by decide +kernel, by decide +kernel, by decide +kernel⟩
    · obtain rfl : 20 = j := Option.some.inj hij
      exact ⟨2, 19, "arg$2", "I", by decide +kernel, by decide +kernel, by decide +kernel, by decide +kernel⟩
    · obtain rfl : 22 = j := Option.some.inj hij
      exact ⟨2, 21, "arg$3", "I", by decide +kernel, by decide +kernel, by decide +kernel, by decide +kernel⟩
def sg9 : Lambda.Shape := ({ iface := "DyeLattice$CellTest", name := "is", sam := ({ parameters := [Jvm.ClassFile.FieldType.int], returnType := (Option.some Jvm.ClassFile.FieldType.boolean) } : Jvm.ClassFile.MethodDescriptor), captured := [Jvm.ClassFile.FieldType.int], kind := 6, implClass := "DyeLattice$Lattice", implName := "lambda$hasWay$3", implDesc := ({ parameters := [Jvm.ClassFile.FieldType.int, Jvm.ClassFile.FieldType.int], returnType := (Option.some Jvm.ClassFile.FieldType.boolean) } : Jvm.ClassFile.MethodDescriptor), implItf := false, inst := ({ parameters := [Jvm.ClassFile.FieldType.int], returnType := (Option.some Jvm.ClassFile.FieldType.boolean) } : Jvm.ClassFile.MethodDescriptor) } : Jvm.Lambda.Shape)
def fb9 : ByteArray := ⟨#[42, 180, 0, 15, 27, 184, 0, 23, 172]⟩
theorem fd9_0 : decode fb9 0 = .ok (.aload_n 0, 1) := by decide +kernel
theorem fd9_1 : decode fb9 1 = .ok (.getfield 15, 3) := by decide +kernel
theorem fd9_4 : decode fb9 4 = .ok (.iload_n 1, 1) := by decide +kernel
theorem fd9_5 : decode fb9 5 = .ok (.invokestatic 23, 3) := by decide +kernel
theorem fd9_8 : decode fb9 8 = .ok (.ireturn, 1) := by decide +kernel
def sf9 : ClassFile := (sg9.file "DyeLattice$Lattice").getD noFile
theorem sok9 : FileOK sg9 "DyeLattice$Lattice" fb9 2 23 19 22 18 [15] := by
  refine ⟨sf9, ((layoutMethods sf9).bind (·[1]?)).getD default, (layoutFields sf9 0).getD (#[], #[], #[]), ?_, ?_, ?_, by decide +kernel, by decide +kernel, by decide +kernel, by decide +kernel, ?_, by decide +kernel⟩
  · have h : (sg9.file "DyeLattice$Lattice").isSome = true := by decide +kernel
    obtain ⟨x, hx⟩ := Option.isSome_iff_exists.mp h
    simp [sf9, hx]
  · intro ms hms
    have h : ((layoutMethods sf9).bind (·[1]?)).isSome = true := by decide +kernel
    obtain ⟨x, hx⟩ := Option.isSome_iff_exists.mp h
    rw [hx]
    rw [hms] at hx
    exact hx
  · have h : (layoutFields sf9 0).isSome = true := by decide +kernel
    obtain ⟨x, hx⟩ := Option.isSome_iff_exists.mp h
    simp [hx]
  · intro i j hij
    have hi : i = 0 := by
      have := (List.getElem?_eq_some_iff.mp hij).1
      simp only [List.length_cons, List.length_nil] at this
      omega
    subst hi
    · obtain rfl : 15 = j := Option.some.inj hij
      exact ⟨2, 14, "arg$1", "I", by decide +kernel, by decide +kernel, by decide +kernel, by decide +kernel⟩
def sg10 : Lambda.Shape := ({ iface := "DyeLattice$CellTest", name := "is", sam := ({ parameters := [Jvm.ClassFile.FieldType.int], returnType := (Option.some Jvm.ClassFile.FieldType.boolean) } : Jvm.ClassFile.MethodDescriptor), captured := [(Jvm.ClassFile.FieldType.object "DyeLattice$Lattice"), Jvm.ClassFile.FieldType.int], kind := 5, implClass := "DyeLattice$Lattice", implName := "lambda$hasWay$4", implDesc := ({ parameters := [Jvm.ClassFile.FieldType.int, Jvm.ClassFile.FieldType.int], returnType := (Option.some Jvm.ClassFile.FieldType.boolean) } : Jvm.ClassFile.MethodDescriptor), implItf := false, inst := ({ parameters := [Jvm.ClassFile.FieldType.int], returnType := (Option.some Jvm.ClassFile.FieldType.boolean) } : Jvm.ClassFile.MethodDescriptor) } : Jvm.Lambda.Shape)
def fb10 : ByteArray := ⟨#[42, 180, 0, 17, 42, 180, 0, 19, 27, 182, 0, 27, 172]⟩
theorem fd10_0 : decode fb10 0 = .ok (.aload_n 0, 1) := by decide +kernel
theorem fd10_1 : decode fb10 1 = .ok (.getfield 17, 3) := by decide +kernel
theorem fd10_4 : decode fb10 4 = .ok (.aload_n 0, 1) := by decide +kernel
theorem fd10_5 : decode fb10 5 = .ok (.getfield 19, 3) := by decide +kernel
theorem fd10_8 : decode fb10 8 = .ok (.iload_n 1, 1) := by decide +kernel
theorem fd10_9 : decode fb10 9 = .ok (.invokevirtual 27, 3) := by decide +kernel
theorem fd10_12 : decode fb10 12 = .ok (.ireturn, 1) := by decide +kernel
def sf10 : ClassFile := (sg10.file "DyeLattice$Lattice").getD noFile
theorem sok10 : FileOK sg10 "DyeLattice$Lattice" fb10 2 27 23 26 22 [17, 19] := by
  refine ⟨sf10, ((layoutMethods sf10).bind (·[1]?)).getD default, (layoutFields sf10 0).getD (#[], #[], #[]), ?_, ?_, ?_, by decide +kernel, by decide +kernel, by decide +kernel, by decide +kernel, ?_, by decide +kernel⟩
  · have h : (sg10.file "DyeLattice$Lattice").isSome = true := by decide +kernel
    obtain ⟨x, hx⟩ := Option.isSome_iff_exists.mp h
    simp [sf10, hx]
  · intro ms hms
    have h : ((layoutMethods sf10).bind (·[1]?)).isSome = true := by decide +kernel
    obtain ⟨x, hx⟩ := Option.isSome_iff_exists.mp h
    rw [hx]
    rw [hms] at hx
    exact hx
  · have h : (layoutFields sf10 0).isSome = true := by decide +kernel
    obtain ⟨x, hx⟩ := Option.isSome_iff_exists.mp h
    simp [hx]
  · intro i j hij
    have hi : i = 0 ∨ i = 1 := by
      have := (List.getElem?_eq_some_iff.mp hij).1
      simp only [List.length_cons, List.length_nil] at this
      omega
    rcases hi with rfl | rfl
    · obtain rfl : 17 = j := Option.some.inj hij
      exact ⟨2, 16, "arg$1", "LDyeLattice$Lattice;", by decide +kernel, by decide +kernel, by decide +kernel, by decide +kernel⟩
    · obtain rfl : 19 = j := Option.some.inj hij
      exact ⟨2, 18, "arg$2", "I", by decide +kernel, by decide +kernel, by decide +kernel, by decide +kernel⟩
