set_option maxRecDepth 100000
section VXA
/-! The laws vx_back, vx_callV, vx_callS, vx_callSW, vx_throw0, vx_throwS follow proofs of the library, with one case more: JvmDerived/Free/Laws.lean (Back.of_free), Shelf42/LK1.lean (callV, callS), Shelf/KitTraced.lean (throwNew0V, throwNewS). -/
/-- where a method has thrown q: the class by its name, the cell, what was written, the world -/
def vx_T (XC : Addr → String → State → State → Prop) (st : State) (q : Addr) (t : State) (mc ms : Nat) (free : Addr → Prop) : Prop :=
  ∃ (E : String) (ce : Cell) (L : List Loc), XC q E st t ∧ t.heap[q]? = some ce ∧ ce.vm = .none ∧ st.vm.findClass E = some ce.cls ∧ st.WarmedH t.vm ∧ st.sameButNew ({ t with vm := st.vm } : State) L mc ms ∧ ∀ z ∈ L, free z.base
def vx_Q (Qc : Array Value → State → Outcome → State → Prop) (XC : Addr → String → State → State → Prop) (mc ms : Nat) (free : Addr → Prop) : Array Value → State → Outcome → State → Prop := fun a st o t =>
  (Qc a st o t ∧ ∃ L, FrameEnd st o t L mc ms ∧ ∀ q ∈ L, free q.base) ∨ ∃ q, o = .threw q ∧ vx_T XC st q t mc ms free
/-- a callee that returns or throws -/
def vx_Met (l : Launch) (y : MethodName) (ws : List Cond) (rm : Room) (Pc : Array Value → State → Prop) (Qc : Array Value → State → Outcome → State → Prop) (XC : Addr → String → State → State → Prop) (mc ms : Nat) (free : Addr → Prop) : Prop :=
  MetFree l y (headSpec ws rm) Pc (fun _ _ _ _ _ => True) (vx_Q Qc XC mc ms free)
def vx_Post (XC : Addr → String → State → State → Prop) (mc ms : Nat) (free : Addr → Prop) : Pt → Array Value → Addr → Pt → Prop := fun A a q B =>
  ∃ (g : JFrame) (mk : MethodId) (t : State) (L : List Loc) (E : String) (ce : Cell), B.U.heap = t.heap ∧ B.U.vm = t.vm ∧ XC q E (A.U.calling g mk a) t ∧ t.heap[q]? = some ce ∧ ce.vm = .none ∧ A.U.vm.findClass E = some ce.cls ∧ B.locs = A.locs ++ L ∧ (∀ z ∈ L, free z.base) ∧ B.cells = A.cells + mc ∧ B.slots = A.slots + ms
def vx_Back (l : Launch) (R : Room) (p : Program) (e : Env) (below : List Frame) (s : State) (sargs : Array Value) (y : MethodName) (len W9 : Nat)
    (Pre : Pt → Array Value → Prop) (Post : Pt → Array Value → Option Value → Pt → Prop) (PostX : Pt → Array Value → Addr → Pt → Prop) : Prop :=
  ∀ (m : MethodId) (meth : Method) (c : Code) (A : Pt) (g : JFrame) (ig : Instr) (mk : MethodId) (a : Array Value),
    Stand p l e R s m sargs below meth c A.U A.locs A.cells A.slots → g.method = m → g.locals.size = c.maxLocals → decode c.code g.pc = .ok (ig, len) →
    2 * g.monitorRoom + (g.stack.map fun v => v.category).sum ≤ W9 → A.U.methodNamed? y = some mk → Pre A a →
    (∃ (v : Option Value) (B : Pt), Stand p l e R s m sargs below meth c B.U B.locs B.cells B.slots ∧ Post A a v B ∧
      Steps p.tables e below (doInvoke e (A.U.setTop g) [] mk a).1 (B.U.setTop { g with pc := g.pc + len, stack := v.toList ++ g.stack })) ∨
    (∃ (q : Addr) (B : Pt), Stand p l e R s m sargs below meth c B.U B.locs B.cells B.slots ∧ PostX A a q B ∧
      Steps p.tables e below (doInvoke e (A.U.setTop g) [] mk a).1 ((B.U.setTop g).pushFrame (.throwing q)))
section Payer
variable {l : Launch} {R : Room} {p : Program} {e : Env} {below : List Frame} {s : State} {sargs : Array Value} {y : MethodName} {len W9 : Nat}
theorem vx_back {ws : List Cond} {rm : Room} {Pc : Array Value → State → Prop} {Qc : Array Value → State → Outcome → State → Prop} {XC : Addr → String → State → State → Prop} {mc ms : Nat} {free : Addr → Prop} {bytes : ByteArray} {maxL : Nat} {ret : Option FieldType}
    (hM : vx_Met l y ws rm Pc Qc XC mc ms free) (hblind : FrameBlind Pc) (hrc : rm.cells = mc) (hrs : rm.slots = ms)
    (hframes : rm.frames + 1 ≤ R.frames) (hlocals : W9 + (maxL + 11) + rm.locals ≤ R.locals)
    (hws : ∀ w ∈ ws, ∀ a' U, s.WarmedH U.vm → w.before a' U = true) (hcode : Cond.code y bytes maxL ret ∈ ws) (hinit : ∀ a' U, s.WarmedH U.vm → (Cond.initialized y.cls).before a' U = true) :
    vx_Back l R p e below s sargs y len W9 (PreOf R mc ms Pc) (PostOf Qc mc ms free) (vx_Post XC mc ms free) := by
  intro m meth c A g ig mk a X hg hsize hdg hW hn hp
  have h1 : (headSpec ws rm).pre.before a A.U = true := atoms_intro fun w hw => hws w hw _ _ X.warmed
  have h2 : (Cond.code y bytes maxL ret).before a A.U = true := hws _ hcode _ _ X.warmed
  have h3 : (Cond.initialized y.cls).before a A.U = true := hinit _ _ X.warmed
  have h4 : A.cells + (headSpec ws rm).room.cells ≤ R.cells := by rw [show (headSpec ws rm).room.cells = mc from hrc]; exact hp.1
  have h5 : A.slots + (headSpec ws rm).room.slots ≤ R.slots := by rw [show (headSpec ws rm).room.slots = ms from hrs]; exact hp.2.1
  have hPc : Pc a (A.U.calling g mk a) := hblind _ _ _ _ hp.2.2
  obtain ⟨U, Ls, c0, s0⟩ := A
  dsimp only [Pt.U, Pt.locs, Pt.cells, Pt.slots] at h1 h2 h3 h4 h5 X hn hPc ⊢
  obtain ⟨methY, cY, hmY, hcY, -, hlY, -, -, -, -⟩ := Cond.code_spec hn h2
  obtain ⟨kY, hkY, -⟩ := className_of_methodNamed hn
  have hinitY : kY.init = .initialized := Cond.initialized_spec (findClass_of_methodNamed hn) hkY h3
  have h : At U g.method c below := by rw [hg]; exact X.here
  have hlocals9 : W9 + (maxL + 11) + (headSpec ws rm).room.locals ≤ R.locals := hlocals
  have happ : (headSpec ws rm).appliesLoose y e.platform (U.calling g mk a) = true :=
    Spec.appliesLoose_calling (g := g) h hdg hn hkY hinitY
      (X.room_calling (g := g) (R' := (headSpec ws rm).room) hsize hmY hcY hframes (by rw [hlY]; omega) h4 h5) h1
  obtain ⟨mid, hmid⟩ := h.above
  have hfr : (U.setTop g).frames = (.java g :: mid) ++ below := by rw [State.frames_setTop' g h.top, hmid]; rfl
  obtain ⟨o, s₂, hsteps, -, hend, hq⟩ := Steps.callFree hM p X.admits X.cas X.clock (acts := []) hfr happ hPc trivial
  have hq' : vx_Q Qc XC mc ms free a (U.calling g mk a) o s₂ := hq
  rw [State.frames_setTop' g h.top] at hend
  obtain ⟨g₀, hg0⟩ := Option.isSome_iff_exists.mp h.top
  obtain ⟨r, hr⟩ := State.topJava?_eq_some.mp hg0
  have hr' : (({ U with heap := s₂.heap, slotsUsed := s₂.slotsUsed } : State).setVm s₂.vm).frames = .java g₀ :: r := hr
  rcases hq' with ⟨hqc, L, hfe, hL⟩ | ⟨q, rfl, E, ce, L, hx, hce, hcv, hcl, hW₂, hsm, hL⟩
  · obtain ⟨⟨v, rfl⟩, hW₂, e2, q2, q3, q4, q5, q6⟩ := id hfe
    have e3 : s₂ = ({ (U.calling g mk a).setFrames s₂.frames with heap := s₂.heap, slotsUsed := s₂.slotsUsed } : State).setVm s₂.vm := by
      have : s₂ = ({ s₂ with vm := (U.calling g mk a).vm } : State).setVm s₂.vm := rfl
      rw [e2] at this
      exact this
    obtain ⟨c₂, i₂, len₂, hc₂, hd₂, hf₂⟩ := hend
    have hW' : U.WarmedH s₂.vm := hW₂
    have hcc : c₂ = c := by
      have h1 : s₂.code? g.method = U.code? g.method := by
        rw [State.code?_eq, State.code?_eq, hW'.alike.method?]
      exact Option.some.inj (hc₂.symm.trans (h1.trans h.code))
    subst hcc
    have hlen : len₂ = len := by rw [hdg] at hd₂; cases hd₂; rfl
    subst hlen
    have hs₂ : s₂ = (({ U with heap := s₂.heap, slotsUsed := s₂.slotsUsed } : State).setVm s₂.vm).setTop { g with pc := g.pc + len₂, stack := v.toList ++ g.stack } := by
      refine e3.trans ?_
      rw [hf₂, State.calling_eq h.top, State.setFrames_setFrames, State.setTop_of_frames _ hr', hr]
      rfl
    have hsame : U.sameButNew ({ U with heap := s₂.heap, slotsUsed := s₂.slotsUsed } : State) L mc ms := by
      refine ⟨?_, q2, q3, q4, q5, q6⟩
      obtain ⟨t, ht, -⟩ := State.frames_cons hr
      show ({ U with heap := s₂.heap, slotsUsed := s₂.slotsUsed } : State) = { U.setFrames U.frames with heap := s₂.heap, slotsUsed := s₂.slotsUsed }
      rw [State.setFrames_self ht]
    subst hg
    refine Or.inl ⟨v, ⟨(({ U with heap := s₂.heap, slotsUsed := s₂.slotsUsed } : State).setVm s₂.vm), Ls ++ L, c0 + mc, s0 + ms⟩,
      ⟨X.admits, X.cas, X.clock, X.frames, X.room, X.hears, X.method, X.code, (X.here.setHeapUsed s₂.heap s₂.slotsUsed).setVm hW'.alike, X.tail, State.WarmedH.trans X.warmed hW', X.limits, X.bytes, X.same.trans (hsame.setVm s.vm)⟩,
      ⟨g, mk, s₂, L, rfl, rfl, hqc, rfl, hL, rfl, rfl⟩, ?_⟩
    show Steps p.tables e below _ ((({ U with heap := s₂.heap, slotsUsed := s₂.slotsUsed } : State).setVm s₂.vm).setTop { g with pc := g.pc + len₂, stack := v.toList ++ g.stack })
    rw [← hs₂]
    exact hsteps
  · obtain ⟨e2, q2, q3, q4, q5, q6⟩ := id hsm
    have e3 : s₂ = ({ (U.calling g mk a).setFrames s₂.frames with heap := s₂.heap, slotsUsed := s₂.slotsUsed } : State).setVm s₂.vm := by
      have : s₂ = ({ s₂ with vm := (U.calling g mk a).vm } : State).setVm s₂.vm := rfl
      rw [e2] at this
      exact this
    have hf₂ : s₂.frames = .throwing q :: .java g :: U.frames.tail := hend
    have hW' : U.WarmedH s₂.vm := hW₂
    have hs₂ : s₂ = ((({ U with heap := s₂.heap, slotsUsed := s₂.slotsUsed } : State).setVm s₂.vm).setTop g).pushFrame (.throwing q) := by
      refine e3.trans ?_
      rw [hf₂, State.calling_eq h.top, State.setFrames_setFrames, State.pushFrame, State.frames_setTop _ hr', State.setTop_of_frames _ hr', State.setFrames_setFrames, hr]
      rfl
    have hsame : U.sameButNew ({ U with heap := s₂.heap, slotsUsed := s₂.slotsUsed } : State) L mc ms := by
      refine ⟨?_, q2, q3, q4, q5, q6⟩
      obtain ⟨t, ht, -⟩ := State.frames_cons hr
      show ({ U with heap := s₂.heap, slotsUsed := s₂.slotsUsed } : State) = { U.setFrames U.frames with heap := s₂.heap, slotsUsed := s₂.slotsUsed }
      rw [State.setFrames_self ht]
    subst hg
    refine Or.inr ⟨q, ⟨(({ U with heap := s₂.heap, slotsUsed := s₂.slotsUsed } : State).setVm s₂.vm), Ls ++ L, c0 + mc, s0 + ms⟩,
      ⟨X.admits, X.cas, X.clock, X.frames, X.room, X.hears, X.method, X.code, (X.here.setHeapUsed s₂.heap s₂.slotsUsed).setVm hW'.alike, X.tail, State.WarmedH.trans X.warmed hW', X.limits, X.bytes, X.same.trans (hsame.setVm s.vm)⟩,
      ⟨g, mk, s₂, L, E, ce, rfl, rfl, hx, hce, hcv, hcl, rfl, hL, rfl, rfl⟩, ?_⟩
    show Steps p.tables e below _ (((({ U with heap := s₂.heap, slotsUsed := s₂.slotsUsed } : State).setVm s₂.vm).setTop g).pushFrame (.throwing q))
    rw [← hs₂]
    exact hsteps
end Payer
section Calls
variable {p : Program} {l : Launch} {e : Env} {R : Room} {s : State} {m : MethodId} {args : Array Value} {below : List Frame} {meth : Method} {c : Code} {T : State} {locs : List Loc} {cells slots : Nat}
theorem vx_callV (X : Stand p l e R s m args below meth c T locs cells slots) (hexec : p.tables.exec = Jvm.exec) {own C : String} {index : Nat} {y : MethodName} {bytes : ByteArray} {maxL : Nat} {ret : Option FieldType}
    (hown : s.vm.findClass own = some m.cls) (hlink : (Cond.methodLink own index y).before args s = true) (hinst : (Cond.instanceMethod y).before args s = true) (hsel : (Cond.selects C y y).before args s = true)
    (hcode : (Cond.code y bytes maxL ret).before args s = true) (hy : y.cls ≠ "java/lang/invoke/MethodHandle" ∧ y.cls ≠ "java/lang/invoke/VarHandle")
    {W9 : Nat} {Pre : Pt → Array Value → Prop} {Post : Pt → Array Value → Option Value → Pt → Prop} {PostX : Pt → Array Value → Addr → Pt → Prop} (hK : vx_Back l R p e below s args y 3 W9 Pre Post PostX)
    {b : Addr} {cellB : Cell} (hcell : T.heap[b]? = some cellB) (hobj : cellB.vm.isStatics = false) (hcls : s.vm.findClass C = some cellB.cls)
    {g : JFrame} (hg : g.method = m) (hsize : g.locals.size = c.maxLocals) {argsL rest : List Value} (hlen : ∀ sig, parseMethodDescriptor y.desc = some sig → argsL.length = sig.parameters.length)
    (hstack : g.stack = argsL.reverse ++ .ref b :: rest) (hW : 2 * g.monitorRoom + (rest.map fun v => v.category).sum ≤ W9) (hdg : decode c.code g.pc = .ok (.invokevirtual index, 3))
    (hpre : ∀ vm₁, s.WarmedH vm₁ → Pre ⟨T.setVm vm₁, locs, cells, slots⟩ (Value.ref b :: argsL).toArray) :
    (∃ (v : Option Value) (vm₁ : Vm) (B : Pt), s.WarmedH vm₁ ∧ Stand p l e R s m args below meth c B.U B.locs B.cells B.slots ∧ Post ⟨T.setVm vm₁, locs, cells, slots⟩ (Value.ref b :: argsL).toArray v B ∧
      ∀ target, Steps p.tables e below (B.U.setTop { g with pc := g.pc + 3, stack := v.toList ++ rest }) target → Steps p.tables e below (T.setTop g) target) ∨
    (∃ (q : Addr) (vm₁ : Vm) (B : Pt), s.WarmedH vm₁ ∧ Stand p l e R s m args below meth c B.U B.locs B.cells B.slots ∧ PostX ⟨T.setVm vm₁, locs, cells, slots⟩ (Value.ref b :: argsL).toArray q B ∧
      Steps p.tables e below (T.setTop g) ((B.U.setTop { g with stack := rest }).pushFrame (.throwing q))) := by
  obtain ⟨mk, methM, hnamed, hmethM, hstM, habM⟩ := Cond.instanceMethod_spec hinst
  obtain ⟨methM', cM, hmethM', -, -, -, -, -, -, hsigM⟩ := Cond.code_spec hnamed hcode
  cases hmethM.symm.trans hmethM'
  obtain ⟨c2, r2, m2, q1, q2, q3, q4, kP, hkP, hkPi⟩ := Cond.selects_spec hsel
  cases hcls.symm.trans q1
  cases (State.methodFound?_of_named hnamed hy).symm.trans q2
  cases hnamed.symm.trans q3
  have hselP : selectMethod e.platform s.vm cellB.cls mk = .method mk := by rw [Launch.admits_selectMethod X.admits]; exact q4
  obtain ⟨vm₁, X₁, hstep₁⟩ := X.invokevirtual hexec hown hlink hnamed hmethM hstM hkP hkPi hy (a := b) (cell := cellB) hcell
    (fun z h => by rw [h] at hobj; cases hobj) hselP hmethM habM hkP hkPi (g := g) hg (argsL := argsL) (rest := rest) (hlen _ hsigM) hstack hdg
  rcases hK m meth c ⟨T.setVm vm₁, locs, cells, slots⟩ { g with stack := rest } (.invokevirtual index) mk (Value.ref b :: argsL).toArray X₁ hg hsize hdg hW (X₁.named hnamed) (hpre vm₁ X₁.warmed) with ⟨v, B, X', hpost, hsteps⟩ | ⟨q, B, X', hpost, hsteps⟩
  · exact Or.inl ⟨v, vm₁, B, X₁.warmed, X', hpost, fun target h => hstep₁ _ fun acts => by rw [doInvoke_state]; exact hsteps.trans h⟩
  · exact Or.inr ⟨q, vm₁, B, X₁.warmed, X', hpost, hstep₁ _ fun acts => by rw [doInvoke_state]; exact hsteps⟩
end Calls
theorem vx_cls {s : State} {T : State} {vm₁ : Vm} {E : String} {k : ClassId} (hW : s.WarmedH vm₁) (h : (T.setVm vm₁).vm.findClass E = some k) : s.vm.findClass E = some k := by
  have h1 : vm₁.findClass E = some k := h
  rw [hW.alike.findClass] at h1
  exact h1
/-- the method's frame g, with q thrown over it -/
def vx_W (p : Program) (l : Launch) (e : Env) (R : Room) (s : State) (m : MethodId) (args : Array Value) (below : List Frame) (meth : Method) (c : Code) (H : Heap) (locs : List Loc) (cells slots : Nat) (Q : State → Prop) (g : JFrame) (q : Addr) : Prop :=
  ∀ T : State, T.heap = H → Stand p l e R s m args below meth c T locs cells slots → ∃ t, Steps p.tables e below ((T.setTop g).pushFrame (.throwing q)) t ∧ Q t
def vx_Run (p : Program) (l : Launch) (e : Env) (R : Room) (s : State) (m : MethodId) (args : Array Value) (below : List Frame) (meth : Method) (c : Code) (H : Heap) (locs : List Loc) (cells slots mc ms : Nat) (g : JFrame) (rest : List Value) (Qa : State → Outcome → State → Prop) (XC : Addr → String → State → State → Prop) (free : Addr → Prop) : Prop :=
  ∀ T : State, T.heap = H → Stand p l e R s m args below meth c T locs cells slots →
    (∃ (v : Option Value) (st₀ t T' : State) (L : List Loc), st₀.heap = H ∧ Stand p l e R s m args below meth c T' (locs ++ L) (cells + mc) (slots + ms) ∧ (∀ q ∈ L, free q.base) ∧ T'.heap = t.heap ∧ T'.vm = t.vm ∧ Qa st₀ (.returned v) t ∧
      Goes p e below T g T' { g with pc := g.pc + 3, stack := v.toList ++ rest }) ∨
    (∃ (q : Addr) (st₀ t T' : State) (L : List Loc) (E : String) (ce : Cell), st₀.heap = H ∧ Stand p l e R s m args below meth c T' (locs ++ L) (cells + mc) (slots + ms) ∧ (∀ z ∈ L, free z.base) ∧ T'.heap = t.heap ∧ T'.vm = t.vm ∧ XC q E st₀ t ∧ t.heap[q]? = some ce ∧ ce.vm = .none ∧ s.vm.findClass E = some ce.cls ∧
      Steps p.tables e below (T.setTop g) ((T'.setTop { g with stack := rest }).pushFrame (.throwing q)))

section Runs
variable {p : Program} {l : Launch} {e : Env} {R : Room} {s : State} {m : MethodId} {args : Array Value} {below : List Frame} {meth : Method} {c : Code} {H : Heap} {locs : List Loc} {cells slots : Nat}
variable {y : MethodName} {bytes cc : ByteArray} {maxL nL mc ms n index : Nat} {ret : Option FieldType} {ws : List Cond} {rm : Room} {Pc : Array Value → State → Prop} {Qc : Array Value → State → Outcome → State → Prop} {XC : Addr → String → State → State → Prop} {free : Addr → Prop} {Ts : List Cond} {own C : String} {b : Addr} {As rest : List Value} {g : JFrame}
theorem vx_callBack (cb : CallB R s args own index y bytes maxL ret ws rm mc ms n) (hM : vx_Met l y ws rm Pc Qc XC mc ms free) (hbl : FrameBlind Pc) : vx_Back l R p e below s args y 3 8 (PreOf R mc ms Pc) (PostOf Qc mc ms free) (vx_Post XC mc ms free) := by
  obtain ⟨hrc, hrs, hfr, hlo, hws, hcw, -, hini, -⟩ := cb
  exact vx_back (bytes := bytes) (maxL := maxL) (ret := ret) hM hbl hrc hrs hfr hlo hws hcw (fun a' U hW => word_at hW (Or.inl (by first | rfl | simp [Cond.onTables, Cond.keeps, Cond.steady])) hini)
theorem vx_runV (S : CallFix p m c cc nL s args Ts own) (hM : vx_Met l y ws rm Pc Qc XC mc ms free) (cw : CallW R s args own C index y bytes maxL ret ws rm mc ms n) (hp : PreV s H C b Pc As)
    (hg : g.method = m) (hn : As.length = n) (hsize : g.locals.size = nL) (hstack : g.stack = As.reverse ++ .ref b :: rest) (hW : 2 * g.monitorRoom + (rest.map fun v => v.category).sum ≤ 8) (hdg : decode cc g.pc = .ok (.invokevirtual index, 3)) (hf : cells + mc ≤ R.cells ∧ slots + ms ≤ R.slots) :
    vx_Run p l e R s m args below meth c H locs cells slots mc ms g rest (Qc (Value.ref b :: As).toArray) XC free := by
  have hK : vx_Back l R p e below s args y 3 8 (PreOf R mc ms Pc) (PostOf Qc mc ms free) (vx_Post XC mc ms free) := vx_callBack cw.1 hM hp.1
  obtain ⟨⟨-, -, -, -, -, -, hcode, -, hy, hlen, hl⟩, hin, hse⟩ := cw
  obtain ⟨hx, hb, hml, ho, -⟩ := S
  obtain ⟨-, ⟨cellB, hcB, hoB, hclB⟩, hPc⟩ := hp
  intro T hT X
  rcases vx_callV X hx (C := C) (bytes := bytes) (maxL := maxL) (ret := ret) ho hl hin hse hcode hy hK (by rw [hT]; exact hcB) hoB hclB hg (hsize.trans hml.symm) (argsL := As) (rest := rest) (fun sig h => hn.trans (hlen sig h)) hstack hW (by rw [hb]; exact hdg)
    (fun vm₁ hW₁ => ⟨hf.1, hf.2, hPc (T.setVm vm₁) hT hW₁⟩) with ⟨v, vm₁, ⟨U', l2, c2, s2⟩, hW₁, X', ⟨g', mk, t, L, e1, e2, hq, h1, hL, h2, h3⟩, st⟩ | ⟨q, vm₁, ⟨U', l2, c2, s2⟩, hW₁, X', ⟨g', mk, t, L, E, ce, e1, e2, hq, hce, hcv, hcl, h1, hL, h2, h3⟩, st⟩
  · dsimp only [Pt.U, Pt.locs, Pt.cells, Pt.slots] at X' e1 e2 h1 h2 h3 st
    subst h1; subst h2; subst h3
    exact Or.inl ⟨v, (T.setVm vm₁).calling g' mk (Value.ref b :: As).toArray, t, U', L, hT, X', hL, e1, e2, hq, st⟩
  · dsimp only [Pt.U, Pt.locs, Pt.cells, Pt.slots] at X' e1 e2 h1 h2 h3 st hcl
    subst h1; subst h2; subst h3
    exact Or.inr ⟨q, (T.setVm vm₁).calling g' mk (Value.ref b :: As).toArray, t, U', L, E, ce, hT, X', hL, e1, e2, hq, hce, hcv, vx_cls hW₁ hcl, st⟩
end Runs
section Rows
variable {p : Program} {l : Launch} {e : Env} {R : Room} {s : State} {m : MethodId} {args : Array Value} {below : List Frame} {meth : Method} {c : Code} {H : Heap} {locs : List Loc} {cells slots : Nat} {Q : State → Prop}
variable {mc ms : Nat} {free : Addr → Prop} {A0 A1 : Nat → Prop} {H0 : Heap} {a : Array Value} {pc : Nat} {ls : Array Slot} {st0 rest : List Value}
theorem vx_keep {st₀ t T' : State} {L : List Loc} (h0 : st₀.heap = H) (e1 : T'.heap = t.heap) (hS : va_S A0 H0 H locs) (hA : ∀ q, q < H.size → A1 q → A0 q) (hf : ∀ q, free q → A0 q) (hL : ∀ q ∈ L, free q.base) (hF : va_F A1 st₀ t) :
    H.size ≤ T'.heap.size ∧ (∀ q : Nat, q < H.size → ¬ A1 q → T'.heap[q]? = H[q]?) ∧ va_S A0 H0 T'.heap (locs ++ L) := by
  obtain ⟨hz, hk⟩ := hF
  rw [h0] at hz hk
  exact ⟨by rw [e1]; exact hz, fun q h1 h2 => by rw [e1]; exact hk q h1 h2,
    ⟨Nat.le_trans hS.1 (by rw [e1]; exact hz), fun q h1 h2 => by rw [e1, hk q (Nat.lt_of_lt_of_le h1 hS.1) (fun z => h2 (hA q (Nat.lt_of_lt_of_le h1 hS.1) z))]; exact hS.2.1 q h1 h2, fun q hq => by
      rcases List.mem_append.mp hq with h | h
      · exact hS.2.2 q h
      · exact hf _ (hL q h)⟩⟩
/-- caught by the row x of this method's table; the rows ahead don't take it -/
theorem vx_catch {own name : String} {E : String} {ce : Cell} {q : Addr} (hown : s.vm.findClass own = some m.cls) (pre : List ExceptionTableEntry) (x : ExceptionTableEntry) (suf : List ExceptionTableEntry) (hsplit : c.exceptionTable.toList = pre ++ x :: suf)
    (hpass : ∀ z ∈ pre, covers z pc = false ∨ (z.catchType ≠ 0 ∧ ∃ nm : String, (Cond.classLink own z.catchType nm).before args s = true ∧ va_Nc E nm s)) (hx : covers x pc = true) (h0 : x.catchType ≠ 0)
    (hlink : (Cond.classLink own x.catchType name).before args s = true) (hcast : (Cond.castable E name).before args s = true) (hcell : H[q]? = some ce) (hv : ce.vm = .none) (hcl : s.vm.findClass E = some ce.cls)
    (kk : W p l e R s m args below meth c H locs cells slots Q (F0 m x.handlerPc ls [.ref q])) : vx_W p l e R s m args below meth c H locs cells slots Q (F0 m pc ls rest) q := by
  intro T hT X
  have hpl : e.platform.magicAccessors = ({} : Platform).magicAccessors := by rw [X.admits.platform]
  obtain ⟨c3, c4, hc3, hc4, hasg⟩ := Cond.castable_spec hcast
  cases Option.some.inj (hc3.symm.trans hcl)
  obtain ⟨c5, hc5, hcl5⟩ := Cond.classLink_spec hown hlink e.platform hpl
  cases Option.some.inj (hc4.symm.trans hc5)
  obtain ⟨vm', X', st⟩ := X.thenCaughtThrough q (g := F0 m pc ls rest) rfl (Steps.refl _) (by rw [hT]; exact hcell) (by rw [hv]; rfl) (by obtain ⟨k9, h9, -⟩ := Vm.findClass_spec hcl; exact ⟨k9, h9⟩) pre x suf hsplit
    (fun z hz => by
      rcases hpass z hz with h | ⟨hz0, nm, hl1, hn1⟩
      · exact Or.inl h
      · obtain ⟨c6, hc6, hcl6⟩ := Cond.classLink_spec hown hl1 e.platform hpl
        obtain ⟨a8, b8, h1, h2, h3⟩ := hn1
        cases Option.some.inj (h1.symm.trans hcl)
        cases Option.some.inj (h2.symm.trans hc6)
        exact Or.inr ⟨hz0, _, hcl6, h3⟩) hx (Or.inr ⟨h0, c4, hcl5, hasg⟩)
  obtain ⟨t, a1, b1⟩ := kk (T.setVm vm') hT X'
  exact ⟨t, st.trans a1, b1⟩
end Rows
section Ends
variable {p : Program} {l : Launch} {e : Env} {R : Room} {s : State} {m : MethodId} {args : Array Value} {below : List Frame} {meth : Method} {c : Code} {H : Heap} {locs : List Loc} {cells slots : Nat} {Q : State → Prop}
variable {mc ms : Nat} {free : Addr → Prop} {A0 A1 : Nat → Prop} {H0 : Heap} {a : Array Value} {ls : Array Slot} {st0 rest : List Value}
variable {Qc : Array Value → State → Outcome → State → Prop} {XC : Addr → String → State → State → Prop}
/-- what a body that may throw owes at its end -/
def vx_MQ (below : List Frame) (Qc : Array Value → State → Outcome → State → Prop) (XC : Addr → String → State → State → Prop) (a : Array Value) (s : State) (mc ms : Nat) (free : Addr → Prop) : State → Prop := fun t =>
  ∃ o, t.status = .running ∧ Ended t below o ∧ vx_Q Qc XC mc ms free a s o t
theorem vx_ret {g : JFrame} {mc ms : Nat} (k : W p l e R s m args below meth c H locs cells slots (MQ below Qc args s mc ms free) g) : W p l e R s m args below meth c H locs cells slots (vx_MQ below Qc XC args s mc ms free) g := by
  intro T hT X
  obtain ⟨t, a1, o, b1, b2, b3, b4⟩ := k T hT X
  exact ⟨t, a1, o, b1, b2, Or.inl ⟨b3, b4⟩⟩
/-- not caught here: it goes on to the caller -/
theorem vx_widen {g : JFrame} {q : Addr} {k n : Nat} (h1 : cells ≤ k) (h2 : slots ≤ n) (kk : vx_W p l e R s m args below meth c H locs k n Q g q) : vx_W p l e R s m args below meth c H locs cells slots Q g q := fun T hT X => kk T hT (stand_widen X h1 h2)
theorem vx_out {pc : Nat} {E : String} {ce : Cell} {q : Addr} {mc ms : Nat} (hout : ∀ x ∈ c.exceptionTable.toList, covers x pc = false) (hlocks : meth.locks = false) (hcell : H[q]? = some ce) (hv : ce.vm = .none) (hcl : s.vm.findClass E = some ce.cls)
    (hx : ∀ t : State, t.heap = H → s.vm.Alike t.vm → XC q E s t) (hf : ∀ z ∈ locs, free z.base) (hc : cells ≤ mc) (hs : slots ≤ ms) :
    vx_W p l e R s m args below meth c H locs cells slots (vx_MQ below Qc XC args s mc ms free) (F0 m pc ls rest) q := by
  intro T hT X
  obtain ⟨st1, hrun, hend, hW, hsm⟩ := X.leaveThrown q (g := F0 m pc ls rest) rfl rfl rfl hout hlocks
  have hcell9 : (T.setFrames (.throwing q :: below)).heap[q]? = some ce := by
    show T.heap[q]? = some ce
    rw [hT]; exact hcell
  exact ⟨_, st1, .threw q, hrun, hend, Or.inr ⟨q, rfl, E, ce, locs, hx _ hT hW.alike, hcell9, hv, hcl, hW, hsm.mono hc hs, hf⟩⟩
theorem vx_frame {U : State} {k n : Nat} (h : s.sameButNew ({ U with vm := s.vm } : State) locs k n) : s.heap.size ≤ U.heap.size ∧ ∀ q : Nat, q < s.heap.size → (∀ z ∈ locs, z.base ≠ q) → U.heap[q]? = s.heap[q]? := by
  obtain ⟨-, h2, -, -, -, h6⟩ := h
  refine ⟨h2, fun q hq hz => ?_⟩
  obtain ⟨c9, e1, e2, e3, e4⟩ := h6 q _ (Array.getElem?_eq_getElem hq)
  have hs : c9.slots = (s.heap[q]).slots := Array.ext_getElem? fun i => e4 i fun hm => hz _ hm rfl
  have h9 : c9 = s.heap[q] := by
    rw [hs] at e2
    exact e2
  have e5 : U.heap[q]? = some c9 := e1
  rw [e5, h9, Array.getElem?_eq_getElem hq]
end Ends
/-- the words of a throw but the four that speak of the heap -/
def vx_no (w : Cond) : Bool := decide (w ≠ .isRef (.static Bundle.tN "UNASSIGNED_STACK" Bundle.steD)) && decide (w ≠ .isRef (.static Bundle.tN "SUPPRESSED_SENTINEL" Bundle.listD)) && decide (w ≠ .laysStatic Bundle.tN "UNASSIGNED_STACK" Bundle.steD) && decide (w ≠ .laysStatic Bundle.tN "SUPPRESSED_SENTINEL" Bundle.listD)
theorem vx_own {args : Array Value} {s : State} {L : List Cond} (h1 : ∀ w ∈ L.filter vx_no, w.before args s = true)
    (hU : (Cond.isRef (.static Bundle.tN "UNASSIGNED_STACK" Bundle.steD)).before args s = true) (hN : (Cond.isRef (.static Bundle.tN "SUPPRESSED_SENTINEL" Bundle.listD)).before args s = true)
    (lU : (Cond.laysStatic Bundle.tN "UNASSIGNED_STACK" Bundle.steD).before args s = true) (lN : (Cond.laysStatic Bundle.tN "SUPPRESSED_SENTINEL" Bundle.listD).before args s = true) : ∀ w ∈ L, w.before args s = true := by
  intro w hw
  by_cases e1 : w = .isRef (.static Bundle.tN "UNASSIGNED_STACK" Bundle.steD)
  · rw [e1]; exact hU
  · by_cases e2 : w = .isRef (.static Bundle.tN "SUPPRESSED_SENTINEL" Bundle.listD)
    · rw [e2]; exact hN
    · by_cases e3 : w = .laysStatic Bundle.tN "UNASSIGNED_STACK" Bundle.steD
      · rw [e3]; exact lU
      · by_cases e4 : w = .laysStatic Bundle.tN "SUPPRESSED_SENTINEL" Bundle.listD
        · rw [e4]; exact lN
        · exact h1 w (List.mem_filter.mpr ⟨hw, by unfold vx_no; rw [decide_eq_true e1, decide_eq_true e2, decide_eq_true e3, decide_eq_true e4]; rfl⟩)
theorem vx_isRef {C n d : String} {v : Value} {A : Nat → Prop} {s : State} {args : Array Value} (h : va_Z C n d v A s s.heap) (hv : v.isRef = true) : (Cond.isRef (.static C n d)).before args s = true := by
  obtain ⟨cf, kf, fi, f, a, cell, h1, h2, h3, h4, h5, h6, h7, -⟩ := h
  have he : (Term.static C n d).eval args s none [] s = some v := by
    simp [Term.eval, State.fieldNamed?, h1, h2, h4, h5, h6, h7]
  simp only [Cond.before, Cond.holds, Cond.value, he]
  cases v <;> simp_all [Value.isRef]
section Bodies
variable {l : Launch}
theorem vx_ofW {y : MethodName} {ws ws' : List Cond} {rm : Room} {Pc : Array Value → State → Prop} {Qc : Array Value → State → Outcome → State → Prop} {XC : Addr → String → State → State → Prop} {mc ms : Nat} {free : Addr → Prop} {cc : ByteArray} {maxL : Nat} {ret : Option FieldType}
    (hy : plainName y.cls = true) (hw : ws = Cond.code y cc maxL ret :: ws')
    (body : ∀ p e s m args below meth c s₁, BodyLoose p l y (headSpec ws rm) cc maxL ret e s m args below meth c s₁ → c.maxLocals = maxL → (∀ x ∈ c.exceptionTable.toList, False) → Pc args s →
      W p l e (headSpec ws rm).room s m args below meth c s.heap [] 0 0 (vx_MQ below Qc XC args s mc ms free) (entryFrame m args maxL)) : vx_Met l y ws rm Pc Qc XC mc ms free := by
  refine MetFree.of_bodyS (code := cc) (maxLocals := maxL) (ret := ret) hy ?_ ?_
  · intro args s m h hn
    obtain ⟨meth, c, h1, h2, h3, h4, h5, h6, -, -⟩ := Cond.code_spec hn (atoms_spec (ws := ws) h _ (by rw [hw]; exact List.mem_cons_self))
    exact ⟨meth, c, h1, h2, h3, h4, h5, h6⟩
  · intro p e s m args below meth c s₁ B hml hP _
    have hh0 : s₁.heap = s.heap := by rw [B.state]; rfl
    have ht : ∀ x ∈ c.exceptionTable.toList, False := by
      obtain ⟨meth9, c9, h1, h2, -, -, -, -, h7, -⟩ := Cond.code_spec B.named (atoms_spec (ws := ws) B.pre _ (by rw [hw]; exact List.mem_cons_self))
      cases Option.some.inj (h1.symm.trans B.method)
      cases Option.some.inj (h2.symm.trans (Stand.of_body B).code)
      intro x hx
      rw [Array.isEmpty_iff.mp h7] at hx
      cases hx
    obtain ⟨t, a1, o, b1, b2, b3⟩ := body p e s m args below meth c s₁ B hml ht hP s₁ hh0 (Stand.of_body B)
    exact ⟨t, o, a1, b1, b2, b3⟩
/-- the table of a body with handlers -/
theorem vx_table {p : Program} {x y : MethodName} {S : Spec} {cc bytes : ByteArray} {maxL maxL' : Nat} {ret ret' : Option FieldType} {e : Env} {s s₁ : State} {m : MethodId} {args : Array Value} {below : List Frame} {meth : Method} {c : Code} {hh : List (Nat × Nat × Nat × Nat)}
    (B : BodyLoose p l y S cc maxL ret e s m args below meth c s₁) (h : (Cond.codeWith y bytes maxL' ret' hh).before args s = true) : c.exceptionTable.toList = tableOf hh := by
  obtain ⟨m9, meth9, c9, hn9, h1, h2, -, -, h6, -⟩ := Cond.codeWith_spec h
  cases Option.some.inj (hn9.symm.trans B.named)
  cases Option.some.inj (h1.symm.trans B.method)
  cases Option.some.inj (h2.symm.trans (Stand.of_body B).code)
  rw [← h6, table_eq]
end Bodies
end VXA
section VXK2
variable {p : Program} {l : Launch} {e : Env} {R : Room} {s : State} {m : MethodId} {args : Array Value} {below : List Frame} {meth : Method} {c : Code} {H : Heap} {locs : List Loc} {cells slots : Nat} {Q : State → Prop}
variable {ls : Array Slot} {rest : List Value}
theorem vx_athrow {cc : ByteArray} {pc : Nat} (hexec : p.tables.exec = Jvm.exec) (hb : c.code = cc) {q : Addr} (hdg : decode cc pc = .ok (.athrow, 1)) (k : vx_W p l e R s m args below meth c H locs cells slots Q (F0 m pc ls rest) q) : W p l e R s m args below meth c H locs cells slots Q (F0 m pc ls (.ref q :: rest)) := by
  intro T hT X
  obtain ⟨t, st, hq⟩ := k T hT X
  refine ⟨t, ?_, hq⟩
  have hdg' : decode c.code pc = .ok (.athrow, 1) := by rw [hb]; exact hdg
  jvm_step X.here [X.here.top, hexec, hdg', athrow.wp_sem]
  exact st
end VXK2

/-- the words of Throwable's constructors -/
def ATX : List Cond := Bundle.throwableAtoms ++ (Bundle.throwableSAtoms ++ Bundle.passSAtoms "java/lang/Exception" Bundle.tN 7 Bundle.six)
def ATg : List Cond := ATX.filter (fun w => vx_no w && goodWord w)
theorem atg_in : ∀ w ∈ ATg, w ∈ lw_all := lw_in ATg [108, 831, 840, 842, 845, 847, 832, 833, 117, 118, 834, 839, 843, 862, 821, 863, 823, 864, 825, 835, 837, 827, 856, 857, 861, 827, 853, 854, 855, 856] (by decide +kernel) (by decide +kernel)
theorem atx_no : ∀ w ∈ ATX.filter (fun w => vx_no w && !goodWord w), w = Cond.declares (Bundle.initS Bundle.tN) := by decide +kernel
theorem atx {D : va_G} {A : Nat → Prop} {s : State} {args : Array Value} (hts : ∀ w ∈ lw_all, w.before args s = true) (hAm : AMB D A s) : ∀ w ∈ ATX, w.before args s = true := by
  refine vx_own (fun w hw => ?_) (vx_isRef hAm.1.2.2.2.1 ?_) (vx_isRef hAm.1.2.2.2.2.1.1 ?_) hAm.1.2.2.2.2.1.2.1.word hAm.1.2.2.2.2.1.2.2.word
  · obtain ⟨h1, h2⟩ := List.mem_filter.mp hw
    by_cases g : goodWord w = true
    · exact hts _ (atg_in w (List.mem_filter.mpr ⟨h1, by rw [h2, g]; rfl⟩))
    · have e := atx_no w (List.mem_filter.mpr ⟨h1, by rw [h2, Bool.eq_false_iff.mpr g]; rfl⟩)
      rw [e]
      exact hAm.use q817 rfl rfl
  · cases otN D 1 <;> rfl
  · cases otN D 2 <;> rfl
theorem ss_ne (c : Cell) {i j : Nat} (v : Value) (h : j ≠ i) : (c.setSlot i v).slots[j]? = c.slots[j]? := by
  show (c.slots.setIfInBounds i v)[j]? = _
  rw [Array.getElem?_setIfInBounds_ne (Ne.symm h)]
theorem ss_size (c : Cell) (i : Nat) (v : Value) : (c.setSlot i v).slots.size = c.slots.size := by
  show (c.slots.setIfInBounds i v).size = _
  rw [Array.size_setIfInBounds]
theorem x10_base {q a b c d e : Nat} {z : Loc} (hz : z ∈ ([] ++ [⟨q, a⟩, ⟨q, b⟩, ⟨q, c⟩, ⟨q, d⟩, ⟨q, e⟩] : List Loc)) : z.base = q := by
  simp only [List.nil_append, List.mem_cons, List.not_mem_nil, or_false] at hz
  rcases hz with rfl | rfl | rfl | rfl | rfl <;> rfl
theorem x10_P {D : va_G} {ce : Cell} {H : Heap} {q : Nat} (hh : H[q]? = some ce) (h1 : ce.cls = D.1 7) (h2 : ce.vm = .none) (hin : ∀ k, k < 7 → D.2 7 k < ce.slots.size) (hpos : ce.slots[D.2 7 6]? = some (.int 0)) : ∃ v0 v1 v2 v3 v4 v5 : Value, va_P D CL [(q, .inr (7, [v0, v1, v2, v3, v4, v5, .int 0]))] H := by
  refine ⟨ce.slots[D.2 7 0]'(hin 0 (by decide)), ce.slots[D.2 7 1]'(hin 1 (by decide)), ce.slots[D.2 7 2]'(hin 2 (by decide)), ce.slots[D.2 7 3]'(hin 3 (by decide)), ce.slots[D.2 7 4]'(hin 4 (by decide)), ce.slots[D.2 7 5]'(hin 5 (by decide)), ?_⟩
  intro k x hx
  have hz : k < 1 := (List.getElem?_eq_some_iff.mp hx).1
  rw [show k = 0 by omega] at hx
  cases hx
  refine ⟨(RX10, TX10, 7), rfl, ce, hh, h1, h2, fun k hk => ?_⟩
  have hk : k < 7 := hk
  match k, hk with
  | 0, h => exact Array.getElem?_eq_getElem (hin 0 h)
  | 1, h => exact Array.getElem?_eq_getElem (hin 1 h)
  | 2, h => exact Array.getElem?_eq_getElem (hin 2 h)
  | 3, h => exact Array.getElem?_eq_getElem (hin 3 h)
  | 4, h => exact Array.getElem?_eq_getElem (hin 4 h)
  | 5, h => exact Array.getElem?_eq_getElem (hin 5 h)
  | 6, _ => exact hpos
theorem x10_in {D : va_G} {s : State} {args : Array Value} {kX : Class} (hts : ∀ w ∈ lw_all, w.before args s = true) (hK : va_K D CL (TYS D) s) (hkX : s.vm.classes[D.1 7]? = some kX) (T : ThrowableT) (q : Nat) (u0 sen : RefV) (msg : Value) : ∀ k, k < 7 → D.2 7 k < (plainBareV T (Jvm.freshCell (D.1 7) kX) q u0 sen msg).slots.size := by
  intro k hk7
  obtain ⟨hSl, hfX, -⟩ := hK.1 7 _ rfl
  obtain ⟨cf, kf, fi, fd, hi, he⟩ := hSl k hk7
  have h3 := (u_facts hfX hkX (u_lays hts in_X10 hk7) hi).2.2
  have h4 := (Array.getElem?_eq_some_iff.mp h3).1
  rw [← he]
  unfold plainBareV preparedCellV
  rw [ss_size, ss_size, ss_size, ss_size, ss_size]
  show fd.slot < (kX.instanceTypes.map defaultValue).size
  rw [Array.size_map]
  exact h4
theorem x10_pos {D : va_G} {s : State} {args : Array Value} {kX : Class} (hts : ∀ w ∈ lw_all, w.before args s = true) (hK : va_K D CL (TYS D) s) (hkX : s.vm.classes[D.1 7]? = some kX) (T : ThrowableT) (q : Nat) (u0 sen : RefV) (msg : Value) {c1 c2 c3 c4 i1 i2 i3 i4 : Nat} {k1 k2 k3 k4 : Class}
    (hC : s.fieldFound? "java/lang/Throwable" "cause" "Ljava/lang/Throwable;" = some (c1, k1, i1, T.fCause)) (hS : s.fieldFound? "java/lang/Throwable" "stackTrace" "[Ljava/lang/StackTraceElement;" = some (c2, k2, i2, T.fStack)) (hP : s.fieldFound? "java/lang/Throwable" "suppressedExceptions" "Ljava/util/List;" = some (c3, k3, i3, T.fSupp)) (hM : s.fieldFound? "java/lang/Throwable" "detailMessage" "Ljava/lang/String;" = some (c4, k4, i4, T.fMsg)) : (plainBareV T (Jvm.freshCell (D.1 7) kX) q u0 sen msg).slots[D.2 7 6]? = some (.int 0) := by
  obtain ⟨hSl, hfX, -⟩ := hK.1 7 _ rfl
  obtain ⟨cf, kf, fi, fd, hi, he⟩ := hSl 6 (by decide)
  have hi : s.fieldFound? "DyeLattice$TokenException" "position" "I" = some (cf, kf, fi, fd) := hi
  have h3 := (u_facts hfX hkX (u_lays hts in_X10 (by decide : 6 < 7)) hi).2.2
  have hty := State.fieldFound?_type (t := .int) hi (by decide +kernel)
  have l6 := u_lays hts in_X10 (by decide : 6 < 7)
  have nC := u_apart l6 (u_lays hts in_X10 (by decide : 0 < 7)) hi hC (by rw [hty.1, (State.fieldFound?_type (t := .object "java/lang/Throwable") hC (by decide +kernel)).1]; decide)
  have nS := u_apart l6 (u_lays hts in_X10 (by decide : 1 < 7)) hi hS (by rw [hty.1, (State.fieldFound?_type (t := .array (.object "java/lang/StackTraceElement")) hS (by decide +kernel)).1]; decide)
  have nP := u_apart l6 (u_lays hts in_X10 (by decide : 2 < 7)) hi hP (by rw [hty.1, (State.fieldFound?_type (t := .object "java/util/List") hP (by decide +kernel)).1]; decide)
  have nM := u_apart l6 (u_lays hts in_X10 (by decide : 3 < 7)) hi hM (by rw [hty.1, (State.fieldFound?_type (t := .object "java/lang/String") hM (by decide +kernel)).1]; decide)
  have h5 := fresh_default (c := D.1 7) h3
  rw [hty.2] at h5
  rw [← he]
  unfold plainBareV preparedCellV
  rw [ss_ne _ _ nM, ss_ne _ _ nS, ss_ne _ _ nP, ss_ne _ _ nS, ss_ne _ _ nC]
  exact h5
section X10S
variable {p : Program} {l : Launch} {e : Env} {R : Room} {s : State} {m : MethodId} {args : Array Value} {below : List Frame} {meth : Method} {c : Code} {D : va_G} {A : Nat → Prop} {Q : State → Prop} {cc : ByteArray}
set_option maxHeartbeats 1000000 in
/-- super("..") in TokenException's constructor -/
theorem x10_sup (hx : p.tables.exec = Jvm.exec) (hb : c.code = cc) (hst : l.stackTraces = false) (hown : s.vm.findClass "DyeLattice$TokenException" = some m.cls) (hts : ∀ w ∈ lw_all, w.before args s = true) (hK : va_K D CL (TYS D) s) (hAm : AMB D A s) {q : Nat} {kX : Class} (hkX : s.vm.classes[D.1 7]? = some kX) (hcell : s.heap[q]? = some (Jvm.freshCell (D.1 7) kX)) {msg : Nat} {ls : Array Slot} (hsize : ls.size = c.maxLocals) {pc : Nat} {rest : List Value} (d : decode cc pc = .ok (.invokespecial 3, 3)) (hRf : 3 < R.frames) (hRl : (rest.map fun v => v.category).sum + 55 ≤ R.locals)
    (kk : ∀ (H1 : Heap) (locs1 : List Loc), (∃ v0 v1 v2 v3 v4 v5 : Value, va_P D CL [(q, .inr (7, [v0, v1, v2, v3, v4, v5, .int 0]))] H1) → s.heap.size ≤ H1.size → (∀ a : Nat, a < s.heap.size → a ≠ q → H1[a]? = s.heap[a]?) → (∀ z ∈ locs1, z.base = q) → W p l e R s m args below meth c H1 locs1 0 0 Q (F0 m (pc + 3) ls rest)) :
    W p l e R s m args below meth c s.heap [] 0 0 Q (F0 m pc ls (.ref msg :: .ref q :: rest)) := by
  intro T' hT X
  have htr : e.platform.stackTraces = false := (show e.platform.stackTraces = l.stackTraces by rw [X.admits.platform]).trans hst
  have howns : e.platform.frameOwnsMonitors = true := by rw [X.admits.platform]
  have hfin : e.platform.finalization = false := by rw [X.admits.platform]
  have hpl : e.platform.magicAccessors = ({} : Platform).magicAccessors := by rw [X.admits.platform]
  have h := atx (args := args) hts hAm
  obtain ⟨T, Z0, L, -, Y⟩ := ThrowableC.of_atoms (args := args) howns hfin hpl (fun x hx => h x (List.mem_append_left _ hx))
  obtain ⟨Z, M, LZ, LM, hnZ⟩ := Init0T.ofS_atoms (args := args) hpl L Y (fun x hx => h x (List.mem_append_right _ (List.mem_append_left _ hx)))
  obtain ⟨P1, Ps, hlen, L1, hL, hP1m, hlink1, hlink⟩ := Bundle.chainS (args := args) hpl hnZ [] "java/lang/Exception" (by decide +kernel) (fun _ h => nomatch h) (fun x hx => h x (List.mem_append_right _ (List.mem_append_right _ hx)))
  have hfX : s.vm.findClass "DyeLattice$TokenException" = some (D.1 7) := (hK.1 7 _ rfl).2.1
  obtain ⟨c1, kX', hc1, hk, hord, -, -, hn6⟩ := Cond.instantiable_spec (hts _ q812)
  cases Option.some.inj (hc1.symm.trans hfX)
  cases Option.some.inj (hkX.symm.trans hk)
  have hsel0 : selectMethod e.platform s.vm (D.1 7) T.fill0 = .method T.fill0 := by
    obtain ⟨c2, r2, m2, g1, g2, g3, g4, -⟩ := Cond.selects_spec (hts _ q818)
    cases Option.some.inj (g1.symm.trans hfX)
    cases Option.some.inj (g2.symm.trans (State.methodFound?_of_named Y.fill0 (by decide)))
    cases Option.some.inj (g3.symm.trans Y.fill0)
    rw [Launch.admits_selectMethod X.admits]; exact g4
  have hselF : selectMethod e.platform s.vm (D.1 7) T.fill = .method T.fill := by
    obtain ⟨c2, r2, m2, g1, g2, g3, g4, -⟩ := Cond.selects_spec (hts _ q819)
    cases Option.some.inj (g1.symm.trans hfX)
    cases Option.some.inj (g2.symm.trans (State.methodFound?_of_named Y.fill (by decide)))
    cases Option.some.inj (g3.symm.trans Y.fill)
    rw [Launch.admits_selectMethod X.admits]; exact g4
  obtain ⟨cellS0, hcS0, hiss⟩ := Y.statics
  obtain ⟨u0, hu0⟩ := Cond.staticRefV (args := args) (first := s) (o := none) (idx := []) Y.unassigned L.unassignedStatic L.statics hcS0 hiss (vx_isRef hAm.1.2.2.2.1 (by cases otN D 1 <;> rfl))
  obtain ⟨sen, hsen⟩ := Cond.staticRefV (args := args) (first := s) (o := none) (idx := []) Y.sentinel L.sentinelStatic L.statics hcS0 hiss (vx_isRef hAm.1.2.2.2.2.1.1 (by cases otN D 2 <;> rfl))
  obtain ⟨ci198, i198, fB, hk198, hg198, ha198, hsB, -, hnB, htB, hffB⟩ := Cond.ownField (args := args) (t := .object "java/lang/Object") Y.found L.cls (by decide +kernel) (hts _ q830) (hts _ q829) e.platform hpl
  obtain ⟨cellS, hcS', heS, -, hkeep⟩ := X.same.2.2.2.2.2 T.aS cellS0 hcS0
  have hcellS : T'.heap[T.aS]? = some cellS := hcS'
  have hknownS : cellS.vm ≠ .unknown := by
    rw [heS]; intro hu
    rw [show cellS0.vm = .unknown from hu] at hiss
    cases hiss
  have hneS : T.aS ≠ q := by
    intro e0
    rw [e0] at hcS0
    cases Option.some.inj (hcS0.symm.trans hcell)
    cases hiss
  obtain ⟨iM, hffM⟩ := Y.msg
  obtain ⟨tyC, dC, hdC, hdnC⟩ := Cond.laysAt (args := args) (first := s) (o := none) (idx := []) hfX hk Y.cause (hts _ q820)
  obtain ⟨tyS, dS, hdS, hdnS⟩ := Cond.laysAt (args := args) (first := s) (o := none) (idx := []) hfX hk Y.stack (hts _ q822)
  obtain ⟨tyP, dP, hdP, hdnP⟩ := Cond.laysAt (args := args) (first := s) (o := none) (idx := []) hfX hk Y.supp (hts _ q824)
  obtain ⟨tyM, dM, hdM, hdnM⟩ := Cond.laysAt (args := args) (first := s) (o := none) (idx := []) hfX hk hffM (hts _ q826)
  obtain ⟨tyB, dB, hdB, hdnB⟩ := Cond.laysAt (args := args) (first := s) (o := none) (idx := []) hfX hk hffB (hts _ q828)
  have bC := Cond.laysApart hdB hdC hdnB hdnC (by rw [hnB, Y.causeName]; decide)
  have bS := Cond.laysApart hdB hdS hdnB hdnS (by rw [hnB, Y.stackName]; decide)
  have bP := Cond.laysApart hdB hdP hdnB hdnP (by rw [hnB, Y.suppName]; decide)
  have hcellT : T'.heap[q]? = some (Jvm.freshCell (D.1 7) kX) := by rw [hT]; exact hcell
  have hskip : SkipFacts T e.platform s (fun u => u) u0 ((preparedCellV T.toThrowableT (Jvm.freshCell (D.1 7) kX) q u0 sen).withEntry T'.cur) :=
    ⟨{ ci198 := ci198, i198 := i198, fBack := fB }, ⟨hk198, hg198, ha198, hsB⟩, by
      have := fresh_default (c := D.1 7) tyB
      rw [htB] at this
      simpa [preparedCellV, Cell.setSlot, Cell.withEntry, Array.getElem?_setIfInBounds, bC, bS, bP, bC.symm, bS.symm, bP.symm, defaultValue] using this, fun _ _ => rfl⟩
  obtain ⟨tm, methC, cdC, kC, vm₁, hnC, -, -, -, -, -, -, -, hW₁, st1⟩ := Steps.initColdS (tb := p.tables) (e := e) (below := below) (s := s) (U := T') X.here hx X.warmed hpl hown (t := Bundle.initS "java/lang/Exception") rfl rfl (by decide) (args := args)
    (hts _ q852) (hts _ q853) (hts _ q854) (f := F0 m pc ls (.ref msg :: .ref q :: rest)) rfl (a := q) (msg := .ref msg) (rest := rest) rfl (by rw [hb]; exact d)
  cases Option.some.inj (hnC.symm.trans hP1m)
  have X₁ := X.noted hW₁
  have hd' : decode c.code pc = .ok (.invokespecial 3, 3) := by rw [hb]; exact d
  obtain ⟨vm₂, X₂, st2⟩ := X₁.ctorMessageOffV hx (g := F0 m pc ls rest) rfl hsize T L Z LZ M LM (P1 :: Ps)
    (fun P hP => by rcases List.mem_cons.mp hP with rfl | hP; exact L1; exact hL P hP) ⟨hlink1, hlink⟩ (u0 := u0) (sen := sen) (self := q) (msg := .ref msg) rfl (cell := Jvm.freshCell (D.1 7) kX) (cellS := cellS)
    hcellT (fun _ => by simp) (by simp) rfl rfl hsel0 hselF hcellS hneS hknownS (by rw [hkeep _ (fun hm => nomatch hm)]; exact hu0) (by rw [hkeep _ (fun hm => nomatch hm)]; exact hsen)
    (Takes.of_laid hk hord tyC (by rw [Y.causeType]; rfl)) (Takes.of_laid hk hord tyS (by rw [Y.stackType]; exact fits_refV_array _ u0)) (Takes.of_laid hk hord tyP (by rw [Y.suppType]; exact fits_refV_object _ sen))
    (Takes.of_laid hk hord tyM (by rw [Y.msgType]; rfl)) Y.objLocals hskip htr [] hd'
    (by simp only [List.length_cons, hlen, List.length_nil]; omega) (by simp only [List.length_cons, hlen, List.length_nil]; show 2 * 0 + (rest.map fun v => v.category).sum + _ ≤ R.locals; omega)
  have hlt : q < ((T'.setVm vm₁).setVm vm₂).heap.size := (Array.getElem?_eq_some_iff.mp hcellT).1
  obtain ⟨f1, f2⟩ := vx_frame X₂.same
  have hh := heapAt_setCell_self (s := (T'.setVm vm₁).setVm vm₂) (plainBareV T.toThrowableT (Jvm.freshCell (D.1 7) kX) q u0 sen (.ref msg)) hlt
  have hP1 := x10_P hh rfl rfl (x10_in hts hK hkX T.toThrowableT q u0 sen (.ref msg)) (x10_pos hts hK hkX T.toThrowableT q u0 sen (.ref msg) Y.cause Y.stack Y.supp hffM)
  obtain ⟨t, a1, b1⟩ := kk _ _ hP1 f1 (fun a h1 h2 => f2 a h1 (fun z hz => by rw [x10_base hz]; exact h2.symm)) (fun z hz => x10_base hz) _ rfl X₂
  refine ⟨t, st1 _ (fun acts => ?_), b1⟩
  rw [doInvoke_state]
  exact st2 _ a1
end X10S
/-! contracts of methods that throw TokenException -/
/-- the world behind: what lies outside the parser, and the exception with its position -/
def xpW (base : va_W) (pos : Int32) (q : Nat) (u : va_W) : Prop := ∃ v0 v1 v2 v3 v4 v5 : Value, u = base ++ [(q, .inr (7, [v0, v1, v2, v3, v4, v5, .int pos]))]
def xpX (D : va_G) (base : va_W) (pos : Int32) (A : Nat → Prop) : Addr → String → State → State → Prop := fun q E st t => E = "DyeLattice$TokenException" ∧ (∃ u : va_W, xpW base pos q u ∧ Wd D A u t) ∧ va_F A st t
def noQ : Array Value → State → Outcome → State → Prop := fun _ _ _ _ => False
def CTt (l : Launch) (y : MethodName) (b : ByteArray) (L : Nat) (r : Option FieldType) (rm : Room) (D : va_G) (w0 : va_W) (av : List Value) (Xp : (Nat → Prop) → State → Prop) (base : va_W) (pos : Int32) : Prop := ∀ sz : Nat, vx_Met l y (ws_ y b L r) rm (Pre D sz w0 av Xp) noQ (xpX D base pos (va_A w0 sz)) rm.cells rm.slots (va_A w0 sz)
def TQ (below : List Frame) (D : va_G) (base : va_W) (pos : Int32) (A : Nat → Prop) (args : Array Value) (s : State) (mc ms : Nat) : State → Prop := vx_MQ below noQ (xpX D base pos A) args s mc ms A
def NT (c : Code) : Prop := ∀ x ∈ c.exceptionTable.toList, False
section TH
variable {p : Program} {l : Launch} {e : Env} {R : Room} {s : State} {m : MethodId} {args : Array Value} {below : List Frame} {meth : Method} {c : Code} {D : va_G} {A : Nat → Prop} {cells slots : Nat} {Q : State → Prop} {cc : ByteArray} {nL : Nat} {own : String} {ws : va_W} {pc : Nat} {lv : VW} {st : List Value}
theorem m_t {y : MethodName} {b : ByteArray} {L : Nat} {r : Option FieldType} {rm : Room} {w0 : va_W} {av : List Value} {Xp : (Nat → Prop) → State → Prop} {base : va_W} {pos : Int32} (hy : plainName y.cls = true) (hlen : (lg_sl av).length ≤ L)
    (body : ∀ (p : Program) (e : Env) (s : State) (m : MethodId) (args : Array Value) (below : List Frame) (meth : Method) (c : Code) (A : Nat → Prop), BX Xp p s m args meth c D A b L y.cls r av y → NT c → V p l e rm s m args below meth c D A L (TQ below D base pos A args s rm.cells rm.slots) w0 0 0 0 (lv_args 0 av) []) : CTt l y b L r rm D w0 av Xp base pos := by
  intro sz
  refine vx_ofW (cc := b) (maxL := L) (ret := r) hy rfl ?_
  intro p e s m args below meth c s₁ B hml ht hv
  obtain ⟨rfl, hsz, hP, hK, hD0, hX⟩ := hv
  have hts := atoms_spec (ws := ws_ y b L r) B.pre
  have hts : ∀ w ∈ lw_all, w.before _ s = true := fun w h => hts w (List.mem_cons_of_mem _ h)
  subst hsz
  rw [lg_entry_eq]
  exact body p e s m _ below meth c (va_A w0 s.heap.size) ⟨⟨B.exec, B.bytes, hml, findClass_of_methodNamed B.named, hts, hK, fun q h => Or.inr h, B.notSynchronized⟩, B.returns, hX, rfl, (name_of_methodNamed B.named B.method).1, B.named⟩ ht _ _ _ hP hD0.self va_S.rf (lv_entry av hlen)
/-- a call that throws, out of a method that doesn't catch -/
theorem vt_V (X : CX p s m args meth c D A cc nL own) (hNT : NT c) {y : MethodName} {b : ByteArray} {L index : Nat} {r : Option FieldType} {rm : Room} {Xp : (Nat → Prop) → State → Prop} {base : va_W} {pos : Int32} {b0 mc ms : Nat} (n : Nat) (As : List Value) {rest : List Value} (isC : List Nat) (wc : va_W) (hC : isC.map (fun i => ws[i]?) = wc.map some) (hnC : va_nd isC = true) (hM : CTt l y b L r rm D wc (.ref b0 :: As) Xp base pos) {C : String} (h1 : Cond.methodLink own index y ∈ lw_all) (h2 : Cond.instanceMethod y ∈ lw_all) (h3 : Cond.selects C y y ∈ lw_all) (h4 : Cond.initialized C ∈ lw_all) (h5 : Cond.code y b L r ∈ lw_all) (hd : y.cls = C ∧ y.cls ≠ "java/lang/invoke/MethodHandle" ∧ y.cls ≠ "java/lang/invoke/VarHandle" ∧ (parseMethodDescriptor y.desc).map (fun d => d.parameters.length) = some n) (q0 : Nat) {ci : Nat} {fs : List Value} {T : u_T} {N : Nat} (he : ws[q0]? = some (b0, .inr (ci, fs))) (hci : CL[ci]? = some (C, T, N)) (hX : Pass Xp s A) (hroom : rm.frames + 1 ≤ R.frames ∧ 8 + (L + 11) + rm.locals ≤ R.locals) (hcs : cells + rm.cells ≤ R.cells ∧ slots + rm.slots ≤ R.slots) (hnA : As.length = n) (hst : st = As.reverse ++ .ref b0 :: rest) (hrest : (rest.map fun v => v.category).sum ≤ 8) (d : decode cc pc = .ok (.invokevirtual index, 3)) (hmc : cells + rm.cells ≤ mc) (hms : slots + rm.slots ≤ ms) : V p l e R s m args below meth c D A nL (TQ below D base pos A args s mc ms) ws cells slots pc lv st := by
  subst hst
  intro H locs ls hP hD hS hl
  have hPc := pc_sub isC hC hP
  have hDc := pc_subD isC hnC hC hD
  have hFc := va_free (wc := wc) hD hS X.hA isC hC
  have hbl := pre_blind (D := D) (sz := H.size) (w0 := wc) (av := (.ref b0 :: As)) hX.1
  have hXc : ∀ U : State, U.heap = H → s.WarmedH U.vm → Xp (va_A wc H.size) U := fun U hU hW => hX.2 _ H locs U hFc hS hU hW
  have hr := vx_runV (p := p) (e := e) (below := below) (meth := meth) (locs := locs) (g := F0 m pc ls (As.reverse ++ .ref b0 :: rest)) (As := As) (rest := rest) ⟨X.hx, X.hb, X.hml, X.hown, X.hts⟩ (hM H.size) (cwV n X.hts (lw_V h1 h2 h3 h4 h5) rfl rfl rfl hd hroom) ⟨hbl, va_recv X.hK hP hci he, fun U hU hW => ⟨rfl, by rw [hU], by rw [hU]; exact hPc, va_K.moved hW.alike X.hK, hDc, hXc U hU hW⟩⟩ rfl hnA hl.1 rfl (lv_room hrest) d hcs
  intro T1 hT X1
  rcases hr T1 hT X1 with ⟨v, st₀, t, T', L', h0, X', hL, e1, e2, hf, st⟩ | ⟨q, st₀, t, T', L', E, ce, h0, X', hL, e1, e2, ⟨rfl, ⟨u, hu, hP1, hD1⟩, hF⟩, hce, hcv, hcl, st⟩
  · exact False.elim hf
  · obtain ⟨k1, k2, k3⟩ := vx_keep h0 e1 hS (fun q _ h => hFc q h) hFc hL hF
    have ho : vx_W p l e R s m args below meth c T'.heap (locs ++ L') (cells + rm.cells) (slots + rm.slots) (TQ below D base pos A args s mc ms) (F0 m pc ls rest) q :=
      vx_out (fun x hx => (hNT x hx).elim) X.hlk (by rw [e1]; exact hce) hcv hcl (fun t2 ht2 hal => ⟨rfl, ⟨u, hu, by rw [ht2, e1]; exact hP1, hD1.weaken (fun _ _ _ h => hFc _ h)⟩, k3.F ht2⟩) k3.2.2 hmc hms
    obtain ⟨t2, a1, b1⟩ := ho T' rfl X'
    exact ⟨t2, st.trans a1, b1⟩
end TH
/-- the fresh cell of an exception -/
def xFr (D : va_G) (q : Nat) (A : Nat → Prop) (U : State) : Prop := AMB D A U ∧ ∃ kX : Class, U.vm.classes[D.1 7]? = some kX ∧ U.heap[q]? = some (Jvm.freshCell (D.1 7) kX)
abbrev rmX10_init : Room := { frames := 4, cells := 0, slots := 0, locals := 60 }
theorem hdX10_init : yX10_init.cls ≠ "java/lang/invoke/MethodHandle" ∧ yX10_init.cls ≠ "java/lang/invoke/VarHandle" ∧ (parseMethodDescriptor yX10_init.desc).map (fun d => d.parameters.length) = some 1 := by decide +kernel
abbrev x0W (q : Nat) : va_W := [(q, .inr (7, [.null, .null, .null, .null, .null, .int 0, .int 0]))]
theorem w_X10_init {l : Launch} {D : va_G} (hst : l.stackTraces = false) (q : Nat) (pos : Int32) : CTv l yX10_init cX10_init 2 none rmX10_init D (x0W q) [.ref q, .int pos] (xFr D q) (fun u => xpW [] pos q u) := by
  intro sz
  refine Met.ofW (cc := cX10_init) (maxL := 2) (ret := none) (by decide) rfl ?_
  intro p e s m args below meth c s₁ B hml hv
  obtain ⟨rfl, hsz, hP, hK, hD0, hAm, kX, hkX, hcell⟩ := hv
  have hts := atoms_spec (ws := ws_ yX10_init cX10_init 2 none) B.pre
  have hts : ∀ w ∈ lw_all, w.before _ s = true := fun w h => hts w (List.mem_cons_of_mem _ h)
  subst hsz
  rw [lg_entry_eq]
  have hle := lv_entry [Value.ref q, .int pos] (n := 2) (Nat.le_of_ble_eq_true rfl)
  have X : CX p s m _ meth c D (va_A (x0W q) s.heap.size) cX10_init 2 "DyeLattice$TokenException" := ⟨B.exec, B.bytes, hml, findClass_of_methodNamed B.named, hts, hK, fun q h => Or.inr h, B.notSynchronized⟩
  have hnm : meth.name = "<init>" := (name_of_methodNamed B.named B.method).1
  have hr : meth.sig.returnType = none := B.returns
  refine lv_aload_n X.hx X.hb dX10_init_0 rfl (lv_at hle 0 rfl) ?_
  refine va_ldcS X.hx X.hb X.hown (hAm.1.2.2.2.2.2.2 15 (by decide)) dX10_init_1 ?_
  refine x10_sup X.hx X.hb hst X.hown hts hK hAm hkX hcell (by rw [X.hml]; exact hle.1) dX10_init_3 (by decide) (by decide) ?_
  rintro H1 locs1 ⟨v0, v1, v2, v3, v4, v5, hP1⟩ hz hkp hlo
  have hq : q < s.heap.size := (Array.getElem?_eq_some_iff.mp hcell).1
  have hAq : va_A (x0W q) s.heap.size q := Or.inl ⟨0, _, rfl⟩
  have hD1 : va_D (va_A (x0W q) s.heap.size) [(q, .inr (7, [v0, v1, v2, v3, v4, v5, .int 0]))] := by
    refine ⟨fun i j a b h1 h2 _ => ?_, fun k a h => ?_⟩
    · have := (List.getElem?_eq_some_iff.mp h1).1
      have := (List.getElem?_eq_some_iff.mp h2).1
      simp at *; omega
    · have hz : k < 1 := (List.getElem?_eq_some_iff.mp h).1
      rw [show k = 0 by omega] at h
      cases h
      exact hAq
  have hS1 : va_S (va_A (x0W q) s.heap.size) s.heap H1 locs1 := ⟨hz, fun a h1 h2 => hkp a h1 (fun e => h2 (by rw [e]; exact hAq)), fun z h => by rw [hlo z h]; exact hAq⟩
  refine (?_ : V p l e rmX10_init s m _ below meth c D (va_A (x0W q) s.heap.size) 2 _ [(q, .inr (7, [v0, v1, v2, v3, v4, v5, .int 0]))] 0 0 6 [(0, .ref q), (1, .int pos)] []) H1 locs1 _ hP1 hD1 hS1 hle
  refine v_aload_n 7 X 0 dX10_init_6 rfl rfl rfl ?_
  refine v_iload_n 8 X 1 dX10_init_7 rfl rfl rfl ?_
  refine v_putF 11 [(q, .inr (7, [v0, v1, v2, v3, v4, v5, .int pos]))] X hnm in_X10 tyX10_ok nmX10 0 6 rfl rfl (by decide) q858 rfl rfl rfl rfl rfl rfl (Nat.le_of_ble_eq_true rfl) dX10_init_8 rfl rfl ?_
  exact v_vret X hr ⟨v0, v1, v2, v3, v4, v5, rfl⟩ (Nat.le_of_ble_eq_true rfl) (Nat.le_of_ble_eq_true rfl) dX10_init_11
