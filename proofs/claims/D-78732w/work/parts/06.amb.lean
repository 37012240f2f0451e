set_option maxRecDepth 100000
theorem qc1564 : (Jvm.Cond.castable "DyeLattice$Valve$1" "DyeLattice$Valve") ∈ lw_tbl := lw_at lw_m7 41 rfl
theorem qc1565 : (Jvm.Cond.castable "DyeLattice$Valve$2" "DyeLattice$Valve") ∈ lw_tbl := lw_at lw_m7 42 rfl
theorem qc1566 : (Jvm.Cond.castable "DyeLattice$Valve$3" "DyeLattice$Valve") ∈ lw_tbl := lw_at lw_m7 43 rfl
theorem qc1567 : (Jvm.Cond.castable "DyeLattice$Valve$4" "DyeLattice$Valve") ∈ lw_tbl := lw_at lw_m7 44 rfl
theorem qc1568 : (Jvm.Cond.castable "DyeLattice$Valve$5" "DyeLattice$Valve") ∈ lw_tbl := lw_at lw_m7 45 rfl
/-- words of the tables that no list carries, and that stay -/
def rides (w : Cond) : Bool := match w with
  | .fieldLinkNest _ _ _ _ _ _ => true
  | .methodLinkNest _ _ _ _ => true
  | .castable _ _ => true
  | .declares _ => true
  | .arrayOver (.object _) => true
  | .privateMethod _ => true
  | _ => false
theorem nw_priv {x : MethodName} {u U : State} (hvm : u.vm.Alike U.vm) (h : va_Nw (.privateMethod x) u) : va_Nw (.privateMethod x) U := by
  have e := Cond.onTables_vm (A := #[]) (A' := #[]) (U := u) (U' := U) U.vm (.privateMethod x) rfl
  have hU : U.setVm U.vm = U := rfl
  rw [hU] at e
  show (Cond.privateMethod x).before #[] U = true
  rw [← e, Cond.privateMethod_setVm hvm]
  exact h
theorem ride_warm {w : Cond} (hr : rides w = true) {s U : State} (hW : s.WarmedH U.vm) (h : va_Nw w s) : va_Nw w U := by
  unfold rides at hr
  split at hr
  · exact va_Nw.warmF hW h
  · exact va_Nw.warmM hW h
  · exact va_Nw.warmC hW h
  · exact va_Nw.warmD hW h
  · exact va_AO.moved hW.alike h
  · exact nw_priv hW.alike h
  · cases hr
theorem ride_same {w : Cond} (hr : rides w = true) {s U : State} (hv : s.vm = U.vm) (h : va_Nw w s) : va_Nw w U := by
  unfold rides at hr
  split at hr
  · exact va_Nw.same rfl hv h
  · exact va_Nw.same rfl hv h
  · exact va_Nw.same rfl hv h
  · exact va_Nw.same rfl hv h
  · exact va_AO.moved (by rw [hv]; exact Vm.Alike.refl _) h
  · exact va_Nw.same rfl hv h
  · cases hr
def AN (U : State) : Prop := ∀ w ∈ lw_tbl, rides w = true → va_Nw w U
abbrev adK (D : va_G) : Nat → Nat := D.2 200
abbrev adV (D : va_G) : Nat → Nat := D.2 201
def kNm : List String := ["SQUARE", "TRIANGULAR", "FULL"]
def vNm : List String := ["FREE", "SHUT", "FORTH", "BACK", "BEATING"]
def vCl : List String := ["DyeLattice$Valve$1", "DyeLattice$Valve$2", "DyeLattice$Valve$3", "DyeLattice$Valve$4", "DyeLattice$Valve$5"]
def EK (D : va_G) (A : Nat → Prop) (U : State) (H : Heap) : Prop := (∀ i, i < 3 → va_Z "DyeLattice$Kind" (kNm.getD i "") "LDyeLattice$Kind;" (.ref (adK D i)) A U H ∧ va_O "DyeLattice$Kind" (adK D i) A U H ∧ va_OF "java/lang/Enum" "ordinal" "I" (.int (nI i)) (adK D i) A U H ∧ va_OF "DyeLattice$Kind" "directions" "I" (.int (nI (i + 2))) (adK D i) A U H) ∧ ∀ i j, i < 3 → j < 3 → adK D i = adK D j → i = j
def EV (D : va_G) (A : Nat → Prop) (U : State) (H : Heap) : Prop := (∀ i, i < 5 → va_Z "DyeLattice$Valve" (vNm.getD i "") "LDyeLattice$Valve;" (.ref (adV D i)) A U H ∧ va_O (vCl.getD i "") (adV D i) A U H ∧ va_OF "java/lang/Enum" "ordinal" "I" (.int (nI i)) (adV D i) A U H) ∧ ∀ i j, i < 5 → j < 5 → adV D i = adV D j → i = j
/-- a static array of the constants: class and length exact -/
def AX (C E d : String) (t N : Nat) (f : Nat → Nat) (A : Nat → Prop) (U : State) (H : Heap) : Prop := va_Z C "$VALUES" d (.ref t) A U H ∧ ∃ cell : Cell, H[t]? = some cell ∧ U.vm.findClass E = some cell.cls ∧ cell.vm.isStatics = false ∧ cell.vm ≠ .unknown ∧ cell.slots.size = N ∧ (∀ j : Nat, j < N → cell.slots[j]? = some (.ref (f j))) ∧ ¬ A t
/-- a lambda's site: its class, made; whether it makes objects or has one -/
def Site (x : MethodName) (pc index : Nat) (σ : Lambda.Shape) (c : ClassId) (one : Option Nat) (A : Nat → Prop) (U : State) (H : Heap) : Prop :=
  ∃ (m : MethodId) (k : Class) (cf : ClassFile) (i0 p0 : Nat) (lk : Linked), U.methodNamed? x = some m ∧ U.vm.classes[m.cls]? = some k ∧ k.cf = some cf ∧ Lambda.shapeOf? cf index = some σ ∧ (k.callSites.find? fun y => y.1 == m.idx && y.2.1 == pc) = some (i0, p0, lk) ∧ Lambda.isMade St0 U.vm m.cls σ c = true ∧ U.lambdaCallable σ c = true ∧
    ((∃ a, lk = .constant a ∧ one = some a ∧ H[a]? = some { cls := c, slots := #[], vm := .none } ∧ ¬ A a) ∨ (lk = .makes c ∧ one = none))
theorem Site.go {x : MethodName} {pc index : Nat} {σ : Lambda.Shape} {c : ClassId} {one : Option Nat} {A B : Nat → Prop} {u U : State} {H H1 : Heap} (h : Site x pc index σ c one A u H) (hW : u.WarmedH U.vm) (hq : ∀ a : Nat, a < H.size → ¬ A a → H1[a]? = H[a]?) (hAB : ∀ q, B q → A q) : Site x pc index σ c one B U H1 := by
  obtain ⟨m, k, cf, i0, p0, lk, h1, h2, h3, h4, h5, h6, h7, h8⟩ := h
  obtain ⟨k', hk', he⟩ := hW.alike.2.2 _ _ h2
  have hm' : U.methodNamed? x = some m := by
    have h9 := State.methodNamed?_setVm (s := u) hW.alike x
    rw [h1] at h9
    exact h9
  refine ⟨m, k', cf, i0, p0, lk, hm', hk', by rw [he]; exact h3, h4, by rw [he]; exact h5, Lambda.isMade_warmer hW h6, ?_, ?_⟩
  · have hA := hW.alike
    simp only [State.lambdaCallable, hA.findClass, hA.assignable, hA.superclasses, hA.declaredIn] at h7 ⊢
    exact h7
  · rcases h8 with ⟨a, e1, e2, e3, e4⟩ | h8
    · exact Or.inl ⟨a, e1, e2, by rw [hq a (Array.getElem?_eq_some_iff.mp e3).1 e4]; exact e3, fun z => e4 (hAB _ z)⟩
    · exact Or.inr h8
def sX : Nat → MethodName × Nat × Nat × Lambda.Shape := fun k => match k with
  | 0 => (⟨"DyeLattice$Lattice", "mark", "([IIII)V"⟩, 19, 162, sg0)
  | 1 => (⟨"DyeLattice$Lattice", "mark", "([IIII)V"⟩, 24, 163, sg1)
  | 2 => (⟨"DyeLattice$Lattice", "reach", "(I)I"⟩, 5, 156, sg2)
  | 3 => (⟨"DyeLattice$Lattice", "reach", "(I)I"⟩, 11, 157, sg3)
  | 4 => (⟨"DyeLattice$Lattice", "reached", "(LDyeLattice$CellTest;LDyeLattice$CellTest;)[Z"⟩, 59, 133, sg4)
  | 5 => (⟨"DyeLattice$Lattice", "spans", "(II)Z"⟩, 2, 140, sg5)
  | 6 => (⟨"DyeLattice$Lattice", "spans", "(II)Z"⟩, 10, 143, sg6)
  | 7 => (⟨"DyeLattice$Lattice", "spanningThreshold", "()I"⟩, 1, 190, sg7)
  | 8 => (⟨"DyeLattice", "thresholdBetween", "(II)I"⟩, 27, 247, sg8)
  | 9 => (⟨"DyeLattice$Lattice", "hasWay", "(III)Z"⟩, 2, 150, sg9)
  | _ => (⟨"DyeLattice$Lattice", "hasWay", "(III)Z"⟩, 9, 153, sg10)
def LSt (D : va_G) (A : Nat → Prop) (U : State) (H : Heap) : Prop := ∀ k, k < 11 → Site (sX k).1 (sX k).2.1 (sX k).2.2.1 (sX k).2.2.2 (D.1 (300 + k)) (if k = 1 ∨ k = 4 then some (D.2 204 k) else none) A U H
/-- the interfaces' own methods -/
def ifM : Nat → MethodName := fun k => match k with
  | 0 => ⟨"DyeLattice$CellTest", "is", "(I)Z"⟩
  | 1 => ⟨"DyeLattice$ValveTest", "lets", "(LDyeLattice$Valve;Z)Z"⟩
  | _ => ⟨"DyeLattice$ThresholdTest", "holds", "(I)Z"⟩
def IFw (U : State) : Prop := ∀ k, k < 3 → va_Nw (.declares (ifM k)) U ∧ va_Nw (.interfaceMethod (ifM k).cls (ifM k).cls (ifM k).name (ifM k).desc) U
theorem ifw1 {x : MethodName} (hx : x.cls ≠ "java/lang/invoke/MethodHandle" ∧ x.cls ≠ "java/lang/invoke/VarHandle") {u U : State} (hvm : u.vm.Alike U.vm) (h1 : va_Nw (.declares x) u) (h2 : va_Nw (.interfaceMethod x.cls x.cls x.name x.desc) u) : va_Nw (.declares x) U ∧ va_Nw (.interfaceMethod x.cls x.cls x.name x.desc) U := by
  obtain ⟨r, meth, hn, -⟩ := Cond.declares_spec h1
  have tr : ∀ {w : Cond}, w.onTables = true → w.before #[] (u.setVm U.vm) = true → w.before #[] U = true := by
    intro w hc h
    have e := Cond.onTables_vm (A := #[]) (A' := #[]) (U := u) (U' := U) U.vm w hc
    have hU : U.setVm U.vm = U := rfl
    rw [hU] at e
    rw [← e]
    exact h
  exact ⟨tr rfl (by rw [Cond.declares_setVm hvm]; exact h1), tr rfl (by rw [Cond.interfaceMethod_setVm hvm (r := r) hn hx]; exact h2)⟩
theorem IFw.go {u U : State} (h : IFw u) (hvm : u.vm.Alike U.vm) : IFw U := by
  intro k hk
  have hx : (ifM k).cls ≠ "java/lang/invoke/MethodHandle" ∧ (ifM k).cls ≠ "java/lang/invoke/VarHandle" := by
    rcases (show k = 0 ∨ k = 1 ∨ k = 2 by omega) with rfl | rfl | rfl <;> decide
  exact ifw1 hx hvm (h k hk).1 (h k hk).2
/-- String constants, and statics -/
def sW : Nat → String × Nat × String := fun k => match k with
  | 0 => ("DyeLattice$Parser", 134, "free")
  | 1 => ("DyeLattice$Parser", 136, "shut")
  | 2 => ("DyeLattice$Parser", 138, "forth")
  | 3 => ("DyeLattice$Parser", 140, "back")
  | 4 => ("DyeLattice$Parser", 142, "beating")
  | 5 => ("DyeLattice$Parser", 160, "size")
  | 6 => ("DyeLattice$Parser", 162, "kind")
  | 7 => ("DyeLattice$Parser", 164, "row")
  | 8 => ("DyeLattice$Parser", 166, "fill")
  | 9 => ("DyeLattice$Parser", 168, "valve")
  | 10 => ("DyeLattice$Parser", 170, "source")
  | 11 => ("DyeLattice$Parser", 172, "at")
  | 12 => ("DyeLattice$Parser", 176, "square")
  | 13 => ("DyeLattice$Parser", 178, "triangular")
  | 14 => ("DyeLattice$Parser", 180, "full")
  | _ => ("DyeLattice$TokenException", 1, "not allowed")
def sLen : List Nat := [4, 4, 5, 4, 7, 4, 4, 3, 4, 5, 6, 2, 6, 10, 4, 11]
def sByt : List (List Int32) := [[102, 114, 101, 101], [115, 104, 117, 116], [102, 111, 114, 116, 104], [98, 97, 99, 107], [98, 101, 97, 116, 105, 110, 103], [115, 105, 122, 101], [107, 105, 110, 100], [114, 111, 119], [102, 105, 108, 108], [118, 97, 108, 118, 101], [115, 111, 117, 114, 99, 101], [97, 116], [115, 113, 117, 97, 114, 101], [116, 114, 105, 97, 110, 103, 117, 108, 97, 114], [102, 117, 108, 108], [110, 111, 116, 32, 97, 108, 108, 111, 119, 101, 100]]
abbrev adS (D : va_G) : Nat → Nat := D.2 202
abbrev adB (D : va_G) : Nat → Nat := D.2 206
def otN (D : va_G) (i : Nat) : Option Nat := match D.2 205 i with
  | 0 => none
  | k + 1 => some k
def vx_L (C n d : String) (A : Nat → Prop) (U : State) (H : Heap) : Prop := ∃ (c : ClassId) (k : Class) (i : Nat) (f : Field) (a : Nat) (cell : Cell), U.vm.findClass C = some c ∧ U.fieldFound? C n d = some (c, k, i, f) ∧ f.isStatic = true ∧ k.statics = some a ∧ H[a]? = some cell ∧ cell.vm.isStatics = true ∧ cell.cls = c ∧ f.slot < cell.slots.size ∧ k.staticTypes[f.slot]? = some f.type ∧ ¬ A a
theorem vx_L.moved {C n d : String} {A : Nat → Prop} {u U : State} {H : Heap} (hvm : u.vm.Alike U.vm) (h : vx_L C n d A u H) : vx_L C n d A U H := by
  obtain ⟨c, k, i, f, a, cell, h1, h2, h3, h4, h5, h6, h7, h8, h9, h10⟩ := h
  obtain ⟨k', hi', he⟩ := State.fieldFound?_setVm hvm h2
  exact ⟨c, k', i, f, a, cell, by rw [hvm.findClass]; exact h1, hi', h3, by rw [he]; exact h4, h5, h6, h7, h8, by rw [he]; exact h9, h10⟩
theorem vx_L.kept {C n d : String} {A : Nat → Prop} {U : State} {H H1 : Heap} (h : vx_L C n d A U H) (hq : ∀ a : Nat, a < H.size → ¬ A a → H1[a]? = H[a]?) : vx_L C n d A U H1 := by
  obtain ⟨c, k, i, f, a, cell, h1, h2, h3, h4, h5, h6, h7, h8, h9, h10⟩ := h
  exact ⟨c, k, i, f, a, cell, h1, h2, h3, h4, by rw [hq a (Array.getElem?_eq_some_iff.mp h5).1 h10]; exact h5, h6, h7, h8, h9, h10⟩
theorem vx_L.narrow {C n d : String} {A B : Nat → Prop} {U : State} {H : Heap} (h : vx_L C n d A U H) (hAB : ∀ q, B q → A q) : vx_L C n d B U H := by
  obtain ⟨c, k, i, f, a, cell, h1, h2, h3, h4, h5, h6, h7, h8, h9, h10⟩ := h
  exact ⟨c, k, i, f, a, cell, h1, h2, h3, h4, h5, h6, h7, h8, h9, fun z => h10 (hAB _ z)⟩
theorem vx_L.word {C n d : String} {A : Nat → Prop} {s : State} {args : Array Value} (h : vx_L C n d A s s.heap) : (Cond.laysStatic C n d).before args s = true := by
  obtain ⟨c, k, i, f, a, cell, h1, h2, h3, h4, h5, h6, h7, h8, h9, -⟩ := h
  show (Cond.laysStatic C n d).holds args s none s [] = true
  exact Cond.laysStatic_of h1 h2 h3 h4 h5 h6 h7 h8 h9
def SC (D : va_G) (A : Nat → Prop) (U : State) (H : Heap) : Prop := va_Z "java/lang/String" "COMPACT_STRINGS" "Z" (.int 1) A U H ∧ va_Z "jdk/internal/util/Preconditions" "SIOOBE_FORMATTER" "Ljava/util/function/BiFunction;" (va_rf (otN D 0)) A U H ∧ va_Z "java/lang/Throwable" "UNASSIGNED_STACK" "[Ljava/lang/StackTraceElement;" (va_rf (otN D 1)) A U H ∧ (va_Z "java/lang/Throwable" "SUPPRESSED_SENTINEL" "Ljava/util/List;" (va_rf (otN D 2)) A U H ∧ vx_L "java/lang/Throwable" "UNASSIGNED_STACK" "[Ljava/lang/StackTraceElement;" A U H ∧ vx_L "java/lang/Throwable" "SUPPRESSED_SENTINEL" "Ljava/util/List;" A U H) ∧ vk_S 16 sLen sByt (adS D) (adB D) A U H ∧ ∀ i, i < 16 → vk_R (sW i).1 (sW i).2.1 (sW i).2.2 (adS D i) U
theorem SC.go {D : va_G} {A B : Nat → Prop} {u U : State} {H H1 : Heap} (h : SC D A u H) (hW : u.WarmedH U.vm) (hq : ∀ a : Nat, a < H.size → ¬ A a → H1[a]? = H[a]?) (hAB : ∀ q, B q → A q) : SC D B U H1 := by
  obtain ⟨h1, h2, h3, ⟨h4, h7, h8⟩, h5, h6⟩ := h
  have hvm := hW.alike
  exact ⟨((h1.moved hvm).kept hq).narrow hAB, ((h2.moved hvm).kept hq).narrow hAB, ((h3.moved hvm).kept hq).narrow hAB, ⟨((h4.moved hvm).kept hq).narrow hAB, ((h7.moved hvm).kept hq).narrow hAB, ((h8.moved hvm).kept hq).narrow hAB⟩, ((h5.moved hvm).kept hq).narrow hAB, fun i hi => (h6 i hi).warm hW⟩
def AMB0 (D : va_G) (A : Nat → Prop) (U : State) (H : Heap) : Prop := (AN U ∧ SC D A U H) ∧ EK D A U H ∧ EV D A U H ∧ AX "DyeLattice$Kind" "[LDyeLattice$Kind;" "[LDyeLattice$Kind;" (D.2 203 0) 3 (adK D) A U H ∧ AX "DyeLattice$Valve" "[LDyeLattice$Valve;" "[LDyeLattice$Valve;" (D.2 203 1) 5 (adV D) A U H ∧ LSt D A U H ∧ IFw U
def AMB (D : va_G) (A : Nat → Prop) (U : State) : Prop := AMB0 D A U U.heap
theorem EK.go {D : va_G} {A B : Nat → Prop} {u U : State} {H H1 : Heap} (h : EK D A u H) (hvm : u.vm.Alike U.vm) (hq : ∀ a : Nat, a < H.size → ¬ A a → H1[a]? = H[a]?) (hAB : ∀ q, B q → A q) : EK D B U H1 :=
  ⟨fun i hi => ⟨(((h.1 i hi).1.moved hvm).kept hq).narrow hAB, (((h.1 i hi).2.1.moved hvm).kept hq).narrow hAB, (((h.1 i hi).2.2.1.moved hvm).kept hq).narrow hAB, (((h.1 i hi).2.2.2.moved hvm).kept hq).narrow hAB⟩, h.2⟩
theorem EV.go {D : va_G} {A B : Nat → Prop} {u U : State} {H H1 : Heap} (h : EV D A u H) (hvm : u.vm.Alike U.vm) (hq : ∀ a : Nat, a < H.size → ¬ A a → H1[a]? = H[a]?) (hAB : ∀ q, B q → A q) : EV D B U H1 :=
  ⟨fun i hi => ⟨(((h.1 i hi).1.moved hvm).kept hq).narrow hAB, (((h.1 i hi).2.1.moved hvm).kept hq).narrow hAB, (((h.1 i hi).2.2.moved hvm).kept hq).narrow hAB⟩, h.2⟩
theorem AX.go {C E d : String} {t N : Nat} {f : Nat → Nat} {A B : Nat → Prop} {u U : State} {H H1 : Heap} (h : AX C E d t N f A u H) (hvm : u.vm.Alike U.vm) (hq : ∀ a : Nat, a < H.size → ¬ A a → H1[a]? = H[a]?) (hAB : ∀ q, B q → A q) : AX C E d t N f B U H1 := by
  obtain ⟨h0, cell, h1, h2, h3, h4, h5, h6, h7⟩ := h
  exact ⟨((h0.moved hvm).kept hq).narrow hAB, cell, by rw [hq t (Array.getElem?_eq_some_iff.mp h1).1 h7]; exact h1, by rw [hvm.findClass]; exact h2, h3, h4, h5, h6, fun z => h7 (hAB _ z)⟩
theorem pass_amb {D : va_G} {s : State} {A : Nat → Prop} (h : AMB D A s) : Pass (AMB D) s A := by
  refine ⟨?_, ?_⟩
  · intro A a U g mk hU
    obtain ⟨h1, h2, h3, h4, h5, h6, h7⟩ := hU
    have hv : U.vm.Alike (U.calling g mk a).vm := Vm.Alike.refl U.vm
    have hq : ∀ z : Nat, z < U.heap.size → ¬ A z → (U.calling g mk a).heap[z]? = U.heap[z]? := fun _ _ _ => rfl
    exact ⟨⟨fun w hw hr => ride_same (s := U) hr rfl (h1.1 w hw hr), h1.2.go (State.WarmedH.refl U) hq (fun _ z => z)⟩, h2.go hv hq (fun _ z => z), h3.go hv hq (fun _ z => z), h4.go hv hq (fun _ z => z), h5.go hv hq (fun _ z => z), fun k hk => (h6 k hk).go (State.WarmedH.refl U) hq (fun _ z => z), h7.go hv⟩
  · intro A1 H locs U hAA hS hU hW
    obtain ⟨h1, h2, h3, h4, h5, h6, h7⟩ := h
    have hv : s.vm.Alike U.vm := hW.alike
    have hq : ∀ z : Nat, z < s.heap.size → ¬ A z → U.heap[z]? = s.heap[z]? := by rw [hU]; exact hS.2.1
    exact ⟨⟨fun w hw hr => ride_warm hr hW (h1.1 w hw hr), h1.2.go hW hq hAA⟩, h2.go hv hq hAA, h3.go hv hq hAA, h4.go hv hq hAA, h5.go hv hq hAA, fun k hk => (h6 k hk).go hW hq hAA, h7.go hv⟩
theorem AMB.nw {D : va_G} {A : Nat → Prop} {U : State} (h : AMB D A U) {w : Cond} (hw : w ∈ lw_tbl) (hr : rides w = true) : va_Nw w U := h.1.1 w hw hr
theorem AMB.use {D : va_G} {A : Nat → Prop} {U : State} (h : AMB D A U) {w : Cond} (hw : w ∈ lw_tbl) (hr : rides w = true) (ho : w.onTables = true) {a : Array Value} : w.before a U = true := va_Nw.use ho (h.1.1 w hw hr)
section VA
variable {p : Program} {l : Launch} {e : Env} {R : Room} {s : State} {m : MethodId} {args : Array Value} {below : List Frame} {meth : Method} {c : Code} {D : va_G} {A : Nat → Prop} {cells slots : Nat} {Q : State → Prop} {cc : ByteArray} {nL : Nat} {own : String} {ws : va_W} {pc : Nat} {lv : VW} {st : List Value}
theorem v_getN (pc' : Nat) (X : CX p s m args meth c D A cc nL own) (hAm : AMB D A s) {C ref host : String} {T : u_T} {N ci index : Nat} (hin : ∀ w ∈ u_ws C T N, w ∈ lw_all) (q0 k0 : Nat) {a : Nat} {fs : List Value} {v : Value} (he : ws[q0]? = some (a, .inr (ci, fs))) (hc : CL[ci]? = some (C, T, N)) (hk : k0 < N) (hlink : Cond.fieldLinkNest own index ref (T k0).2.1 (T k0).2.2.1 host ∈ lw_tbl) (hsame : (T k0).1 = ref) (hv : fs[k0]? = some v) (d : decode cc pc = .ok (.getfield index, 3)) (hp : pc + 3 = pc') (k : V p l e R s m args below meth c D A nL Q ws cells slots pc' lv (v :: st)) : V p l e R s m args below meth c D A nL Q ws cells slots pc lv (.ref a :: st) := by
  subst hp
  subst hsame
  exact fun H locs ls hP hD hS hl => va_getN X.hx X.hb X.hts hin X.hown X.hK hP q0 he hc k0 hk (hAm.use hlink rfl rfl) (fun _ z => z) hv d (k H locs ls hP hD hS hl)
theorem v_putN (pc' : Nat) (ws' : va_W) (X : CX p s m args meth c D A cc nL own) (hAm : AMB D A s) {C ref host : String} {T : u_T} {N ci index : Nat} {ty0 : Nat → FieldType} (hin : ∀ w ∈ u_ws C T N, w ∈ lw_all) (hty : ∀ k, k < N → parseFieldDescriptor (T k).2.2.1 = some (ty0 k)) (hnm : ∀ a, a < N → ∀ b, b < N → a ≠ b → (T a).2.1 ≠ (T b).2.1) (q0 k0 : Nat) {a : Nat} {fs : List Value} {v : Value} {ty : FieldType} (he : ws[q0]? = some (a, .inr (ci, fs))) (hc : CL[ci]? = some (C, T, N)) (hk : k0 < N) (hlink : Cond.fieldLinkNest own index ref (T k0).2.1 (T k0).2.2.1 host ∈ lw_tbl) (hsame : (T k0).1 = ref) (hfin : (T k0).2.2.2 = false) (hd : ty0 k0 = ty) (hn : narrow ty v = v) (hfit : fits ty v = true) (hl0 : k0 < fs.length) (d : decode cc pc = .ok (.putfield index, 3)) (hp : pc + 3 = pc') (hw : ws.set q0 (a, .inr (ci, fs.set k0 v)) = ws') (k : V p l e R s m args below meth c D A nL Q ws' cells slots pc' lv st) : V p l e R s m args below meth c D A nL Q ws cells slots pc lv (v :: .ref a :: st) := by
  subst hp
  subst hw
  subst hsame
  subst hd
  exact fun H locs ls hP hD hS hl => va_putN X.hx X.hb X.hts hin ty0 hty hnm X.hown X.hK hP hD hS q0 he hc k0 hk (hAm.use hlink rfl rfl) (fun _ z => z) hfin (hty k0 hk) hn hfit hl0 d (fun H1 locs1 hP hD hS => k H1 locs1 ls hP hD hS hl)
theorem v_putF (pc' : Nat) (ws' : va_W) (X : CX p s m args meth c D A cc nL own) (hin2 : meth.name = "<init>") {C ref : String} {T : u_T} {N ci index : Nat} {ty0 : Nat → FieldType} (hin : ∀ w ∈ u_ws C T N, w ∈ lw_all) (hty : ∀ k, k < N → parseFieldDescriptor (T k).2.2.1 = some (ty0 k)) (hnm : ∀ a, a < N → ∀ b, b < N → a ≠ b → (T a).2.1 ≠ (T b).2.1) (q0 k0 : Nat) {a : Nat} {fs : List Value} {v : Value} {ty : FieldType} (he : ws[q0]? = some (a, .inr (ci, fs))) (hc : CL[ci]? = some (C, T, N)) (hk : k0 < N) (hlink : Cond.fieldLink own index ref (T k0).2.1 (T k0).2.2.1 ∈ lw_all) (hsame : (T k0).1 = ref) (hfin : (T k0).2.2.2 = true) (hdecl : (T k0).1 = own) (hd : ty0 k0 = ty) (hn : narrow ty v = v) (hfit : fits ty v = true) (hl0 : k0 < fs.length) (d : decode cc pc = .ok (.putfield index, 3)) (hp : pc + 3 = pc') (hw : ws.set q0 (a, .inr (ci, fs.set k0 v)) = ws') (k : V p l e R s m args below meth c D A nL Q ws' cells slots pc' lv st) : V p l e R s m args below meth c D A nL Q ws cells slots pc lv (v :: .ref a :: st) := by
  subst hp
  subst hw
  subst hsame
  subst hd
  exact fun H locs ls hP hD hS hl => va_putF X.hx X.hb X.hts hin ty0 hty hnm X.hown X.hK hP hD hS q0 he hc k0 hk (X.hts _ hlink) (fun _ z => z) hfin hin2 hdecl (hty k0 hk) hn hfit hl0 d (fun H1 locs1 hP hD hS => k H1 locs1 ls hP hD hS hl)
theorem v_getK (pc' : Nat) (X : CX p s m args meth c D A cc nL own) (hAm : AMB D A s) (i : Nat) (hi : i < 3) {index : Nat} {n : String} (hn : kNm.getD i "" = n) (hlink : Cond.fieldLink own index "DyeLattice$Kind" n "LDyeLattice$Kind;" ∈ lw_all) (d : decode cc pc = .ok (.getstatic index, 3)) (hp : pc + 3 = pc') (k : V p l e R s m args below meth c D A nL Q ws cells slots pc' lv (.ref (adK D i) :: st)) : V p l e R s m args below meth c D A nL Q ws cells slots pc lv st := by
  subst hp
  subst hn
  exact fun H locs ls hP hD hS hl => va_gets X.hx X.hb (hAm.2.1.1 i hi).1 hS X.hown (X.hts _ hlink) (fun _ z => z) d (k H locs ls hP hD hS hl)
theorem v_getV (pc' : Nat) (X : CX p s m args meth c D A cc nL own) (hAm : AMB D A s) (i : Nat) (hi : i < 5) {index : Nat} {n : String} (hn : vNm.getD i "" = n) (hlink : Cond.fieldLink own index "DyeLattice$Valve" n "LDyeLattice$Valve;" ∈ lw_all) (d : decode cc pc = .ok (.getstatic index, 3)) (hp : pc + 3 = pc') (k : V p l e R s m args below meth c D A nL Q ws cells slots pc' lv (.ref (adV D i) :: st)) : V p l e R s m args below meth c D A nL Q ws cells slots pc lv st := by
  subst hp
  subst hn
  exact fun H locs ls hP hD hS hl => va_gets X.hx X.hb (hAm.2.2.1.1 i hi).1 hS X.hown (X.hts _ hlink) (fun _ z => z) d (k H locs ls hP hD hS hl)
/-- the directions of a kind -/
def dirF (kd : Nat) : Option Int32 := if kd < 3 then some (nI (kd + 2)) else none
def ordK (kd : Nat) : Option Int32 := if kd < 3 then some (nI kd) else none
def ordV (v : Nat) : Option Int32 := if v < 5 then some (nI v) else none
theorem dirF_s {kd : Nat} {x : Int32} (h : dirF kd = some x) : kd < 3 ∧ nI (kd + 2) = x := by
  unfold dirF at h
  split at h
  · rename_i h1; exact ⟨h1, Option.some.inj h⟩
  · cases h
theorem ordK_s {kd : Nat} {x : Int32} (h : ordK kd = some x) : kd < 3 ∧ nI kd = x := by
  unfold ordK at h
  split at h
  · rename_i h1; exact ⟨h1, Option.some.inj h⟩
  · cases h
theorem ordV_s {kd : Nat} {x : Int32} (h : ordV kd = some x) : kd < 5 ∧ nI kd = x := by
  unfold ordV at h
  split at h
  · rename_i h1; exact ⟨h1, Option.some.inj h⟩
  · cases h
theorem v_dir (pc' : Nat) (X : CX p s m args meth c D A cc nL own) (hAm : AMB D A s) {index kd : Nat} {x : Int32} {host : String} (h : dirF kd = some x) (hlink : Cond.fieldLinkNest own index "DyeLattice$Kind" "directions" "I" host ∈ lw_tbl) (d : decode cc pc = .ok (.getfield index, 3)) (hp : pc + 3 = pc') (k : V p l e R s m args below meth c D A nL Q ws cells slots pc' lv (.int x :: st)) : V p l e R s m args below meth c D A nL Q ws cells slots pc lv (.ref (adK D kd) :: st) := by
  subst hp
  obtain ⟨h1, h2⟩ := dirF_s h
  subst h2
  intro H locs ls hP hD hS hl
  obtain ⟨cf, k0, fi, f, cell, z1, z2, z3, z4, z5, z6⟩ := ((hAm.2.1.1 kd h1).2.2.2).kept hS.2.1
  exact va_Wgetf X.hx X.hb X.hown (hAm.use hlink rfl rfl) z1 z2 z3 z4 (v := .int (nI (kd + 2))) z5 rfl rfl d (k H locs ls hP hD hS hl)
/-- arrays of references to the valves, by the constants' numbers -/
abbrev vArr (D : va_G) (f : Nat → Nat) : Nat → Option Nat := fun j => if f j < 5 then some (adV D (f j)) else none
abbrev kArr (D : va_G) (f : Nat → Nat) : Nat → Option Nat := fun j => some (adK D (f j))
def aldN (f : Nat → Nat) (n : Nat) (i : Int32) : Option Nat := if (i < 0 ∨ n ≤ i.toNatClampNeg) ∨ 5 ≤ f i.toNatClampNeg then none else some (f i.toNatClampNeg)
def updN (f : Nat → Nat) (k x : Nat) : Nat → Nat := fun j => if j = k then x else f j
def astN (f : Nat → Nat) (n : Nat) (i : Int32) (x : Nat) : Option (Nat → Nat) := if i < 0 ∨ n ≤ i.toNatClampNeg ∨ 5 ≤ x then none else some (updN f i.toNatClampNeg x)
theorem aldN_s {f : Nat → Nat} {n : Nat} {i : Int32} {x : Nat} (h : aldN f n i = some x) : vp_in i n ∧ f i.toNatClampNeg < 5 ∧ f i.toNatClampNeg = x := by
  unfold aldN at h
  split at h
  · cases h
  · rename_i h1
    exact ⟨fun z => h1 (Or.inl z), by omega, Option.some.inj h⟩
theorem astN_s {f g : Nat → Nat} {n : Nat} {i : Int32} {x : Nat} (h : astN f n i x = some g) : vp_in i n ∧ x < 5 ∧ updN f i.toNatClampNeg x = g := by
  unfold astN at h
  split at h
  · cases h
  · rename_i h1
    exact ⟨fun z => h1 (z.elim Or.inl (fun y => Or.inr (Or.inl y))), by omega, Option.some.inj h⟩
theorem vArr_upd (D : va_G) (f : Nat → Nat) (k x : Nat) (hx : x < 5) : va_up (vArr D f) k (some (adV D x)) = vArr D (updN f k x) := by
  funext j
  unfold va_up updN
  by_cases h : j = k
  · simp [vArr, h, hx]
  · simp [vArr, h]
theorem vArr_new (D : va_G) : (fun _ => none) = vArr D (fun _ => 5) := by
  funext j
  show none = if 5 < 5 then some (adV D 5) else none
  rw [if_neg (by decide)]
theorem v_aldV (pc' : Nat) (X : CX p s m args meth c D A cc nL own) (q0 : Nat) {a n x : Nat} {f : Nat → Nat} {i : Int32} (h : aldN f n i = some x) (ha : ws[q0]? = some (a, .inl (D.1 104, n, .inr (.inr (.inr (.inr (vArr D f))))))) (d : decode cc pc = .ok (.aaload, 1)) (hp : pc + 1 = pc') (k : V p l e R s m args below meth c D A nL Q ws cells slots pc' lv (.ref (adV D x) :: st)) : V p l e R s m args below meth c D A nL Q ws cells slots pc lv (.int i :: .ref a :: st) := by
  subst hp
  obtain ⟨h1, h3, h2⟩ := aldN_s h
  subst h2
  intro H locs ls hP hD hS hl
  refine va_aldq X.hx X.hb X.hK hP q0 4 ha rfl h1 d ?_
  have h4 : va_rf (vArr D f i.toNatClampNeg) = .ref (adV D (f i.toNatClampNeg)) := by
    show va_rf (if f i.toNatClampNeg < 5 then some (adV D (f i.toNatClampNeg)) else none) = _
    rw [if_pos h3]
    rfl
  rw [h4]
  exact k H locs ls hP hD hS hl
theorem vany {D : va_G} {A : Nat → Prop} {s : State} {H : Heap} {locs : List Loc} (hAm : AMB D A s) (hS : va_S A s.heap H locs) {v : Nat} (hv : v < 5) : va_Any "DyeLattice$Valve" s H (adV D v) := by
  obtain ⟨cell, h1, h2, h3, -⟩ := (hAm.2.2.1.1 v hv).2.1.kept hS.2.1
  obtain ⟨kC, hkC, -⟩ := Vm.findClass_spec h3
  refine ⟨cell, h1, h2, ⟨kC, hkC⟩, fun comp h => ?_⟩
  have hc : va_Nw (.castable (vCl.getD v "") "DyeLattice$Valve") s := by
    rcases (show v = 0 ∨ v = 1 ∨ v = 2 ∨ v = 3 ∨ v = 4 by omega) with rfl | rfl | rfl | rfl | rfl
    · exact hAm.nw qc1564 rfl
    · exact hAm.nw qc1565 rfl
    · exact hAm.nw qc1566 rfl
    · exact hAm.nw qc1567 rfl
    · exact hAm.nw qc1568 rfl
  exact vb_asgC hc _ _ h h3
theorem v_astV (pc' : Nat) (ws' : va_W) (X : CX p s m args meth c D A cc nL own) (hAm : AMB D A s) (q0 : Nat) {a n x : Nat} {f g : Nat → Nat} {i : Int32} (h : astN f n i x = some g) (ha : ws[q0]? = some (a, .inl (D.1 104, n, .inr (.inr (.inr (.inr (vArr D f))))))) (d : decode cc pc = .ok (.aastore, 1)) (hp : pc + 1 = pc') (hw : ws.set q0 (a, .inl (D.1 104, n, .inr (.inr (.inr (.inr (vArr D g)))))) = ws') (k : V p l e R s m args below meth c D A nL Q ws' cells slots pc' lv st) : V p l e R s m args below meth c D A nL Q ws cells slots pc lv (.ref (adV D x) :: .int i :: .ref a :: st) := by
  subst hp
  subst hw
  obtain ⟨h1, h2, h3⟩ := astN_s h
  subst h3
  refine fun H locs ls hP hD hS hl => va_astqM X.hx X.hb X.hK hP hD hS q0 4 ha rfl (vany hAm hS h2) h1 d (fun H1 locs1 hP hD hS => ?_)
  rw [vArr_upd _ _ _ _ h2] at hP hD
  exact k H1 locs1 ls hP hD hS hl
/-- comparing valves by reference -/
def eqV (x y : Nat) : Option Bool := if x < 5 ∧ y < 5 then some (decide (x = y)) else none
theorem eqV_s {x y : Nat} {b : Bool} (h : eqV x y = some b) : (x < 5 ∧ y < 5) ∧ decide (x = y) = b := by
  unfold eqV at h
  split at h
  · rename_i h1; exact ⟨h1, Option.some.inj h⟩
  · cases h
theorem v_acmpV_eq (pc' tgt : Nat) (X : CX p s m args meth c D A cc nL own) (hAm : AMB D A s) {x y : Nat} {b : Bool} {off : Int} (h : eqV x y = some b) (d : decode cc pc = .ok (.if_acmp .eq off, 3)) (hp : pc + 3 = pc') (ht : (pc : Int) + off = (tgt : Int)) (kt : b = true → V p l e R s m args below meth c D A nL Q ws cells slots tgt lv st) (kf : ¬ b = true → V p l e R s m args below meth c D A nL Q ws cells slots pc' lv st) : V p l e R s m args below meth c D A nL Q ws cells slots pc lv (.ref (adV D y) :: .ref (adV D x) :: st) := by
  subst hp
  obtain ⟨h1, h2⟩ := eqV_s h
  subst h2
  exact fun H locs ls hP hD hS hl => lv_acmp_eq (rx := some (adV D x)) (ry := some (adV D y)) X.hx X.hb d ht (fun z => kt (decide_eq_true (hAm.2.2.1.2 _ _ h1.1 h1.2 (Option.some.inj z))) H locs ls hP hD hS hl) (fun z => kf (fun y0 => z (by rw [of_decide_eq_true y0])) H locs ls hP hD hS hl)
theorem v_acmpV_ne (pc' tgt : Nat) (X : CX p s m args meth c D A cc nL own) (hAm : AMB D A s) {x y : Nat} {b : Bool} {off : Int} (h : eqV x y = some b) (d : decode cc pc = .ok (.if_acmp .ne off, 3)) (hp : pc + 3 = pc') (ht : (pc : Int) + off = (tgt : Int)) (kt : ¬ b = true → V p l e R s m args below meth c D A nL Q ws cells slots tgt lv st) (kf : b = true → V p l e R s m args below meth c D A nL Q ws cells slots pc' lv st) : V p l e R s m args below meth c D A nL Q ws cells slots pc lv (.ref (adV D y) :: .ref (adV D x) :: st) := by
  subst hp
  obtain ⟨h1, h2⟩ := eqV_s h
  subst h2
  exact fun H locs ls hP hD hS hl => lv_acmp_ne (rx := some (adV D x)) (ry := some (adV D y)) X.hx X.hb d ht (fun z => kt (fun y0 => z (by rw [of_decide_eq_true y0])) H locs ls hP hD hS hl) (fun z => kf (decide_eq_true (hAm.2.2.1.2 _ _ h1.1 h1.2 (Option.some.inj z))) H locs ls hP hD hS hl)
theorem v_nSi (pc' : Nat) (X : CX p s m args meth c D A cc nL own) (hAm : AMB D A s) {y : MethodName} {b : ByteArray} {L index : Nat} {r : Option FieldType} {rm : Room} {host : String} {Xp : (Nat → Prop) → State → Prop} {r0 : Int32} {u0 : va_W} (n : Nat) (As : List Value) {rest : List Value} (hM : CTi l y b L r rm D ws As Xp (fun (r1 : Int32) u => r1 = r0 ∧ u = u0)) (h1 : Cond.methodLinkNest own index y host ∈ lw_tbl) (h2 : Cond.static y ∈ lw_all) (h4 : Cond.initialized y.cls ∈ lw_all) (h5 : Cond.code y b L r ∈ lw_all) (hd : y.cls ≠ "java/lang/invoke/MethodHandle" ∧ y.cls ≠ "java/lang/invoke/VarHandle" ∧ (parseMethodDescriptor y.desc).map (fun d => d.parameters.length) = some n) (hX : Pass Xp s A) (hz : rm.cells = 0 ∧ rm.slots = 0) (hroom : rm.frames + 1 ≤ R.frames ∧ 8 + (L + 11) + rm.locals ≤ R.locals) (hcs : cells + 0 ≤ R.cells ∧ slots + 0 ≤ R.slots) (hnA : As.length = n) (hst : st = As.reverse ++ rest) (hrest : (rest.map fun v => v.category).sum ≤ 8) (d : decode cc pc = .ok (.invokestatic index, 3)) (hp : pc + 3 = pc') (k : V p l e R s m args below meth c D A nL Q u0 cells slots pc' lv (.int r0 :: rest)) : V p l e R s m args below meth c D A nL Q ws cells slots pc lv st := by
  subst hp
  subst hst
  intro H locs ls hP hD hS hl
  have hDc : va_D (fun _ => True) ws := hD.weaken (fun _ _ _ _ => trivial)
  have hFc := whole_free hD hS X.hA
  refine va_calli (va_runSN (As := As) (rest := rest) ⟨X.hx, X.hb, X.hml, X.hown, X.hts⟩ (hM H.size) ⟨va_cnB n X.hts (lw_meth h5) rfl rfl rfl (hAm.nw h1 rfl) (X.hts _ h4) hd hroom, X.hts _ h2, trivial⟩ ⟨pre_blind hX.1, fun U hU hW => ⟨rfl, by rw [hU], by rw [hU]; exact hP, va_K.moved hW.alike X.hK, hDc, hX.2 _ H locs U hFc hS hU hW⟩⟩ rfl hnA hl.1 rfl (lv_room hrest) d ⟨by rw [hz.1]; exact hcs.1, by rw [hz.2]; exact hcs.2⟩) hS (fun q _ h => hFc q h) hFc (fun r1 u t H1 locs1 ht hvm hpo hB hz1 hk1 hS1 => ?_)
  obtain ⟨hP1, hD1⟩ := hB
  rw [ht] at hP1
  rw [hz.1, hz.2]
  obtain ⟨rfl, rfl⟩ := hpo
  exact k H1 locs1 ls hP1 (hD1.weaken (fun _ _ _ h => hFc _ h)) hS1 hl
theorem v_nSv (pc' : Nat) (X : CX p s m args meth c D A cc nL own) (hAm : AMB D A s) {y : MethodName} {b : ByteArray} {L index : Nat} {r : Option FieldType} {rm : Room} {host : String} {Xp : (Nat → Prop) → State → Prop} {u0 : va_W} (n : Nat) (As : List Value) {rest : List Value} (hM : CTv l y b L r rm D ws As Xp (fun u => u = u0)) (h1 : Cond.methodLinkNest own index y host ∈ lw_tbl) (h2 : Cond.static y ∈ lw_all) (h4 : Cond.initialized y.cls ∈ lw_all) (h5 : Cond.code y b L r ∈ lw_all) (hd : y.cls ≠ "java/lang/invoke/MethodHandle" ∧ y.cls ≠ "java/lang/invoke/VarHandle" ∧ (parseMethodDescriptor y.desc).map (fun d => d.parameters.length) = some n) (hX : Pass Xp s A) (hz : rm.cells = 0 ∧ rm.slots = 0) (hroom : rm.frames + 1 ≤ R.frames ∧ 8 + (L + 11) + rm.locals ≤ R.locals) (hcs : cells + 0 ≤ R.cells ∧ slots + 0 ≤ R.slots) (hnA : As.length = n) (hst : st = As.reverse ++ rest) (hrest : (rest.map fun v => v.category).sum ≤ 8) (d : decode cc pc = .ok (.invokestatic index, 3)) (hp : pc + 3 = pc') (k : V p l e R s m args below meth c D A nL Q u0 cells slots pc' lv rest) : V p l e R s m args below meth c D A nL Q ws cells slots pc lv st := by
  subst hp
  subst hst
  intro H locs ls hP hD hS hl
  have hDc : va_D (fun _ => True) ws := hD.weaken (fun _ _ _ _ => trivial)
  have hFc := whole_free hD hS X.hA
  refine va_callv (va_runSN (As := As) (rest := rest) ⟨X.hx, X.hb, X.hml, X.hown, X.hts⟩ (hM H.size) ⟨va_cnB n X.hts (lw_meth h5) rfl rfl rfl (hAm.nw h1 rfl) (X.hts _ h4) hd hroom, X.hts _ h2, trivial⟩ ⟨pre_blind hX.1, fun U hU hW => ⟨rfl, by rw [hU], by rw [hU]; exact hP, va_K.moved hW.alike X.hK, hDc, hX.2 _ H locs U hFc hS hU hW⟩⟩ rfl hnA hl.1 rfl (lv_room hrest) d ⟨by rw [hz.1]; exact hcs.1, by rw [hz.2]; exact hcs.2⟩) hS (fun q _ h => hFc q h) hFc (fun u t H1 locs1 ht hvm hpo hB hz1 hk1 hS1 => ?_)
  obtain ⟨hP1, hD1⟩ := hB
  rw [ht] at hP1
  rw [hz.1, hz.2]
  subst hpo
  exact k H1 locs1 ls hP1 (hD1.weaken (fun _ _ _ h => hFc _ h)) hS1 hl
end VA
