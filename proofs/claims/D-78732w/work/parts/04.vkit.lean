/-! THE JUDGEMENT V: W with the world, the locals and the stack as data; heap, places written and locals' array are hidden. -/
set_option maxRecDepth 100000
abbrev VW : Type := List (Nat × Value)
def V (p : Program) (l : Launch) (e : Env) (R : Room) (s : State) (m : MethodId) (args : Array Value) (below : List Frame) (meth : Method) (c : Code) (D : va_G) (A : Nat → Prop) (nL : Nat) (Q : State → Prop) (ws : va_W) (cells slots : Nat) (pc : Nat) (lv : VW) (st : List Value) : Prop :=
  ∀ (H : Heap) (locs : List Loc) (ls : Array Slot), va_P D CL ws H → va_D A ws → va_S A s.heap H locs → lv_has ls nL lv → W p l e R s m args below meth c H locs cells slots Q (F0 m pc ls st)
/-- what is fixed in a method's run -/
def CX (p : Program) (s : State) (m : MethodId) (args : Array Value) (meth : Method) (c : Code) (D : va_G) (A : Nat → Prop) (cc : ByteArray) (nL : Nat) (own : String) : Prop :=
  p.tables.exec = Jvm.exec ∧ c.code = cc ∧ c.maxLocals = nL ∧ s.vm.findClass own = some m.cls ∧ (∀ w ∈ lw_all, w.before args s = true) ∧ va_K D CL (TYS D) s ∧ (∀ q : Nat, s.heap.size ≤ q → A q) ∧ meth.locks = false
section VK
variable {p : Program} {l : Launch} {e : Env} {R : Room} {s : State} {m : MethodId} {args : Array Value} {below : List Frame} {meth : Method} {c : Code} {D : va_G} {A : Nat → Prop} {cells slots : Nat} {Q : State → Prop} {cc : ByteArray} {nL : Nat} {own : String} {ws : va_W} {pc : Nat} {lv : VW} {st : List Value}
theorem CX.hx (X : CX p s m args meth c D A cc nL own) : p.tables.exec = Jvm.exec := X.1
theorem CX.hb (X : CX p s m args meth c D A cc nL own) : c.code = cc := X.2.1
theorem CX.hml (X : CX p s m args meth c D A cc nL own) : c.maxLocals = nL := X.2.2.1
theorem CX.hown (X : CX p s m args meth c D A cc nL own) : s.vm.findClass own = some m.cls := X.2.2.2.1
theorem CX.hts (X : CX p s m args meth c D A cc nL own) : ∀ w ∈ lw_all, w.before args s = true := X.2.2.2.2.1
theorem CX.hK (X : CX p s m args meth c D A cc nL own) : va_K D CL (TYS D) s := X.2.2.2.2.2.1
theorem CX.hA (X : CX p s m args meth c D A cc nL own) : ∀ q : Nat, s.heap.size ≤ q → A q := X.2.2.2.2.2.2.1
theorem CX.hlk (X : CX p s m args meth c D A cc nL own) : meth.locks = false := X.2.2.2.2.2.2.2
theorem v_lv {lv' : VW} (ks : List Nat) (h : lv_pick lv ks = lv') (k : V p l e R s m args below meth c D A nL Q ws cells slots pc lv' st) : V p l e R s m args below meth c D A nL Q ws cells slots pc lv st :=
  fun H locs ls hP hD hS hl => k H locs ls hP hD hS (lv_sub hl ks h)
theorem pc_sub {ws wc : va_W} {H : Heap} {D : va_G} (isC : List Nat) (hC : isC.map (fun i => ws[i]?) = wc.map some) (hP : va_P D CL ws H) : va_P D CL wc H := by
  intro k q hk
  have h1 : (isC.map (fun i => ws[i]?))[k]? = some (some q) := by rw [hC, List.getElem?_map, hk]; rfl
  rw [List.getElem?_map] at h1
  cases h2 : isC[k]? with
  | none => rw [h2] at h1; cases h1
  | some i =>
    rw [h2] at h1
    exact hP i q (Option.some.inj h1)
theorem v_ws {ws' : va_W} (ks : List Nat) (hn : va_nd ks = true) (h : ks.map (fun i => ws[i]?) = ws'.map some) (k : V p l e R s m args below meth c D A nL Q ws' cells slots pc lv st) : V p l e R s m args below meth c D A nL Q ws cells slots pc lv st :=
  fun H locs ls hP hD hS hl => k H locs ls (pc_sub ks h hP) (hD.sub ks hn h) hS hl
theorem v_widen {c1 s1 : Nat} (h1 : cells ≤ c1) (h2 : slots ≤ s1) (k : V p l e R s m args below meth c D A nL Q ws c1 s1 pc lv st) : V p l e R s m args below meth c D A nL Q ws cells slots pc lv st :=
  fun H locs ls hP hD hS hl => W.widen h1 h2 (k H locs ls hP hD hS hl)

theorem v_iconst (pc' : Nat) (X : CX p s m args meth c D A cc nL own) {n : Int} {v : Int32} (d : decode cc pc = .ok (.iconst n, 1)) (hp : pc + 1 = pc') (hv : Int32.ofInt n = v) (k : V p l e R s m args below meth c D A nL Q ws cells slots pc' lv (.int v :: st)) : V p l e R s m args below meth c D A nL Q ws cells slots pc lv st := by
  subst hp
  exact fun H locs ls hP hD hS hl => lv_iconst X.hx X.hb d hv (k H locs ls hP hD hS hl)
theorem v_bipush (pc' : Nat) (X : CX p s m args meth c D A cc nL own) {n : Int} {v : Int32} (d : decode cc pc = .ok (.bipush n, 2)) (hp : pc + 2 = pc') (hv : (Int8.ofInt n).toInt32 = v) (k : V p l e R s m args below meth c D A nL Q ws cells slots pc' lv (.int v :: st)) : V p l e R s m args below meth c D A nL Q ws cells slots pc lv st := by
  subst hp
  exact fun H locs ls hP hD hS hl => lv_bipush X.hx X.hb d hv (k H locs ls hP hD hS hl)
theorem v_sipush (pc' : Nat) (X : CX p s m args meth c D A cc nL own) {n : Int} {v : Int32} (d : decode cc pc = .ok (.sipush n, 3)) (hp : pc + 3 = pc') (hv : (Int16.ofInt n).toInt32 = v) (k : V p l e R s m args below meth c D A nL Q ws cells slots pc' lv (.int v :: st)) : V p l e R s m args below meth c D A nL Q ws cells slots pc lv st := by
  subst hp
  exact fun H locs ls hP hD hS hl => lv_sipush X.hx X.hb d hv (k H locs ls hP hD hS hl)
theorem v_lconst (pc' : Nat) (X : CX p s m args meth c D A cc nL own) {n : Fin 2} {v : Int64} (d : decode cc pc = .ok (.lconst n, 1)) (hp : pc + 1 = pc') (hv : Int64.ofNat (n : Nat) = v) (k : V p l e R s m args below meth c D A nL Q ws cells slots pc' lv (.long v :: st)) : V p l e R s m args below meth c D A nL Q ws cells slots pc lv st := by
  subst hp
  exact fun H locs ls hP hD hS hl => lv_lconst X.hx X.hb d hv (k H locs ls hP hD hS hl)
theorem v_iload_n (pc' : Nat) (X : CX p s m args meth c D A cc nL own) (j : Nat) {k0 : Fin 4} {i : Nat} {x : Int32} (d : decode cc pc = .ok (.iload_n k0, 1)) (hp : pc + 1 = pc') (hi : (k0 : Nat) = i) (h : lv[j]? = some (i, .int x)) (k : V p l e R s m args below meth c D A nL Q ws cells slots pc' lv (.int x :: st)) : V p l e R s m args below meth c D A nL Q ws cells slots pc lv st := by
  subst hp
  exact fun H locs ls hP hD hS hl => lv_iload_n X.hx X.hb d hi (lv_at hl j h) (k H locs ls hP hD hS hl)
theorem v_iload (pc' : Nat) (X : CX p s m args meth c D A cc nL own) (j : Nat) {i : Nat} {x : Int32} (d : decode cc pc = .ok (.iload i, 2)) (hp : pc + 2 = pc') (h : lv[j]? = some (i, .int x)) (k : V p l e R s m args below meth c D A nL Q ws cells slots pc' lv (.int x :: st)) : V p l e R s m args below meth c D A nL Q ws cells slots pc lv st := by
  subst hp
  exact fun H locs ls hP hD hS hl => lv_iload X.hx X.hb d (lv_at hl j h) (k H locs ls hP hD hS hl)
theorem v_istore_n (pc' : Nat) (lv' : VW) (X : CX p s m args meth c D A cc nL own) {k0 : Fin 4} {i : Nat} {x : Int32} (d : decode cc pc = .ok (.istore_n k0, 1)) (hp : pc + 1 = pc') (hi : (k0 : Nat) = i) (hn : i < nL) (h : (i, Value.int x) :: lv.filter (fun q => !(q.1 == i) && !(q.1 + 1 == i && q.2.category == 2)) = lv') (k : V p l e R s m args below meth c D A nL Q ws cells slots pc' lv' st) : V p l e R s m args below meth c D A nL Q ws cells slots pc lv (.int x :: st) := by
  subst hp
  exact fun H locs ls hP hD hS hl => lv_istore_n X.hx X.hb d hi hl hn h (fun ls' hl' => k H locs ls' hP hD hS hl')
theorem v_istore (pc' : Nat) (lv' : VW) (X : CX p s m args meth c D A cc nL own) {i : Nat} {x : Int32} (d : decode cc pc = .ok (.istore i, 2)) (hp : pc + 2 = pc') (hn : i < nL) (h : (i, Value.int x) :: lv.filter (fun q => !(q.1 == i) && !(q.1 + 1 == i && q.2.category == 2)) = lv') (k : V p l e R s m args below meth c D A nL Q ws cells slots pc' lv' st) : V p l e R s m args below meth c D A nL Q ws cells slots pc lv (.int x :: st) := by
  subst hp
  exact fun H locs ls hP hD hS hl => lv_istore X.hx X.hb d hl hn h (fun ls' hl' => k H locs ls' hP hD hS hl')
theorem v_lload_n (pc' : Nat) (X : CX p s m args meth c D A cc nL own) (j : Nat) {k0 : Fin 4} {i : Nat} {x : Int64} (d : decode cc pc = .ok (.lload_n k0, 1)) (hp : pc + 1 = pc') (hi : (k0 : Nat) = i) (h : lv[j]? = some (i, .long x)) (k : V p l e R s m args below meth c D A nL Q ws cells slots pc' lv (.long x :: st)) : V p l e R s m args below meth c D A nL Q ws cells slots pc lv st := by
  subst hp
  exact fun H locs ls hP hD hS hl => lv_lload_n X.hx X.hb d hi (lv_at hl j h) (k H locs ls hP hD hS hl)
theorem v_lload (pc' : Nat) (X : CX p s m args meth c D A cc nL own) (j : Nat) {i : Nat} {x : Int64} (d : decode cc pc = .ok (.lload i, 2)) (hp : pc + 2 = pc') (h : lv[j]? = some (i, .long x)) (k : V p l e R s m args below meth c D A nL Q ws cells slots pc' lv (.long x :: st)) : V p l e R s m args below meth c D A nL Q ws cells slots pc lv st := by
  subst hp
  exact fun H locs ls hP hD hS hl => lv_lload X.hx X.hb d (lv_at hl j h) (k H locs ls hP hD hS hl)
theorem v_lstore_n (pc' : Nat) (lv' : VW) (X : CX p s m args meth c D A cc nL own) {k0 : Fin 4} {i : Nat} {x : Int64} (d : decode cc pc = .ok (.lstore_n k0, 1)) (hp : pc + 1 = pc') (hi : (k0 : Nat) = i) (hn : i + 1 < nL) (h : (i, Value.long x) :: lv.filter (fun q => !(q.1 == i) && (!(q.1 == i + 1) && !(q.1 + 1 == i && q.2.category == 2))) = lv') (k : V p l e R s m args below meth c D A nL Q ws cells slots pc' lv' st) : V p l e R s m args below meth c D A nL Q ws cells slots pc lv (.long x :: st) := by
  subst hp
  exact fun H locs ls hP hD hS hl => lv_lstore_n X.hx X.hb d hi hl hn h (fun ls' hl' => k H locs ls' hP hD hS hl')
theorem v_lstore (pc' : Nat) (lv' : VW) (X : CX p s m args meth c D A cc nL own) {i : Nat} {x : Int64} (d : decode cc pc = .ok (.lstore i, 2)) (hp : pc + 2 = pc') (hn : i + 1 < nL) (h : (i, Value.long x) :: lv.filter (fun q => !(q.1 == i) && (!(q.1 == i + 1) && !(q.1 + 1 == i && q.2.category == 2))) = lv') (k : V p l e R s m args below meth c D A nL Q ws cells slots pc' lv' st) : V p l e R s m args below meth c D A nL Q ws cells slots pc lv (.long x :: st) := by
  subst hp
  exact fun H locs ls hP hD hS hl => lv_lstore X.hx X.hb d hl hn h (fun ls' hl' => k H locs ls' hP hD hS hl')
theorem v_aload_n (pc' : Nat) (X : CX p s m args meth c D A cc nL own) (j : Nat) {k0 : Fin 4} {i : Nat} {x : Nat} (d : decode cc pc = .ok (.aload_n k0, 1)) (hp : pc + 1 = pc') (hi : (k0 : Nat) = i) (h : lv[j]? = some (i, .ref x)) (k : V p l e R s m args below meth c D A nL Q ws cells slots pc' lv (.ref x :: st)) : V p l e R s m args below meth c D A nL Q ws cells slots pc lv st := by
  subst hp
  exact fun H locs ls hP hD hS hl => lv_aload_n X.hx X.hb d hi (lv_at hl j h) (k H locs ls hP hD hS hl)
theorem v_aload (pc' : Nat) (X : CX p s m args meth c D A cc nL own) (j : Nat) {i : Nat} {x : Nat} (d : decode cc pc = .ok (.aload i, 2)) (hp : pc + 2 = pc') (h : lv[j]? = some (i, .ref x)) (k : V p l e R s m args below meth c D A nL Q ws cells slots pc' lv (.ref x :: st)) : V p l e R s m args below meth c D A nL Q ws cells slots pc lv st := by
  subst hp
  exact fun H locs ls hP hD hS hl => lv_aload X.hx X.hb d (lv_at hl j h) (k H locs ls hP hD hS hl)
theorem v_astore_n (pc' : Nat) (lv' : VW) (X : CX p s m args meth c D A cc nL own) {k0 : Fin 4} {i : Nat} {x : Nat} (d : decode cc pc = .ok (.astore_n k0, 1)) (hp : pc + 1 = pc') (hi : (k0 : Nat) = i) (hn : i < nL) (h : (i, Value.ref x) :: lv.filter (fun q => !(q.1 == i) && !(q.1 + 1 == i && q.2.category == 2)) = lv') (k : V p l e R s m args below meth c D A nL Q ws cells slots pc' lv' st) : V p l e R s m args below meth c D A nL Q ws cells slots pc lv (.ref x :: st) := by
  subst hp
  exact fun H locs ls hP hD hS hl => lv_astore_n X.hx X.hb d hi hl hn h (fun ls' hl' => k H locs ls' hP hD hS hl')
theorem v_astore (pc' : Nat) (lv' : VW) (X : CX p s m args meth c D A cc nL own) {i : Nat} {x : Nat} (d : decode cc pc = .ok (.astore i, 2)) (hp : pc + 2 = pc') (hn : i < nL) (h : (i, Value.ref x) :: lv.filter (fun q => !(q.1 == i) && !(q.1 + 1 == i && q.2.category == 2)) = lv') (k : V p l e R s m args below meth c D A nL Q ws cells slots pc' lv' st) : V p l e R s m args below meth c D A nL Q ws cells slots pc lv (.ref x :: st) := by
  subst hp
  exact fun H locs ls hP hD hS hl => lv_astore X.hx X.hb d hl hn h (fun ls' hl' => k H locs ls' hP hD hS hl')
theorem v_iinc (pc' : Nat) (lv' : VW) (X : CX p s m args meth c D A cc nL own) (j : Nat) {i : Nat} {n : Int} {x v : Int32} (d : decode cc pc = .ok (.iinc i n, 3)) (hp : pc + 3 = pc') (h : lv[j]? = some (i, .int x)) (hv : x + Int32.ofInt n = v) (hn : i < nL) (hl' : (i, Value.int v) :: lv.filter (fun q => !(q.1 == i) && !(q.1 + 1 == i && q.2.category == 2)) = lv') (k : V p l e R s m args below meth c D A nL Q ws cells slots pc' lv' st) : V p l e R s m args below meth c D A nL Q ws cells slots pc lv st := by
  subst hp
  exact fun H locs ls hP hD hS hl => lv_iinc X.hx X.hb d hl h hv hn hl' (fun ls' hl' => k H locs ls' hP hD hS hl')
theorem v_iadd (pc' : Nat) (X : CX p s m args meth c D A cc nL own) {x y : Int32} (d : decode cc pc = .ok (.iadd, 1)) (hp : pc + 1 = pc') (k : V p l e R s m args below meth c D A nL Q ws cells slots pc' lv (.int (x + y) :: st)) : V p l e R s m args below meth c D A nL Q ws cells slots pc lv (.int y :: .int x :: st) := by
  subst hp
  exact fun H locs ls hP hD hS hl => lv_iadd X.hx X.hb d (k H locs ls hP hD hS hl)
theorem v_isub (pc' : Nat) (X : CX p s m args meth c D A cc nL own) {x y : Int32} (d : decode cc pc = .ok (.isub, 1)) (hp : pc + 1 = pc') (k : V p l e R s m args below meth c D A nL Q ws cells slots pc' lv (.int (x - y) :: st)) : V p l e R s m args below meth c D A nL Q ws cells slots pc lv (.int y :: .int x :: st) := by
  subst hp
  exact fun H locs ls hP hD hS hl => lv_isub X.hx X.hb d (k H locs ls hP hD hS hl)
theorem v_imul (pc' : Nat) (X : CX p s m args meth c D A cc nL own) {x y : Int32} (d : decode cc pc = .ok (.imul, 1)) (hp : pc + 1 = pc') (k : V p l e R s m args below meth c D A nL Q ws cells slots pc' lv (.int (x * y) :: st)) : V p l e R s m args below meth c D A nL Q ws cells slots pc lv (.int y :: .int x :: st) := by
  subst hp
  exact fun H locs ls hP hD hS hl => lv_imul X.hx X.hb d (k H locs ls hP hD hS hl)
theorem v_iand (pc' : Nat) (X : CX p s m args meth c D A cc nL own) {x y : Int32} (d : decode cc pc = .ok (.iand, 1)) (hp : pc + 1 = pc') (k : V p l e R s m args below meth c D A nL Q ws cells slots pc' lv (.int (x &&& y) :: st)) : V p l e R s m args below meth c D A nL Q ws cells slots pc lv (.int y :: .int x :: st) := by
  subst hp
  exact fun H locs ls hP hD hS hl => lv_iand X.hx X.hb d (k H locs ls hP hD hS hl)
theorem v_ior (pc' : Nat) (X : CX p s m args meth c D A cc nL own) {x y : Int32} (d : decode cc pc = .ok (.ior, 1)) (hp : pc + 1 = pc') (k : V p l e R s m args below meth c D A nL Q ws cells slots pc' lv (.int (x ||| y) :: st)) : V p l e R s m args below meth c D A nL Q ws cells slots pc lv (.int y :: .int x :: st) := by
  subst hp
  exact fun H locs ls hP hD hS hl => lv_ior X.hx X.hb d (k H locs ls hP hD hS hl)
theorem v_ixor (pc' : Nat) (X : CX p s m args meth c D A cc nL own) {x y : Int32} (d : decode cc pc = .ok (.ixor, 1)) (hp : pc + 1 = pc') (k : V p l e R s m args below meth c D A nL Q ws cells slots pc' lv (.int (x ^^^ y) :: st)) : V p l e R s m args below meth c D A nL Q ws cells slots pc lv (.int y :: .int x :: st) := by
  subst hp
  exact fun H locs ls hP hD hS hl => lv_ixor X.hx X.hb d (k H locs ls hP hD hS hl)
theorem v_ishl (pc' : Nat) (X : CX p s m args meth c D A cc nL own) {x y : Int32} (d : decode cc pc = .ok (.ishl, 1)) (hp : pc + 1 = pc') (k : V p l e R s m args below meth c D A nL Q ws cells slots pc' lv (.int (x <<< (y &&& 31)) :: st)) : V p l e R s m args below meth c D A nL Q ws cells slots pc lv (.int y :: .int x :: st) := by
  subst hp
  exact fun H locs ls hP hD hS hl => lv_ishl X.hx X.hb d (k H locs ls hP hD hS hl)
theorem v_ishr (pc' : Nat) (X : CX p s m args meth c D A cc nL own) {x y : Int32} (d : decode cc pc = .ok (.ishr, 1)) (hp : pc + 1 = pc') (k : V p l e R s m args below meth c D A nL Q ws cells slots pc' lv (.int (x >>> (y &&& 31)) :: st)) : V p l e R s m args below meth c D A nL Q ws cells slots pc lv (.int y :: .int x :: st) := by
  subst hp
  exact fun H locs ls hP hD hS hl => lv_ishr X.hx X.hb d (k H locs ls hP hD hS hl)
theorem v_iushr (pc' : Nat) (X : CX p s m args meth c D A cc nL own) {x y : Int32} (d : decode cc pc = .ok (.iushr, 1)) (hp : pc + 1 = pc') (k : V p l e R s m args below meth c D A nL Q ws cells slots pc' lv (.int (x.toUInt32 >>> (y.toUInt32 &&& Int32.toUInt32 31)).toInt32 :: st)) : V p l e R s m args below meth c D A nL Q ws cells slots pc lv (.int y :: .int x :: st) := by
  subst hp
  exact fun H locs ls hP hD hS hl => lv_iushr X.hx X.hb d rfl (k H locs ls hP hD hS hl)
theorem v_ladd (pc' : Nat) (X : CX p s m args meth c D A cc nL own) {x y : Int64} (d : decode cc pc = .ok (.ladd, 1)) (hp : pc + 1 = pc') (k : V p l e R s m args below meth c D A nL Q ws cells slots pc' lv (.long (x + y) :: st)) : V p l e R s m args below meth c D A nL Q ws cells slots pc lv (.long y :: .long x :: st) := by
  subst hp
  exact fun H locs ls hP hD hS hl => lv_ladd X.hx X.hb d (k H locs ls hP hD hS hl)
theorem v_lsub (pc' : Nat) (X : CX p s m args meth c D A cc nL own) {x y : Int64} (d : decode cc pc = .ok (.lsub, 1)) (hp : pc + 1 = pc') (k : V p l e R s m args below meth c D A nL Q ws cells slots pc' lv (.long (x - y) :: st)) : V p l e R s m args below meth c D A nL Q ws cells slots pc lv (.long y :: .long x :: st) := by
  subst hp
  exact fun H locs ls hP hD hS hl => lv_lsub X.hx X.hb d (k H locs ls hP hD hS hl)
theorem v_lmul (pc' : Nat) (X : CX p s m args meth c D A cc nL own) {x y : Int64} (d : decode cc pc = .ok (.lmul, 1)) (hp : pc + 1 = pc') (k : V p l e R s m args below meth c D A nL Q ws cells slots pc' lv (.long (x * y) :: st)) : V p l e R s m args below meth c D A nL Q ws cells slots pc lv (.long y :: .long x :: st) := by
  subst hp
  exact fun H locs ls hP hD hS hl => lv_lmul X.hx X.hb d (k H locs ls hP hD hS hl)
theorem v_ineg (pc' : Nat) (X : CX p s m args meth c D A cc nL own) {x : Int32} (d : decode cc pc = .ok (.ineg, 1)) (hp : pc + 1 = pc') (k : V p l e R s m args below meth c D A nL Q ws cells slots pc' lv (.int (-x) :: st)) : V p l e R s m args below meth c D A nL Q ws cells slots pc lv (.int x :: st) := by
  subst hp
  exact fun H locs ls hP hD hS hl => lv_ineg X.hx X.hb d (k H locs ls hP hD hS hl)
theorem v_lcmp (pc' : Nat) (X : CX p s m args meth c D A cc nL own) {x y : Int64} (d : decode cc pc = .ok (.lcmp, 1)) (hp : pc + 1 = pc') (k : V p l e R s m args below meth c D A nL Q ws cells slots pc' lv (.int (lg_cmp x y) :: st)) : V p l e R s m args below meth c D A nL Q ws cells slots pc lv (.long y :: .long x :: st) := by
  subst hp
  exact fun H locs ls hP hD hS hl => W.lcmp X.hx X.hb d (k H locs ls hP hD hS hl)
theorem v_i2l (pc' : Nat) (X : CX p s m args meth c D A cc nL own) {x : Int32} (d : decode cc pc = .ok (.i2l, 1)) (hp : pc + 1 = pc') (k : V p l e R s m args below meth c D A nL Q ws cells slots pc' lv (.long x.toInt64 :: st)) : V p l e R s m args below meth c D A nL Q ws cells slots pc lv (.int x :: st) := by
  subst hp
  exact fun H locs ls hP hD hS hl => lv_i2l X.hx X.hb d rfl (k H locs ls hP hD hS hl)
theorem v_l2i (pc' : Nat) (X : CX p s m args meth c D A cc nL own) {x : Int64} (d : decode cc pc = .ok (.l2i, 1)) (hp : pc + 1 = pc') (k : V p l e R s m args below meth c D A nL Q ws cells slots pc' lv (.int x.toInt32 :: st)) : V p l e R s m args below meth c D A nL Q ws cells slots pc lv (.long x :: st) := by
  subst hp
  exact fun H locs ls hP hD hS hl => lv_l2i X.hx X.hb d rfl (k H locs ls hP hD hS hl)
theorem v_i2b (pc' : Nat) (X : CX p s m args meth c D A cc nL own) {x : Int32} (d : decode cc pc = .ok (.i2b, 1)) (hp : pc + 1 = pc') (k : V p l e R s m args below meth c D A nL Q ws cells slots pc' lv (.int x.toInt8.toInt32 :: st)) : V p l e R s m args below meth c D A nL Q ws cells slots pc lv (.int x :: st) := by
  subst hp
  exact fun H locs ls hP hD hS hl => lv_i2b X.hx X.hb d rfl (k H locs ls hP hD hS hl)
theorem v_i2c (pc' : Nat) (X : CX p s m args meth c D A cc nL own) {x : Int32} (d : decode cc pc = .ok (.i2c, 1)) (hp : pc + 1 = pc') (k : V p l e R s m args below meth c D A nL Q ws cells slots pc' lv (.int (x.toUInt32 % 65536).toInt32 :: st)) : V p l e R s m args below meth c D A nL Q ws cells slots pc lv (.int x :: st) := by
  subst hp
  exact fun H locs ls hP hD hS hl => lv_i2c X.hx X.hb d rfl (k H locs ls hP hD hS hl)
theorem v_dup (pc' : Nat) (X : CX p s m args meth c D A cc nL own) {v : Value} (d : decode cc pc = .ok (.dup, 1)) (hp : pc + 1 = pc') (hc : v.category = 1) (k : V p l e R s m args below meth c D A nL Q ws cells slots pc' lv (v :: v :: st)) : V p l e R s m args below meth c D A nL Q ws cells slots pc lv (v :: st) := by
  subst hp
  exact fun H locs ls hP hD hS hl => lv_dup X.hx X.hb d hc (k H locs ls hP hD hS hl)
theorem v_pop (pc' : Nat) (X : CX p s m args meth c D A cc nL own) {v : Value} (d : decode cc pc = .ok (.pop, 1)) (hp : pc + 1 = pc') (hc : v.category = 1) (k : V p l e R s m args below meth c D A nL Q ws cells slots pc' lv st) : V p l e R s m args below meth c D A nL Q ws cells slots pc lv (v :: st) := by
  subst hp
  exact fun H locs ls hP hD hS hl => lv_pop X.hx X.hb d hc (k H locs ls hP hD hS hl)
theorem v_dup_x1 (pc' : Nat) (X : CX p s m args meth c D A cc nL own) {v w : Value} (d : decode cc pc = .ok (.dup_x1, 1)) (hp : pc + 1 = pc') (hc : v.category = 1) (hc2 : w.category = 1) (k : V p l e R s m args below meth c D A nL Q ws cells slots pc' lv (v :: w :: v :: st)) : V p l e R s m args below meth c D A nL Q ws cells slots pc lv (v :: w :: st) := by
  subst hp
  exact fun H locs ls hP hD hS hl => lv_dup_x1 X.hx X.hb d hc hc2 (k H locs ls hP hD hS hl)
theorem v_dup2 (pc' : Nat) (X : CX p s m args meth c D A cc nL own) {v w : Value} (d : decode cc pc = .ok (.dup2, 1)) (hp : pc + 1 = pc') (hc : v.category = 1) (hc2 : w.category = 1) (k : V p l e R s m args below meth c D A nL Q ws cells slots pc' lv (v :: w :: v :: w :: st)) : V p l e R s m args below meth c D A nL Q ws cells slots pc lv (v :: w :: st) := by
  subst hp
  exact fun H locs ls hP hD hS hl => lv_dup2_11 X.hx X.hb d hc hc2 (k H locs ls hP hD hS hl)
theorem v_if_eq (pc' tgt : Nat) (X : CX p s m args meth c D A cc nL own) {x : Int32} {off : Int} (d : decode cc pc = .ok (.ifCond .eq off, 3)) (hp : pc + 3 = pc') (ht : (pc : Int) + off = (tgt : Int)) (kt : x = 0 → V p l e R s m args below meth c D A nL Q ws cells slots tgt lv st) (kf : ¬ x = 0 → V p l e R s m args below meth c D A nL Q ws cells slots pc' lv st) : V p l e R s m args below meth c D A nL Q ws cells slots pc lv (.int x :: st) := by
  subst hp
  exact fun H locs ls hP hD hS hl => lv_if_eq X.hx X.hb d ht (fun h => kt h H locs ls hP hD hS hl) (fun h => kf h H locs ls hP hD hS hl)
theorem v_icmp_eq (pc' tgt : Nat) (X : CX p s m args meth c D A cc nL own) {x y : Int32} {off : Int} (d : decode cc pc = .ok (.if_icmp .eq off, 3)) (hp : pc + 3 = pc') (ht : (pc : Int) + off = (tgt : Int)) (kt : x = y → V p l e R s m args below meth c D A nL Q ws cells slots tgt lv st) (kf : ¬ x = y → V p l e R s m args below meth c D A nL Q ws cells slots pc' lv st) : V p l e R s m args below meth c D A nL Q ws cells slots pc lv (.int y :: .int x :: st) := by
  subst hp
  exact fun H locs ls hP hD hS hl => lv_icmp_eq X.hx X.hb d ht (fun h => kt h H locs ls hP hD hS hl) (fun h => kf h H locs ls hP hD hS hl)
theorem v_if_ne (pc' tgt : Nat) (X : CX p s m args meth c D A cc nL own) {x : Int32} {off : Int} (d : decode cc pc = .ok (.ifCond .ne off, 3)) (hp : pc + 3 = pc') (ht : (pc : Int) + off = (tgt : Int)) (kt : ¬ x = 0 → V p l e R s m args below meth c D A nL Q ws cells slots tgt lv st) (kf : x = 0 → V p l e R s m args below meth c D A nL Q ws cells slots pc' lv st) : V p l e R s m args below meth c D A nL Q ws cells slots pc lv (.int x :: st) := by
  subst hp
  exact fun H locs ls hP hD hS hl => lv_if_ne X.hx X.hb d ht (fun h => kt h H locs ls hP hD hS hl) (fun h => kf h H locs ls hP hD hS hl)
theorem v_icmp_ne (pc' tgt : Nat) (X : CX p s m args meth c D A cc nL own) {x y : Int32} {off : Int} (d : decode cc pc = .ok (.if_icmp .ne off, 3)) (hp : pc + 3 = pc') (ht : (pc : Int) + off = (tgt : Int)) (kt : ¬ x = y → V p l e R s m args below meth c D A nL Q ws cells slots tgt lv st) (kf : x = y → V p l e R s m args below meth c D A nL Q ws cells slots pc' lv st) : V p l e R s m args below meth c D A nL Q ws cells slots pc lv (.int y :: .int x :: st) := by
  subst hp
  exact fun H locs ls hP hD hS hl => lv_icmp_ne X.hx X.hb d ht (fun h => kt h H locs ls hP hD hS hl) (fun h => kf h H locs ls hP hD hS hl)
theorem v_if_lt (pc' tgt : Nat) (X : CX p s m args meth c D A cc nL own) {x : Int32} {off : Int} (d : decode cc pc = .ok (.ifCond .lt off, 3)) (hp : pc + 3 = pc') (ht : (pc : Int) + off = (tgt : Int)) (kt : x < 0 → V p l e R s m args below meth c D A nL Q ws cells slots tgt lv st) (kf : ¬ x < 0 → V p l e R s m args below meth c D A nL Q ws cells slots pc' lv st) : V p l e R s m args below meth c D A nL Q ws cells slots pc lv (.int x :: st) := by
  subst hp
  exact fun H locs ls hP hD hS hl => lv_if_lt X.hx X.hb d ht (fun h => kt h H locs ls hP hD hS hl) (fun h => kf h H locs ls hP hD hS hl)
theorem v_icmp_lt (pc' tgt : Nat) (X : CX p s m args meth c D A cc nL own) {x y : Int32} {off : Int} (d : decode cc pc = .ok (.if_icmp .lt off, 3)) (hp : pc + 3 = pc') (ht : (pc : Int) + off = (tgt : Int)) (kt : x < y → V p l e R s m args below meth c D A nL Q ws cells slots tgt lv st) (kf : ¬ x < y → V p l e R s m args below meth c D A nL Q ws cells slots pc' lv st) : V p l e R s m args below meth c D A nL Q ws cells slots pc lv (.int y :: .int x :: st) := by
  subst hp
  exact fun H locs ls hP hD hS hl => lv_icmp_lt X.hx X.hb d ht (fun h => kt h H locs ls hP hD hS hl) (fun h => kf h H locs ls hP hD hS hl)
theorem v_if_ge (pc' tgt : Nat) (X : CX p s m args meth c D A cc nL own) {x : Int32} {off : Int} (d : decode cc pc = .ok (.ifCond .ge off, 3)) (hp : pc + 3 = pc') (ht : (pc : Int) + off = (tgt : Int)) (kt : 0 ≤ x → V p l e R s m args below meth c D A nL Q ws cells slots tgt lv st) (kf : ¬ 0 ≤ x → V p l e R s m args below meth c D A nL Q ws cells slots pc' lv st) : V p l e R s m args below meth c D A nL Q ws cells slots pc lv (.int x :: st) := by
  subst hp
  exact fun H locs ls hP hD hS hl => lv_if_ge X.hx X.hb d ht (fun h => kt h H locs ls hP hD hS hl) (fun h => kf h H locs ls hP hD hS hl)
theorem v_icmp_ge (pc' tgt : Nat) (X : CX p s m args meth c D A cc nL own) {x y : Int32} {off : Int} (d : decode cc pc = .ok (.if_icmp .ge off, 3)) (hp : pc + 3 = pc') (ht : (pc : Int) + off = (tgt : Int)) (kt : y ≤ x → V p l e R s m args below meth c D A nL Q ws cells slots tgt lv st) (kf : ¬ y ≤ x → V p l e R s m args below meth c D A nL Q ws cells slots pc' lv st) : V p l e R s m args below meth c D A nL Q ws cells slots pc lv (.int y :: .int x :: st) := by
  subst hp
  exact fun H locs ls hP hD hS hl => lv_icmp_ge X.hx X.hb d ht (fun h => kt h H locs ls hP hD hS hl) (fun h => kf h H locs ls hP hD hS hl)
theorem v_if_gt (pc' tgt : Nat) (X : CX p s m args meth c D A cc nL own) {x : Int32} {off : Int} (d : decode cc pc = .ok (.ifCond .gt off, 3)) (hp : pc + 3 = pc') (ht : (pc : Int) + off = (tgt : Int)) (kt : 0 < x → V p l e R s m args below meth c D A nL Q ws cells slots tgt lv st) (kf : ¬ 0 < x → V p l e R s m args below meth c D A nL Q ws cells slots pc' lv st) : V p l e R s m args below meth c D A nL Q ws cells slots pc lv (.int x :: st) := by
  subst hp
  exact fun H locs ls hP hD hS hl => lv_if_gt X.hx X.hb d ht (fun h => kt h H locs ls hP hD hS hl) (fun h => kf h H locs ls hP hD hS hl)
theorem v_icmp_gt (pc' tgt : Nat) (X : CX p s m args meth c D A cc nL own) {x y : Int32} {off : Int} (d : decode cc pc = .ok (.if_icmp .gt off, 3)) (hp : pc + 3 = pc') (ht : (pc : Int) + off = (tgt : Int)) (kt : y < x → V p l e R s m args below meth c D A nL Q ws cells slots tgt lv st) (kf : ¬ y < x → V p l e R s m args below meth c D A nL Q ws cells slots pc' lv st) : V p l e R s m args below meth c D A nL Q ws cells slots pc lv (.int y :: .int x :: st) := by
  subst hp
  exact fun H locs ls hP hD hS hl => lv_icmp_gt X.hx X.hb d ht (fun h => kt h H locs ls hP hD hS hl) (fun h => kf h H locs ls hP hD hS hl)
theorem v_if_le (pc' tgt : Nat) (X : CX p s m args meth c D A cc nL own) {x : Int32} {off : Int} (d : decode cc pc = .ok (.ifCond .le off, 3)) (hp : pc + 3 = pc') (ht : (pc : Int) + off = (tgt : Int)) (kt : x ≤ 0 → V p l e R s m args below meth c D A nL Q ws cells slots tgt lv st) (kf : ¬ x ≤ 0 → V p l e R s m args below meth c D A nL Q ws cells slots pc' lv st) : V p l e R s m args below meth c D A nL Q ws cells slots pc lv (.int x :: st) := by
  subst hp
  exact fun H locs ls hP hD hS hl => lv_if_le X.hx X.hb d ht (fun h => kt h H locs ls hP hD hS hl) (fun h => kf h H locs ls hP hD hS hl)
theorem v_icmp_le (pc' tgt : Nat) (X : CX p s m args meth c D A cc nL own) {x y : Int32} {off : Int} (d : decode cc pc = .ok (.if_icmp .le off, 3)) (hp : pc + 3 = pc') (ht : (pc : Int) + off = (tgt : Int)) (kt : x ≤ y → V p l e R s m args below meth c D A nL Q ws cells slots tgt lv st) (kf : ¬ x ≤ y → V p l e R s m args below meth c D A nL Q ws cells slots pc' lv st) : V p l e R s m args below meth c D A nL Q ws cells slots pc lv (.int y :: .int x :: st) := by
  subst hp
  exact fun H locs ls hP hD hS hl => lv_icmp_le X.hx X.hb d ht (fun h => kt h H locs ls hP hD hS hl) (fun h => kf h H locs ls hP hD hS hl)
theorem v_goto (tgt : Nat) (X : CX p s m args meth c D A cc nL own) {off : Int} (d : decode cc pc = .ok (.goto off, 3)) (ht : (pc : Int) + off = (tgt : Int)) (k : V p l e R s m args below meth c D A nL Q ws cells slots tgt lv st) : V p l e R s m args below meth c D A nL Q ws cells slots pc lv st :=
  fun H locs ls hP hD hS hl => lv_goto X.hx X.hb d ht (k H locs ls hP hD hS hl)
theorem v_ldc (pc' : Nat) (X : CX p s m args meth c D A cc nL own) {index : Nat} {v : Int32} (hc : Cond.constant own index v ∈ lw_all) (d : decode cc pc = .ok (.ldc index, 2)) (hp : pc + 2 = pc') (k : V p l e R s m args below meth c D A nL Q ws cells slots pc' lv (.int v :: st)) : V p l e R s m args below meth c D A nL Q ws cells slots pc lv st := by
  subst hp
  exact fun H locs ls hP hD hS hl => lv_ldc X.hx X.hb X.hown (X.hts _ hc) d (k H locs ls hP hD hS hl)
theorem v_ldcw (pc' : Nat) (X : CX p s m args meth c D A cc nL own) {index : Nat} {v : Int32} (hc : Cond.constant own index v ∈ lw_all) (d : decode cc pc = .ok (.ldc_w index, 3)) (hp : pc + 3 = pc') (k : V p l e R s m args below meth c D A nL Q ws cells slots pc' lv (.int v :: st)) : V p l e R s m args below meth c D A nL Q ws cells slots pc lv st := by
  subst hp
  exact fun H locs ls hP hD hS hl => lv_ldcw X.hx X.hb X.hown (X.hts _ hc) d (k H locs ls hP hD hS hl)
theorem v_ldc2 (pc' : Nat) (X : CX p s m args meth c D A cc nL own) {index : Nat} {v : Int64} (hc : Cond.constantLong own index v ∈ lw_all) (d : decode cc pc = .ok (.ldc2_w index, 3)) (hp : pc + 3 = pc') (k : V p l e R s m args below meth c D A nL Q ws cells slots pc' lv (.long v :: st)) : V p l e R s m args below meth c D A nL Q ws cells slots pc lv st := by
  subst hp
  exact fun H locs ls hP hD hS hl => lv_ldc2 X.hx X.hb X.hown (X.hts _ hc) d (k H locs ls hP hD hS hl)
/-- an array's element, if the index is inside -/
def ald (f : Nat → Int32) (n : Nat) (i : Int32) : Option Int32 := if i < 0 ∨ n ≤ i.toNatClampNeg then none else some (f i.toNatClampNeg)
def ast (f : Nat → Int32) (n : Nat) (i x : Int32) : Option (Nat → Int32) := if i < 0 ∨ n ≤ i.toNatClampNeg then none else some (upd f i.toNatClampNeg x)
def nz (x : Int32) : Int32 := vp_nar .boolean x
def zst (f : Nat → Int32) (n : Nat) (i x : Int32) : Option (Nat → Int32) := if i < 0 ∨ n ≤ i.toNatClampNeg then none else some (upd f i.toNatClampNeg (nz x))
def bst (f : Nat → Int32) (n : Nat) (i x : Int32) : Option (Nat → Int32) := if i < 0 ∨ n ≤ i.toNatClampNeg then none else some (upd f i.toNatClampNeg (vp_nar .byte x))
def idv (x y : Int32) : Option Int32 := if y = 0 then none else some (x / y)
def irm (x y : Int32) : Option Int32 := if y = 0 then none else some (x - x / y * y)
def zck (x : Int32) : Option Int32 := if x = 0 ∨ x = 1 then some x else none
theorem ald_s {f : Nat → Int32} {n : Nat} {i x : Int32} (h : ald f n i = some x) : vp_in i n ∧ f i.toNatClampNeg = x := by
  unfold ald at h
  split at h
  · cases h
  · rename_i h1
    exact ⟨h1, Option.some.inj h⟩
theorem ast_s {f g : Nat → Int32} {n : Nat} {i x : Int32} (h : ast f n i x = some g) : vp_in i n ∧ upd f i.toNatClampNeg x = g := by
  unfold ast at h
  split at h
  · cases h
  · rename_i h1
    exact ⟨h1, Option.some.inj h⟩
theorem zst_s {f g : Nat → Int32} {n : Nat} {i x : Int32} (h : zst f n i x = some g) : vp_in i n ∧ upd f i.toNatClampNeg (vp_nar .boolean x) = g := by
  unfold zst nz at h
  split at h
  · cases h
  · rename_i h1
    exact ⟨h1, Option.some.inj h⟩
theorem bst_s {f g : Nat → Int32} {n : Nat} {i x : Int32} (h : bst f n i x = some g) : vp_in i n ∧ upd f i.toNatClampNeg (vp_nar .byte x) = g := by
  unfold bst at h
  split at h
  · cases h
  · rename_i h1
    exact ⟨h1, Option.some.inj h⟩
theorem idv_s {x y z : Int32} (h : idv x y = some z) : ¬ y = 0 ∧ x / y = z := by
  unfold idv at h
  split at h
  · cases h
  · rename_i h1
    exact ⟨h1, Option.some.inj h⟩
theorem irm_s {x y z : Int32} (h : irm x y = some z) : ¬ y = 0 ∧ x - x / y * y = z := by
  unfold irm at h
  split at h
  · cases h
  · rename_i h1
    exact ⟨h1, Option.some.inj h⟩
theorem zck_s {x y : Int32} (h : zck x = some y) : x = y ∧ narrow .boolean (.int y) = .int y ∧ fits .boolean (.int y) = true := by
  unfold zck at h
  split at h
  · rename_i h1
    cases h
    rcases h1 with rfl | rfl
    · exact ⟨rfl, rfl, rfl⟩
    · exact ⟨rfl, rfl, rfl⟩
  · cases h
/-- bytes and chars: what a field or an answer of a small type keeps -/
def bck (x : Int32) : Option Int32 := if x.toInt8.toInt32 = x then some x else none
def cck (x : Int32) : Option Int32 := if (x.toUInt32 % 65536).toInt32 = x then some x else none
theorem bck_s {x y : Int32} (h : bck x = some y) : x = y ∧ narrow .byte (.int y) = .int y ∧ fits .byte (.int y) = true := by
  unfold bck at h
  split at h
  · rename_i h1
    cases h
    exact ⟨rfl, by rw [← h1]; exact pk_nb x, by rw [← h1]; exact pk_fb x⟩
  · cases h
theorem cck_s {x y : Int32} (h : cck x = some y) : x = y ∧ narrow .char (.int y) = .int y ∧ fits .char (.int y) = true := by
  unfold cck at h
  split at h
  · rename_i h1
    cases h
    exact ⟨rfl, by rw [← h1]; exact pk_nc x, by rw [← h1]; exact pk_fc x⟩
  · cases h
theorem ob {α β : Type} {o : Option α} {k : α → Option β} {r : β} (h : o.bind k = some r) : ∃ x, o = some x ∧ k x = some r := by
  cases o with
  | none => cases h
  | some x => exact ⟨x, rfl, h⟩
theorem ifp {α : Type} {q : Prop} [Decidable q] {a b r : α} (h : q) (hF : (if q then a else b) = r) : a = r := by rw [if_pos h] at hF; exact hF
theorem ifn {α : Type} {q : Prop} [Decidable q] {a b r : α} (h : ¬ q) (hF : (if q then a else b) = r) : b = r := by rw [if_neg h] at hF; exact hF
theorem ifnp {α : Type} {q : Prop} [Decidable q] {a b r : α} (h : q) (hF : (if ¬ q then a else b) = r) : b = r := by rw [if_neg (fun z => z h)] at hF; exact hF
theorem ifnn {α : Type} {q : Prop} [Decidable q] {a b r : α} (h : ¬ q) (hF : (if ¬ q then a else b) = r) : a = r := by rw [if_pos h] at hF; exact hF
/-- fuel for loops -/
def FU : Nat := 100000
/-- a loop by its body's step: on, or out -/
def loopN {σ ω : Type} (step : σ → Option (σ ⊕ ω)) : Nat → σ → Option ω
  | 0, _ => none
  | n + 1, x => (step x).bind fun r => match r with
    | .inl y => loopN step n y
    | .inr o => some o
theorem v_loop {σ ω : Type} {step : σ → Option (σ ⊕ ω)} (G : σ → Prop) (E : ω → Prop) (body : ∀ (x : σ) (r : σ ⊕ ω), step x = some r → (∀ y, r = .inl y → G y) → (∀ y, r = .inr y → E y) → G x) : ∀ (n : Nat) (x : σ) (o : ω), loopN step n x = some o → E o → G x := by
  intro n
  induction n with
  | zero => intro x o h; cases h
  | succ n ih =>
    intro x o h hE
    obtain ⟨r, h1, h2⟩ := ob h
    refine body x r h1 ?_ ?_
    · intro y e
      subst e
      exact ih y o h2 hE
    · intro y e
      subst e
      cases h2
      exact hE
theorem v_idiv (pc' : Nat) (X : CX p s m args meth c D A cc nL own) {x y z : Int32} (h : idv x y = some z) (d : decode cc pc = .ok (.idiv, 1)) (hp : pc + 1 = pc') (k : V p l e R s m args below meth c D A nL Q ws cells slots pc' lv (.int z :: st)) : V p l e R s m args below meth c D A nL Q ws cells slots pc lv (.int y :: .int x :: st) := by
  subst hp
  obtain ⟨h1, h2⟩ := idv_s h
  subst h2
  exact fun H locs ls hP hD hS hl => lv_idiv X.hx X.hb d h1 (k H locs ls hP hD hS hl)
theorem v_irem (pc' : Nat) (X : CX p s m args meth c D A cc nL own) {x y z : Int32} (h : irm x y = some z) (d : decode cc pc = .ok (.irem, 1)) (hp : pc + 1 = pc') (k : V p l e R s m args below meth c D A nL Q ws cells slots pc' lv (.int z :: st)) : V p l e R s m args below meth c D A nL Q ws cells slots pc lv (.int y :: .int x :: st) := by
  subst hp
  obtain ⟨h1, h2⟩ := irm_s h
  subst h2
  exact fun H locs ls hP hD hS hl => lv_irem X.hx X.hb d h1 (k H locs ls hP hD hS hl)
theorem v_iald (pc' : Nat) (X : CX p s m args meth c D A cc nL own) (q0 : Nat) {a n : Nat} {f : Nat → Int32} {i x : Int32} (h : ald f n i = some x) (ha : ws[q0]? = some (a, .inl (D.1 100, n, .inl f))) (d : decode cc pc = .ok (.iaload, 1)) (hp : pc + 1 = pc') (k : V p l e R s m args below meth c D A nL Q ws cells slots pc' lv (.int x :: st)) : V p l e R s m args below meth c D A nL Q ws cells slots pc lv (.int i :: .ref a :: st) := by
  subst hp
  obtain ⟨h1, h2⟩ := ald_s h
  subst h2
  exact fun H locs ls hP hD hS hl => va_iald X.hx X.hb X.hK hP q0 0 ha rfl h1 d (k H locs ls hP hD hS hl)
theorem v_zald (pc' : Nat) (X : CX p s m args meth c D A cc nL own) (q0 : Nat) {a n : Nat} {f : Nat → Int32} {i x : Int32} (h : ald f n i = some x) (ha : ws[q0]? = some (a, .inl (D.1 101, n, .inl f))) (d : decode cc pc = .ok (.baload, 1)) (hp : pc + 1 = pc') (k : V p l e R s m args below meth c D A nL Q ws cells slots pc' lv (.int x :: st)) : V p l e R s m args below meth c D A nL Q ws cells slots pc lv (.int i :: .ref a :: st) := by
  subst hp
  obtain ⟨h1, h2⟩ := ald_s h
  subst h2
  exact fun H locs ls hP hD hS hl => va_zald X.hx X.hb X.hK hP q0 1 ha rfl h1 d (k H locs ls hP hD hS hl)
theorem v_bald (pc' : Nat) (X : CX p s m args meth c D A cc nL own) (q0 : Nat) {a n : Nat} {f : Nat → Int32} {i x : Int32} (h : ald f n i = some x) (ha : ws[q0]? = some (a, .inl (D.1 102, n, .inl f))) (d : decode cc pc = .ok (.baload, 1)) (hp : pc + 1 = pc') (k : V p l e R s m args below meth c D A nL Q ws cells slots pc' lv (.int x :: st)) : V p l e R s m args below meth c D A nL Q ws cells slots pc lv (.int i :: .ref a :: st) := by
  subst hp
  obtain ⟨h1, h2⟩ := ald_s h
  subst h2
  exact fun H locs ls hP hD hS hl => va_bald X.hx X.hb X.hK hP q0 2 ha rfl h1 d (k H locs ls hP hD hS hl)
theorem v_iast (pc' : Nat) (ws' : va_W) (X : CX p s m args meth c D A cc nL own) (q0 : Nat) {a n : Nat} {f g : Nat → Int32} {i x : Int32} (h : ast f n i x = some g) (ha : ws[q0]? = some (a, .inl (D.1 100, n, .inl f))) (d : decode cc pc = .ok (.iastore, 1)) (hp : pc + 1 = pc') (hw : ws.set q0 (a, .inl (D.1 100, n, .inl g)) = ws') (k : V p l e R s m args below meth c D A nL Q ws' cells slots pc' lv st) : V p l e R s m args below meth c D A nL Q ws cells slots pc lv (.int x :: .int i :: .ref a :: st) := by
  subst hp
  subst hw
  obtain ⟨h1, h2⟩ := ast_s h
  subst h2
  exact fun H locs ls hP hD hS hl => va_iast X.hx X.hb X.hK hP hD hS q0 0 ha rfl h1 d (fun H1 locs1 hP hD hS => k H1 locs1 ls hP hD hS hl)
theorem v_zast (pc' : Nat) (ws' : va_W) (X : CX p s m args meth c D A cc nL own) (q0 : Nat) {a n : Nat} {f g : Nat → Int32} {i x : Int32} (h : zst f n i x = some g) (ha : ws[q0]? = some (a, .inl (D.1 101, n, .inl f))) (d : decode cc pc = .ok (.bastore, 1)) (hp : pc + 1 = pc') (hw : ws.set q0 (a, .inl (D.1 101, n, .inl g)) = ws') (k : V p l e R s m args below meth c D A nL Q ws' cells slots pc' lv st) : V p l e R s m args below meth c D A nL Q ws cells slots pc lv (.int x :: .int i :: .ref a :: st) := by
  subst hp
  subst hw
  obtain ⟨h1, h2⟩ := zst_s h
  subst h2
  exact fun H locs ls hP hD hS hl => va_zast X.hx X.hb X.hK hP hD hS q0 1 ha rfl h1 d (fun H1 locs1 hP hD hS => k H1 locs1 ls hP hD hS hl)
theorem v_bast (pc' : Nat) (ws' : va_W) (X : CX p s m args meth c D A cc nL own) (q0 : Nat) {a n : Nat} {f g : Nat → Int32} {i x : Int32} (h : bst f n i x = some g) (ha : ws[q0]? = some (a, .inl (D.1 102, n, .inl f))) (d : decode cc pc = .ok (.bastore, 1)) (hp : pc + 1 = pc') (hw : ws.set q0 (a, .inl (D.1 102, n, .inl g)) = ws') (k : V p l e R s m args below meth c D A nL Q ws' cells slots pc' lv st) : V p l e R s m args below meth c D A nL Q ws cells slots pc lv (.int x :: .int i :: .ref a :: st) := by
  subst hp
  subst hw
  obtain ⟨h1, h2⟩ := bst_s h
  subst h2
  exact fun H locs ls hP hD hS hl => va_bast X.hx X.hb X.hK hP hD hS q0 2 ha rfl h1 d (fun H1 locs1 hP hD hS => k H1 locs1 ls hP hD hS hl)
theorem v_alen (pc' : Nat) (X : CX p s m args meth c D A cc nL own) (q0 t0 : Nat) {a : Nat} {cA : ClassId} {x : vp_A} {ty : FieldType} {v : Int32} (ha : ws[q0]? = some (a, .inl (cA, x))) (ht : (TYS D)[t0]? = some (cA, ty)) (hv : nI x.1 = v) (d : decode cc pc = .ok (.arraylength, 1)) (hp : pc + 1 = pc') (k : V p l e R s m args below meth c D A nL Q ws cells slots pc' lv (.int v :: st)) : V p l e R s m args below meth c D A nL Q ws cells slots pc lv (.ref a :: st) := by
  subst hp
  exact fun H locs ls hP hD hS hl => va_alen X.hx X.hb X.hK hP q0 t0 ha ht hv d (k H locs ls hP hD hS hl)
theorem v_get (pc' : Nat) (X : CX p s m args meth c D A cc nL own) {C ref : String} {T : u_T} {N ci index : Nat} (hin : ∀ w ∈ u_ws C T N, w ∈ lw_all) (q0 k0 : Nat) {a : Nat} {fs : List Value} {v : Value} (he : ws[q0]? = some (a, .inr (ci, fs))) (hc : CL[ci]? = some (C, T, N)) (hk : k0 < N) (hlink : Cond.fieldLink own index ref (T k0).2.1 (T k0).2.2.1 ∈ lw_all) (hsame : (T k0).1 = ref) (hv : fs[k0]? = some v) (d : decode cc pc = .ok (.getfield index, 3)) (hp : pc + 3 = pc') (k : V p l e R s m args below meth c D A nL Q ws cells slots pc' lv (v :: st)) : V p l e R s m args below meth c D A nL Q ws cells slots pc lv (.ref a :: st) := by
  subst hp
  subst hsame
  exact fun H locs ls hP hD hS hl => va_get X.hx X.hb X.hts hin X.hown X.hK hP q0 he hc k0 hk (X.hts _ hlink) (fun _ z => z) hv d (k H locs ls hP hD hS hl)
theorem v_put (pc' : Nat) (ws' : va_W) (X : CX p s m args meth c D A cc nL own) {C ref : String} {T : u_T} {N ci index : Nat} {ty0 : Nat → FieldType} (hin : ∀ w ∈ u_ws C T N, w ∈ lw_all) (hty : ∀ k, k < N → parseFieldDescriptor (T k).2.2.1 = some (ty0 k)) (hnm : ∀ a, a < N → ∀ b, b < N → a ≠ b → (T a).2.1 ≠ (T b).2.1) (q0 k0 : Nat) {a : Nat} {fs : List Value} {v : Value} {ty : FieldType} (he : ws[q0]? = some (a, .inr (ci, fs))) (hc : CL[ci]? = some (C, T, N)) (hk : k0 < N) (hlink : Cond.fieldLink own index ref (T k0).2.1 (T k0).2.2.1 ∈ lw_all) (hsame : (T k0).1 = ref) (hfin : (T k0).2.2.2 = false) (hd : ty0 k0 = ty) (hn : narrow ty v = v) (hfit : fits ty v = true) (hl0 : k0 < fs.length) (d : decode cc pc = .ok (.putfield index, 3)) (hp : pc + 3 = pc') (hw : ws.set q0 (a, .inr (ci, fs.set k0 v)) = ws') (k : V p l e R s m args below meth c D A nL Q ws' cells slots pc' lv st) : V p l e R s m args below meth c D A nL Q ws cells slots pc lv (v :: .ref a :: st) := by
  subst hp
  subst hw
  subst hsame
  subst hd
  exact fun H locs ls hP hD hS hl => va_put X.hx X.hb X.hts hin ty0 hty hnm X.hown X.hK hP hD hS q0 he hc k0 hk (X.hts _ hlink) (fun _ z => z) hfin (hty k0 hk) hn hfit hl0 d (fun H1 locs1 hP hD hS => k H1 locs1 ls hP hD hS hl)
/-- the world at a method's end -/
def Wd (D : va_G) (A : Nat → Prop) (u : va_W) (t : State) : Prop := va_P D CL u t.heap ∧ va_D A u
def Pre (D : va_G) (sz : Nat) (w0 : va_W) (av : List Value) (Xp : (Nat → Prop) → State → Prop) : Array Value → State → Prop := va_Pc av (fun U => U.heap.size = sz ∧ va_P D CL w0 U.heap ∧ va_K D CL (TYS D) U ∧ va_D (fun _ => True) w0 ∧ Xp (va_A w0 sz) U)
def NoX : (Nat → Prop) → State → Prop := fun _ _ => True
theorem v_iret (X : CX p s m args meth c D A cc nL own) {mc ms : Nat} {v : Int32} {post : Int32 → va_W → Prop} (hr : meth.sig.returnType = some .int) (hpost : post v ws) (hc : cells ≤ mc) (hs : slots ≤ ms) (d : decode cc pc = .ok (.ireturn, 1)) : V p l e R s m args below meth c D A nL (MQ below (va_Qi post (Wd D A) A) args s mc ms A) ws cells slots pc lv [.int v] :=
  fun H locs ls hP hD hS hl => W.widen hc hs (W.iret X.hx X.hb hr (fun t ht hW => ⟨⟨v, ws, rfl, hpost, by rw [ht]; exact hP, hD⟩, hS.F ht⟩) hS.2.2 d X.hlk)
theorem v_lret (X : CX p s m args meth c D A cc nL own) {mc ms : Nat} {v : Int64} {post : Int64 → va_W → Prop} (hr : meth.sig.returnType = some .long) (hpost : post v ws) (hc : cells ≤ mc) (hs : slots ≤ ms) (d : decode cc pc = .ok (.lreturn, 1)) : V p l e R s m args below meth c D A nL (MQ below (va_Ql post (Wd D A) A) args s mc ms A) ws cells slots pc lv [.long v] :=
  fun H locs ls hP hD hS hl => W.widen hc hs (W.lret X.hx X.hb hr (fun t ht hW => ⟨⟨v, ws, rfl, hpost, by rw [ht]; exact hP, hD⟩, hS.F ht⟩) hS.2.2 d X.hlk)
theorem v_zret (X : CX p s m args meth c D A cc nL own) {mc ms : Nat} {v : Int32} {ty : FieldType} {post : Int32 → va_W → Prop} (hr : meth.sig.returnType = some ty) (hn : narrow ty (.int v) = .int v) (hpost : post v ws) (hc : cells ≤ mc) (hs : slots ≤ ms) (d : decode cc pc = .ok (.ireturn, 1)) : V p l e R s m args below meth c D A nL (MQ below (va_Qi post (Wd D A) A) args s mc ms A) ws cells slots pc lv [.int v] :=
  fun H locs ls hP hD hS hl => W.widen hc hs (W.zret X.hx X.hb hr hn (fun t ht hW => ⟨⟨v, ws, rfl, hpost, by rw [ht]; exact hP, hD⟩, hS.F ht⟩) hS.2.2 d X.hlk)
theorem v_vret (X : CX p s m args meth c D A cc nL own) {mc ms : Nat} {post : va_W → Prop} (hr : meth.sig.returnType = none) (hpost : post ws) (hc : cells ≤ mc) (hs : slots ≤ ms) (d : decode cc pc = .ok (.return_, 1)) : V p l e R s m args below meth c D A nL (MQ below (va_Qv post (Wd D A) A) args s mc ms A) ws cells slots pc lv [] :=
  fun H locs ls hP hD hS hl => W.widen hc hs (W.vret X.hx X.hb hr (fun t ht hW => ⟨⟨ws, rfl, hpost, by rw [ht]; exact hP, hD⟩, hS.F ht⟩) hS.2.2 d X.hlk)
/-- contracts: answer and world behind -/
def CTi (l : Launch) (y : MethodName) (b : ByteArray) (L : Nat) (r : Option FieldType) (rm : Room) (D : va_G) (w0 : va_W) (av : List Value) (Xp : (Nat → Prop) → State → Prop) (post : Int32 → va_W → Prop) : Prop := ∀ sz : Nat, Met l y (ws_ y b L r) rm (Pre D sz w0 av Xp) (va_Qi post (Wd D (va_A w0 sz)) (va_A w0 sz)) rm.cells rm.slots (va_A w0 sz)
def CTl (l : Launch) (y : MethodName) (b : ByteArray) (L : Nat) (r : Option FieldType) (rm : Room) (D : va_G) (w0 : va_W) (av : List Value) (Xp : (Nat → Prop) → State → Prop) (post : Int64 → va_W → Prop) : Prop := ∀ sz : Nat, Met l y (ws_ y b L r) rm (Pre D sz w0 av Xp) (va_Ql post (Wd D (va_A w0 sz)) (va_A w0 sz)) rm.cells rm.slots (va_A w0 sz)
def CTv (l : Launch) (y : MethodName) (b : ByteArray) (L : Nat) (r : Option FieldType) (rm : Room) (D : va_G) (w0 : va_W) (av : List Value) (Xp : (Nat → Prop) → State → Prop) (post : va_W → Prop) : Prop := ∀ sz : Nat, Met l y (ws_ y b L r) rm (Pre D sz w0 av Xp) (va_Qv post (Wd D (va_A w0 sz)) (va_A w0 sz)) rm.cells rm.slots (va_A w0 sz)
/-- what a method's body may use -/
def BX (Xp : (Nat → Prop) → State → Prop) (p : Program) (s : State) (m : MethodId) (args : Array Value) (meth : Method) (c : Code) (D : va_G) (A : Nat → Prop) (cc : ByteArray) (nL : Nat) (own : String) (ret : Option FieldType) (av : List Value) (y : MethodName) : Prop := CX p s m args meth c D A cc nL own ∧ meth.sig.returnType = ret ∧ Xp A s ∧ args = av.toArray ∧ meth.name = y.name ∧ s.methodNamed? y = some m
theorem m_i {y : MethodName} {b : ByteArray} {L : Nat} {r : Option FieldType} {rm : Room} {w0 : va_W} {av : List Value} {Xp : (Nat → Prop) → State → Prop} {post : Int32 → va_W → Prop} (hy : plainName y.cls = true) (hlen : (lg_sl av).length ≤ L)
    (body : ∀ (p : Program) (e : Env) (s : State) (m : MethodId) (args : Array Value) (below : List Frame) (meth : Method) (c : Code) (A : Nat → Prop), BX Xp p s m args meth c D A b L y.cls r av y → V p l e rm s m args below meth c D A L (MQ below (va_Qi post (Wd D A) A) args s rm.cells rm.slots A) w0 0 0 0 (lv_args 0 av) []) : CTi l y b L r rm D w0 av Xp post := by
  intro sz
  refine Met.ofW (cc := b) (maxL := L) (ret := r) hy rfl ?_
  intro p e s m args below meth c s₁ B hml hv
  obtain ⟨rfl, hsz, hP, hK, hD0, hX⟩ := hv
  have hts := atoms_spec (ws := ws_ y b L r) B.pre
  have hts : ∀ w ∈ lw_all, w.before _ s = true := fun w h => hts w (List.mem_cons_of_mem _ h)
  subst hsz
  rw [lg_entry_eq]
  exact body p e s m _ below meth c (va_A w0 s.heap.size) ⟨⟨B.exec, B.bytes, hml, findClass_of_methodNamed B.named, hts, hK, fun q h => Or.inr h, B.notSynchronized⟩, B.returns, hX, rfl, (name_of_methodNamed B.named B.method).1, B.named⟩ _ _ _ hP hD0.self va_S.rf (lv_entry av hlen)
theorem m_l {y : MethodName} {b : ByteArray} {L : Nat} {r : Option FieldType} {rm : Room} {w0 : va_W} {av : List Value} {Xp : (Nat → Prop) → State → Prop} {post : Int64 → va_W → Prop} (hy : plainName y.cls = true) (hlen : (lg_sl av).length ≤ L)
    (body : ∀ (p : Program) (e : Env) (s : State) (m : MethodId) (args : Array Value) (below : List Frame) (meth : Method) (c : Code) (A : Nat → Prop), BX Xp p s m args meth c D A b L y.cls r av y → V p l e rm s m args below meth c D A L (MQ below (va_Ql post (Wd D A) A) args s rm.cells rm.slots A) w0 0 0 0 (lv_args 0 av) []) : CTl l y b L r rm D w0 av Xp post := by
  intro sz
  refine Met.ofW (cc := b) (maxL := L) (ret := r) hy rfl ?_
  intro p e s m args below meth c s₁ B hml hv
  obtain ⟨rfl, hsz, hP, hK, hD0, hX⟩ := hv
  have hts := atoms_spec (ws := ws_ y b L r) B.pre
  have hts : ∀ w ∈ lw_all, w.before _ s = true := fun w h => hts w (List.mem_cons_of_mem _ h)
  subst hsz
  rw [lg_entry_eq]
  exact body p e s m _ below meth c (va_A w0 s.heap.size) ⟨⟨B.exec, B.bytes, hml, findClass_of_methodNamed B.named, hts, hK, fun q h => Or.inr h, B.notSynchronized⟩, B.returns, hX, rfl, (name_of_methodNamed B.named B.method).1, B.named⟩ _ _ _ hP hD0.self va_S.rf (lv_entry av hlen)
theorem m_v {y : MethodName} {b : ByteArray} {L : Nat} {r : Option FieldType} {rm : Room} {w0 : va_W} {av : List Value} {Xp : (Nat → Prop) → State → Prop} {post : va_W → Prop} (hy : plainName y.cls = true) (hlen : (lg_sl av).length ≤ L)
    (body : ∀ (p : Program) (e : Env) (s : State) (m : MethodId) (args : Array Value) (below : List Frame) (meth : Method) (c : Code) (A : Nat → Prop), BX Xp p s m args meth c D A b L y.cls r av y → V p l e rm s m args below meth c D A L (MQ below (va_Qv post (Wd D A) A) args s rm.cells rm.slots A) w0 0 0 0 (lv_args 0 av) []) : CTv l y b L r rm D w0 av Xp post := by
  intro sz
  refine Met.ofW (cc := b) (maxL := L) (ret := r) hy rfl ?_
  intro p e s m args below meth c s₁ B hml hv
  obtain ⟨rfl, hsz, hP, hK, hD0, hX⟩ := hv
  have hts := atoms_spec (ws := ws_ y b L r) B.pre
  have hts : ∀ w ∈ lw_all, w.before _ s = true := fun w h => hts w (List.mem_cons_of_mem _ h)
  subst hsz
  rw [lg_entry_eq]
  exact body p e s m _ below meth c (va_A w0 s.heap.size) ⟨⟨B.exec, B.bytes, hml, findClass_of_methodNamed B.named, hts, hK, fun q h => Or.inr h, B.notSynchronized⟩, B.returns, hX, rfl, (name_of_methodNamed B.named B.method).1, B.named⟩ _ _ _ hP hD0.self va_S.rf (lv_entry av hlen)
theorem pc_subD {ws wc : va_W} {A : Nat → Prop} (isC : List Nat) (hn : va_nd isC = true) (hC : isC.map (fun i => ws[i]?) = wc.map some) (hD : va_D A ws) : va_D (fun _ => True) wc := by
  exact (hD.sub isC hn hC).weaken (fun _ _ _ _ => trivial)
theorem pre_blind {D : va_G} {sz : Nat} {w0 : va_W} {av : List Value} {Xp : (Nat → Prop) → State → Prop} (hX : ∀ (A : Nat → Prop) (a : Array Value) (U : State) (g : JFrame) (mk : MethodId), Xp A U → Xp A (U.calling g mk a)) : FrameBlind (Pre D sz w0 av Xp) := by
  intro a U g mk q
  obtain ⟨q0, q1, qP, qK, qD, qX⟩ := q
  exact ⟨q0, q1, qP, va_K.moved (u := U) (U := U.calling g mk a) (Vm.Alike.refl U.vm) qK, qD, hX _ _ _ _ _ qX⟩
/-- what of the start a callee asks beside its world: it goes over -/
def Pass (Xp : (Nat → Prop) → State → Prop) (s : State) (A : Nat → Prop) : Prop := (∀ (A : Nat → Prop) (a : Array Value) (U : State) (g : JFrame) (mk : MethodId), Xp A U → Xp A (U.calling g mk a)) ∧ ∀ (A1 : Nat → Prop) (H : Heap) (locs : List Loc) (U : State), (∀ q, A1 q → A q) → va_S A s.heap H locs → U.heap = H → s.WarmedH U.vm → Xp A1 U
theorem pass_no {s : State} {A : Nat → Prop} : Pass NoX s A := ⟨fun _ _ _ _ _ _ => trivial, fun _ _ _ _ _ _ _ _ => trivial⟩
theorem v_callVi (pc' : Nat) (X : CX p s m args meth c D A cc nL own) {y : MethodName} {b : ByteArray} {L index : Nat} {r : Option FieldType} {rm : Room} {Xp : (Nat → Prop) → State → Prop} {post : Int32 → va_W → Prop} {b0 : Nat} (n : Nat) (As : List Value) {rest : List Value} (isC isR : List Nat) {wc wr : va_W} (hC : isC.map (fun i => ws[i]?) = wc.map some) (hR : isR.map (fun i => ws[i]?) = wr.map some) (hn : va_nd isR = true) (hdis : ∀ i ∈ isR, i ∉ isC) (hM : CTi l y b L r rm D wc (.ref b0 :: As) Xp post) {C : String} (h1 : Cond.methodLink own index y ∈ lw_all) (h2 : Cond.instanceMethod y ∈ lw_all) (h3 : Cond.selects C y y ∈ lw_all) (h4 : Cond.initialized C ∈ lw_all) (h5 : Cond.code y b L r ∈ lw_all) (hd : y.cls = C ∧ y.cls ≠ "java/lang/invoke/MethodHandle" ∧ y.cls ≠ "java/lang/invoke/VarHandle" ∧ (parseMethodDescriptor y.desc).map (fun d => d.parameters.length) = some n) (q0 : Nat) {ci : Nat} {fs : List Value} {T : u_T} {N : Nat} (he : ws[q0]? = some (b0, .inr (ci, fs))) (hci : CL[ci]? = some (C, T, N)) (hX : Pass Xp s A) (hnC : va_nd isC = true) (hroom : rm.frames + 1 ≤ R.frames ∧ 8 + (L + 11) + rm.locals ≤ R.locals) (hcs : cells + rm.cells ≤ R.cells ∧ slots + rm.slots ≤ R.slots) (hnA : As.length = n) (hst : st = As.reverse ++ .ref b0 :: rest) (hrest : (rest.map fun v => v.category).sum ≤ 8) (d : decode cc pc = .ok (.invokevirtual index, 3)) (hp : pc + 3 = pc') (k : ∀ (r1 : Int32) (u : va_W), post r1 u → V p l e R s m args below meth c D A nL Q (wr ++ u) (cells + rm.cells) (slots + rm.slots) pc' lv (.int r1 :: rest)) : V p l e R s m args below meth c D A nL Q ws cells slots pc lv st := by
  subst hp
  subst hst
  intro H locs ls hP hD hS hl
  have hPc := pc_sub isC hC hP
  have hDc := pc_subD isC hnC hC hD
  have hFc := va_free (wc := wc) hD hS X.hA isC hC
  refine va_calli (va_runV (As := As) (rest := rest) ⟨X.hx, X.hb, X.hml, X.hown, X.hts⟩ (hM H.size) (cwV n X.hts (lw_V h1 h2 h3 h4 h5) rfl rfl rfl hd hroom) ⟨pre_blind hX.1, va_recv X.hK hP hci he, fun U hU hW => ⟨rfl, by rw [hU], by rw [hU]; exact hPc, va_K.moved hW.alike X.hK, hDc, hX.2 _ H locs U hFc hS hU hW⟩⟩ rfl hnA hl.1 rfl (lv_room hrest) d hcs) hS (fun q _ h => hFc q h) hFc (fun r1 u t H1 locs1 ht hvm hpo hB hz1 hk1 hS1 => ?_)
  obtain ⟨hP1, hD1⟩ := hB
  rw [ht] at hP1
  obtain ⟨hP, hD⟩ := va_join hP hD isC isR hC hR hn hdis hk1 hFc hP1 hD1
  exact k r1 u hpo H1 locs1 ls hP hD hS1 hl
theorem v_callVl (pc' : Nat) (X : CX p s m args meth c D A cc nL own) {y : MethodName} {b : ByteArray} {L index : Nat} {r : Option FieldType} {rm : Room} {Xp : (Nat → Prop) → State → Prop} {post : Int64 → va_W → Prop} {b0 : Nat} (n : Nat) (As : List Value) {rest : List Value} (isC isR : List Nat) {wc wr : va_W} (hC : isC.map (fun i => ws[i]?) = wc.map some) (hR : isR.map (fun i => ws[i]?) = wr.map some) (hn : va_nd isR = true) (hdis : ∀ i ∈ isR, i ∉ isC) (hM : CTl l y b L r rm D wc (.ref b0 :: As) Xp post) {C : String} (h1 : Cond.methodLink own index y ∈ lw_all) (h2 : Cond.instanceMethod y ∈ lw_all) (h3 : Cond.selects C y y ∈ lw_all) (h4 : Cond.initialized C ∈ lw_all) (h5 : Cond.code y b L r ∈ lw_all) (hd : y.cls = C ∧ y.cls ≠ "java/lang/invoke/MethodHandle" ∧ y.cls ≠ "java/lang/invoke/VarHandle" ∧ (parseMethodDescriptor y.desc).map (fun d => d.parameters.length) = some n) (q0 : Nat) {ci : Nat} {fs : List Value} {T : u_T} {N : Nat} (he : ws[q0]? = some (b0, .inr (ci, fs))) (hci : CL[ci]? = some (C, T, N)) (hX : Pass Xp s A) (hnC : va_nd isC = true) (hroom : rm.frames + 1 ≤ R.frames ∧ 8 + (L + 11) + rm.locals ≤ R.locals) (hcs : cells + rm.cells ≤ R.cells ∧ slots + rm.slots ≤ R.slots) (hnA : As.length = n) (hst : st = As.reverse ++ .ref b0 :: rest) (hrest : (rest.map fun v => v.category).sum ≤ 8) (d : decode cc pc = .ok (.invokevirtual index, 3)) (hp : pc + 3 = pc') (k : ∀ (r1 : Int64) (u : va_W), post r1 u → V p l e R s m args below meth c D A nL Q (wr ++ u) (cells + rm.cells) (slots + rm.slots) pc' lv (.long r1 :: rest)) : V p l e R s m args below meth c D A nL Q ws cells slots pc lv st := by
  subst hp
  subst hst
  intro H locs ls hP hD hS hl
  have hPc := pc_sub isC hC hP
  have hDc := pc_subD isC hnC hC hD
  have hFc := va_free (wc := wc) hD hS X.hA isC hC
  refine va_calll (va_runV (As := As) (rest := rest) ⟨X.hx, X.hb, X.hml, X.hown, X.hts⟩ (hM H.size) (cwV n X.hts (lw_V h1 h2 h3 h4 h5) rfl rfl rfl hd hroom) ⟨pre_blind hX.1, va_recv X.hK hP hci he, fun U hU hW => ⟨rfl, by rw [hU], by rw [hU]; exact hPc, va_K.moved hW.alike X.hK, hDc, hX.2 _ H locs U hFc hS hU hW⟩⟩ rfl hnA hl.1 rfl (lv_room hrest) d hcs) hS (fun q _ h => hFc q h) hFc (fun r1 u t H1 locs1 ht hvm hpo hB hz1 hk1 hS1 => ?_)
  obtain ⟨hP1, hD1⟩ := hB
  rw [ht] at hP1
  obtain ⟨hP, hD⟩ := va_join hP hD isC isR hC hR hn hdis hk1 hFc hP1 hD1
  exact k r1 u hpo H1 locs1 ls hP hD hS1 hl
theorem v_callVv (pc' : Nat) (X : CX p s m args meth c D A cc nL own) {y : MethodName} {b : ByteArray} {L index : Nat} {r : Option FieldType} {rm : Room} {Xp : (Nat → Prop) → State → Prop} {post : va_W → Prop} {b0 : Nat} (n : Nat) (As : List Value) {rest : List Value} (isC isR : List Nat) {wc wr : va_W} (hC : isC.map (fun i => ws[i]?) = wc.map some) (hR : isR.map (fun i => ws[i]?) = wr.map some) (hn : va_nd isR = true) (hdis : ∀ i ∈ isR, i ∉ isC) (hM : CTv l y b L r rm D wc (.ref b0 :: As) Xp post) {C : String} (h1 : Cond.methodLink own index y ∈ lw_all) (h2 : Cond.instanceMethod y ∈ lw_all) (h3 : Cond.selects C y y ∈ lw_all) (h4 : Cond.initialized C ∈ lw_all) (h5 : Cond.code y b L r ∈ lw_all) (hd : y.cls = C ∧ y.cls ≠ "java/lang/invoke/MethodHandle" ∧ y.cls ≠ "java/lang/invoke/VarHandle" ∧ (parseMethodDescriptor y.desc).map (fun d => d.parameters.length) = some n) (q0 : Nat) {ci : Nat} {fs : List Value} {T : u_T} {N : Nat} (he : ws[q0]? = some (b0, .inr (ci, fs))) (hci : CL[ci]? = some (C, T, N)) (hX : Pass Xp s A) (hnC : va_nd isC = true) (hroom : rm.frames + 1 ≤ R.frames ∧ 8 + (L + 11) + rm.locals ≤ R.locals) (hcs : cells + rm.cells ≤ R.cells ∧ slots + rm.slots ≤ R.slots) (hnA : As.length = n) (hst : st = As.reverse ++ .ref b0 :: rest) (hrest : (rest.map fun v => v.category).sum ≤ 8) (d : decode cc pc = .ok (.invokevirtual index, 3)) (hp : pc + 3 = pc') (k : ∀ (u : va_W), post u → V p l e R s m args below meth c D A nL Q (wr ++ u) (cells + rm.cells) (slots + rm.slots) pc' lv rest) : V p l e R s m args below meth c D A nL Q ws cells slots pc lv st := by
  subst hp
  subst hst
  intro H locs ls hP hD hS hl
  have hPc := pc_sub isC hC hP
  have hDc := pc_subD isC hnC hC hD
  have hFc := va_free (wc := wc) hD hS X.hA isC hC
  refine va_callv (va_runV (As := As) (rest := rest) ⟨X.hx, X.hb, X.hml, X.hown, X.hts⟩ (hM H.size) (cwV n X.hts (lw_V h1 h2 h3 h4 h5) rfl rfl rfl hd hroom) ⟨pre_blind hX.1, va_recv X.hK hP hci he, fun U hU hW => ⟨rfl, by rw [hU], by rw [hU]; exact hPc, va_K.moved hW.alike X.hK, hDc, hX.2 _ H locs U hFc hS hU hW⟩⟩ rfl hnA hl.1 rfl (lv_room hrest) d hcs) hS (fun q _ h => hFc q h) hFc (fun u t H1 locs1 ht hvm hpo hB hz1 hk1 hS1 => ?_)
  obtain ⟨hP1, hD1⟩ := hB
  rw [ht] at hP1
  obtain ⟨hP, hD⟩ := va_join hP hD isC isR hC hR hn hdis hk1 hFc hP1 hD1
  exact k u hpo H1 locs1 ls hP hD hS1 hl
theorem v_callSi (pc' : Nat) (X : CX p s m args meth c D A cc nL own) {y : MethodName} {b : ByteArray} {L index : Nat} {r : Option FieldType} {rm : Room} {Xp : (Nat → Prop) → State → Prop} {post : Int32 → va_W → Prop} (n : Nat) (As : List Value) {rest : List Value} (isC isR : List Nat) {wc wr : va_W} (hC : isC.map (fun i => ws[i]?) = wc.map some) (hR : isR.map (fun i => ws[i]?) = wr.map some) (hn : va_nd isR = true) (hdis : ∀ i ∈ isR, i ∉ isC) (hM : CTi l y b L r rm D wc As Xp post) (h1 : Cond.methodLink own index y ∈ lw_all) (h2 : Cond.static y ∈ lw_all) (h4 : Cond.initialized y.cls ∈ lw_all) (h5 : Cond.code y b L r ∈ lw_all) (hd : y.cls ≠ "java/lang/invoke/MethodHandle" ∧ y.cls ≠ "java/lang/invoke/VarHandle" ∧ (parseMethodDescriptor y.desc).map (fun d => d.parameters.length) = some n)  (hX : Pass Xp s A) (hnC : va_nd isC = true) (hroom : rm.frames + 1 ≤ R.frames ∧ 8 + (L + 11) + rm.locals ≤ R.locals) (hcs : cells + rm.cells ≤ R.cells ∧ slots + rm.slots ≤ R.slots) (hnA : As.length = n) (hst : st = As.reverse ++ rest) (hrest : (rest.map fun v => v.category).sum ≤ 8) (d : decode cc pc = .ok (.invokestatic index, 3)) (hp : pc + 3 = pc') (k : ∀ (r1 : Int32) (u : va_W), post r1 u → V p l e R s m args below meth c D A nL Q (wr ++ u) (cells + rm.cells) (slots + rm.slots) pc' lv (.int r1 :: rest)) : V p l e R s m args below meth c D A nL Q ws cells slots pc lv st := by
  subst hp
  subst hst
  intro H locs ls hP hD hS hl
  have hPc := pc_sub isC hC hP
  have hDc := pc_subD isC hnC hC hD
  have hFc := va_free (wc := wc) hD hS X.hA isC hC
  refine va_calli (va_runS (As := As) (rest := rest) ⟨X.hx, X.hb, X.hml, X.hown, X.hts⟩ (hM H.size) (va_cwS n X.hts (lw_S h1 h2 h4 h5) rfl rfl rfl hd hroom) ⟨pre_blind hX.1, fun U hU hW => ⟨rfl, by rw [hU], by rw [hU]; exact hPc, va_K.moved hW.alike X.hK, hDc, hX.2 _ H locs U hFc hS hU hW⟩⟩ rfl hnA hl.1 rfl (lv_room hrest) d hcs) hS (fun q _ h => hFc q h) hFc (fun r1 u t H1 locs1 ht hvm hpo hB hz1 hk1 hS1 => ?_)
  obtain ⟨hP1, hD1⟩ := hB
  rw [ht] at hP1
  obtain ⟨hP, hD⟩ := va_join hP hD isC isR hC hR hn hdis hk1 hFc hP1 hD1
  exact k r1 u hpo H1 locs1 ls hP hD hS1 hl
theorem v_callSl (pc' : Nat) (X : CX p s m args meth c D A cc nL own) {y : MethodName} {b : ByteArray} {L index : Nat} {r : Option FieldType} {rm : Room} {Xp : (Nat → Prop) → State → Prop} {post : Int64 → va_W → Prop} (n : Nat) (As : List Value) {rest : List Value} (isC isR : List Nat) {wc wr : va_W} (hC : isC.map (fun i => ws[i]?) = wc.map some) (hR : isR.map (fun i => ws[i]?) = wr.map some) (hn : va_nd isR = true) (hdis : ∀ i ∈ isR, i ∉ isC) (hM : CTl l y b L r rm D wc As Xp post) (h1 : Cond.methodLink own index y ∈ lw_all) (h2 : Cond.static y ∈ lw_all) (h4 : Cond.initialized y.cls ∈ lw_all) (h5 : Cond.code y b L r ∈ lw_all) (hd : y.cls ≠ "java/lang/invoke/MethodHandle" ∧ y.cls ≠ "java/lang/invoke/VarHandle" ∧ (parseMethodDescriptor y.desc).map (fun d => d.parameters.length) = some n)  (hX : Pass Xp s A) (hnC : va_nd isC = true) (hroom : rm.frames + 1 ≤ R.frames ∧ 8 + (L + 11) + rm.locals ≤ R.locals) (hcs : cells + rm.cells ≤ R.cells ∧ slots + rm.slots ≤ R.slots) (hnA : As.length = n) (hst : st = As.reverse ++ rest) (hrest : (rest.map fun v => v.category).sum ≤ 8) (d : decode cc pc = .ok (.invokestatic index, 3)) (hp : pc + 3 = pc') (k : ∀ (r1 : Int64) (u : va_W), post r1 u → V p l e R s m args below meth c D A nL Q (wr ++ u) (cells + rm.cells) (slots + rm.slots) pc' lv (.long r1 :: rest)) : V p l e R s m args below meth c D A nL Q ws cells slots pc lv st := by
  subst hp
  subst hst
  intro H locs ls hP hD hS hl
  have hPc := pc_sub isC hC hP
  have hDc := pc_subD isC hnC hC hD
  have hFc := va_free (wc := wc) hD hS X.hA isC hC
  refine va_calll (va_runS (As := As) (rest := rest) ⟨X.hx, X.hb, X.hml, X.hown, X.hts⟩ (hM H.size) (va_cwS n X.hts (lw_S h1 h2 h4 h5) rfl rfl rfl hd hroom) ⟨pre_blind hX.1, fun U hU hW => ⟨rfl, by rw [hU], by rw [hU]; exact hPc, va_K.moved hW.alike X.hK, hDc, hX.2 _ H locs U hFc hS hU hW⟩⟩ rfl hnA hl.1 rfl (lv_room hrest) d hcs) hS (fun q _ h => hFc q h) hFc (fun r1 u t H1 locs1 ht hvm hpo hB hz1 hk1 hS1 => ?_)
  obtain ⟨hP1, hD1⟩ := hB
  rw [ht] at hP1
  obtain ⟨hP, hD⟩ := va_join hP hD isC isR hC hR hn hdis hk1 hFc hP1 hD1
  exact k r1 u hpo H1 locs1 ls hP hD hS1 hl
theorem v_callSv (pc' : Nat) (X : CX p s m args meth c D A cc nL own) {y : MethodName} {b : ByteArray} {L index : Nat} {r : Option FieldType} {rm : Room} {Xp : (Nat → Prop) → State → Prop} {post : va_W → Prop} (n : Nat) (As : List Value) {rest : List Value} (isC isR : List Nat) {wc wr : va_W} (hC : isC.map (fun i => ws[i]?) = wc.map some) (hR : isR.map (fun i => ws[i]?) = wr.map some) (hn : va_nd isR = true) (hdis : ∀ i ∈ isR, i ∉ isC) (hM : CTv l y b L r rm D wc As Xp post) (h1 : Cond.methodLink own index y ∈ lw_all) (h2 : Cond.static y ∈ lw_all) (h4 : Cond.initialized y.cls ∈ lw_all) (h5 : Cond.code y b L r ∈ lw_all) (hd : y.cls ≠ "java/lang/invoke/MethodHandle" ∧ y.cls ≠ "java/lang/invoke/VarHandle" ∧ (parseMethodDescriptor y.desc).map (fun d => d.parameters.length) = some n)  (hX : Pass Xp s A) (hnC : va_nd isC = true) (hroom : rm.frames + 1 ≤ R.frames ∧ 8 + (L + 11) + rm.locals ≤ R.locals) (hcs : cells + rm.cells ≤ R.cells ∧ slots + rm.slots ≤ R.slots) (hnA : As.length = n) (hst : st = As.reverse ++ rest) (hrest : (rest.map fun v => v.category).sum ≤ 8) (d : decode cc pc = .ok (.invokestatic index, 3)) (hp : pc + 3 = pc') (k : ∀ (u : va_W), post u → V p l e R s m args below meth c D A nL Q (wr ++ u) (cells + rm.cells) (slots + rm.slots) pc' lv rest) : V p l e R s m args below meth c D A nL Q ws cells slots pc lv st := by
  subst hp
  subst hst
  intro H locs ls hP hD hS hl
  have hPc := pc_sub isC hC hP
  have hDc := pc_subD isC hnC hC hD
  have hFc := va_free (wc := wc) hD hS X.hA isC hC
  refine va_callv (va_runS (As := As) (rest := rest) ⟨X.hx, X.hb, X.hml, X.hown, X.hts⟩ (hM H.size) (va_cwS n X.hts (lw_S h1 h2 h4 h5) rfl rfl rfl hd hroom) ⟨pre_blind hX.1, fun U hU hW => ⟨rfl, by rw [hU], by rw [hU]; exact hPc, va_K.moved hW.alike X.hK, hDc, hX.2 _ H locs U hFc hS hU hW⟩⟩ rfl hnA hl.1 rfl (lv_room hrest) d hcs) hS (fun q _ h => hFc q h) hFc (fun u t H1 locs1 ht hvm hpo hB hz1 hk1 hS1 => ?_)
  obtain ⟨hP1, hD1⟩ := hB
  rw [ht] at hP1
  obtain ⟨hP, hD⟩ := va_join hP hD isC isR hC hR hn hdis hk1 hFc hP1 hD1
  exact k u hpo H1 locs1 ls hP hD hS1 hl
theorem whole_free {ws : va_W} {H : Heap} {locs : List Loc} (hD : va_D A ws) (hS : va_S A s.heap H locs) (hA : ∀ q : Nat, s.heap.size ≤ q → A q) : ∀ q, va_A ws H.size q → A q := by
  intro q h
  rcases h with ⟨k, e1, h⟩ | h
  · exact hD.2 k (q, e1) h
  · exact hA q (Nat.le_trans hS.1 h)
theorem v_mVi (pc' : Nat) (X : CX p s m args meth c D A cc nL own) {y : MethodName} {b : ByteArray} {L index : Nat} {r : Option FieldType} {rm : Room} {Xp : (Nat → Prop) → State → Prop} {r0 : Int32} {u0 : va_W} {b0 : Nat} (n : Nat) (As : List Value) {rest : List Value} (hM : CTi l y b L r rm D ws (.ref b0 :: As) Xp (fun (r1 : Int32) u => r1 = r0 ∧ u = u0)) {C : String} (h1 : Cond.methodLink own index y ∈ lw_all) (h2 : Cond.instanceMethod y ∈ lw_all) (h3 : Cond.selects C y y ∈ lw_all) (h4 : Cond.initialized C ∈ lw_all) (h5 : Cond.code y b L r ∈ lw_all) (hd : y.cls = C ∧ y.cls ≠ "java/lang/invoke/MethodHandle" ∧ y.cls ≠ "java/lang/invoke/VarHandle" ∧ (parseMethodDescriptor y.desc).map (fun d => d.parameters.length) = some n) (q0 : Nat) {ci : Nat} {fs : List Value} {T : u_T} {N : Nat} (he : ws[q0]? = some (b0, .inr (ci, fs))) (hci : CL[ci]? = some (C, T, N)) (hX : Pass Xp s A) (hz : rm.cells = 0 ∧ rm.slots = 0) (hroom : rm.frames + 1 ≤ R.frames ∧ 8 + (L + 11) + rm.locals ≤ R.locals) (hcs : cells + 0 ≤ R.cells ∧ slots + 0 ≤ R.slots) (hnA : As.length = n) (hst : st = As.reverse ++ .ref b0 :: rest) (hrest : (rest.map fun v => v.category).sum ≤ 8) (d : decode cc pc = .ok (.invokevirtual index, 3)) (hp : pc + 3 = pc') (k : V p l e R s m args below meth c D A nL Q u0 cells slots pc' lv (.int r0 :: rest)) : V p l e R s m args below meth c D A nL Q ws cells slots pc lv st := by
  subst hp
  subst hst
  intro H locs ls hP hD hS hl
  have hDc : va_D (fun _ => True) ws := hD.weaken (fun _ _ _ _ => trivial)
  have hFc := whole_free hD hS X.hA
  refine va_calli (va_runV (As := As) (rest := rest) ⟨X.hx, X.hb, X.hml, X.hown, X.hts⟩ (hM H.size) (cwV n X.hts (lw_V h1 h2 h3 h4 h5) rfl rfl rfl hd hroom) ⟨pre_blind hX.1, va_recv X.hK hP hci he, fun U hU hW => ⟨rfl, by rw [hU], by rw [hU]; exact hP, va_K.moved hW.alike X.hK, hDc, hX.2 _ H locs U hFc hS hU hW⟩⟩ rfl hnA hl.1 rfl (lv_room hrest) d ⟨by rw [hz.1]; exact hcs.1, by rw [hz.2]; exact hcs.2⟩) hS (fun q _ h => hFc q h) hFc (fun r1 u t H1 locs1 ht hvm hpo hB hz1 hk1 hS1 => ?_)
  obtain ⟨hP1, hD1⟩ := hB
  rw [ht] at hP1
  rw [hz.1, hz.2]
  obtain ⟨rfl, rfl⟩ := hpo
  exact k H1 locs1 ls hP1 (hD1.weaken (fun _ _ _ h => hFc _ h)) hS1 hl
theorem v_mVl (pc' : Nat) (X : CX p s m args meth c D A cc nL own) {y : MethodName} {b : ByteArray} {L index : Nat} {r : Option FieldType} {rm : Room} {Xp : (Nat → Prop) → State → Prop} {r0 : Int64} {u0 : va_W} {b0 : Nat} (n : Nat) (As : List Value) {rest : List Value} (hM : CTl l y b L r rm D ws (.ref b0 :: As) Xp (fun (r1 : Int64) u => r1 = r0 ∧ u = u0)) {C : String} (h1 : Cond.methodLink own index y ∈ lw_all) (h2 : Cond.instanceMethod y ∈ lw_all) (h3 : Cond.selects C y y ∈ lw_all) (h4 : Cond.initialized C ∈ lw_all) (h5 : Cond.code y b L r ∈ lw_all) (hd : y.cls = C ∧ y.cls ≠ "java/lang/invoke/MethodHandle" ∧ y.cls ≠ "java/lang/invoke/VarHandle" ∧ (parseMethodDescriptor y.desc).map (fun d => d.parameters.length) = some n) (q0 : Nat) {ci : Nat} {fs : List Value} {T : u_T} {N : Nat} (he : ws[q0]? = some (b0, .inr (ci, fs))) (hci : CL[ci]? = some (C, T, N)) (hX : Pass Xp s A) (hz : rm.cells = 0 ∧ rm.slots = 0) (hroom : rm.frames + 1 ≤ R.frames ∧ 8 + (L + 11) + rm.locals ≤ R.locals) (hcs : cells + 0 ≤ R.cells ∧ slots + 0 ≤ R.slots) (hnA : As.length = n) (hst : st = As.reverse ++ .ref b0 :: rest) (hrest : (rest.map fun v => v.category).sum ≤ 8) (d : decode cc pc = .ok (.invokevirtual index, 3)) (hp : pc + 3 = pc') (k : V p l e R s m args below meth c D A nL Q u0 cells slots pc' lv (.long r0 :: rest)) : V p l e R s m args below meth c D A nL Q ws cells slots pc lv st := by
  subst hp
  subst hst
  intro H locs ls hP hD hS hl
  have hDc : va_D (fun _ => True) ws := hD.weaken (fun _ _ _ _ => trivial)
  have hFc := whole_free hD hS X.hA
  refine va_calll (va_runV (As := As) (rest := rest) ⟨X.hx, X.hb, X.hml, X.hown, X.hts⟩ (hM H.size) (cwV n X.hts (lw_V h1 h2 h3 h4 h5) rfl rfl rfl hd hroom) ⟨pre_blind hX.1, va_recv X.hK hP hci he, fun U hU hW => ⟨rfl, by rw [hU], by rw [hU]; exact hP, va_K.moved hW.alike X.hK, hDc, hX.2 _ H locs U hFc hS hU hW⟩⟩ rfl hnA hl.1 rfl (lv_room hrest) d ⟨by rw [hz.1]; exact hcs.1, by rw [hz.2]; exact hcs.2⟩) hS (fun q _ h => hFc q h) hFc (fun r1 u t H1 locs1 ht hvm hpo hB hz1 hk1 hS1 => ?_)
  obtain ⟨hP1, hD1⟩ := hB
  rw [ht] at hP1
  rw [hz.1, hz.2]
  obtain ⟨rfl, rfl⟩ := hpo
  exact k H1 locs1 ls hP1 (hD1.weaken (fun _ _ _ h => hFc _ h)) hS1 hl
theorem v_mVv (pc' : Nat) (X : CX p s m args meth c D A cc nL own) {y : MethodName} {b : ByteArray} {L index : Nat} {r : Option FieldType} {rm : Room} {Xp : (Nat → Prop) → State → Prop} {u0 : va_W} {b0 : Nat} (n : Nat) (As : List Value) {rest : List Value} (hM : CTv l y b L r rm D ws (.ref b0 :: As) Xp (fun u => u = u0)) {C : String} (h1 : Cond.methodLink own index y ∈ lw_all) (h2 : Cond.instanceMethod y ∈ lw_all) (h3 : Cond.selects C y y ∈ lw_all) (h4 : Cond.initialized C ∈ lw_all) (h5 : Cond.code y b L r ∈ lw_all) (hd : y.cls = C ∧ y.cls ≠ "java/lang/invoke/MethodHandle" ∧ y.cls ≠ "java/lang/invoke/VarHandle" ∧ (parseMethodDescriptor y.desc).map (fun d => d.parameters.length) = some n) (q0 : Nat) {ci : Nat} {fs : List Value} {T : u_T} {N : Nat} (he : ws[q0]? = some (b0, .inr (ci, fs))) (hci : CL[ci]? = some (C, T, N)) (hX : Pass Xp s A) (hz : rm.cells = 0 ∧ rm.slots = 0) (hroom : rm.frames + 1 ≤ R.frames ∧ 8 + (L + 11) + rm.locals ≤ R.locals) (hcs : cells + 0 ≤ R.cells ∧ slots + 0 ≤ R.slots) (hnA : As.length = n) (hst : st = As.reverse ++ .ref b0 :: rest) (hrest : (rest.map fun v => v.category).sum ≤ 8) (d : decode cc pc = .ok (.invokevirtual index, 3)) (hp : pc + 3 = pc') (k : V p l e R s m args below meth c D A nL Q u0 cells slots pc' lv rest) : V p l e R s m args below meth c D A nL Q ws cells slots pc lv st := by
  subst hp
  subst hst
  intro H locs ls hP hD hS hl
  have hDc : va_D (fun _ => True) ws := hD.weaken (fun _ _ _ _ => trivial)
  have hFc := whole_free hD hS X.hA
  refine va_callv (va_runV (As := As) (rest := rest) ⟨X.hx, X.hb, X.hml, X.hown, X.hts⟩ (hM H.size) (cwV n X.hts (lw_V h1 h2 h3 h4 h5) rfl rfl rfl hd hroom) ⟨pre_blind hX.1, va_recv X.hK hP hci he, fun U hU hW => ⟨rfl, by rw [hU], by rw [hU]; exact hP, va_K.moved hW.alike X.hK, hDc, hX.2 _ H locs U hFc hS hU hW⟩⟩ rfl hnA hl.1 rfl (lv_room hrest) d ⟨by rw [hz.1]; exact hcs.1, by rw [hz.2]; exact hcs.2⟩) hS (fun q _ h => hFc q h) hFc (fun u t H1 locs1 ht hvm hpo hB hz1 hk1 hS1 => ?_)
  obtain ⟨hP1, hD1⟩ := hB
  rw [ht] at hP1
  rw [hz.1, hz.2]
  subst hpo
  exact k H1 locs1 ls hP1 (hD1.weaken (fun _ _ _ h => hFc _ h)) hS1 hl
theorem v_mSi (pc' : Nat) (X : CX p s m args meth c D A cc nL own) {y : MethodName} {b : ByteArray} {L index : Nat} {r : Option FieldType} {rm : Room} {Xp : (Nat → Prop) → State → Prop} {r0 : Int32} {u0 : va_W} (n : Nat) (As : List Value) {rest : List Value} (hM : CTi l y b L r rm D ws As Xp (fun (r1 : Int32) u => r1 = r0 ∧ u = u0)) (h1 : Cond.methodLink own index y ∈ lw_all) (h2 : Cond.static y ∈ lw_all) (h4 : Cond.initialized y.cls ∈ lw_all) (h5 : Cond.code y b L r ∈ lw_all) (hd : y.cls ≠ "java/lang/invoke/MethodHandle" ∧ y.cls ≠ "java/lang/invoke/VarHandle" ∧ (parseMethodDescriptor y.desc).map (fun d => d.parameters.length) = some n)  (hX : Pass Xp s A) (hz : rm.cells = 0 ∧ rm.slots = 0) (hroom : rm.frames + 1 ≤ R.frames ∧ 8 + (L + 11) + rm.locals ≤ R.locals) (hcs : cells + 0 ≤ R.cells ∧ slots + 0 ≤ R.slots) (hnA : As.length = n) (hst : st = As.reverse ++ rest) (hrest : (rest.map fun v => v.category).sum ≤ 8) (d : decode cc pc = .ok (.invokestatic index, 3)) (hp : pc + 3 = pc') (k : V p l e R s m args below meth c D A nL Q u0 cells slots pc' lv (.int r0 :: rest)) : V p l e R s m args below meth c D A nL Q ws cells slots pc lv st := by
  subst hp
  subst hst
  intro H locs ls hP hD hS hl
  have hDc : va_D (fun _ => True) ws := hD.weaken (fun _ _ _ _ => trivial)
  have hFc := whole_free hD hS X.hA
  refine va_calli (va_runS (As := As) (rest := rest) ⟨X.hx, X.hb, X.hml, X.hown, X.hts⟩ (hM H.size) (va_cwS n X.hts (lw_S h1 h2 h4 h5) rfl rfl rfl hd hroom) ⟨pre_blind hX.1, fun U hU hW => ⟨rfl, by rw [hU], by rw [hU]; exact hP, va_K.moved hW.alike X.hK, hDc, hX.2 _ H locs U hFc hS hU hW⟩⟩ rfl hnA hl.1 rfl (lv_room hrest) d ⟨by rw [hz.1]; exact hcs.1, by rw [hz.2]; exact hcs.2⟩) hS (fun q _ h => hFc q h) hFc (fun r1 u t H1 locs1 ht hvm hpo hB hz1 hk1 hS1 => ?_)
  obtain ⟨hP1, hD1⟩ := hB
  rw [ht] at hP1
  rw [hz.1, hz.2]
  obtain ⟨rfl, rfl⟩ := hpo
  exact k H1 locs1 ls hP1 (hD1.weaken (fun _ _ _ h => hFc _ h)) hS1 hl
theorem v_mSl (pc' : Nat) (X : CX p s m args meth c D A cc nL own) {y : MethodName} {b : ByteArray} {L index : Nat} {r : Option FieldType} {rm : Room} {Xp : (Nat → Prop) → State → Prop} {r0 : Int64} {u0 : va_W} (n : Nat) (As : List Value) {rest : List Value} (hM : CTl l y b L r rm D ws As Xp (fun (r1 : Int64) u => r1 = r0 ∧ u = u0)) (h1 : Cond.methodLink own index y ∈ lw_all) (h2 : Cond.static y ∈ lw_all) (h4 : Cond.initialized y.cls ∈ lw_all) (h5 : Cond.code y b L r ∈ lw_all) (hd : y.cls ≠ "java/lang/invoke/MethodHandle" ∧ y.cls ≠ "java/lang/invoke/VarHandle" ∧ (parseMethodDescriptor y.desc).map (fun d => d.parameters.length) = some n)  (hX : Pass Xp s A) (hz : rm.cells = 0 ∧ rm.slots = 0) (hroom : rm.frames + 1 ≤ R.frames ∧ 8 + (L + 11) + rm.locals ≤ R.locals) (hcs : cells + 0 ≤ R.cells ∧ slots + 0 ≤ R.slots) (hnA : As.length = n) (hst : st = As.reverse ++ rest) (hrest : (rest.map fun v => v.category).sum ≤ 8) (d : decode cc pc = .ok (.invokestatic index, 3)) (hp : pc + 3 = pc') (k : V p l e R s m args below meth c D A nL Q u0 cells slots pc' lv (.long r0 :: rest)) : V p l e R s m args below meth c D A nL Q ws cells slots pc lv st := by
  subst hp
  subst hst
  intro H locs ls hP hD hS hl
  have hDc : va_D (fun _ => True) ws := hD.weaken (fun _ _ _ _ => trivial)
  have hFc := whole_free hD hS X.hA
  refine va_calll (va_runS (As := As) (rest := rest) ⟨X.hx, X.hb, X.hml, X.hown, X.hts⟩ (hM H.size) (va_cwS n X.hts (lw_S h1 h2 h4 h5) rfl rfl rfl hd hroom) ⟨pre_blind hX.1, fun U hU hW => ⟨rfl, by rw [hU], by rw [hU]; exact hP, va_K.moved hW.alike X.hK, hDc, hX.2 _ H locs U hFc hS hU hW⟩⟩ rfl hnA hl.1 rfl (lv_room hrest) d ⟨by rw [hz.1]; exact hcs.1, by rw [hz.2]; exact hcs.2⟩) hS (fun q _ h => hFc q h) hFc (fun r1 u t H1 locs1 ht hvm hpo hB hz1 hk1 hS1 => ?_)
  obtain ⟨hP1, hD1⟩ := hB
  rw [ht] at hP1
  rw [hz.1, hz.2]
  obtain ⟨rfl, rfl⟩ := hpo
  exact k H1 locs1 ls hP1 (hD1.weaken (fun _ _ _ h => hFc _ h)) hS1 hl
theorem v_mSv (pc' : Nat) (X : CX p s m args meth c D A cc nL own) {y : MethodName} {b : ByteArray} {L index : Nat} {r : Option FieldType} {rm : Room} {Xp : (Nat → Prop) → State → Prop} {u0 : va_W} (n : Nat) (As : List Value) {rest : List Value} (hM : CTv l y b L r rm D ws As Xp (fun u => u = u0)) (h1 : Cond.methodLink own index y ∈ lw_all) (h2 : Cond.static y ∈ lw_all) (h4 : Cond.initialized y.cls ∈ lw_all) (h5 : Cond.code y b L r ∈ lw_all) (hd : y.cls ≠ "java/lang/invoke/MethodHandle" ∧ y.cls ≠ "java/lang/invoke/VarHandle" ∧ (parseMethodDescriptor y.desc).map (fun d => d.parameters.length) = some n)  (hX : Pass Xp s A) (hz : rm.cells = 0 ∧ rm.slots = 0) (hroom : rm.frames + 1 ≤ R.frames ∧ 8 + (L + 11) + rm.locals ≤ R.locals) (hcs : cells + 0 ≤ R.cells ∧ slots + 0 ≤ R.slots) (hnA : As.length = n) (hst : st = As.reverse ++ rest) (hrest : (rest.map fun v => v.category).sum ≤ 8) (d : decode cc pc = .ok (.invokestatic index, 3)) (hp : pc + 3 = pc') (k : V p l e R s m args below meth c D A nL Q u0 cells slots pc' lv rest) : V p l e R s m args below meth c D A nL Q ws cells slots pc lv st := by
  subst hp
  subst hst
  intro H locs ls hP hD hS hl
  have hDc : va_D (fun _ => True) ws := hD.weaken (fun _ _ _ _ => trivial)
  have hFc := whole_free hD hS X.hA
  refine va_callv (va_runS (As := As) (rest := rest) ⟨X.hx, X.hb, X.hml, X.hown, X.hts⟩ (hM H.size) (va_cwS n X.hts (lw_S h1 h2 h4 h5) rfl rfl rfl hd hroom) ⟨pre_blind hX.1, fun U hU hW => ⟨rfl, by rw [hU], by rw [hU]; exact hP, va_K.moved hW.alike X.hK, hDc, hX.2 _ H locs U hFc hS hU hW⟩⟩ rfl hnA hl.1 rfl (lv_room hrest) d ⟨by rw [hz.1]; exact hcs.1, by rw [hz.2]; exact hcs.2⟩) hS (fun q _ h => hFc q h) hFc (fun u t H1 locs1 ht hvm hpo hB hz1 hk1 hS1 => ?_)
  obtain ⟨hP1, hD1⟩ := hB
  rw [ht] at hP1
  rw [hz.1, hz.2]
  subst hpo
  exact k H1 locs1 ls hP1 (hD1.weaken (fun _ _ _ h => hFc _ h)) hS1 hl
theorem v_topi {x y : Int32} (h : x = y) (k : V p l e R s m args below meth c D A nL Q ws cells slots pc lv (.int y :: st)) : V p l e R s m args below meth c D A nL Q ws cells slots pc lv (.int x :: st) := by
  subst h
  exact k
theorem v_tableAt (tgt : Nat) (X : CX p s m args meth c D A cc nL own) {x : Int32} {dflt lo hi off : Int} {offs : Array Int} {len : Nat} (j : Int32) (hj : x = j) (d : decode cc pc = .ok (.tableswitch dflt lo hi offs, len)) (h1 : ¬ j.toInt < lo) (h2 : ¬ hi < j.toInt) (ho : offs[(j.toInt - lo).toNat]? = some off) (ht : (pc : Int) + off = (tgt : Int)) (k : V p l e R s m args below meth c D A nL Q ws cells slots tgt lv st) : V p l e R s m args below meth c D A nL Q ws cells slots pc lv (.int x :: st) := by
  subst hj
  exact fun H locs ls hP hD hS hl => lv_tableIn X.hx X.hb d h1 h2 ho ht (k H locs ls hP hD hS hl)
theorem v_tableNo (tgt : Nat) (X : CX p s m args meth c D A cc nL own) {x : Int32} {dflt lo hi : Int} {offs : Array Int} {len : Nat} (d : decode cc pc = .ok (.tableswitch dflt lo hi offs, len)) (h : x.toInt < lo ∨ hi < x.toInt) (ht : (pc : Int) + dflt = (tgt : Int)) (k : V p l e R s m args below meth c D A nL Q ws cells slots tgt lv st) : V p l e R s m args below meth c D A nL Q ws cells slots pc lv (.int x :: st) :=
  fun H locs ls hP hD hS hl => lv_tableOut X.hx X.hb d h ht (k H locs ls hP hD hS hl)
theorem i32_of {x : Int32} {k : Int} (h : x.toInt = k) : x = Int32.ofInt k := by rw [← h]; exact (Int32.ofInt_toInt x).symm
end VK
theorem ki_m1 : Int32.ofInt (-1) = (-1) := by decide
theorem ki_0 : Int32.ofInt (0) = (0) := by decide
theorem ki_1 : Int32.ofInt (1) = (1) := by decide
theorem ki_2 : Int32.ofInt (2) = (2) := by decide
theorem ki_3 : Int32.ofInt (3) = (3) := by decide
theorem ki_4 : Int32.ofInt (4) = (4) := by decide
theorem ki_5 : Int32.ofInt (5) = (5) := by decide
theorem kb_m128 : (Int8.ofInt (-128)).toInt32 = (-128) := by decide
theorem kb_m127 : (Int8.ofInt (-127)).toInt32 = (-127) := by decide
theorem kb_m126 : (Int8.ofInt (-126)).toInt32 = (-126) := by decide
theorem kb_m125 : (Int8.ofInt (-125)).toInt32 = (-125) := by decide
theorem kb_m124 : (Int8.ofInt (-124)).toInt32 = (-124) := by decide
theorem kb_m123 : (Int8.ofInt (-123)).toInt32 = (-123) := by decide
theorem kb_m122 : (Int8.ofInt (-122)).toInt32 = (-122) := by decide
theorem kb_m121 : (Int8.ofInt (-121)).toInt32 = (-121) := by decide
theorem kb_m120 : (Int8.ofInt (-120)).toInt32 = (-120) := by decide
theorem kb_m119 : (Int8.ofInt (-119)).toInt32 = (-119) := by decide
theorem kb_m118 : (Int8.ofInt (-118)).toInt32 = (-118) := by decide
theorem kb_m117 : (Int8.ofInt (-117)).toInt32 = (-117) := by decide
theorem kb_m116 : (Int8.ofInt (-116)).toInt32 = (-116) := by decide
theorem kb_m115 : (Int8.ofInt (-115)).toInt32 = (-115) := by decide
theorem kb_m114 : (Int8.ofInt (-114)).toInt32 = (-114) := by decide
theorem kb_m113 : (Int8.ofInt (-113)).toInt32 = (-113) := by decide
theorem kb_m112 : (Int8.ofInt (-112)).toInt32 = (-112) := by decide
theorem kb_m111 : (Int8.ofInt (-111)).toInt32 = (-111) := by decide
theorem kb_m110 : (Int8.ofInt (-110)).toInt32 = (-110) := by decide
theorem kb_m109 : (Int8.ofInt (-109)).toInt32 = (-109) := by decide
theorem kb_m108 : (Int8.ofInt (-108)).toInt32 = (-108) := by decide
theorem kb_m107 : (Int8.ofInt (-107)).toInt32 = (-107) := by decide
theorem kb_m106 : (Int8.ofInt (-106)).toInt32 = (-106) := by decide
theorem kb_m105 : (Int8.ofInt (-105)).toInt32 = (-105) := by decide
theorem kb_m104 : (Int8.ofInt (-104)).toInt32 = (-104) := by decide
theorem kb_m103 : (Int8.ofInt (-103)).toInt32 = (-103) := by decide
theorem kb_m102 : (Int8.ofInt (-102)).toInt32 = (-102) := by decide
theorem kb_m101 : (Int8.ofInt (-101)).toInt32 = (-101) := by decide
theorem kb_m100 : (Int8.ofInt (-100)).toInt32 = (-100) := by decide
theorem kb_m99 : (Int8.ofInt (-99)).toInt32 = (-99) := by decide
theorem kb_m98 : (Int8.ofInt (-98)).toInt32 = (-98) := by decide
theorem kb_m97 : (Int8.ofInt (-97)).toInt32 = (-97) := by decide
theorem kb_m96 : (Int8.ofInt (-96)).toInt32 = (-96) := by decide
theorem kb_m95 : (Int8.ofInt (-95)).toInt32 = (-95) := by decide
theorem kb_m94 : (Int8.ofInt (-94)).toInt32 = (-94) := by decide
theorem kb_m93 : (Int8.ofInt (-93)).toInt32 = (-93) := by decide
theorem kb_m92 : (Int8.ofInt (-92)).toInt32 = (-92) := by decide
theorem kb_m91 : (Int8.ofInt (-91)).toInt32 = (-91) := by decide
theorem kb_m90 : (Int8.ofInt (-90)).toInt32 = (-90) := by decide
theorem kb_m89 : (Int8.ofInt (-89)).toInt32 = (-89) := by decide
theorem kb_m88 : (Int8.ofInt (-88)).toInt32 = (-88) := by decide
theorem kb_m87 : (Int8.ofInt (-87)).toInt32 = (-87) := by decide
theorem kb_m86 : (Int8.ofInt (-86)).toInt32 = (-86) := by decide
theorem kb_m85 : (Int8.ofInt (-85)).toInt32 = (-85) := by decide
theorem kb_m84 : (Int8.ofInt (-84)).toInt32 = (-84) := by decide
theorem kb_m83 : (Int8.ofInt (-83)).toInt32 = (-83) := by decide
theorem kb_m82 : (Int8.ofInt (-82)).toInt32 = (-82) := by decide
theorem kb_m81 : (Int8.ofInt (-81)).toInt32 = (-81) := by decide
theorem kb_m80 : (Int8.ofInt (-80)).toInt32 = (-80) := by decide
theorem kb_m79 : (Int8.ofInt (-79)).toInt32 = (-79) := by decide
theorem kb_m78 : (Int8.ofInt (-78)).toInt32 = (-78) := by decide
theorem kb_m77 : (Int8.ofInt (-77)).toInt32 = (-77) := by decide
theorem kb_m76 : (Int8.ofInt (-76)).toInt32 = (-76) := by decide
theorem kb_m75 : (Int8.ofInt (-75)).toInt32 = (-75) := by decide
theorem kb_m74 : (Int8.ofInt (-74)).toInt32 = (-74) := by decide
theorem kb_m73 : (Int8.ofInt (-73)).toInt32 = (-73) := by decide
theorem kb_m72 : (Int8.ofInt (-72)).toInt32 = (-72) := by decide
theorem kb_m71 : (Int8.ofInt (-71)).toInt32 = (-71) := by decide
theorem kb_m70 : (Int8.ofInt (-70)).toInt32 = (-70) := by decide
theorem kb_m69 : (Int8.ofInt (-69)).toInt32 = (-69) := by decide
theorem kb_m68 : (Int8.ofInt (-68)).toInt32 = (-68) := by decide
theorem kb_m67 : (Int8.ofInt (-67)).toInt32 = (-67) := by decide
theorem kb_m66 : (Int8.ofInt (-66)).toInt32 = (-66) := by decide
theorem kb_m65 : (Int8.ofInt (-65)).toInt32 = (-65) := by decide
theorem kb_m64 : (Int8.ofInt (-64)).toInt32 = (-64) := by decide
theorem kb_m63 : (Int8.ofInt (-63)).toInt32 = (-63) := by decide
theorem kb_m62 : (Int8.ofInt (-62)).toInt32 = (-62) := by decide
theorem kb_m61 : (Int8.ofInt (-61)).toInt32 = (-61) := by decide
theorem kb_m60 : (Int8.ofInt (-60)).toInt32 = (-60) := by decide
theorem kb_m59 : (Int8.ofInt (-59)).toInt32 = (-59) := by decide
theorem kb_m58 : (Int8.ofInt (-58)).toInt32 = (-58) := by decide
theorem kb_m57 : (Int8.ofInt (-57)).toInt32 = (-57) := by decide
theorem kb_m56 : (Int8.ofInt (-56)).toInt32 = (-56) := by decide
theorem kb_m55 : (Int8.ofInt (-55)).toInt32 = (-55) := by decide
theorem kb_m54 : (Int8.ofInt (-54)).toInt32 = (-54) := by decide
theorem kb_m53 : (Int8.ofInt (-53)).toInt32 = (-53) := by decide
theorem kb_m52 : (Int8.ofInt (-52)).toInt32 = (-52) := by decide
theorem kb_m51 : (Int8.ofInt (-51)).toInt32 = (-51) := by decide
theorem kb_m50 : (Int8.ofInt (-50)).toInt32 = (-50) := by decide
theorem kb_m49 : (Int8.ofInt (-49)).toInt32 = (-49) := by decide
theorem kb_m48 : (Int8.ofInt (-48)).toInt32 = (-48) := by decide
theorem kb_m47 : (Int8.ofInt (-47)).toInt32 = (-47) := by decide
theorem kb_m46 : (Int8.ofInt (-46)).toInt32 = (-46) := by decide
theorem kb_m45 : (Int8.ofInt (-45)).toInt32 = (-45) := by decide
theorem kb_m44 : (Int8.ofInt (-44)).toInt32 = (-44) := by decide
theorem kb_m43 : (Int8.ofInt (-43)).toInt32 = (-43) := by decide
theorem kb_m42 : (Int8.ofInt (-42)).toInt32 = (-42) := by decide
theorem kb_m41 : (Int8.ofInt (-41)).toInt32 = (-41) := by decide
theorem kb_m40 : (Int8.ofInt (-40)).toInt32 = (-40) := by decide
theorem kb_m39 : (Int8.ofInt (-39)).toInt32 = (-39) := by decide
theorem kb_m38 : (Int8.ofInt (-38)).toInt32 = (-38) := by decide
theorem kb_m37 : (Int8.ofInt (-37)).toInt32 = (-37) := by decide
theorem kb_m36 : (Int8.ofInt (-36)).toInt32 = (-36) := by decide
theorem kb_m35 : (Int8.ofInt (-35)).toInt32 = (-35) := by decide
theorem kb_m34 : (Int8.ofInt (-34)).toInt32 = (-34) := by decide
theorem kb_m33 : (Int8.ofInt (-33)).toInt32 = (-33) := by decide
theorem kb_m32 : (Int8.ofInt (-32)).toInt32 = (-32) := by decide
theorem kb_m31 : (Int8.ofInt (-31)).toInt32 = (-31) := by decide
theorem kb_m30 : (Int8.ofInt (-30)).toInt32 = (-30) := by decide
theorem kb_m29 : (Int8.ofInt (-29)).toInt32 = (-29) := by decide
theorem kb_m28 : (Int8.ofInt (-28)).toInt32 = (-28) := by decide
theorem kb_m27 : (Int8.ofInt (-27)).toInt32 = (-27) := by decide
theorem kb_m26 : (Int8.ofInt (-26)).toInt32 = (-26) := by decide
theorem kb_m25 : (Int8.ofInt (-25)).toInt32 = (-25) := by decide
theorem kb_m24 : (Int8.ofInt (-24)).toInt32 = (-24) := by decide
theorem kb_m23 : (Int8.ofInt (-23)).toInt32 = (-23) := by decide
theorem kb_m22 : (Int8.ofInt (-22)).toInt32 = (-22) := by decide
theorem kb_m21 : (Int8.ofInt (-21)).toInt32 = (-21) := by decide
theorem kb_m20 : (Int8.ofInt (-20)).toInt32 = (-20) := by decide
theorem kb_m19 : (Int8.ofInt (-19)).toInt32 = (-19) := by decide
theorem kb_m18 : (Int8.ofInt (-18)).toInt32 = (-18) := by decide
theorem kb_m17 : (Int8.ofInt (-17)).toInt32 = (-17) := by decide
theorem kb_m16 : (Int8.ofInt (-16)).toInt32 = (-16) := by decide
theorem kb_m15 : (Int8.ofInt (-15)).toInt32 = (-15) := by decide
theorem kb_m14 : (Int8.ofInt (-14)).toInt32 = (-14) := by decide
theorem kb_m13 : (Int8.ofInt (-13)).toInt32 = (-13) := by decide
theorem kb_m12 : (Int8.ofInt (-12)).toInt32 = (-12) := by decide
theorem kb_m11 : (Int8.ofInt (-11)).toInt32 = (-11) := by decide
theorem kb_m10 : (Int8.ofInt (-10)).toInt32 = (-10) := by decide
theorem kb_m9 : (Int8.ofInt (-9)).toInt32 = (-9) := by decide
theorem kb_m8 : (Int8.ofInt (-8)).toInt32 = (-8) := by decide
theorem kb_m7 : (Int8.ofInt (-7)).toInt32 = (-7) := by decide
theorem kb_m6 : (Int8.ofInt (-6)).toInt32 = (-6) := by decide
theorem kb_m5 : (Int8.ofInt (-5)).toInt32 = (-5) := by decide
theorem kb_m4 : (Int8.ofInt (-4)).toInt32 = (-4) := by decide
theorem kb_m3 : (Int8.ofInt (-3)).toInt32 = (-3) := by decide
theorem kb_m2 : (Int8.ofInt (-2)).toInt32 = (-2) := by decide
theorem kb_m1 : (Int8.ofInt (-1)).toInt32 = (-1) := by decide
theorem kb_0 : (Int8.ofInt (0)).toInt32 = (0) := by decide
theorem kb_1 : (Int8.ofInt (1)).toInt32 = (1) := by decide
theorem kb_2 : (Int8.ofInt (2)).toInt32 = (2) := by decide
theorem kb_3 : (Int8.ofInt (3)).toInt32 = (3) := by decide
theorem kb_4 : (Int8.ofInt (4)).toInt32 = (4) := by decide
theorem kb_5 : (Int8.ofInt (5)).toInt32 = (5) := by decide
theorem kb_6 : (Int8.ofInt (6)).toInt32 = (6) := by decide
theorem kb_7 : (Int8.ofInt (7)).toInt32 = (7) := by decide
theorem kb_8 : (Int8.ofInt (8)).toInt32 = (8) := by decide
theorem kb_9 : (Int8.ofInt (9)).toInt32 = (9) := by decide
theorem kb_10 : (Int8.ofInt (10)).toInt32 = (10) := by decide
theorem kb_11 : (Int8.ofInt (11)).toInt32 = (11) := by decide
theorem kb_12 : (Int8.ofInt (12)).toInt32 = (12) := by decide
theorem kb_13 : (Int8.ofInt (13)).toInt32 = (13) := by decide
theorem kb_14 : (Int8.ofInt (14)).toInt32 = (14) := by decide
theorem kb_15 : (Int8.ofInt (15)).toInt32 = (15) := by decide
theorem kb_16 : (Int8.ofInt (16)).toInt32 = (16) := by decide
theorem kb_17 : (Int8.ofInt (17)).toInt32 = (17) := by decide
theorem kb_18 : (Int8.ofInt (18)).toInt32 = (18) := by decide
theorem kb_19 : (Int8.ofInt (19)).toInt32 = (19) := by decide
theorem kb_20 : (Int8.ofInt (20)).toInt32 = (20) := by decide
theorem kb_21 : (Int8.ofInt (21)).toInt32 = (21) := by decide
theorem kb_22 : (Int8.ofInt (22)).toInt32 = (22) := by decide
theorem kb_23 : (Int8.ofInt (23)).toInt32 = (23) := by decide
theorem kb_24 : (Int8.ofInt (24)).toInt32 = (24) := by decide
theorem kb_25 : (Int8.ofInt (25)).toInt32 = (25) := by decide
theorem kb_26 : (Int8.ofInt (26)).toInt32 = (26) := by decide
theorem kb_27 : (Int8.ofInt (27)).toInt32 = (27) := by decide
theorem kb_28 : (Int8.ofInt (28)).toInt32 = (28) := by decide
theorem kb_29 : (Int8.ofInt (29)).toInt32 = (29) := by decide
theorem kb_30 : (Int8.ofInt (30)).toInt32 = (30) := by decide
theorem kb_31 : (Int8.ofInt (31)).toInt32 = (31) := by decide
theorem kb_32 : (Int8.ofInt (32)).toInt32 = (32) := by decide
theorem kb_33 : (Int8.ofInt (33)).toInt32 = (33) := by decide
theorem kb_34 : (Int8.ofInt (34)).toInt32 = (34) := by decide
theorem kb_35 : (Int8.ofInt (35)).toInt32 = (35) := by decide
theorem kb_36 : (Int8.ofInt (36)).toInt32 = (36) := by decide
theorem kb_37 : (Int8.ofInt (37)).toInt32 = (37) := by decide
theorem kb_38 : (Int8.ofInt (38)).toInt32 = (38) := by decide
theorem kb_39 : (Int8.ofInt (39)).toInt32 = (39) := by decide
theorem kb_40 : (Int8.ofInt (40)).toInt32 = (40) := by decide
theorem kb_41 : (Int8.ofInt (41)).toInt32 = (41) := by decide
theorem kb_42 : (Int8.ofInt (42)).toInt32 = (42) := by decide
theorem kb_43 : (Int8.ofInt (43)).toInt32 = (43) := by decide
theorem kb_44 : (Int8.ofInt (44)).toInt32 = (44) := by decide
theorem kb_45 : (Int8.ofInt (45)).toInt32 = (45) := by decide
theorem kb_46 : (Int8.ofInt (46)).toInt32 = (46) := by decide
theorem kb_47 : (Int8.ofInt (47)).toInt32 = (47) := by decide
theorem kb_48 : (Int8.ofInt (48)).toInt32 = (48) := by decide
theorem kb_49 : (Int8.ofInt (49)).toInt32 = (49) := by decide
theorem kb_50 : (Int8.ofInt (50)).toInt32 = (50) := by decide
theorem kb_51 : (Int8.ofInt (51)).toInt32 = (51) := by decide
theorem kb_52 : (Int8.ofInt (52)).toInt32 = (52) := by decide
theorem kb_53 : (Int8.ofInt (53)).toInt32 = (53) := by decide
theorem kb_54 : (Int8.ofInt (54)).toInt32 = (54) := by decide
theorem kb_55 : (Int8.ofInt (55)).toInt32 = (55) := by decide
theorem kb_56 : (Int8.ofInt (56)).toInt32 = (56) := by decide
theorem kb_57 : (Int8.ofInt (57)).toInt32 = (57) := by decide
theorem kb_58 : (Int8.ofInt (58)).toInt32 = (58) := by decide
theorem kb_59 : (Int8.ofInt (59)).toInt32 = (59) := by decide
theorem kb_60 : (Int8.ofInt (60)).toInt32 = (60) := by decide
theorem kb_61 : (Int8.ofInt (61)).toInt32 = (61) := by decide
theorem kb_62 : (Int8.ofInt (62)).toInt32 = (62) := by decide
theorem kb_63 : (Int8.ofInt (63)).toInt32 = (63) := by decide
theorem kb_64 : (Int8.ofInt (64)).toInt32 = (64) := by decide
theorem kb_65 : (Int8.ofInt (65)).toInt32 = (65) := by decide
theorem kb_66 : (Int8.ofInt (66)).toInt32 = (66) := by decide
theorem kb_67 : (Int8.ofInt (67)).toInt32 = (67) := by decide
theorem kb_68 : (Int8.ofInt (68)).toInt32 = (68) := by decide
theorem kb_69 : (Int8.ofInt (69)).toInt32 = (69) := by decide
theorem kb_70 : (Int8.ofInt (70)).toInt32 = (70) := by decide
theorem kb_71 : (Int8.ofInt (71)).toInt32 = (71) := by decide
theorem kb_72 : (Int8.ofInt (72)).toInt32 = (72) := by decide
theorem kb_73 : (Int8.ofInt (73)).toInt32 = (73) := by decide
theorem kb_74 : (Int8.ofInt (74)).toInt32 = (74) := by decide
theorem kb_75 : (Int8.ofInt (75)).toInt32 = (75) := by decide
theorem kb_76 : (Int8.ofInt (76)).toInt32 = (76) := by decide
theorem kb_77 : (Int8.ofInt (77)).toInt32 = (77) := by decide
theorem kb_78 : (Int8.ofInt (78)).toInt32 = (78) := by decide
theorem kb_79 : (Int8.ofInt (79)).toInt32 = (79) := by decide
theorem kb_80 : (Int8.ofInt (80)).toInt32 = (80) := by decide
theorem kb_81 : (Int8.ofInt (81)).toInt32 = (81) := by decide
theorem kb_82 : (Int8.ofInt (82)).toInt32 = (82) := by decide
theorem kb_83 : (Int8.ofInt (83)).toInt32 = (83) := by decide
theorem kb_84 : (Int8.ofInt (84)).toInt32 = (84) := by decide
theorem kb_85 : (Int8.ofInt (85)).toInt32 = (85) := by decide
theorem kb_86 : (Int8.ofInt (86)).toInt32 = (86) := by decide
theorem kb_87 : (Int8.ofInt (87)).toInt32 = (87) := by decide
theorem kb_88 : (Int8.ofInt (88)).toInt32 = (88) := by decide
theorem kb_89 : (Int8.ofInt (89)).toInt32 = (89) := by decide
theorem kb_90 : (Int8.ofInt (90)).toInt32 = (90) := by decide
theorem kb_91 : (Int8.ofInt (91)).toInt32 = (91) := by decide
theorem kb_92 : (Int8.ofInt (92)).toInt32 = (92) := by decide
theorem kb_93 : (Int8.ofInt (93)).toInt32 = (93) := by decide
theorem kb_94 : (Int8.ofInt (94)).toInt32 = (94) := by decide
theorem kb_95 : (Int8.ofInt (95)).toInt32 = (95) := by decide
theorem kb_96 : (Int8.ofInt (96)).toInt32 = (96) := by decide
theorem kb_97 : (Int8.ofInt (97)).toInt32 = (97) := by decide
theorem kb_98 : (Int8.ofInt (98)).toInt32 = (98) := by decide
theorem kb_99 : (Int8.ofInt (99)).toInt32 = (99) := by decide
theorem kb_100 : (Int8.ofInt (100)).toInt32 = (100) := by decide
theorem kb_101 : (Int8.ofInt (101)).toInt32 = (101) := by decide
theorem kb_102 : (Int8.ofInt (102)).toInt32 = (102) := by decide
theorem kb_103 : (Int8.ofInt (103)).toInt32 = (103) := by decide
theorem kb_104 : (Int8.ofInt (104)).toInt32 = (104) := by decide
theorem kb_105 : (Int8.ofInt (105)).toInt32 = (105) := by decide
theorem kb_106 : (Int8.ofInt (106)).toInt32 = (106) := by decide
theorem kb_107 : (Int8.ofInt (107)).toInt32 = (107) := by decide
theorem kb_108 : (Int8.ofInt (108)).toInt32 = (108) := by decide
theorem kb_109 : (Int8.ofInt (109)).toInt32 = (109) := by decide
theorem kb_110 : (Int8.ofInt (110)).toInt32 = (110) := by decide
theorem kb_111 : (Int8.ofInt (111)).toInt32 = (111) := by decide
theorem kb_112 : (Int8.ofInt (112)).toInt32 = (112) := by decide
theorem kb_113 : (Int8.ofInt (113)).toInt32 = (113) := by decide
theorem kb_114 : (Int8.ofInt (114)).toInt32 = (114) := by decide
theorem kb_115 : (Int8.ofInt (115)).toInt32 = (115) := by decide
theorem kb_116 : (Int8.ofInt (116)).toInt32 = (116) := by decide
theorem kb_117 : (Int8.ofInt (117)).toInt32 = (117) := by decide
theorem kb_118 : (Int8.ofInt (118)).toInt32 = (118) := by decide
theorem kb_119 : (Int8.ofInt (119)).toInt32 = (119) := by decide
theorem kb_120 : (Int8.ofInt (120)).toInt32 = (120) := by decide
theorem kb_121 : (Int8.ofInt (121)).toInt32 = (121) := by decide
theorem kb_122 : (Int8.ofInt (122)).toInt32 = (122) := by decide
theorem kb_123 : (Int8.ofInt (123)).toInt32 = (123) := by decide
theorem kb_124 : (Int8.ofInt (124)).toInt32 = (124) := by decide
theorem kb_125 : (Int8.ofInt (125)).toInt32 = (125) := by decide
theorem kb_126 : (Int8.ofInt (126)).toInt32 = (126) := by decide
theorem kb_127 : (Int8.ofInt (127)).toInt32 = (127) := by decide
theorem ks_128 : (Int16.ofInt (128)).toInt32 = (128) := by decide
theorem ks_160 : (Int16.ofInt (160)).toInt32 = (160) := by decide
theorem ks_255 : (Int16.ofInt (255)).toInt32 = (255) := by decide
theorem ks_407 : (Int16.ofInt (407)).toInt32 = (407) := by decide
theorem ks_487 : (Int16.ofInt (487)).toInt32 = (487) := by decide
theorem ks_567 : (Int16.ofInt (567)).toInt32 = (567) := by decide
theorem ks_647 : (Int16.ofInt (647)).toInt32 = (647) := by decide
theorem ks_999 : (Int16.ofInt (999)).toInt32 = (999) := by decide
theorem ks_1000 : (Int16.ofInt (1000)).toInt32 = (1000) := by decide
theorem ks_2588 : (Int16.ofInt (2588)).toInt32 = (2588) := by decide
theorem ks_3235 : (Int16.ofInt (3235)).toInt32 = (3235) := by decide
theorem ks_9999 : (Int16.ofInt (9999)).toInt32 = (9999) := by decide
theorem ks_10000 : (Int16.ofInt (10000)).toInt32 = (10000) := by decide
theorem ks_1024 : (Int16.ofInt (1024)).toInt32 = (1024) := by decide
theorem ks_32767 : (Int16.ofInt (32767)).toInt32 = (32767) := by decide
