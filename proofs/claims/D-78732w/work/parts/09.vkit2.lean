set_option maxRecDepth 100000
set_option maxHeartbeats 2000000
/-- a loop whose rounds make cells -/
theorem v_loopA {σ ω : Type} {step : σ → Option (σ ⊕ ω)} (cN sN CM SM : Nat) (G : Nat → Nat → σ → Prop) (E : Nat → Nat → ω → Prop) (hE : ∀ (c s c' s' : Nat) (o : ω), c ≤ c' → s ≤ s' → E c' s' o → E c s o)
    (body : ∀ (cb sb : Nat) (x : σ) (r : σ ⊕ ω), cb + cN ≤ CM → sb + sN ≤ SM → step x = some r → (∀ y, r = .inl y → G (cb + cN) (sb + sN) y) → (∀ y, r = .inr y → E (cb + cN) (sb + sN) y) → G cb sb x) :
    ∀ (n cb sb : Nat) (x : σ) (o : ω), cb + n * cN ≤ CM → sb + n * sN ≤ SM → loopN step n x = some o → E (cb + n * cN) (sb + n * sN) o → G cb sb x := by
  intro n
  induction n with
  | zero => intro cb sb x o _ _ h; cases h
  | succ n ih =>
    intro cb sb x o hc hs h hEo
    have e1 : cb + (n + 1) * cN = cb + cN + n * cN := by rw [Nat.succ_mul]; omega
    have e2 : sb + (n + 1) * sN = sb + sN + n * sN := by rw [Nat.succ_mul]; omega
    rw [e1] at hc hEo
    rw [e2] at hs hEo
    obtain ⟨r, h1, h2⟩ := ob h
    refine body cb sb x r (by omega) (by omega) h1 ?_ ?_
    · intro y e
      subst e
      exact ih _ _ y o hc hs h2 hEo
    · intro y e
      subst e
      cases h2
      exact hE _ _ _ _ _ (Nat.le_add_right _ _) (Nat.le_add_right _ _) hEo
/-- an array's length, if it may be made and is at most mx -/
def lenF (x : Int32) (mx : Nat) : Option Nat := if x < 0 ∨ mx < x.toNatClampNeg then none else some x.toNatClampNeg
theorem lenF_s {x : Int32} {mx n : Nat} (h : lenF x mx = some n) : ¬ x < 0 ∧ n ≤ mx ∧ x.toNatClampNeg = n := by
  unfold lenF at h
  split at h
  · cases h
  · rename_i h1
    cases h
    exact ⟨fun z => h1 (Or.inl z), by omega, rfl⟩
def CTr (l : Launch) (y : MethodName) (b : ByteArray) (L : Nat) (r : Option FieldType) (rm : Room) (D : va_G) (w0 : va_W) (av : List Value) (Xp : (Nat → Prop) → State → Prop) (post : Nat → va_W → Prop) : Prop := ∀ sz : Nat, Met l y (ws_ y b L r) rm (Pre D sz w0 av Xp) (va_Qr (fun u : va_W × Nat => post u.2 u.1) (fun u a t => u.2 = a ∧ Wd D (va_A w0 sz) u.1 t) (va_A w0 sz)) rm.cells rm.slots (va_A w0 sz)
section V2
variable {p : Program} {l : Launch} {e : Env} {R : Room} {s : State} {m : MethodId} {args : Array Value} {below : List Frame} {meth : Method} {c : Code} {D : va_G} {A : Nat → Prop} {cells slots : Nat} {Q : State → Prop} {cc : ByteArray} {nL : Nat} {own : String} {ws : va_W} {pc : Nat} {lv : VW} {st : List Value}
theorem m_r {y : MethodName} {b : ByteArray} {L : Nat} {r : Option FieldType} {rm : Room} {w0 : va_W} {av : List Value} {Xp : (Nat → Prop) → State → Prop} {post : Nat → va_W → Prop} (hy : plainName y.cls = true) (hlen : (lg_sl av).length ≤ L)
    (body : ∀ (p : Program) (e : Env) (s : State) (m : MethodId) (args : Array Value) (below : List Frame) (meth : Method) (c : Code) (A : Nat → Prop), BX Xp p s m args meth c D A b L y.cls r av y → V p l e rm s m args below meth c D A L (MQ below (va_Qr (fun u : va_W × Nat => post u.2 u.1) (fun u a t => u.2 = a ∧ Wd D A u.1 t) A) args s rm.cells rm.slots A) w0 0 0 0 (lv_args 0 av) []) : CTr l y b L r rm D w0 av Xp post := by
  intro sz
  refine Met.ofW (cc := b) (maxL := L) (ret := r) hy rfl ?_
  intro p e s m args below meth c s₁ B hml hv
  obtain ⟨rfl, hsz, hP, hK, hD0, hX⟩ := hv
  have hts := atoms_spec (ws := ws_ y b L r) B.pre
  have hts : ∀ w ∈ lw_all, w.before _ s = true := fun w h => hts w (List.mem_cons_of_mem _ h)
  subst hsz
  rw [lg_entry_eq]
  exact body p e s m _ below meth c (va_A w0 s.heap.size) ⟨⟨B.exec, B.bytes, hml, findClass_of_methodNamed B.named, hts, hK, fun q h => Or.inr h, B.notSynchronized⟩, B.returns, hX, rfl, (name_of_methodNamed B.named B.method).1, B.named⟩ _ _ _ hP hD0.self va_S.rf (lv_entry av hlen)
theorem v_aret (X : CX p s m args meth c D A cc nL own) {mc ms : Nat} {v : Nat} {rt : FieldType} {post : Nat → va_W → Prop} (hr : meth.sig.returnType = some rt) (hrt : (∃ n, rt = .object n) ∨ ∃ t, rt = .array t) (hpost : post v ws) (hc : cells ≤ mc) (hs : slots ≤ ms) (d : decode cc pc = .ok (.areturn, 1)) : V p l e R s m args below meth c D A nL (MQ below (va_Qr (fun u : va_W × Nat => post u.2 u.1) (fun u a t => u.2 = a ∧ Wd D A u.1 t) A) args s mc ms A) ws cells slots pc lv [.ref v] :=
  fun H locs ls hP hD hS hl => W.widen hc hs (W.aret X.hx X.hb hr hrt (Or.inr ⟨v, rfl⟩) (fun t ht hW => ⟨⟨(ws, v), v, rfl, hpost, rfl, by rw [ht]; exact hP, hD⟩, hS.F ht⟩) hS.2.2 d X.hlk)
theorem v_newa (pc' c' s' : Nat) (X : CX p s m args meth c D A cc nL own) {atype : ArrayType} {ty : FieldType} {t0 mx : Nat} {n : Int32} {N : Nat} (h : lenF n mx = some N) (harr : Cond.arrayClass (newarray.typeOf atype) ∈ lw_all) (hty : newarray.typeOf atype = ty) (htys : (TYS D)[t0]? = some (D.1 (100 + t0), ty)) (hprim : ∀ cA, va_RA s cA ty → va_RA s (D.1 (100 + t0)) ty → cA = D.1 (100 + t0)) (hdef : defaultValue ty = .int 0) (hby : mx * componentBytes ty ≤ 536870912)
    (hcells : cells + 1 ≤ R.cells) (hslots : slots + mx ≤ R.slots) (d : decode cc pc = .ok (.newarray atype, 2)) (hp : pc + 2 = pc') (hc : cells + 1 = c') (hs : slots + mx = s')
    (k : ∀ q : Nat, V p l e R s m args below meth c D A nL Q (ws ++ [(q, .inl (D.1 (100 + t0), N, .inl (fun _ => 0)))]) c' s' pc' lv (.ref q :: st)) : V p l e R s m args below meth c D A nL Q ws cells slots pc lv (.int n :: st) := by
  subst hp; subst hc; subst hs
  obtain ⟨h1, h2, h3⟩ := lenF_s h
  intro H locs ls hP hD hS hl
  refine va_newa (atype := atype) (a0 := (N, .inl (fun _ => 0))) X.hx X.hb (X.hts _ harr) hty X.hK hP hD hS X.hA (fun cA => by unfold vp_cell; rw [hdef]) h1 h3 (Nat.le_trans (Nat.mul_le_mul_right _ h2) hby) hcells (by omega) d (fun q cA H1 hK hP hD hS => ?_)
  have hcA : cA = D.1 (100 + t0) := hprim cA ((hK.2 (TYS D).length (cA, ty) (by simp)).2) ((X.hK.2 t0 _ htys).2)
  subst hcA
  exact W.widen (Nat.le_refl _) (by omega) (k q H1 locs ls hP hD hS hl)
theorem ra_prim {ty : FieldType} {cA cB : ClassId} (h0 : va_RA s cA ty = (s.vm.findClass ("[" ++ ty.toString) = some cA)) (h1 : va_RA s cB ty = (s.vm.findClass ("[" ++ ty.toString) = some cB)) (ha : va_RA s cA ty) (hb : va_RA s cB ty) : cA = cB := by
  rw [h0] at ha
  rw [h1] at hb
  exact Option.some.inj (ha.symm.trans hb)
theorem ra_obj {C : String} {cA cB : ClassId} (ha : va_RA s cA (.object C)) (hb : va_RA s cB (.object C)) : cA = cB := by
  obtain ⟨-, -, -, -, -, h1⟩ := ha
  obtain ⟨-, -, -, -, -, h2⟩ := hb
  exact Option.some.inj (h1.symm.trans h2)
theorem v_newq (pc' c' s' : Nat) (X : CX p s m args meth c D A cc nL own) (hAm : AMB D A s) {C : String} {t0 mx index : Nat} {n : Int32} {N : Nat} (h : lenF n mx = some N) (hcl : Cond.classLink own index C ∈ lw_all) (hov : Cond.arrayOver (.object C) ∈ lw_tbl) (htys : (TYS D)[t0]? = some (D.1 (100 + t0), .object C)) (hby : mx * 4 ≤ 536870912)
    (hcells : cells + 1 ≤ R.cells) (hslots : slots + mx ≤ R.slots) (d : decode cc pc = .ok (.anewarray index, 3)) (hp : pc + 3 = pc') (hc : cells + 1 = c') (hs : slots + mx = s')
    (k : ∀ q : Nat, V p l e R s m args below meth c D A nL Q (ws ++ [(q, .inl (D.1 (100 + t0), N, .inr (.inr (.inr (.inr (fun _ => none))))))]) c' s' pc' lv (.ref q :: st)) : V p l e R s m args below meth c D A nL Q ws cells slots pc lv (.int n :: st) := by
  subst hp; subst hc; subst hs
  obtain ⟨h1, h2, h3⟩ := lenF_s h
  intro H locs ls hP hD hS hl
  refine va_newq X.hx X.hb X.hown (X.hts _ hcl) (hAm.nw hov rfl) X.hK hP hD hS X.hA h1 h3 (by omega) hcells (by omega) d (fun q cA H1 hK hP hD hS => ?_)
  have hcA : cA = D.1 (100 + t0) := ra_obj ((hK.2 (TYS D).length (cA, .object C) (by simp)).2) ((X.hK.2 t0 _ htys).2)
  subst hcA
  exact W.widen (Nat.le_refl _) (by omega) (k q H1 locs ls hP hD hS hl)
theorem v_new (pc' c' s' : Nat) (X : CX p s m args meth c D A cc nL own) {C : String} {T : u_T} {N ci index : Nat} {ty : Nat → FieldType} {fs : List Value} (hin : ∀ w ∈ u_ws C T N, w ∈ lw_all) (hty : ∀ k, k < N → parseFieldDescriptor (T k).2.2.1 = some (ty k)) (hcl : Cond.classLink own index C ∈ lw_all) (hinst : Cond.instantiable C N ∈ lw_all) (hini : Cond.initialized C ∈ lw_all) (hc : CL[ci]? = some (C, T, N)) (hfs : ∀ j, j < N → defaultValue (ty j) = vp_V fs j)
    (hcells : cells + 1 ≤ R.cells) (hslots : slots + N ≤ R.slots) (d : decode cc pc = .ok (.new index, 3)) (hp : pc + 3 = pc') (hcc : cells + 1 = c') (hs : slots + N = s')
    (k : ∀ q : Nat, V p l e R s m args below meth c D A nL Q (ws ++ [(q, .inr (ci, fs))]) c' s' pc' lv (.ref q :: st)) : V p l e R s m args below meth c D A nL Q ws cells slots pc lv st := by
  subst hp; subst hcc; subst hs
  exact fun H locs ls hP hD hS hl => va_new X.hx X.hb X.hts hin ty hty X.hown (X.hts _ hcl) (X.hts _ hinst) (X.hts _ hini) X.hK hP hD hS X.hA hc hfs hcells hslots d (fun q H1 hP hD hS => k q H1 locs ls hP hD hS hl)
theorem v_objInit (pc' : Nat) (X : CX p s m args meth c D A cc nL own) {a idx : Nat} (hlink : Cond.methodLink own idx Lib.objectInit ∈ lw_all) (hframes : 1 ≤ R.frames) (hlocals : (st.map fun v => v.category).sum + 12 ≤ R.locals) (d : decode cc pc = .ok (.invokespecial idx, 3)) (hp : pc + 3 = pc') (k : V p l e R s m args below meth c D A nL Q ws cells slots pc' lv st) : V p l e R s m args below meth c D A nL Q ws cells slots pc lv (.ref a :: st) := by
  subst hp
  exact fun H locs ls hP hD hS hl => W.objInit X.hx X.hb X.hown (X.hts _ hlink) (X.hts _ q117) (X.hts _ q118) rfl (by rw [X.hml]; exact hl.1) rfl d hframes (by show 2 * 0 + (st.map fun v => v.category).sum + 12 ≤ R.locals; omega) (k H locs ls hP hD hS hl)
/-- an array's contents count only inside -/
theorem v_arrq {ws' : va_W} (q0 : Nat) {a n : Nat} {cA : ClassId} {f g : Nat → Option Nat} (ha : ws[q0]? = some (a, .inl (cA, n, .inr (.inr (.inr (.inr f)))))) (hfg : ∀ j, j < n → f j = g j) (hw : ws.set q0 (a, .inl (cA, n, .inr (.inr (.inr (.inr g))))) = ws') (k : V p l e R s m args below meth c D A nL Q ws' cells slots pc lv st) : V p l e R s m args below meth c D A nL Q ws cells slots pc lv st := by
  subst hw
  intro H locs ls hP hD hS hl
  have hlt : q0 < ws.length := (List.getElem?_eq_some_iff.mp ha).1
  refine k H locs ls ?_ (hD.set ha) hS hl
  intro k1 q hq
  by_cases h1 : k1 = q0
  · subst h1
    rw [List.getElem?_set_self hlt] at hq
    cases hq
    have h2 := hP k1 _ ha
    show H[a]? = some (vp_cell cA (n, .inr (.inr (.inr (.inr g)))))
    have h3 : H[a]? = some (vp_cell cA (n, .inr (.inr (.inr (.inr f))))) := h2
    rw [h3]
    show some (arrV cA n (fun j => va_rf (f j))) = some (arrV cA n (fun j => va_rf (g j)))
    unfold arrV
    congr 3
    funext j
    show va_rf (f j.val) = va_rf (g j.val)
    rw [hfg j.val j.isLt]
  · rw [List.getElem?_set_ne (fun z => h1 z.symm)] at hq
    exact hP k1 q hq
def cpyF (f : Nat → Int32) (nf : Nat) (sp : Int32) (g : Nat → Int32) (ng : Nat) (dp n : Int32) : Option (Nat → Int32) := if sp < 0 ∨ dp < 0 ∨ n < 0 ∨ nf < sp.toNatClampNeg + n.toNatClampNeg ∨ ng < dp.toNatClampNeg + n.toNatClampNeg then none else some (va_cpy f g sp.toNatClampNeg dp.toNatClampNeg n.toNatClampNeg)
theorem cpyF_s {f g h : Nat → Int32} {nf ng : Nat} {sp dp n : Int32} (e : cpyF f nf sp g ng dp n = some h) : ¬ sp < 0 ∧ ¬ dp < 0 ∧ ¬ n < 0 ∧ sp.toNatClampNeg + n.toNatClampNeg ≤ nf ∧ dp.toNatClampNeg + n.toNatClampNeg ≤ ng ∧ va_cpy f g sp.toNatClampNeg dp.toNatClampNeg n.toNatClampNeg = h := by
  unfold cpyF at e
  split at e
  · cases e
  · rename_i h1
    cases e
    exact ⟨fun z => h1 (Or.inl z), fun z => h1 (Or.inr (Or.inl z)), fun z => h1 (Or.inr (Or.inr (Or.inl z))), by omega, by omega, rfl⟩
def fitZ (f : Nat → Int32) (k n : Nat) : Bool := (List.range n).all (fun i => f (k + i) == 0 || f (k + i) == 1)
def fitB (f : Nat → Int32) (k n : Nat) : Bool := (List.range n).all (fun i => (f (k + i)).toInt8.toInt32 == f (k + i))
def cpyZ (f : Nat → Int32) (nf : Nat) (sp : Int32) (g : Nat → Int32) (ng : Nat) (dp n : Int32) : Option (Nat → Int32) := if fitZ f sp.toNatClampNeg n.toNatClampNeg = true then cpyF f nf sp g ng dp n else none
def cpyB (f : Nat → Int32) (nf : Nat) (sp : Int32) (g : Nat → Int32) (ng : Nat) (dp n : Int32) : Option (Nat → Int32) := if fitB f sp.toNatClampNeg n.toNatClampNeg = true then cpyF f nf sp g ng dp n else none
theorem fitZ_s {f : Nat → Int32} {k n : Nat} (h : fitZ f k n = true) : ∀ i, i < n → fits .boolean (.int (f (k + i))) = true := by
  intro i hi
  have h1 := List.all_eq_true.mp h i (List.mem_range.mpr hi)
  simp only [Bool.or_eq_true, beq_iff_eq] at h1
  rcases h1 with h1 | h1 <;> rw [h1] <;> rfl
theorem fitB_s {f : Nat → Int32} {k n : Nat} (h : fitB f k n = true) : ∀ i, i < n → fits .byte (.int (f (k + i))) = true := by
  intro i hi
  have h1 := List.all_eq_true.mp h i (List.mem_range.mpr hi)
  simp only [beq_iff_eq] at h1
  rw [← h1]
  exact pk_fb _
theorem v_cpy (pc' : Nat) (ws' : va_W) (X : CX p s m args meth c D A cc nL own) (q0 q1 t0 : Nat) {a0 a1 n0 n1 : Nat} {ty : FieldType} {f g h : Nat → Int32} {sp dp n : Int32} {index : Nat} (ec : cpyF f n0 sp g n1 dp n = some h) (hfit : ∀ i, i < n.toNatClampNeg → fits ty (.int (f (sp.toNatClampNeg + i))) = true) (ha0 : ws[q0]? = some (a0, .inl (D.1 (100 + t0), n0, .inl f))) (ha1 : ws[q1]? = some (a1, .inl (D.1 (100 + t0), n1, .inl g))) (htys : (TYS D)[t0]? = some (D.1 (100 + t0), ty)) (hprim : refKind ty = false) (hlink : Cond.methodLink own index arraycopyName ∈ lw_all) (hframes : 1 ≤ R.frames) (hlocals : (st.map fun v => v.category).sum + (nativeFrameWords "java/lang/System" "arraycopy" 5 + 11) ≤ R.locals) (d : decode cc pc = .ok (.invokestatic index, 3)) (hp : pc + 3 = pc') (hw : ws.set q1 (a1, .inl (D.1 (100 + t0), n1, .inl h)) = ws')
    (k : V p l e R s m args below meth c D A nL Q ws' cells slots pc' lv st) : V p l e R s m args below meth c D A nL Q ws cells slots pc lv (.int n :: .int dp :: .ref a1 :: .int sp :: .ref a0 :: st) := by
  subst hp; subst hw
  obtain ⟨h1, h2, h3, h4, h5, rfl⟩ := cpyF_s ec
  exact fun H locs ls hP hD hS hl => va_copyi X.hx X.hb (by rw [X.hml]; exact hl.1.symm) X.hown (X.hts _ hlink) (X.hts _ q342) (X.hts _ q341) (X.hts _ q98) X.hK hP hD hS q0 q1 t0 t0 ha0 ha1 htys htys hprim h1 h2 h3 h4 h5 hfit hframes hlocals d (fun H1 locs1 hP hD hS => k H1 locs1 ls hP hD hS hl)
/-- a copy of references to valves -/
def cpyV (f : Nat → Nat) (nf : Nat) (sp : Int32) (ng : Nat) (dp n : Int32) : Option (Nat → Nat) := if sp = 0 ∧ dp = 0 ∧ ¬ n < 0 ∧ n.toNatClampNeg = nf ∧ nf = ng ∧ (List.range nf).all (fun i => decide (f i < 5)) = true then some f else none
theorem cpyV_s {f h : Nat → Nat} {nf ng : Nat} {sp dp n : Int32} (e : cpyV f nf sp ng dp n = some h) : sp = 0 ∧ dp = 0 ∧ ¬ n < 0 ∧ n.toNatClampNeg = nf ∧ nf = ng ∧ (∀ i, i < nf → f i < 5) ∧ f = h := by
  unfold cpyV at e
  split at e
  · rename_i h1
    obtain ⟨z1, z2, z3, z4, z5, z6⟩ := h1
    exact ⟨z1, z2, z3, z4, z5, fun i hi => of_decide_eq_true (List.all_eq_true.mp z6 i (List.mem_range.mpr hi)), Option.some.inj e⟩
  · cases e
theorem v_cpyV (pc' : Nat) (ws' : va_W) (X : CX p s m args meth c D A cc nL own) (hAm : AMB D A s) (q0 q1 : Nat) {a0 a1 n0 n1 : Nat} {f h : Nat → Nat} {g : Nat → Option Nat} {sp dp n : Int32} {index : Nat} (ec : cpyV f n0 sp n1 dp n = some h) (ha0 : ws[q0]? = some (a0, .inl (D.1 104, n0, .inr (.inr (.inr (.inr (vArr D f))))))) (ha1 : ws[q1]? = some (a1, .inl (D.1 104, n1, .inr (.inr (.inr (.inr g)))))) (hlink : Cond.methodLink own index arraycopyName ∈ lw_all) (hframes : 1 ≤ R.frames) (hlocals : (st.map fun v => v.category).sum + (nativeFrameWords "java/lang/System" "arraycopy" 5 + 11) ≤ R.locals) (d : decode cc pc = .ok (.invokestatic index, 3)) (hp : pc + 3 = pc') (hw : ws.set q1 (a1, .inl (D.1 104, n1, .inr (.inr (.inr (.inr (vArr D h)))))) = ws')
    (k : V p l e R s m args below meth c D A nL Q ws' cells slots pc' lv st) : V p l e R s m args below meth c D A nL Q ws cells slots pc lv (.int n :: .int dp :: .ref a1 :: .int sp :: .ref a0 :: st) := by
  subst hp; subst hw
  obtain ⟨rfl, rfl, h3, h4, h5, h6, rfl⟩ := cpyV_s ec
  have hz : (0 : Int32).toNatClampNeg = 0 := sb_cl0
  intro H locs ls hP hD hS hl
  refine va_copyM X.hx X.hb (by rw [X.hml]; exact hl.1.symm) X.hown (X.hts _ hlink) (X.hts _ q342) (X.hts _ q341) (X.hts _ q98) X.hK hP hD hS q0 q1 4 4 ha0 ha1 rfl rfl (by decide) (by decide) h3 (by rw [hz, h4]; omega) (by rw [hz, h4]; omega) (fun i hi y hy => ?_) hframes hlocals d (fun H1 locs1 hP hD hS => ?_)
  · rw [hz] at hy
    have h7 : f (0 + i) < 5 := h6 _ (by omega)
    have h8 : vArr D f (0 + i) = some (adV D (f (0 + i))) := if_pos h7
    rw [h8] at hy
    obtain rfl : adV D (f (0 + i)) = y := Option.some.inj hy
    exact vany hAm hS h7
  · have hlt : q1 < ws.length := (List.getElem?_eq_some_iff.mp ha1).1
    refine v_arrq (ws := ws.set q1 (a1, .inl (D.1 104, n1, .inr (.inr (.inr (.inr (va_cpy (vArr D f) g (0 : Int32).toNatClampNeg (0 : Int32).toNatClampNeg n.toNatClampNeg))))))) (g := vArr D f) q1 (List.getElem?_set_self hlt) (fun j hj => ?_) (by rw [List.set_set]) k H1 locs1 ls hP hD hS hl
    rw [hz, h4, pk_cpy_in (Nat.zero_le _) (by omega)]
    simp
/-- V with lambdas' objects just made, not yet handed over -/
def VL (p : Program) (l : Launch) (e : Env) (R : Room) (s : State) (m : MethodId) (args : Array Value) (below : List Frame) (meth : Method) (c : Code) (D : va_G) (A : Nat → Prop) (nL : Nat) (Q : State → Prop) (ws : va_W) (xs : List (Nat × ClassId × List Value)) (cells slots : Nat) (pc : Nat) (lv : VW) (st : List Value) : Prop :=
  ∀ (H : Heap) (locs : List Loc) (ls : Array Slot), va_P D CL ws H → va_D A ws → (∀ z ∈ xs, H[z.1]? = some { cls := z.2.1, slots := z.2.2.toArray, vm := .none } ∧ ∀ (k : Nat) (y : Nat × va_E), ws[k]? = some y → y.1 ≠ z.1) → va_S A s.heap H locs → lv_has ls nL lv → W p l e R s m args below meth c H locs cells slots Q (F0 m pc ls st)
theorem vl_iload_n (pc' : Nat) (X : CX p s m args meth c D A cc nL own) {xs : List (Nat × ClassId × List Value)} (j : Nat) {k0 : Fin 4} {i : Nat} {x : Int32} (d : decode cc pc = .ok (.iload_n k0, 1)) (hp : pc + 1 = pc') (hi : (k0 : Nat) = i) (h : lv[j]? = some (i, .int x)) (k : VL p l e R s m args below meth c D A nL Q ws xs cells slots pc' lv (.int x :: st)) : VL p l e R s m args below meth c D A nL Q ws xs cells slots pc lv st := by
  subst hp
  exact fun H locs ls hP hD hx hS hl => lv_iload_n X.hx X.hb d hi (lv_at hl j h) (k H locs ls hP hD hx hS hl)
theorem vl_iload (pc' : Nat) (X : CX p s m args meth c D A cc nL own) {xs : List (Nat × ClassId × List Value)} (j : Nat) {i : Nat} {x : Int32} (d : decode cc pc = .ok (.iload i, 2)) (hp : pc + 2 = pc') (h : lv[j]? = some (i, .int x)) (k : VL p l e R s m args below meth c D A nL Q ws xs cells slots pc' lv (.int x :: st)) : VL p l e R s m args below meth c D A nL Q ws xs cells slots pc lv st := by
  subst hp
  exact fun H locs ls hP hD hx hS hl => lv_iload X.hx X.hb d (lv_at hl j h) (k H locs ls hP hD hx hS hl)
theorem vl_aload_n (pc' : Nat) (X : CX p s m args meth c D A cc nL own) {xs : List (Nat × ClassId × List Value)} (j : Nat) {k0 : Fin 4} {i : Nat} {x : Nat} (d : decode cc pc = .ok (.aload_n k0, 1)) (hp : pc + 1 = pc') (hi : (k0 : Nat) = i) (h : lv[j]? = some (i, .ref x)) (k : VL p l e R s m args below meth c D A nL Q ws xs cells slots pc' lv (.ref x :: st)) : VL p l e R s m args below meth c D A nL Q ws xs cells slots pc lv st := by
  subst hp
  exact fun H locs ls hP hD hx hS hl => lv_aload_n X.hx X.hb d hi (lv_at hl j h) (k H locs ls hP hD hx hS hl)
theorem vl_aload (pc' : Nat) (X : CX p s m args meth c D A cc nL own) {xs : List (Nat × ClassId × List Value)} (j : Nat) {i : Nat} {x : Nat} (d : decode cc pc = .ok (.aload i, 2)) (hp : pc + 2 = pc') (h : lv[j]? = some (i, .ref x)) (k : VL p l e R s m args below meth c D A nL Q ws xs cells slots pc' lv (.ref x :: st)) : VL p l e R s m args below meth c D A nL Q ws xs cells slots pc lv st := by
  subst hp
  exact fun H locs ls hP hD hx hS hl => lv_aload X.hx X.hb d (lv_at hl j h) (k H locs ls hP hD hx hS hl)
theorem vl_of (k : VL p l e R s m args below meth c D A nL Q ws [] cells slots pc lv st) : V p l e R s m args below meth c D A nL Q ws cells slots pc lv st := fun H locs ls hP hD hS hl => k H locs ls hP hD (fun z h => by cases h) hS hl
/-- an object of a lambda is made -/
theorem vl_make (pc' c' s' : Nat) (X : CX p s m args meth c D A cc nL own) {xs : List (Nat × ClassId × List Value)} (hAm : AMB D A s) (kS : Nat) (hk : kS < 11) (hnc : ¬ (kS = 1 ∨ kS = 4)) {x : MethodName} (hxm : (sX kS).1 = x) (hnm : s.methodNamed? x = some m) {index : Nat} (hpc : (sX kS).2.1 = pc) (hix : (sX kS).2.2.1 = index) {bytes : ByteArray} {mL jm jc jn ju : Nat} {fls : List Nat} (hFO : FileOK (sX kS).2.2.2 x.cls bytes mL jm jc jn ju fls) (hitf : (sX kS).2.2.2.implItf = false)
    (vals : List Value) (hvl : vals.length = (sX kS).2.2.2.captured.length) (hnar : (((sX kS).2.2.2.captured.zip vals).map fun (t, v) => narrow t v) = vals) (hfit : ∀ (i : Nat) (t : FieldType) (v : Value), (sX kS).2.2.2.captured[i]? = some t → vals[i]? = some v → fits t v = true) {rest : List Value} (hst : st = vals.reverse ++ rest)
    (hlocals : (st.map fun v => v.category).sum + 3072 ≤ R.locals) (hcells : cells + 1 ≤ R.cells) (hslots : slots + vals.length ≤ R.slots) (d : decode cc pc = .ok (.invokedynamic index, 5)) (hp : pc + 5 = pc') (hc : cells + 1 = c') (hs : slots + vals.length = s')
    (k : ∀ q : Nat, VL p l e R s m args below meth c D A nL Q ws ((q, D.1 (300 + kS), vals) :: xs) c' s' pc' lv (.ref q :: rest)) : VL p l e R s m args below meth c D A nL Q ws xs cells slots pc lv st := by
  subst hp; subst hc; subst hs; subst hst; subst hxm
  intro H locs ls hP hD hx hS hl T hT XS
  obtain ⟨m0, k0, cf0, i0, p0, lk, s1, s2, s3, s4, s5, hmade, hcan, hlk⟩ := hAm.2.2.2.2.2.1 kS hk
  cases hnm.symm.trans s1
  rw [if_neg hnc] at hlk
  obtain ⟨rfl, -⟩ : lk = .makes (D.1 (300 + kS)) ∧ (none : Option Nat) = none := by
    rcases hlk with ⟨a, -, h, -⟩ | h
    · cases h
    · exact h
  obtain ⟨kN, hkN, hnameD⟩ := className_of_methodNamed s1
  cases s2.symm.trans hkN
  obtain ⟨bsm, nt, desc, site, hcp, hnt, hsite, hpar⟩ := shape_site s4
  obtain ⟨-, kK, hkK, htyK, hkindK⟩ := mf_of hFO hitf s2 hnameD hmade (obj0 X (State.WarmedH.refl s))
  have hslotsE : ((kK.instanceTypes.toList.zip vals).map fun (t, v) => narrow t v) = vals := by
    rw [htyK]
    exact hnar
  obtain ⟨X₁, st1⟩ := XS.lambdaMakes X.hx (g := F0 m pc ls (vals.reverse ++ rest)) rfl (by rw [X.hml]; exact hl.1) (by rw [X.hb]; exact d) (vals := vals) (rest := rest)
    s2 (by rw [← hpc]; exact s5) s3 (by rw [← hix]; exact hcp) hnt (parseLong_of_parse hsite) (by rw [hpar]; exact hvl) rfl hkK
    (by rw [XS.admits.platform]; show 2 * 0 + ((vals.reverse ++ rest).map fun v => v.category).sum + 3072 ≤ R.locals; omega) hcells (by rw [hslotsE]; exact hslots)
    (fun i v hv => by
      rw [hslotsE] at hv
      have hv2 : vals[i]? = some v := by simpa using hv
      have hi : i < (sX kS).2.2.2.captured.length := by rw [← hvl]; exact (List.getElem?_eq_some_iff.mp hv2).1
      have ht := hfit i _ v (List.getElem?_eq_getElem hi) hv2
      have hty2 : kK.instanceTypes[i]? = some ((sX kS).2.2.2.captured[i]) := by rw [htyK]; simp [hi]
      simpa [State.fitsSlot, State.slotType?, hkK, hkindK, hty2] using ht)
  rw [hslotsE] at X₁ st1
  have hsz : vals.toArray.size = vals.length := by simp
  rw [hsz] at X₁
  generalize hH1 : H.push { cls := D.1 (300 + kS), slots := vals.toArray, vm := .none } = H1
  have z1 : H1.size = H.size + 1 := by rw [← hH1, Array.size_push]
  have e1 : H1[H.size]? = some { cls := D.1 (300 + kS), slots := vals.toArray, vm := .none } := by rw [← hH1, Array.getElem?_push_size]
  have o1 : ∀ q : Nat, q < H.size → H1[q]? = H[q]? := fun q hq => by rw [← hH1, Array.getElem?_push, if_neg (Nat.ne_of_lt hq)]
  obtain ⟨t, b1, b2⟩ := k H.size H1 locs ls (hP.kept (fun k1 y hy => o1 y.1 ((hP k1 y hy).lt))) hD (fun z hz => by
      rcases List.mem_cons.mp hz with rfl | hz
      · exact ⟨e1, fun k1 y hy => Nat.ne_of_lt ((hP k1 y hy).lt)⟩
      · obtain ⟨y1, y2⟩ := hx z hz
        exact ⟨by rw [o1 _ (Array.getElem?_eq_some_iff.mp y1).1]; exact y1, y2⟩) ⟨Nat.le_trans hS.1 (by omega), fun y h1 h2 => (o1 y (Nat.lt_of_lt_of_le h1 hS.1)).trans (hS.2.1 y h1 h2), hS.2.2⟩ hl (T.pushCell { cls := D.1 (300 + kS), slots := vals.toArray, vm := .none }) (by rw [← hH1, ← hT]; rfl) X₁
  refine ⟨t, st1 t ?_, b2⟩
  rw [hT]
  exact b1
/-- a lambda that captures nothing: its one object -/
theorem vl_const (pc' : Nat) (X : CX p s m args meth c D A cc nL own) {xs : List (Nat × ClassId × List Value)} (hAm : AMB D A s) (kS : Nat) (hk : kS < 11) (hnc : kS = 1 ∨ kS = 4) {x : MethodName} (hxm : (sX kS).1 = x) (hnm : s.methodNamed? x = some m) {index : Nat} (hpc : (sX kS).2.1 = pc) (hlocals : (st.map fun v => v.category).sum + 3072 ≤ R.locals) (d : decode cc pc = .ok (.invokedynamic index, 5)) (hp : pc + 5 = pc')
    (k : VL p l e R s m args below meth c D A nL Q ws xs cells slots pc' lv (.ref (D.2 204 kS) :: st)) : VL p l e R s m args below meth c D A nL Q ws xs cells slots pc lv st := by
  subst hp; subst hxm
  intro H locs ls hP hD hx hS hl T hT XS
  obtain ⟨m0, k0, cf0, i0, p0, lk, s1, s2, s3, s4, s5, hmade, hcan, hlk⟩ := hAm.2.2.2.2.2.1 kS hk
  cases hnm.symm.trans s1
  rw [if_pos hnc] at hlk
  rcases hlk with ⟨a, rfl, h2, -⟩ | ⟨-, h⟩
  · obtain rfl := Option.some.inj h2
    obtain ⟨t, b1, b2⟩ := k H locs ls hP hD hx hS hl T hT XS
    exact ⟨t, XS.lambdaConstant X.hx (g := F0 m pc ls st) rfl (by rw [X.hml]; exact hl.1) (by rw [X.hb]; exact d) s2 (by rw [← hpc]; exact s5) (by rw [XS.admits.platform]; show 2 * 0 + (st.map fun v => v.category).sum + 3072 ≤ R.locals; omega) b1, b2⟩
  · cases h
theorem lamC (hAm : AMB D A s) (kS : Nat) (hk : kS < 11) (hnc : kS = 1 ∨ kS = 4) : LamO (D.1 (300 + kS)) [] (D.2 204 kS) A s.heap := by
  obtain ⟨m0, k0, cf0, i0, p0, lk, s1, s2, s3, s4, s5, hmade, hcan, hlk⟩ := hAm.2.2.2.2.2.1 kS hk
  rw [if_pos hnc] at hlk
  rcases hlk with ⟨a, -, h2, h3, h4⟩ | ⟨-, h⟩
  · obtain rfl := Option.some.inj h2
    exact ⟨h3, h4⟩
  · cases h
theorem vc_Vi (pc' c' s' : Nat) (X : CX p s m args meth c D A cc nL own) {y : MethodName} {b : ByteArray} {L index : Nat} {r : Option FieldType} {rm : Room} {Xp : (Nat → Prop) → State → Prop} {post : Int32 → va_W → Prop} {b0 : Nat} (n : Nat) (As : List Value) {rest : List Value} (isC isR : List Nat) (wc : va_W) {wr : va_W} (hC : isC.map (fun i => ws[i]?) = wc.map some) (hR : isR.map (fun i => ws[i]?) = wr.map some) (hn : va_nd isR = true) (hdis : ∀ i ∈ isR, i ∉ isC) (hnC : va_nd isC = true) (hM : CTi l y b L r rm D wc (.ref b0 :: As) Xp post) {C : String} (h1 : Cond.methodLink own index y ∈ lw_all) (h2 : Cond.instanceMethod y ∈ lw_all) (h3 : Cond.selects C y y ∈ lw_all) (h4 : Cond.initialized C ∈ lw_all) (h5 : Cond.code y b L r ∈ lw_all) (hd : y.cls = C ∧ y.cls ≠ "java/lang/invoke/MethodHandle" ∧ y.cls ≠ "java/lang/invoke/VarHandle" ∧ (parseMethodDescriptor y.desc).map (fun d => d.parameters.length) = some n) (q0 : Nat) {ci : Nat} {fs : List Value} {T : u_T} {N : Nat} (he : ws[q0]? = some (b0, .inr (ci, fs))) (hci : CL[ci]? = some (C, T, N)) (hX : Pass Xp s A) (hroom : rm.frames + 1 ≤ R.frames ∧ 8 + (L + 11) + rm.locals ≤ R.locals) (hcs : cells + rm.cells ≤ R.cells ∧ slots + rm.slots ≤ R.slots) (hnA : As.length = n) (hst : st = As.reverse ++ .ref b0 :: rest) (hrest : (rest.map fun v => v.category).sum ≤ 8) (d : decode cc pc = .ok (.invokevirtual index, 3)) (hp : pc + 3 = pc') (hc : cells + rm.cells = c') (hs : slots + rm.slots = s') (k : ∀ (r1 : Int32) (u : va_W), post r1 u → V p l e R s m args below meth c D A nL Q (wr ++ u) c' s' pc' lv (.int r1 :: rest)) : V p l e R s m args below meth c D A nL Q ws cells slots pc lv st := by
  subst hp; subst hst; subst hc; subst hs
  intro H locs ls hP hD hS hl
  have hPc := pc_sub isC hC hP
  have hDc := pc_subD isC hnC hC hD
  have hFc := va_free (wc := wc) hD hS X.hA isC hC
  have hbl := pre_blind (D := D) (sz := H.size) (w0 := wc) (av := (.ref b0 :: As)) hX.1
  have hXc : ∀ U : State, U.heap = H → s.WarmedH U.vm → Xp (va_A wc H.size) U := fun U hU hW => hX.2 _ H locs U hFc hS hU hW
  refine va_calli (va_runV (As := As) (rest := rest) ⟨X.hx, X.hb, X.hml, X.hown, X.hts⟩ (hM H.size) (cwV n X.hts (lw_V h1 h2 h3 h4 h5) rfl rfl rfl hd hroom) ⟨hbl, va_recv X.hK hP hci he, fun U hU hW => ⟨rfl, by rw [hU], by rw [hU]; exact hPc, va_K.moved hW.alike X.hK, hDc, hXc U hU hW⟩⟩ rfl hnA hl.1 rfl (lv_room hrest) d hcs) hS (fun q _ h => hFc q h) hFc (fun r1 u t H1 locs1 ht hvm hpo hB hz1 hk1 hS1 => ?_)
  obtain ⟨hP1, hD1⟩ := hB
  rw [ht] at hP1
  obtain ⟨hP, hD⟩ := va_join hP hD isC isR hC hR hn hdis hk1 hFc hP1 hD1
  exact k r1 u hpo H1 locs1 ls hP hD hS1 hl
theorem vc_Vv (pc' c' s' : Nat) (X : CX p s m args meth c D A cc nL own) {y : MethodName} {b : ByteArray} {L index : Nat} {r : Option FieldType} {rm : Room} {Xp : (Nat → Prop) → State → Prop} {post : va_W → Prop} {b0 : Nat} (n : Nat) (As : List Value) {rest : List Value} (isC isR : List Nat) (wc : va_W) {wr : va_W} (hC : isC.map (fun i => ws[i]?) = wc.map some) (hR : isR.map (fun i => ws[i]?) = wr.map some) (hn : va_nd isR = true) (hdis : ∀ i ∈ isR, i ∉ isC) (hnC : va_nd isC = true) (hM : CTv l y b L r rm D wc (.ref b0 :: As) Xp post) {C : String} (h1 : Cond.methodLink own index y ∈ lw_all) (h2 : Cond.instanceMethod y ∈ lw_all) (h3 : Cond.selects C y y ∈ lw_all) (h4 : Cond.initialized C ∈ lw_all) (h5 : Cond.code y b L r ∈ lw_all) (hd : y.cls = C ∧ y.cls ≠ "java/lang/invoke/MethodHandle" ∧ y.cls ≠ "java/lang/invoke/VarHandle" ∧ (parseMethodDescriptor y.desc).map (fun d => d.parameters.length) = some n) (q0 : Nat) {ci : Nat} {fs : List Value} {T : u_T} {N : Nat} (he : ws[q0]? = some (b0, .inr (ci, fs))) (hci : CL[ci]? = some (C, T, N)) (hX : Pass Xp s A) (hroom : rm.frames + 1 ≤ R.frames ∧ 8 + (L + 11) + rm.locals ≤ R.locals) (hcs : cells + rm.cells ≤ R.cells ∧ slots + rm.slots ≤ R.slots) (hnA : As.length = n) (hst : st = As.reverse ++ .ref b0 :: rest) (hrest : (rest.map fun v => v.category).sum ≤ 8) (d : decode cc pc = .ok (.invokevirtual index, 3)) (hp : pc + 3 = pc') (hc : cells + rm.cells = c') (hs : slots + rm.slots = s') (k : ∀ u : va_W, post u → V p l e R s m args below meth c D A nL Q (wr ++ u) c' s' pc' lv rest) : V p l e R s m args below meth c D A nL Q ws cells slots pc lv st := by
  subst hp; subst hst; subst hc; subst hs
  intro H locs ls hP hD hS hl
  have hPc := pc_sub isC hC hP
  have hDc := pc_subD isC hnC hC hD
  have hFc := va_free (wc := wc) hD hS X.hA isC hC
  have hbl := pre_blind (D := D) (sz := H.size) (w0 := wc) (av := (.ref b0 :: As)) hX.1
  have hXc : ∀ U : State, U.heap = H → s.WarmedH U.vm → Xp (va_A wc H.size) U := fun U hU hW => hX.2 _ H locs U hFc hS hU hW
  refine va_callv (va_runV (As := As) (rest := rest) ⟨X.hx, X.hb, X.hml, X.hown, X.hts⟩ (hM H.size) (cwV n X.hts (lw_V h1 h2 h3 h4 h5) rfl rfl rfl hd hroom) ⟨hbl, va_recv X.hK hP hci he, fun U hU hW => ⟨rfl, by rw [hU], by rw [hU]; exact hPc, va_K.moved hW.alike X.hK, hDc, hXc U hU hW⟩⟩ rfl hnA hl.1 rfl (lv_room hrest) d hcs) hS (fun q _ h => hFc q h) hFc (fun u t H1 locs1 ht hvm hpo hB hz1 hk1 hS1 => ?_)
  obtain ⟨hP1, hD1⟩ := hB
  rw [ht] at hP1
  obtain ⟨hP, hD⟩ := va_join hP hD isC isR hC hR hn hdis hk1 hFc hP1 hD1
  exact k u hpo H1 locs1 ls hP hD hS1 hl
theorem vc_Vr (pc' c' s' : Nat) (X : CX p s m args meth c D A cc nL own) {y : MethodName} {b : ByteArray} {L index : Nat} {r : Option FieldType} {rm : Room} {Xp : (Nat → Prop) → State → Prop} {post : Nat → va_W → Prop} {b0 : Nat} (n : Nat) (As : List Value) {rest : List Value} (isC isR : List Nat) (wc : va_W) {wr : va_W} (hC : isC.map (fun i => ws[i]?) = wc.map some) (hR : isR.map (fun i => ws[i]?) = wr.map some) (hn : va_nd isR = true) (hdis : ∀ i ∈ isR, i ∉ isC) (hnC : va_nd isC = true) (hM : CTr l y b L r rm D wc (.ref b0 :: As) Xp post) {C : String} (h1 : Cond.methodLink own index y ∈ lw_all) (h2 : Cond.instanceMethod y ∈ lw_all) (h3 : Cond.selects C y y ∈ lw_all) (h4 : Cond.initialized C ∈ lw_all) (h5 : Cond.code y b L r ∈ lw_all) (hd : y.cls = C ∧ y.cls ≠ "java/lang/invoke/MethodHandle" ∧ y.cls ≠ "java/lang/invoke/VarHandle" ∧ (parseMethodDescriptor y.desc).map (fun d => d.parameters.length) = some n) (q0 : Nat) {ci : Nat} {fs : List Value} {T : u_T} {N : Nat} (he : ws[q0]? = some (b0, .inr (ci, fs))) (hci : CL[ci]? = some (C, T, N)) (hX : Pass Xp s A) (hroom : rm.frames + 1 ≤ R.frames ∧ 8 + (L + 11) + rm.locals ≤ R.locals) (hcs : cells + rm.cells ≤ R.cells ∧ slots + rm.slots ≤ R.slots) (hnA : As.length = n) (hst : st = As.reverse ++ .ref b0 :: rest) (hrest : (rest.map fun v => v.category).sum ≤ 8) (d : decode cc pc = .ok (.invokevirtual index, 3)) (hp : pc + 3 = pc') (hc : cells + rm.cells = c') (hs : slots + rm.slots = s') (k : ∀ (a1 : Nat) (u : va_W), post a1 u → V p l e R s m args below meth c D A nL Q (wr ++ u) c' s' pc' lv (.ref a1 :: rest)) : V p l e R s m args below meth c D A nL Q ws cells slots pc lv st := by
  subst hp; subst hst; subst hc; subst hs
  intro H locs ls hP hD hS hl
  have hPc := pc_sub isC hC hP
  have hDc := pc_subD isC hnC hC hD
  have hFc := va_free (wc := wc) hD hS X.hA isC hC
  have hbl := pre_blind (D := D) (sz := H.size) (w0 := wc) (av := (.ref b0 :: As)) hX.1
  have hXc : ∀ U : State, U.heap = H → s.WarmedH U.vm → Xp (va_A wc H.size) U := fun U hU hW => hX.2 _ H locs U hFc hS hU hW
  refine va_callr (va_runV (As := As) (rest := rest) ⟨X.hx, X.hb, X.hml, X.hown, X.hts⟩ (hM H.size) (cwV n X.hts (lw_V h1 h2 h3 h4 h5) rfl rfl rfl hd hroom) ⟨hbl, va_recv X.hK hP hci he, fun U hU hW => ⟨rfl, by rw [hU], by rw [hU]; exact hPc, va_K.moved hW.alike X.hK, hDc, hXc U hU hW⟩⟩ rfl hnA hl.1 rfl (lv_room hrest) d hcs) hS (fun q _ h => hFc q h) hFc (fun uu ra t H1 locs1 ht hvm hpo hB hz1 hk1 hS1 => ?_)
  obtain ⟨rfl, hP1, hD1⟩ := hB
  rw [ht] at hP1
  obtain ⟨hP, hD⟩ := va_join hP hD isC isR hC hR hn hdis hk1 hFc hP1 hD1
  exact k uu.2 uu.1 hpo H1 locs1 ls hP hD hS1 hl
theorem vc_Si (pc' c' s' : Nat) (X : CX p s m args meth c D A cc nL own) {y : MethodName} {b : ByteArray} {L index : Nat} {r : Option FieldType} {rm : Room} {Xp : (Nat → Prop) → State → Prop} {post : Int32 → va_W → Prop} (n : Nat) (As : List Value) {rest : List Value} (isC isR : List Nat) (wc : va_W) {wr : va_W} (hC : isC.map (fun i => ws[i]?) = wc.map some) (hR : isR.map (fun i => ws[i]?) = wr.map some) (hn : va_nd isR = true) (hdis : ∀ i ∈ isR, i ∉ isC) (hnC : va_nd isC = true) (hM : CTi l y b L r rm D wc As Xp post) (h1 : Cond.methodLink own index y ∈ lw_all) (h2 : Cond.static y ∈ lw_all) (h4 : Cond.initialized y.cls ∈ lw_all) (h5 : Cond.code y b L r ∈ lw_all) (hd : y.cls ≠ "java/lang/invoke/MethodHandle" ∧ y.cls ≠ "java/lang/invoke/VarHandle" ∧ (parseMethodDescriptor y.desc).map (fun d => d.parameters.length) = some n)  (hX : Pass Xp s A) (hroom : rm.frames + 1 ≤ R.frames ∧ 8 + (L + 11) + rm.locals ≤ R.locals) (hcs : cells + rm.cells ≤ R.cells ∧ slots + rm.slots ≤ R.slots) (hnA : As.length = n) (hst : st = As.reverse ++ rest) (hrest : (rest.map fun v => v.category).sum ≤ 8) (d : decode cc pc = .ok (.invokestatic index, 3)) (hp : pc + 3 = pc') (hc : cells + rm.cells = c') (hs : slots + rm.slots = s') (k : ∀ (r1 : Int32) (u : va_W), post r1 u → V p l e R s m args below meth c D A nL Q (wr ++ u) c' s' pc' lv (.int r1 :: rest)) : V p l e R s m args below meth c D A nL Q ws cells slots pc lv st := by
  subst hp; subst hst; subst hc; subst hs
  intro H locs ls hP hD hS hl
  have hPc := pc_sub isC hC hP
  have hDc := pc_subD isC hnC hC hD
  have hFc := va_free (wc := wc) hD hS X.hA isC hC
  have hbl := pre_blind (D := D) (sz := H.size) (w0 := wc) (av := As) hX.1
  have hXc : ∀ U : State, U.heap = H → s.WarmedH U.vm → Xp (va_A wc H.size) U := fun U hU hW => hX.2 _ H locs U hFc hS hU hW
  refine va_calli (va_runS (As := As) (rest := rest) ⟨X.hx, X.hb, X.hml, X.hown, X.hts⟩ (hM H.size) (va_cwS n X.hts (lw_S h1 h2 h4 h5) rfl rfl rfl hd hroom) ⟨hbl, fun U hU hW => ⟨rfl, by rw [hU], by rw [hU]; exact hPc, va_K.moved hW.alike X.hK, hDc, hXc U hU hW⟩⟩ rfl hnA hl.1 rfl (lv_room hrest) d hcs) hS (fun q _ h => hFc q h) hFc (fun r1 u t H1 locs1 ht hvm hpo hB hz1 hk1 hS1 => ?_)
  obtain ⟨hP1, hD1⟩ := hB
  rw [ht] at hP1
  obtain ⟨hP, hD⟩ := va_join hP hD isC isR hC hR hn hdis hk1 hFc hP1 hD1
  exact k r1 u hpo H1 locs1 ls hP hD hS1 hl
theorem vc_Sv (pc' c' s' : Nat) (X : CX p s m args meth c D A cc nL own) {y : MethodName} {b : ByteArray} {L index : Nat} {r : Option FieldType} {rm : Room} {Xp : (Nat → Prop) → State → Prop} {post : va_W → Prop} (n : Nat) (As : List Value) {rest : List Value} (isC isR : List Nat) (wc : va_W) {wr : va_W} (hC : isC.map (fun i => ws[i]?) = wc.map some) (hR : isR.map (fun i => ws[i]?) = wr.map some) (hn : va_nd isR = true) (hdis : ∀ i ∈ isR, i ∉ isC) (hnC : va_nd isC = true) (hM : CTv l y b L r rm D wc As Xp post) (h1 : Cond.methodLink own index y ∈ lw_all) (h2 : Cond.static y ∈ lw_all) (h4 : Cond.initialized y.cls ∈ lw_all) (h5 : Cond.code y b L r ∈ lw_all) (hd : y.cls ≠ "java/lang/invoke/MethodHandle" ∧ y.cls ≠ "java/lang/invoke/VarHandle" ∧ (parseMethodDescriptor y.desc).map (fun d => d.parameters.length) = some n)  (hX : Pass Xp s A) (hroom : rm.frames + 1 ≤ R.frames ∧ 8 + (L + 11) + rm.locals ≤ R.locals) (hcs : cells + rm.cells ≤ R.cells ∧ slots + rm.slots ≤ R.slots) (hnA : As.length = n) (hst : st = As.reverse ++ rest) (hrest : (rest.map fun v => v.category).sum ≤ 8) (d : decode cc pc = .ok (.invokestatic index, 3)) (hp : pc + 3 = pc') (hc : cells + rm.cells = c') (hs : slots + rm.slots = s') (k : ∀ u : va_W, post u → V p l e R s m args below meth c D A nL Q (wr ++ u) c' s' pc' lv rest) : V p l e R s m args below meth c D A nL Q ws cells slots pc lv st := by
  subst hp; subst hst; subst hc; subst hs
  intro H locs ls hP hD hS hl
  have hPc := pc_sub isC hC hP
  have hDc := pc_subD isC hnC hC hD
  have hFc := va_free (wc := wc) hD hS X.hA isC hC
  have hbl := pre_blind (D := D) (sz := H.size) (w0 := wc) (av := As) hX.1
  have hXc : ∀ U : State, U.heap = H → s.WarmedH U.vm → Xp (va_A wc H.size) U := fun U hU hW => hX.2 _ H locs U hFc hS hU hW
  refine va_callv (va_runS (As := As) (rest := rest) ⟨X.hx, X.hb, X.hml, X.hown, X.hts⟩ (hM H.size) (va_cwS n X.hts (lw_S h1 h2 h4 h5) rfl rfl rfl hd hroom) ⟨hbl, fun U hU hW => ⟨rfl, by rw [hU], by rw [hU]; exact hPc, va_K.moved hW.alike X.hK, hDc, hXc U hU hW⟩⟩ rfl hnA hl.1 rfl (lv_room hrest) d hcs) hS (fun q _ h => hFc q h) hFc (fun u t H1 locs1 ht hvm hpo hB hz1 hk1 hS1 => ?_)
  obtain ⟨hP1, hD1⟩ := hB
  rw [ht] at hP1
  obtain ⟨hP, hD⟩ := va_join hP hD isC isR hC hR hn hdis hk1 hFc hP1 hD1
  exact k u hpo H1 locs1 ls hP hD hS1 hl
theorem vc_Sr (pc' c' s' : Nat) (X : CX p s m args meth c D A cc nL own) {y : MethodName} {b : ByteArray} {L index : Nat} {r : Option FieldType} {rm : Room} {Xp : (Nat → Prop) → State → Prop} {post : Nat → va_W → Prop} (n : Nat) (As : List Value) {rest : List Value} (isC isR : List Nat) (wc : va_W) {wr : va_W} (hC : isC.map (fun i => ws[i]?) = wc.map some) (hR : isR.map (fun i => ws[i]?) = wr.map some) (hn : va_nd isR = true) (hdis : ∀ i ∈ isR, i ∉ isC) (hnC : va_nd isC = true) (hM : CTr l y b L r rm D wc As Xp post) (h1 : Cond.methodLink own index y ∈ lw_all) (h2 : Cond.static y ∈ lw_all) (h4 : Cond.initialized y.cls ∈ lw_all) (h5 : Cond.code y b L r ∈ lw_all) (hd : y.cls ≠ "java/lang/invoke/MethodHandle" ∧ y.cls ≠ "java/lang/invoke/VarHandle" ∧ (parseMethodDescriptor y.desc).map (fun d => d.parameters.length) = some n)  (hX : Pass Xp s A) (hroom : rm.frames + 1 ≤ R.frames ∧ 8 + (L + 11) + rm.locals ≤ R.locals) (hcs : cells + rm.cells ≤ R.cells ∧ slots + rm.slots ≤ R.slots) (hnA : As.length = n) (hst : st = As.reverse ++ rest) (hrest : (rest.map fun v => v.category).sum ≤ 8) (d : decode cc pc = .ok (.invokestatic index, 3)) (hp : pc + 3 = pc') (hc : cells + rm.cells = c') (hs : slots + rm.slots = s') (k : ∀ (a1 : Nat) (u : va_W), post a1 u → V p l e R s m args below meth c D A nL Q (wr ++ u) c' s' pc' lv (.ref a1 :: rest)) : V p l e R s m args below meth c D A nL Q ws cells slots pc lv st := by
  subst hp; subst hst; subst hc; subst hs
  intro H locs ls hP hD hS hl
  have hPc := pc_sub isC hC hP
  have hDc := pc_subD isC hnC hC hD
  have hFc := va_free (wc := wc) hD hS X.hA isC hC
  have hbl := pre_blind (D := D) (sz := H.size) (w0 := wc) (av := As) hX.1
  have hXc : ∀ U : State, U.heap = H → s.WarmedH U.vm → Xp (va_A wc H.size) U := fun U hU hW => hX.2 _ H locs U hFc hS hU hW
  refine va_callr (va_runS (As := As) (rest := rest) ⟨X.hx, X.hb, X.hml, X.hown, X.hts⟩ (hM H.size) (va_cwS n X.hts (lw_S h1 h2 h4 h5) rfl rfl rfl hd hroom) ⟨hbl, fun U hU hW => ⟨rfl, by rw [hU], by rw [hU]; exact hPc, va_K.moved hW.alike X.hK, hDc, hXc U hU hW⟩⟩ rfl hnA hl.1 rfl (lv_room hrest) d hcs) hS (fun q _ h => hFc q h) hFc (fun uu ra t H1 locs1 ht hvm hpo hB hz1 hk1 hS1 => ?_)
  obtain ⟨rfl, hP1, hD1⟩ := hB
  rw [ht] at hP1
  obtain ⟨hP, hD⟩ := va_join hP hD isC isR hC hR hn hdis hk1 hFc hP1 hD1
  exact k uu.2 uu.1 hpo H1 locs1 ls hP hD hS1 hl
theorem vc_Ni (pc' c' s' : Nat) (X : CX p s m args meth c D A cc nL own) (hAm : AMB D A s) {y : MethodName} {b : ByteArray} {L index : Nat} {r : Option FieldType} {rm : Room} {Xp : (Nat → Prop) → State → Prop} {post : Int32 → va_W → Prop} (n : Nat) (As : List Value) {rest : List Value} (isC isR : List Nat) (wc : va_W) {wr : va_W} (hC : isC.map (fun i => ws[i]?) = wc.map some) (hR : isR.map (fun i => ws[i]?) = wr.map some) (hn : va_nd isR = true) (hdis : ∀ i ∈ isR, i ∉ isC) (hnC : va_nd isC = true) (hM : CTi l y b L r rm D wc As Xp post) {host : String} (h1 : Cond.methodLinkNest own index y host ∈ lw_tbl) (h2 : Cond.static y ∈ lw_all) (h4 : Cond.initialized y.cls ∈ lw_all) (h5 : Cond.code y b L r ∈ lw_all) (hd : y.cls ≠ "java/lang/invoke/MethodHandle" ∧ y.cls ≠ "java/lang/invoke/VarHandle" ∧ (parseMethodDescriptor y.desc).map (fun d => d.parameters.length) = some n)  (hX : Pass Xp s A) (hroom : rm.frames + 1 ≤ R.frames ∧ 8 + (L + 11) + rm.locals ≤ R.locals) (hcs : cells + rm.cells ≤ R.cells ∧ slots + rm.slots ≤ R.slots) (hnA : As.length = n) (hst : st = As.reverse ++ rest) (hrest : (rest.map fun v => v.category).sum ≤ 8) (d : decode cc pc = .ok (.invokestatic index, 3)) (hp : pc + 3 = pc') (hc : cells + rm.cells = c') (hs : slots + rm.slots = s') (k : ∀ (r1 : Int32) (u : va_W), post r1 u → V p l e R s m args below meth c D A nL Q (wr ++ u) c' s' pc' lv (.int r1 :: rest)) : V p l e R s m args below meth c D A nL Q ws cells slots pc lv st := by
  subst hp; subst hst; subst hc; subst hs
  intro H locs ls hP hD hS hl
  have hPc := pc_sub isC hC hP
  have hDc := pc_subD isC hnC hC hD
  have hFc := va_free (wc := wc) hD hS X.hA isC hC
  have hbl := pre_blind (D := D) (sz := H.size) (w0 := wc) (av := As) hX.1
  have hXc : ∀ U : State, U.heap = H → s.WarmedH U.vm → Xp (va_A wc H.size) U := fun U hU hW => hX.2 _ H locs U hFc hS hU hW
  refine va_calli (va_runSN (As := As) (rest := rest) ⟨X.hx, X.hb, X.hml, X.hown, X.hts⟩ (hM H.size) ⟨va_cnB n X.hts (lw_meth h5) rfl rfl rfl (hAm.nw h1 rfl) (X.hts _ h4) hd hroom, X.hts _ h2, trivial⟩ ⟨hbl, fun U hU hW => ⟨rfl, by rw [hU], by rw [hU]; exact hPc, va_K.moved hW.alike X.hK, hDc, hXc U hU hW⟩⟩ rfl hnA hl.1 rfl (lv_room hrest) d hcs) hS (fun q _ h => hFc q h) hFc (fun r1 u t H1 locs1 ht hvm hpo hB hz1 hk1 hS1 => ?_)
  obtain ⟨hP1, hD1⟩ := hB
  rw [ht] at hP1
  obtain ⟨hP, hD⟩ := va_join hP hD isC isR hC hR hn hdis hk1 hFc hP1 hD1
  exact k r1 u hpo H1 locs1 ls hP hD hS1 hl
theorem vc_Nv (pc' c' s' : Nat) (X : CX p s m args meth c D A cc nL own) (hAm : AMB D A s) {y : MethodName} {b : ByteArray} {L index : Nat} {r : Option FieldType} {rm : Room} {Xp : (Nat → Prop) → State → Prop} {post : va_W → Prop} (n : Nat) (As : List Value) {rest : List Value} (isC isR : List Nat) (wc : va_W) {wr : va_W} (hC : isC.map (fun i => ws[i]?) = wc.map some) (hR : isR.map (fun i => ws[i]?) = wr.map some) (hn : va_nd isR = true) (hdis : ∀ i ∈ isR, i ∉ isC) (hnC : va_nd isC = true) (hM : CTv l y b L r rm D wc As Xp post) {host : String} (h1 : Cond.methodLinkNest own index y host ∈ lw_tbl) (h2 : Cond.static y ∈ lw_all) (h4 : Cond.initialized y.cls ∈ lw_all) (h5 : Cond.code y b L r ∈ lw_all) (hd : y.cls ≠ "java/lang/invoke/MethodHandle" ∧ y.cls ≠ "java/lang/invoke/VarHandle" ∧ (parseMethodDescriptor y.desc).map (fun d => d.parameters.length) = some n)  (hX : Pass Xp s A) (hroom : rm.frames + 1 ≤ R.frames ∧ 8 + (L + 11) + rm.locals ≤ R.locals) (hcs : cells + rm.cells ≤ R.cells ∧ slots + rm.slots ≤ R.slots) (hnA : As.length = n) (hst : st = As.reverse ++ rest) (hrest : (rest.map fun v => v.category).sum ≤ 8) (d : decode cc pc = .ok (.invokestatic index, 3)) (hp : pc + 3 = pc') (hc : cells + rm.cells = c') (hs : slots + rm.slots = s') (k : ∀ u : va_W, post u → V p l e R s m args below meth c D A nL Q (wr ++ u) c' s' pc' lv rest) : V p l e R s m args below meth c D A nL Q ws cells slots pc lv st := by
  subst hp; subst hst; subst hc; subst hs
  intro H locs ls hP hD hS hl
  have hPc := pc_sub isC hC hP
  have hDc := pc_subD isC hnC hC hD
  have hFc := va_free (wc := wc) hD hS X.hA isC hC
  have hbl := pre_blind (D := D) (sz := H.size) (w0 := wc) (av := As) hX.1
  have hXc : ∀ U : State, U.heap = H → s.WarmedH U.vm → Xp (va_A wc H.size) U := fun U hU hW => hX.2 _ H locs U hFc hS hU hW
  refine va_callv (va_runSN (As := As) (rest := rest) ⟨X.hx, X.hb, X.hml, X.hown, X.hts⟩ (hM H.size) ⟨va_cnB n X.hts (lw_meth h5) rfl rfl rfl (hAm.nw h1 rfl) (X.hts _ h4) hd hroom, X.hts _ h2, trivial⟩ ⟨hbl, fun U hU hW => ⟨rfl, by rw [hU], by rw [hU]; exact hPc, va_K.moved hW.alike X.hK, hDc, hXc U hU hW⟩⟩ rfl hnA hl.1 rfl (lv_room hrest) d hcs) hS (fun q _ h => hFc q h) hFc (fun u t H1 locs1 ht hvm hpo hB hz1 hk1 hS1 => ?_)
  obtain ⟨hP1, hD1⟩ := hB
  rw [ht] at hP1
  obtain ⟨hP, hD⟩ := va_join hP hD isC isR hC hR hn hdis hk1 hFc hP1 hD1
  exact k u hpo H1 locs1 ls hP hD hS1 hl
theorem vc_Nr (pc' c' s' : Nat) (X : CX p s m args meth c D A cc nL own) (hAm : AMB D A s) {y : MethodName} {b : ByteArray} {L index : Nat} {r : Option FieldType} {rm : Room} {Xp : (Nat → Prop) → State → Prop} {post : Nat → va_W → Prop} (n : Nat) (As : List Value) {rest : List Value} (isC isR : List Nat) (wc : va_W) {wr : va_W} (hC : isC.map (fun i => ws[i]?) = wc.map some) (hR : isR.map (fun i => ws[i]?) = wr.map some) (hn : va_nd isR = true) (hdis : ∀ i ∈ isR, i ∉ isC) (hnC : va_nd isC = true) (hM : CTr l y b L r rm D wc As Xp post) {host : String} (h1 : Cond.methodLinkNest own index y host ∈ lw_tbl) (h2 : Cond.static y ∈ lw_all) (h4 : Cond.initialized y.cls ∈ lw_all) (h5 : Cond.code y b L r ∈ lw_all) (hd : y.cls ≠ "java/lang/invoke/MethodHandle" ∧ y.cls ≠ "java/lang/invoke/VarHandle" ∧ (parseMethodDescriptor y.desc).map (fun d => d.parameters.length) = some n)  (hX : Pass Xp s A) (hroom : rm.frames + 1 ≤ R.frames ∧ 8 + (L + 11) + rm.locals ≤ R.locals) (hcs : cells + rm.cells ≤ R.cells ∧ slots + rm.slots ≤ R.slots) (hnA : As.length = n) (hst : st = As.reverse ++ rest) (hrest : (rest.map fun v => v.category).sum ≤ 8) (d : decode cc pc = .ok (.invokestatic index, 3)) (hp : pc + 3 = pc') (hc : cells + rm.cells = c') (hs : slots + rm.slots = s') (k : ∀ (a1 : Nat) (u : va_W), post a1 u → V p l e R s m args below meth c D A nL Q (wr ++ u) c' s' pc' lv (.ref a1 :: rest)) : V p l e R s m args below meth c D A nL Q ws cells slots pc lv st := by
  subst hp; subst hst; subst hc; subst hs
  intro H locs ls hP hD hS hl
  have hPc := pc_sub isC hC hP
  have hDc := pc_subD isC hnC hC hD
  have hFc := va_free (wc := wc) hD hS X.hA isC hC
  have hbl := pre_blind (D := D) (sz := H.size) (w0 := wc) (av := As) hX.1
  have hXc : ∀ U : State, U.heap = H → s.WarmedH U.vm → Xp (va_A wc H.size) U := fun U hU hW => hX.2 _ H locs U hFc hS hU hW
  refine va_callr (va_runSN (As := As) (rest := rest) ⟨X.hx, X.hb, X.hml, X.hown, X.hts⟩ (hM H.size) ⟨va_cnB n X.hts (lw_meth h5) rfl rfl rfl (hAm.nw h1 rfl) (X.hts _ h4) hd hroom, X.hts _ h2, trivial⟩ ⟨hbl, fun U hU hW => ⟨rfl, by rw [hU], by rw [hU]; exact hPc, va_K.moved hW.alike X.hK, hDc, hXc U hU hW⟩⟩ rfl hnA hl.1 rfl (lv_room hrest) d hcs) hS (fun q _ h => hFc q h) hFc (fun uu ra t H1 locs1 ht hvm hpo hB hz1 hk1 hS1 => ?_)
  obtain ⟨rfl, hP1, hD1⟩ := hB
  rw [ht] at hP1
  obtain ⟨hP, hD⟩ := va_join hP hD isC isR hC hR hn hdis hk1 hFc hP1 hD1
  exact k uu.2 uu.1 hpo H1 locs1 ls hP hD hS1 hl
theorem vc_Iv (pc' c' s' : Nat) (X : CX p s m args meth c D A cc nL own) {y : MethodName} {b : ByteArray} {L index : Nat} {rm : Room} {Xp : (Nat → Prop) → State → Prop} {post : va_W → Prop} {b0 : Nat} (n : Nat) (As : List Value) {rest : List Value} (isC isR : List Nat) (wc : va_W) {wr : va_W} (hC : isC.map (fun i => ws[i]?) = wc.map some) (hR : isR.map (fun i => ws[i]?) = wr.map some) (hn : va_nd isR = true) (hdis : ∀ i ∈ isR, i ∉ isC) (hnC : va_nd isC = true) (hM : CTv l y b L none rm D wc (.ref b0 :: As) Xp post) (h1 : Cond.methodLink own index y ∈ lw_all) (h2 : Cond.instanceMethod y ∈ lw_all) (hy1 : y.name = "<init>") (h4 : Cond.initialized y.cls ∈ lw_all) (h5 : Cond.code y b L none ∈ lw_all) (hd : y.cls ≠ "java/lang/invoke/MethodHandle" ∧ y.cls ≠ "java/lang/invoke/VarHandle" ∧ (parseMethodDescriptor y.desc).map (fun d => d.parameters.length) = some n)  (hX : Pass Xp s A) (hroom : rm.frames + 1 ≤ R.frames ∧ 8 + (L + 11) + rm.locals ≤ R.locals) (hcs : cells + rm.cells ≤ R.cells ∧ slots + rm.slots ≤ R.slots) (hnA : As.length = n) (hst : st = As.reverse ++ .ref b0 :: rest) (hrest : (rest.map fun v => v.category).sum ≤ 8) (d : decode cc pc = .ok (.invokespecial index, 3)) (hp : pc + 3 = pc') (hc : cells + rm.cells = c') (hs : slots + rm.slots = s') (k : ∀ u : va_W, post u → V p l e R s m args below meth c D A nL Q (wr ++ u) c' s' pc' lv rest) : V p l e R s m args below meth c D A nL Q ws cells slots pc lv st := by
  subst hp; subst hst; subst hc; subst hs
  intro H locs ls hP hD hS hl
  have hPc := pc_sub isC hC hP
  have hDc := pc_subD isC hnC hC hD
  have hFc := va_free (wc := wc) hD hS X.hA isC hC
  have hbl := pre_blind (D := D) (sz := H.size) (w0 := wc) (av := (.ref b0 :: As)) hX.1
  have hXc : ∀ U : State, U.heap = H → s.WarmedH U.vm → Xp (va_A wc H.size) U := fun U hU hW => hX.2 _ H locs U hFc hS hU hW
  refine va_callv (va_runI (As := As) (rest := rest) ⟨X.hx, X.hb, X.hml, X.hown, X.hts⟩ (hM H.size) (cwI n X.hts (lw_meth h5) rfl rfl rfl (X.hts _ h4) (X.hts _ h1) (X.hts _ h2) hy1 hd hroom) ⟨hbl, fun U hU hW => ⟨rfl, by rw [hU], by rw [hU]; exact hPc, va_K.moved hW.alike X.hK, hDc, hXc U hU hW⟩⟩ rfl hnA hl.1 rfl (lv_room hrest) d hcs) hS (fun q _ h => hFc q h) hFc (fun u t H1 locs1 ht hvm hpo hB hz1 hk1 hS1 => ?_)
  obtain ⟨hP1, hD1⟩ := hB
  rw [ht] at hP1
  obtain ⟨hP, hD⟩ := va_join hP hD isC isR hC hR hn hdis hk1 hFc hP1 hD1
  exact k u hpo H1 locs1 ls hP hD hS1 hl
theorem vc_Jv (pc' c' s' : Nat) (X : CX p s m args meth c D A cc nL own) (hAm : AMB D A s) {y : MethodName} {b : ByteArray} {L index : Nat} {rm : Room} {Xp : (Nat → Prop) → State → Prop} {post : va_W → Prop} {b0 : Nat} (n : Nat) (As : List Value) {rest : List Value} (isC isR : List Nat) (wc : va_W) {wr : va_W} (hC : isC.map (fun i => ws[i]?) = wc.map some) (hR : isR.map (fun i => ws[i]?) = wr.map some) (hn : va_nd isR = true) (hdis : ∀ i ∈ isR, i ∉ isC) (hnC : va_nd isC = true) (hM : CTv l y b L none rm D wc (.ref b0 :: As) Xp post) {host : String} (h1 : Cond.methodLinkNest own index y host ∈ lw_tbl) (h2 : Cond.instanceMethod y ∈ lw_all) (hy1 : y.name = "<init>") (h4 : Cond.initialized y.cls ∈ lw_all) (h5 : Cond.code y b L none ∈ lw_all) (hd : y.cls ≠ "java/lang/invoke/MethodHandle" ∧ y.cls ≠ "java/lang/invoke/VarHandle" ∧ (parseMethodDescriptor y.desc).map (fun d => d.parameters.length) = some n)  (hX : Pass Xp s A) (hroom : rm.frames + 1 ≤ R.frames ∧ 8 + (L + 11) + rm.locals ≤ R.locals) (hcs : cells + rm.cells ≤ R.cells ∧ slots + rm.slots ≤ R.slots) (hnA : As.length = n) (hst : st = As.reverse ++ .ref b0 :: rest) (hrest : (rest.map fun v => v.category).sum ≤ 8) (d : decode cc pc = .ok (.invokespecial index, 3)) (hp : pc + 3 = pc') (hc : cells + rm.cells = c') (hs : slots + rm.slots = s') (k : ∀ u : va_W, post u → V p l e R s m args below meth c D A nL Q (wr ++ u) c' s' pc' lv rest) : V p l e R s m args below meth c D A nL Q ws cells slots pc lv st := by
  subst hp; subst hst; subst hc; subst hs
  intro H locs ls hP hD hS hl
  have hPc := pc_sub isC hC hP
  have hDc := pc_subD isC hnC hC hD
  have hFc := va_free (wc := wc) hD hS X.hA isC hC
  have hbl := pre_blind (D := D) (sz := H.size) (w0 := wc) (av := (.ref b0 :: As)) hX.1
  have hXc : ∀ U : State, U.heap = H → s.WarmedH U.vm → Xp (va_A wc H.size) U := fun U hU hW => hX.2 _ H locs U hFc hS hU hW
  refine va_callv (va_runIN (As := As) (rest := rest) ⟨X.hx, X.hb, X.hml, X.hown, X.hts⟩ (hM H.size) ⟨va_cnB n X.hts (lw_meth h5) rfl rfl rfl (hAm.nw h1 rfl) (X.hts _ h4) hd hroom, hy1, X.hts _ h2⟩ ⟨hbl, fun U hU hW => ⟨rfl, by rw [hU], by rw [hU]; exact hPc, va_K.moved hW.alike X.hK, hDc, hXc U hU hW⟩⟩ rfl hnA hl.1 rfl (lv_room hrest) d hcs) hS (fun q _ h => hFc q h) hFc (fun u t H1 locs1 ht hvm hpo hB hz1 hk1 hS1 => ?_)
  obtain ⟨hP1, hD1⟩ := hB
  rw [ht] at hP1
  obtain ⟨hP, hD⟩ := va_join hP hD isC isR hC hR hn hdis hk1 hFc hP1 hD1
  exact k u hpo H1 locs1 ls hP hD hS1 hl
theorem vl_Vv (pc' c' s' : Nat) (X : CX p s m args meth c D A cc nL own) {xs : List (Nat × ClassId × List Value)} {y : MethodName} {b : ByteArray} {L index : Nat} {r : Option FieldType} {rm : Room} {Xp : (Nat → Prop) → State → Prop} {post : va_W → Prop} {b0 : Nat} (n : Nat) (As : List Value) {rest : List Value} (isC isR : List Nat) (wc : va_W) {wr : va_W} (hC : isC.map (fun i => ws[i]?) = wc.map some) (hR : isR.map (fun i => ws[i]?) = wr.map some) (hn : va_nd isR = true) (hdis : ∀ i ∈ isR, i ∉ isC) (hnC : va_nd isC = true) (hM : CTv l y b L r rm D wc (.ref b0 :: As) Xp post) {C : String} (h1 : Cond.methodLink own index y ∈ lw_all) (h2 : Cond.instanceMethod y ∈ lw_all) (h3 : Cond.selects C y y ∈ lw_all) (h4 : Cond.initialized C ∈ lw_all) (h5 : Cond.code y b L r ∈ lw_all) (hd : y.cls = C ∧ y.cls ≠ "java/lang/invoke/MethodHandle" ∧ y.cls ≠ "java/lang/invoke/VarHandle" ∧ (parseMethodDescriptor y.desc).map (fun d => d.parameters.length) = some n) (q0 : Nat) {ci : Nat} {fs : List Value} {T : u_T} {N : Nat} (he : ws[q0]? = some (b0, .inr (ci, fs))) (hci : CL[ci]? = some (C, T, N)) (hbX : ∀ (A : Nat → Prop) (a : Array Value) (U : State) (g : JFrame) (mk : MethodId), Xp A U → Xp A (U.calling g mk a)) (hXp : ∀ (A1 : Nat → Prop) (H : Heap) (locs : List Loc) (U : State), (∀ q, A1 q → A q) → va_S A s.heap H locs → U.heap = H → s.WarmedH U.vm → (∀ z ∈ xs, H[z.1]? = some { cls := z.2.1, slots := z.2.2.toArray, vm := .none } ∧ ¬ A1 z.1) → Xp A1 U) (hroom : rm.frames + 1 ≤ R.frames ∧ 8 + (L + 11) + rm.locals ≤ R.locals) (hcs : cells + rm.cells ≤ R.cells ∧ slots + rm.slots ≤ R.slots) (hnA : As.length = n) (hst : st = As.reverse ++ .ref b0 :: rest) (hrest : (rest.map fun v => v.category).sum ≤ 8) (d : decode cc pc = .ok (.invokevirtual index, 3)) (hp : pc + 3 = pc') (hc : cells + rm.cells = c') (hs : slots + rm.slots = s') (k : ∀ u : va_W, post u → V p l e R s m args below meth c D A nL Q (wr ++ u) c' s' pc' lv rest) : VL p l e R s m args below meth c D A nL Q ws xs cells slots pc lv st := by
  subst hp; subst hst; subst hc; subst hs
  intro H locs ls hP hD hxs hS hl
  have hPc := pc_sub isC hC hP
  have hDc := pc_subD isC hnC hC hD
  have hFc := va_free (wc := wc) hD hS X.hA isC hC
  have hbl := pre_blind (D := D) (sz := H.size) (w0 := wc) (av := (.ref b0 :: As)) hbX
  have hXc : ∀ U : State, U.heap = H → s.WarmedH U.vm → Xp (va_A wc H.size) U := fun U hU hW => hXp _ H locs U hFc hS hU hW (fun z hz => ⟨(hxs z hz).1, fun h => by
    rcases h with ⟨k1, e1, h⟩ | h
    · have h1 : (isC.map (fun i => ws[i]?))[k1]? = some (some (z.1, e1)) := by rw [hC, List.getElem?_map, h]; rfl
      rw [List.getElem?_map] at h1
      cases h2 : isC[k1]? with
      | none => rw [h2] at h1; cases h1
      | some i =>
        rw [h2] at h1
        exact (hxs z hz).2 i _ (Option.some.inj h1) rfl
    · exact absurd (Array.getElem?_eq_some_iff.mp (hxs z hz).1).1 (Nat.not_lt.mpr h)⟩)
  refine va_callv (va_runV (As := As) (rest := rest) ⟨X.hx, X.hb, X.hml, X.hown, X.hts⟩ (hM H.size) (cwV n X.hts (lw_V h1 h2 h3 h4 h5) rfl rfl rfl hd hroom) ⟨hbl, va_recv X.hK hP hci he, fun U hU hW => ⟨rfl, by rw [hU], by rw [hU]; exact hPc, va_K.moved hW.alike X.hK, hDc, hXc U hU hW⟩⟩ rfl hnA hl.1 rfl (lv_room hrest) d hcs) hS (fun q _ h => hFc q h) hFc (fun u t H1 locs1 ht hvm hpo hB hz1 hk1 hS1 => ?_)
  obtain ⟨hP1, hD1⟩ := hB
  rw [ht] at hP1
  obtain ⟨hP, hD⟩ := va_join hP hD isC isR hC hR hn hdis hk1 hFc hP1 hD1
  exact k u hpo H1 locs1 ls hP hD hS1 hl
theorem vl_Vr (pc' c' s' : Nat) (X : CX p s m args meth c D A cc nL own) {xs : List (Nat × ClassId × List Value)} {y : MethodName} {b : ByteArray} {L index : Nat} {r : Option FieldType} {rm : Room} {Xp : (Nat → Prop) → State → Prop} {post : Nat → va_W → Prop} {b0 : Nat} (n : Nat) (As : List Value) {rest : List Value} (isC isR : List Nat) (wc : va_W) {wr : va_W} (hC : isC.map (fun i => ws[i]?) = wc.map some) (hR : isR.map (fun i => ws[i]?) = wr.map some) (hn : va_nd isR = true) (hdis : ∀ i ∈ isR, i ∉ isC) (hnC : va_nd isC = true) (hM : CTr l y b L r rm D wc (.ref b0 :: As) Xp post) {C : String} (h1 : Cond.methodLink own index y ∈ lw_all) (h2 : Cond.instanceMethod y ∈ lw_all) (h3 : Cond.selects C y y ∈ lw_all) (h4 : Cond.initialized C ∈ lw_all) (h5 : Cond.code y b L r ∈ lw_all) (hd : y.cls = C ∧ y.cls ≠ "java/lang/invoke/MethodHandle" ∧ y.cls ≠ "java/lang/invoke/VarHandle" ∧ (parseMethodDescriptor y.desc).map (fun d => d.parameters.length) = some n) (q0 : Nat) {ci : Nat} {fs : List Value} {T : u_T} {N : Nat} (he : ws[q0]? = some (b0, .inr (ci, fs))) (hci : CL[ci]? = some (C, T, N)) (hbX : ∀ (A : Nat → Prop) (a : Array Value) (U : State) (g : JFrame) (mk : MethodId), Xp A U → Xp A (U.calling g mk a)) (hXp : ∀ (A1 : Nat → Prop) (H : Heap) (locs : List Loc) (U : State), (∀ q, A1 q → A q) → va_S A s.heap H locs → U.heap = H → s.WarmedH U.vm → (∀ z ∈ xs, H[z.1]? = some { cls := z.2.1, slots := z.2.2.toArray, vm := .none } ∧ ¬ A1 z.1) → Xp A1 U) (hroom : rm.frames + 1 ≤ R.frames ∧ 8 + (L + 11) + rm.locals ≤ R.locals) (hcs : cells + rm.cells ≤ R.cells ∧ slots + rm.slots ≤ R.slots) (hnA : As.length = n) (hst : st = As.reverse ++ .ref b0 :: rest) (hrest : (rest.map fun v => v.category).sum ≤ 8) (d : decode cc pc = .ok (.invokevirtual index, 3)) (hp : pc + 3 = pc') (hc : cells + rm.cells = c') (hs : slots + rm.slots = s') (k : ∀ (a1 : Nat) (u : va_W), post a1 u → V p l e R s m args below meth c D A nL Q (wr ++ u) c' s' pc' lv (.ref a1 :: rest)) : VL p l e R s m args below meth c D A nL Q ws xs cells slots pc lv st := by
  subst hp; subst hst; subst hc; subst hs
  intro H locs ls hP hD hxs hS hl
  have hPc := pc_sub isC hC hP
  have hDc := pc_subD isC hnC hC hD
  have hFc := va_free (wc := wc) hD hS X.hA isC hC
  have hbl := pre_blind (D := D) (sz := H.size) (w0 := wc) (av := (.ref b0 :: As)) hbX
  have hXc : ∀ U : State, U.heap = H → s.WarmedH U.vm → Xp (va_A wc H.size) U := fun U hU hW => hXp _ H locs U hFc hS hU hW (fun z hz => ⟨(hxs z hz).1, fun h => by
    rcases h with ⟨k1, e1, h⟩ | h
    · have h1 : (isC.map (fun i => ws[i]?))[k1]? = some (some (z.1, e1)) := by rw [hC, List.getElem?_map, h]; rfl
      rw [List.getElem?_map] at h1
      cases h2 : isC[k1]? with
      | none => rw [h2] at h1; cases h1
      | some i =>
        rw [h2] at h1
        exact (hxs z hz).2 i _ (Option.some.inj h1) rfl
    · exact absurd (Array.getElem?_eq_some_iff.mp (hxs z hz).1).1 (Nat.not_lt.mpr h)⟩)
  refine va_callr (va_runV (As := As) (rest := rest) ⟨X.hx, X.hb, X.hml, X.hown, X.hts⟩ (hM H.size) (cwV n X.hts (lw_V h1 h2 h3 h4 h5) rfl rfl rfl hd hroom) ⟨hbl, va_recv X.hK hP hci he, fun U hU hW => ⟨rfl, by rw [hU], by rw [hU]; exact hPc, va_K.moved hW.alike X.hK, hDc, hXc U hU hW⟩⟩ rfl hnA hl.1 rfl (lv_room hrest) d hcs) hS (fun q _ h => hFc q h) hFc (fun uu ra t H1 locs1 ht hvm hpo hB hz1 hk1 hS1 => ?_)
  obtain ⟨rfl, hP1, hD1⟩ := hB
  rw [ht] at hP1
  obtain ⟨hP, hD⟩ := va_join hP hD isC isR hC hR hn hdis hk1 hFc hP1 hD1
  exact k uu.2 uu.1 hpo H1 locs1 ls hP hD hS1 hl
theorem vl_Si (pc' c' s' : Nat) (X : CX p s m args meth c D A cc nL own) {xs : List (Nat × ClassId × List Value)} {y : MethodName} {b : ByteArray} {L index : Nat} {r : Option FieldType} {rm : Room} {Xp : (Nat → Prop) → State → Prop} {post : Int32 → va_W → Prop} (n : Nat) (As : List Value) {rest : List Value} (isC isR : List Nat) (wc : va_W) {wr : va_W} (hC : isC.map (fun i => ws[i]?) = wc.map some) (hR : isR.map (fun i => ws[i]?) = wr.map some) (hn : va_nd isR = true) (hdis : ∀ i ∈ isR, i ∉ isC) (hnC : va_nd isC = true) (hM : CTi l y b L r rm D wc As Xp post) (h1 : Cond.methodLink own index y ∈ lw_all) (h2 : Cond.static y ∈ lw_all) (h4 : Cond.initialized y.cls ∈ lw_all) (h5 : Cond.code y b L r ∈ lw_all) (hd : y.cls ≠ "java/lang/invoke/MethodHandle" ∧ y.cls ≠ "java/lang/invoke/VarHandle" ∧ (parseMethodDescriptor y.desc).map (fun d => d.parameters.length) = some n)  (hbX : ∀ (A : Nat → Prop) (a : Array Value) (U : State) (g : JFrame) (mk : MethodId), Xp A U → Xp A (U.calling g mk a)) (hXp : ∀ (A1 : Nat → Prop) (H : Heap) (locs : List Loc) (U : State), (∀ q, A1 q → A q) → va_S A s.heap H locs → U.heap = H → s.WarmedH U.vm → (∀ z ∈ xs, H[z.1]? = some { cls := z.2.1, slots := z.2.2.toArray, vm := .none } ∧ ¬ A1 z.1) → Xp A1 U) (hroom : rm.frames + 1 ≤ R.frames ∧ 8 + (L + 11) + rm.locals ≤ R.locals) (hcs : cells + rm.cells ≤ R.cells ∧ slots + rm.slots ≤ R.slots) (hnA : As.length = n) (hst : st = As.reverse ++ rest) (hrest : (rest.map fun v => v.category).sum ≤ 8) (d : decode cc pc = .ok (.invokestatic index, 3)) (hp : pc + 3 = pc') (hc : cells + rm.cells = c') (hs : slots + rm.slots = s') (k : ∀ (r1 : Int32) (u : va_W), post r1 u → V p l e R s m args below meth c D A nL Q (wr ++ u) c' s' pc' lv (.int r1 :: rest)) : VL p l e R s m args below meth c D A nL Q ws xs cells slots pc lv st := by
  subst hp; subst hst; subst hc; subst hs
  intro H locs ls hP hD hxs hS hl
  have hPc := pc_sub isC hC hP
  have hDc := pc_subD isC hnC hC hD
  have hFc := va_free (wc := wc) hD hS X.hA isC hC
  have hbl := pre_blind (D := D) (sz := H.size) (w0 := wc) (av := As) hbX
  have hXc : ∀ U : State, U.heap = H → s.WarmedH U.vm → Xp (va_A wc H.size) U := fun U hU hW => hXp _ H locs U hFc hS hU hW (fun z hz => ⟨(hxs z hz).1, fun h => by
    rcases h with ⟨k1, e1, h⟩ | h
    · have h1 : (isC.map (fun i => ws[i]?))[k1]? = some (some (z.1, e1)) := by rw [hC, List.getElem?_map, h]; rfl
      rw [List.getElem?_map] at h1
      cases h2 : isC[k1]? with
      | none => rw [h2] at h1; cases h1
      | some i =>
        rw [h2] at h1
        exact (hxs z hz).2 i _ (Option.some.inj h1) rfl
    · exact absurd (Array.getElem?_eq_some_iff.mp (hxs z hz).1).1 (Nat.not_lt.mpr h)⟩)
  refine va_calli (va_runS (As := As) (rest := rest) ⟨X.hx, X.hb, X.hml, X.hown, X.hts⟩ (hM H.size) (va_cwS n X.hts (lw_S h1 h2 h4 h5) rfl rfl rfl hd hroom) ⟨hbl, fun U hU hW => ⟨rfl, by rw [hU], by rw [hU]; exact hPc, va_K.moved hW.alike X.hK, hDc, hXc U hU hW⟩⟩ rfl hnA hl.1 rfl (lv_room hrest) d hcs) hS (fun q _ h => hFc q h) hFc (fun r1 u t H1 locs1 ht hvm hpo hB hz1 hk1 hS1 => ?_)
  obtain ⟨hP1, hD1⟩ := hB
  rw [ht] at hP1
  obtain ⟨hP, hD⟩ := va_join hP hD isC isR hC hR hn hdis hk1 hFc hP1 hD1
  exact k r1 u hpo H1 locs1 ls hP hD hS1 hl
theorem v_mmax (pc' : Nat) (X : CX p s m args meth c D A cc nL own) {index : Nat} {x y : Int32} (hlink : Cond.methodLink own index Lib.Math.max.name ∈ lw_all) (hframes : 1 ≤ R.frames) (hlocals : (st.map fun v => v.category).sum + 13 ≤ R.locals) (hc : cells ≤ R.cells) (hs : slots ≤ R.slots) (d : decode cc pc = .ok (.invokestatic index, 3)) (hp : pc + 3 = pc') (k : V p l e R s m args below meth c D A nL Q ws cells slots pc' lv (.int (if x < y then y else x) :: st)) : V p l e R s m args below meth c D A nL Q ws cells slots pc lv (.int y :: .int x :: st) := by
  subst hp
  exact fun H locs ls hP hD hS hl => va_mmax X.hx X.hb (by rw [X.hml]; exact hl.1.symm) X.hown (X.hts _ hlink) (X.hts _ q523) (X.hts _ q97) (X.hts _ q524) hframes hlocals hc hs d (k H locs ls hP hD hS hl)
theorem v_mmin (pc' : Nat) (X : CX p s m args meth c D A cc nL own) {index : Nat} {x y : Int32} (hlink : Cond.methodLink own index Lib.Math.min.name ∈ lw_all) (hframes : 1 ≤ R.frames) (hlocals : (st.map fun v => v.category).sum + 13 ≤ R.locals) (hc : cells ≤ R.cells) (hs : slots ≤ R.slots) (d : decode cc pc = .ok (.invokestatic index, 3)) (hp : pc + 3 = pc') (k : V p l e R s m args below meth c D A nL Q ws cells slots pc' lv (.int (if y < x then y else x) :: st)) : V p l e R s m args below meth c D A nL Q ws cells slots pc lv (.int y :: .int x :: st) := by
  subst hp
  exact fun H locs ls hP hD hS hl => va_mmin X.hx X.hb (by rw [X.hml]; exact hl.1.symm) X.hown (X.hts _ hlink) (X.hts _ q338) (X.hts _ q97) (X.hts _ q339) hframes hlocals hc hs d (k H locs ls hP hD hS hl)
end V2
