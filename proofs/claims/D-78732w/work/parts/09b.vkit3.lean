set_option maxRecDepth 100000
set_option maxHeartbeats 2000000
def lenN (n mx : Nat) : Option Unit := if n ≤ mx then some () else none
theorem lenN_s {n mx : Nat} {u : Unit} (hm : mx ≤ 1000000) (h : lenN n mx = some u) : lenF (nI n) mx = some n := by
  unfold lenN at h
  split at h
  · rename_i h1
    have hn : n < 2 ^ 31 := by omega
    unfold lenF
    rw [nI_clamp hn, if_neg (fun z => z.elim (nI_pos hn) (fun y => by omega))]
  · cases h
def tz (x : Option Int32) : Option Int32 := x.bind zck
theorem tz_s {x : Option Int32} {z : Int32} (h : tz x = some z) : x = some z ∧ narrow .boolean (.int z) = .int z := by
  obtain ⟨y, h1, h2⟩ := ob h
  obtain ⟨rfl, h3, -⟩ := zck_s h2
  exact ⟨h1, h3⟩
theorem cpyZ_s {f g h : Nat → Int32} {nf ng : Nat} {sp dp n : Int32} (e : cpyZ f nf sp g ng dp n = some h) : cpyF f nf sp g ng dp n = some h ∧ ∀ i, i < n.toNatClampNeg → fits .boolean (.int (f (sp.toNatClampNeg + i))) = true := by
  unfold cpyZ at e
  split at e
  · rename_i h1
    exact ⟨e, fitZ_s h1⟩
  · cases e
theorem cpyB_s {f g h : Nat → Int32} {nf ng : Nat} {sp dp n : Int32} (e : cpyB f nf sp g ng dp n = some h) : cpyF f nf sp g ng dp n = some h ∧ ∀ i, i < n.toNatClampNeg → fits .byte (.int (f (sp.toNatClampNeg + i))) = true := by
  unfold cpyB at e
  split at e
  · rename_i h1
    exact ⟨e, fitB_s h1⟩
  · cases e
/-- the ambient state with some lambdas' objects -/
def AML (D : va_G) (xs : List (Nat × ClassId × List Value)) (A : Nat → Prop) (U : State) : Prop := AMB D A U ∧ ∀ z ∈ xs, LamO z.2.1 z.2.2 z.1 A U.heap
theorem ifl0 : (parseMethodDescriptor (ifM 0).desc).map (fun d => d.parameters.length) = some 1 := by decide +kernel
theorem ifl1 : (parseMethodDescriptor (ifM 1).desc).map (fun d => d.parameters.length) = some 2 := by decide +kernel
theorem ifl2 : (parseMethodDescriptor (ifM 2).desc).map (fun d => d.parameters.length) = some 1 := by decide +kernel
theorem lam_fit {ts : List FieldType} {vals : List Value} (h : ((ts.zip vals).all fun x => fits x.1 x.2) = true) : ∀ (i : Nat) (t : FieldType) (v : Value), ts[i]? = some t → vals[i]? = some v → fits t v = true := by
  intro i t v h1 h2
  have h3 : (ts.zip vals)[i]? = some (t, v) := by
    rw [List.getElem?_zip_eq_some]
    exact ⟨h1, h2⟩
  exact List.all_eq_true.mp h (t, v) (List.mem_of_getElem? h3)
theorem ic_link {cc : ByteArray} {pc index count : Nat} {own : String} {y : MethodName} (d : decode cc pc = .ok (.invokeinterface index count, 5)) (h : Cond.methodLink own index y ∈ lw_all) : ∀ i, (∃ cnt, decode cc pc = .ok (.invokeinterface i cnt, 5)) → Cond.methodLink own i y ∈ lw_all := by
  rintro i ⟨cnt, h1⟩
  rw [d] at h1
  cases h1
  exact h
section V3
variable {p : Program} {l : Launch} {e : Env} {R : Room} {s : State} {m : MethodId} {args : Array Value} {below : List Frame} {meth : Method} {c : Code} {D : va_G} {A : Nat → Prop} {cells slots : Nat} {Q : State → Prop} {cc : ByteArray} {nL : Nat} {own : String} {ws : va_W} {pc : Nat} {lv : VW} {st : List Value}
theorem aml_blind {D : va_G} {xs : List (Nat × ClassId × List Value)} (hAm : AMB D A s) : ∀ (A : Nat → Prop) (a : Array Value) (U : State) (g : JFrame) (mk : MethodId), AML D xs A U → AML D xs A (U.calling g mk a) :=
  fun A a U g mk h => ⟨(pass_amb hAm).1 A a U g mk h.1, h.2⟩
theorem lo_go {cL : ClassId} {vals : List Value} {q : Nat} {A1 : Nat → Prop} {H : Heap} {locs : List Loc} {U : State} (h : LamO cL vals q A s.heap) (hA : ∀ q, A1 q → A q) (hS : va_S A s.heap H locs) (hU : U.heap = H) : LamO cL vals q A1 U.heap := by
  rw [hU]
  exact h.go hS.2.1 hA
theorem aml_pass {xs : List (Nat × ClassId × List Value)} (hAm : AMB D A s) (h : ∀ z ∈ xs, LamO z.2.1 z.2.2 z.1 A s.heap) : Pass (AML D xs) s A :=
  ⟨aml_blind hAm, fun A1 H locs U hA hS hU hW => ⟨(pass_amb hAm).2 A1 H locs U hA hS hU hW, fun z hz => lo_go (h z hz) hA hS hU⟩⟩
theorem aml_xp {xs ys : List (Nat × ClassId × List Value)} (hAm : AMB D A s) (h : ∀ z ∈ ys, z ∈ xs ∨ LamO z.2.1 z.2.2 z.1 A s.heap) : ∀ (A1 : Nat → Prop) (H : Heap) (locs : List Loc) (U : State), (∀ q, A1 q → A q) → va_S A s.heap H locs → U.heap = H → s.WarmedH U.vm → (∀ z ∈ xs, H[z.1]? = some { cls := z.2.1, slots := z.2.2.toArray, vm := .none } ∧ ¬ A1 z.1) → AML D ys A1 U :=
  fun A1 H locs U hA hS hU hW hx => ⟨(pass_amb hAm).2 A1 H locs U hA hS hU hW, fun z hz => by
    rcases h z hz with h | h
    · exact ⟨by rw [hU]; exact (hx z h).1, (hx z h).2⟩
    · exact lo_go h hA hS hU⟩
theorem v_null (pc' : Nat) (X : CX p s m args meth c D A cc nL own) (d : decode cc pc = .ok (.aconst_null, 1)) (hp : pc + 1 = pc') (k : V p l e R s m args below meth c D A nL Q ws cells slots pc' lv (.null :: st)) : V p l e R s m args below meth c D A nL Q ws cells slots pc lv st := by
  subst hp
  exact fun H locs ls hP hD hS hl => lv_null X.hx X.hb d (k H locs ls hP hD hS hl)
theorem v_c0 (c' s' : Nat) (hc : cells = c') (hs : slots = s') (k : V p l e R s m args below meth c D A nL Q ws c' s' pc lv st) : V p l e R s m args below meth c D A nL Q ws cells slots pc lv st := by
  subst hc; subst hs
  exact k
theorem v_cs (c' s' : Nat) (hc : cells ≤ c') (hs : slots ≤ s') (k : V p l e R s m args below meth c D A nL Q ws c' s' pc lv st) : V p l e R s m args below meth c D A nL Q ws cells slots pc lv st :=
  fun H locs ls hP hD hS hl => W.widen hc hs (k H locs ls hP hD hS hl)
end V3
