set_option maxRecDepth 100000
set_option maxHeartbeats 2000000
def aldQ (f : Nat → Option Nat) (n : Nat) (i : Int32) : Option Nat := if i < 0 ∨ n ≤ i.toNatClampNeg then none else f i.toNatClampNeg
def astQ (f : Nat → Option Nat) (n : Nat) (i : Int32) (v : Nat) : Option (Nat → Option Nat) := if i < 0 ∨ n ≤ i.toNatClampNeg then none else some (va_up f i.toNatClampNeg (some v))
def astQn (f : Nat → Option Nat) (n : Nat) (i : Int32) : Option (Nat → Option Nat) := if i < 0 ∨ n ≤ i.toNatClampNeg then none else some (va_up f i.toNatClampNeg none)
theorem aldQ_s {f : Nat → Option Nat} {n : Nat} {i : Int32} {z : Nat} (h : aldQ f n i = some z) : vp_in i n ∧ f i.toNatClampNeg = some z := by
  unfold aldQ at h
  split at h
  · cases h
  · rename_i h1
    exact ⟨h1, h⟩
theorem astQ_s {f g : Nat → Option Nat} {n : Nat} {i : Int32} {v : Nat} (h : astQ f n i v = some g) : vp_in i n ∧ va_up f i.toNatClampNeg (some v) = g := by
  unfold astQ at h
  split at h
  · cases h
  · rename_i h1
    exact ⟨h1, Option.some.inj h⟩
theorem astQn_s {f g : Nat → Option Nat} {n : Nat} {i : Int32} (h : astQn f n i = some g) : vp_in i n ∧ va_up f i.toNatClampNeg none = g := by
  unfold astQn at h
  split at h
  · cases h
  · rename_i h1
    exact ⟨h1, Option.some.inj h⟩
def memA (z : Nat) (hs : List Nat) : Option Unit := if z ∈ hs then some () else none
theorem memA_s {z : Nat} {hs : List Nat} {u : Unit} (h : memA z hs = some u) : z ∈ hs := by
  unfold memA at h
  split at h
  · assumption
  · cases h
/-- the ambient state with lattices that are kept -/
def HX (D : va_G) (hs : List Nat) (A : Nat → Prop) (U : State) : Prop := AMB D A U ∧ ∀ z ∈ hs, va_O "DyeLattice$Lattice" z A U U.heap
section V5
variable {p : Program} {l : Launch} {e : Env} {R : Room} {s : State} {m : MethodId} {args : Array Value} {below : List Frame} {meth : Method} {c : Code} {D : va_G} {A : Nat → Prop} {cells slots : Nat} {Q : State → Prop} {cc : ByteArray} {nL : Nat} {own : String} {ws : va_W} {pc : Nat} {lv : VW} {st : List Value}
theorem hx_pass {hs : List Nat} (hAm : AMB D A s) (h : ∀ z ∈ hs, va_O "DyeLattice$Lattice" z A s s.heap) : Pass (HX D hs) s A :=
  ⟨fun A a U g mk hU => ⟨(pass_amb hAm).1 A a U g mk hU.1, hU.2⟩, fun A1 H locs U hA hS hU hW => ⟨(pass_amb hAm).2 A1 H locs U hA hS hU hW, fun z hz => by
    rw [hU]
    exact (((h z hz).moved hW.alike).kept hS.2.1).narrow hA⟩⟩
theorem v_aldQ (pc' : Nat) (X : CX p s m args meth c D A cc nL own) (q0 t0 : Nat) {a n z : Nat} {C : String} {f : Nat → Option Nat} {i : Int32} (h : aldQ f n i = some z) (ha : ws[q0]? = some (a, .inl (D.1 (100 + t0), n, .inr (.inr (.inr (.inr f)))))) (ht : (TYS D)[t0]? = some (D.1 (100 + t0), .object C)) (d : decode cc pc = .ok (.aaload, 1)) (hp : pc + 1 = pc') (k : V p l e R s m args below meth c D A nL Q ws cells slots pc' lv (.ref z :: st)) : V p l e R s m args below meth c D A nL Q ws cells slots pc lv (.int i :: .ref a :: st) :=
  v_aldq pc' X q0 t0 (aldQ_s h).1 ha ht (by rw [(aldQ_s h).2]; rfl) d hp k
theorem v_astQ (pc' : Nat) (ws' : va_W) (X : CX p s m args meth c D A cc nL own) (hAm : AMB D A s) (q0 t0 qk ci : Nat) {a n v : Nat} {E C : String} {T : u_T} {N : Nat} {vs : List Value} {f g : Nat → Option Nat} {i : Int32} (h : astQ f n i v = some g) (ha : ws[q0]? = some (a, .inl (D.1 (100 + t0), n, .inr (.inr (.inr (.inr f)))))) (ht : (TYS D)[t0]? = some (D.1 (100 + t0), .object E)) (hca : Cond.castable C E ∈ lw_tbl) (hv : ws[qk]? = some (v, .inr (ci, vs))) (hc : CL[ci]? = some (C, T, N)) (d : decode cc pc = .ok (.aastore, 1)) (hp : pc + 1 = pc') (hw : ws.set q0 (a, .inl (D.1 (100 + t0), n, .inr (.inr (.inr (.inr g))))) = ws') (k : V p l e R s m args below meth c D A nL Q ws' cells slots pc' lv st) : V p l e R s m args below meth c D A nL Q ws cells slots pc lv (.ref v :: .int i :: .ref a :: st) := by
  subst hp; subst hw
  obtain ⟨h1, rfl⟩ := astQ_s h
  exact fun H locs ls hP hD hS hl => va_astqO X.hx X.hb X.hK hP hD hS q0 t0 qk ci ha ht (hAm.nw hca rfl) hv hc h1 d (fun H1 locs1 hP hD hS => k H1 locs1 ls hP hD hS hl)
theorem v_astQn (pc' : Nat) (ws' : va_W) (X : CX p s m args meth c D A cc nL own) (q0 t0 : Nat) {a n : Nat} {E : String} {f g : Nat → Option Nat} {i : Int32} (h : astQn f n i = some g) (ha : ws[q0]? = some (a, .inl (D.1 (100 + t0), n, .inr (.inr (.inr (.inr f)))))) (ht : (TYS D)[t0]? = some (D.1 (100 + t0), .object E)) (d : decode cc pc = .ok (.aastore, 1)) (hp : pc + 1 = pc') (hw : ws.set q0 (a, .inl (D.1 (100 + t0), n, .inr (.inr (.inr (.inr g))))) = ws') (k : V p l e R s m args below meth c D A nL Q ws' cells slots pc' lv st) : V p l e R s m args below meth c D A nL Q ws cells slots pc lv (.null :: .int i :: .ref a :: st) := by
  subst hp; subst hw
  obtain ⟨h1, rfl⟩ := astQn_s h
  exact fun H locs ls hP hD hS hl => va_astqN X.hx X.hb X.hK hP hD hS q0 t0 ha ht h1 d (fun H1 locs1 hP hD hS => k H1 locs1 ls hP hD hS hl)
theorem v_ifnonnull (tgt : Nat) (X : CX p s m args meth c D A cc nL own) {x : Nat} {off : Int} (d : decode cc pc = .ok (.ifnonnull off, 3)) (ht : (pc : Int) + off = (tgt : Int)) (k : V p l e R s m args below meth c D A nL Q ws cells slots tgt lv st) : V p l e R s m args below meth c D A nL Q ws cells slots pc lv (.ref x :: st) :=
  fun H locs ls hP hD hS hl => lv_ifnonnull X.hx X.hb d ht (k H locs ls hP hD hS hl)
theorem v_ifnull (pc' : Nat) (X : CX p s m args meth c D A cc nL own) {x : Nat} {off : Int} (d : decode cc pc = .ok (.ifnull off, 3)) (hp : pc + 3 = pc') (k : V p l e R s m args below meth c D A nL Q ws cells slots pc' lv st) : V p l e R s m args below meth c D A nL Q ws cells slots pc lv (.ref x :: st) := by
  subst hp
  exact fun H locs ls hP hD hS hl => lv_ifnull X.hx X.hb d (k H locs ls hP hD hS hl)
theorem v_castH (pc' : Nat) (X : CX p s m args meth c D A cc nL own) {z index : Nat} {nm : String} (hO : va_O nm z A s s.heap) (hlink : Cond.classLink own index nm ∈ lw_all) (d : decode cc pc = .ok (.checkcast index, 3)) (hp : pc + 3 = pc') (k : V p l e R s m args below meth c D A nL Q ws cells slots pc' lv (.ref z :: st)) : V p l e R s m args below meth c D A nL Q ws cells slots pc lv (.ref z :: st) := by
  subst hp
  intro H locs ls hP hD hS hl T hT XS
  obtain ⟨cell, h1, h2, h3, -⟩ := hO.kept hS.2.1
  obtain ⟨vm', X', stp⟩ := XS.checkcastYes X.hx X.hown (X.hts _ hlink) (by rw [hT]; exact h1) h2 h3 (va_asg _ _) (g := F0 m pc ls (.ref z :: st)) rfl rfl (by rw [X.hb]; exact d)
  obtain ⟨t, a1, b1⟩ := k H locs ls hP hD hS hl (T.setVm vm') hT X'
  exact ⟨t, stp t a1, b1⟩
/-- a cast of an object of the world to its own class -/
theorem v_castW (pc' : Nat) (X : CX p s m args meth c D A cc nL own) (q0 ci : Nat) {z index : Nat} {C : String} {T : u_T} {N : Nat} {vs : List Value} (hv : ws[q0]? = some (z, .inr (ci, vs))) (hc : CL[ci]? = some (C, T, N)) (hlink : Cond.classLink own index C ∈ lw_all) (d : decode cc pc = .ok (.checkcast index, 3)) (hp : pc + 3 = pc') (k : V p l e R s m args below meth c D A nL Q ws cells slots pc' lv (.ref z :: st)) : V p l e R s m args below meth c D A nL Q ws cells slots pc lv (.ref z :: st) := by
  subst hp
  intro H locs ls hP hD hS hl T hT XS
  obtain ⟨cell, h1, h2, h3⟩ := va_recv X.hK hP hc hv
  obtain ⟨vm', X', stp⟩ := XS.checkcastYes X.hx X.hown (X.hts _ hlink) (by rw [hT]; exact h1) h2 h3 (va_asg _ _) (g := F0 m pc ls (.ref z :: st)) rfl rfl (by rw [X.hb]; exact d)
  obtain ⟨t, a1, b1⟩ := k H locs ls hP hD hS hl (T.setVm vm') hT X'
  exact ⟨t, stp t a1, b1⟩
end V5
