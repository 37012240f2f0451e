set_option maxRecDepth 100000
set_option maxHeartbeats 2000000
def sok (i : Nat) : Option Unit := if i < 16 then some () else none
theorem sok_s {i : Nat} {u : Unit} (h : sok i = some u) : i < 16 := by
  unfold sok at h
  split at h
  · assumption
  · cases h
def alenB (k : Nat) : Option Int32 := if k < 16 then some (nI (sLen.getD k 0)) else none
theorem alenB_s {k : Nat} {x : Int32} (h : alenB k = some x) : k < 16 ∧ nI (sLen.getD k 0) = x := by
  unfold alenB at h
  split at h
  · rename_i h1
    exact ⟨h1, Option.some.inj h⟩
  · cases h
def aldB (k : Nat) (i : Int32) : Option Int32 := if 16 ≤ k ∨ (i < 0 ∨ sLen.getD k 0 ≤ i.toNatClampNeg) then none else some ((sByt.getD k []).getD i.toNatClampNeg 0)
theorem aldB_s {k : Nat} {i x : Int32} (h : aldB k i = some x) : k < 16 ∧ vp_in i (sLen.getD k 0) ∧ (sByt.getD k []).getD i.toNatClampNeg 0 = x := by
  unfold aldB at h
  split at h
  · cases h
  · rename_i h1
    exact ⟨by omega, fun z => h1 (Or.inr z), Option.some.inj h⟩
abbrev sArr (D : va_G) (f : Nat → Nat) : Nat → Option Nat := fun j => if f j < 16 then some (adS D (f j)) else none
def aldS (f : Nat → Nat) (n : Nat) (i : Int32) : Option Nat := if (i < 0 ∨ n ≤ i.toNatClampNeg) ∨ 16 ≤ f i.toNatClampNeg then none else some (f i.toNatClampNeg)
def astS (f : Nat → Nat) (n : Nat) (i : Int32) (x : Nat) : Option (Nat → Nat) := if i < 0 ∨ n ≤ i.toNatClampNeg ∨ 16 ≤ x then none else some (updN f i.toNatClampNeg x)
theorem aldS_s {f : Nat → Nat} {n : Nat} {i : Int32} {x : Nat} (h : aldS f n i = some x) : vp_in i n ∧ f i.toNatClampNeg < 16 ∧ f i.toNatClampNeg = x := by
  unfold aldS at h
  split at h
  · cases h
  · rename_i h1
    exact ⟨fun z => h1 (Or.inl z), by omega, Option.some.inj h⟩
theorem astS_s {f g : Nat → Nat} {n : Nat} {i : Int32} {x : Nat} (h : astS f n i x = some g) : vp_in i n ∧ x < 16 ∧ updN f i.toNatClampNeg x = g := by
  unfold astS at h
  split at h
  · cases h
  · rename_i h1
    exact ⟨fun z => h1 (z.elim Or.inl (fun y => Or.inr (Or.inl y))), by omega, Option.some.inj h⟩
theorem sArr_upd (D : va_G) (f : Nat → Nat) (k x : Nat) (hx : x < 16) : va_up (sArr D f) k (some (adS D x)) = sArr D (updN f k x) := by
  funext j
  unfold va_up updN
  by_cases h : j = k
  · simp [sArr, h, hx]
  · simp [sArr, h]
theorem AMB.str {D : va_G} {A : Nat → Prop} {s : State} (hAm : AMB D A s) {i : Nat} (hi : i < 16) : va_O "java/lang/String" (adS D i) A s s.heap ∧ va_OF "java/lang/String" "coder" "B" (.int 0) (adS D i) A s s.heap ∧ va_OF "java/lang/String" "value" "[B" (.ref (adB D i)) (adS D i) A s s.heap ∧ va_T .byte (adB D i) (sLen.getD i 0) (fun j => .int ((sByt.getD i []).getD j 0)) A s s.heap := hAm.1.2.2.2.2.2.1.1 i hi
section V8
variable {p : Program} {l : Launch} {e : Env} {R : Room} {s : State} {m : MethodId} {args : Array Value} {below : List Frame} {meth : Method} {c : Code} {D : va_G} {A : Nat → Prop} {cells slots : Nat} {Q : State → Prop} {cc : ByteArray} {nL : Nat} {own : String} {ws : va_W} {pc : Nat} {lv : VW} {st : List Value}
theorem v_alenB (pc' : Nat) (X : CX p s m args meth c D A cc nL own) (hAm : AMB D A s) {k0 : Nat} {x : Int32} (h : alenB k0 = some x) (d : decode cc pc = .ok (.arraylength, 1)) (hp : pc + 1 = pc') (k : V p l e R s m args below meth c D A nL Q ws cells slots pc' lv (.int x :: st)) : V p l e R s m args below meth c D A nL Q ws cells slots pc lv (.ref (adB D k0) :: st) := by
  subst hp
  obtain ⟨h1, h2⟩ := alenB_s h
  exact fun H locs ls hP hD hS hl => va_tlen X.hx X.hb (hAm.str h1).2.2.2 hS h2 d (k H locs ls hP hD hS hl)
theorem v_aldB (pc' : Nat) (X : CX p s m args meth c D A cc nL own) (hAm : AMB D A s) {k0 : Nat} {i x : Int32} (h : aldB k0 i = some x) (d : decode cc pc = .ok (.baload, 1)) (hp : pc + 1 = pc') (k : V p l e R s m args below meth c D A nL Q ws cells slots pc' lv (.int x :: st)) : V p l e R s m args below meth c D A nL Q ws cells slots pc lv (.int i :: .ref (adB D k0) :: st) := by
  subst hp
  obtain ⟨h1, h2, h3⟩ := aldB_s h
  exact fun H locs ls hP hD hS hl => va_tb X.hx X.hb (hAm.str h1).2.2.2 hS h2 (by rw [h3]) d (k H locs ls hP hD hS hl)
theorem v_acmpS (tgt : Nat) (X : CX p s m args meth c D A cc nL own) (hAm : AMB D A s) (q0 : Nat) {a i : Nat} {y : va_E} {off : Int} (hi : i < 16) (ha : ws[q0]? = some (a, y)) (d : decode cc pc = .ok (.if_acmp .ne off, 3)) (ht : (pc : Int) + off = (tgt : Int)) (k : V p l e R s m args below meth c D A nL Q ws cells slots tgt lv st) : V p l e R s m args below meth c D A nL Q ws cells slots pc lv (.ref (adS D i) :: .ref a :: st) := by
  intro H locs ls hP hD hS hl
  refine lv_acmp_ne (rx := some a) (ry := some (adS D i)) X.hx X.hb d ht (fun _ => k H locs ls hP hD hS hl) (fun z => ?_)
  have e := Option.some.inj z
  obtain ⟨-, -, -, -, h5⟩ := (hAm.str hi).1
  exact absurd (e ▸ hD.2 q0 _ ha) h5
theorem v_aldS (pc' : Nat) (X : CX p s m args meth c D A cc nL own) (q0 : Nat) {a n x : Nat} {f : Nat → Nat} {i : Int32} (h : aldS f n i = some x) (ha : ws[q0]? = some (a, .inl (D.1 105, n, .inr (.inr (.inr (.inr (sArr D f))))))) (d : decode cc pc = .ok (.aaload, 1)) (hp : pc + 1 = pc') (k : V p l e R s m args below meth c D A nL Q ws cells slots pc' lv (.ref (adS D x) :: st)) : V p l e R s m args below meth c D A nL Q ws cells slots pc lv (.int i :: .ref a :: st) := by
  obtain ⟨h1, h2, h3⟩ := aldS_s h
  subst h3
  exact v_aldq (C := "java/lang/String") pc' X q0 5 h1 ha rfl (by show va_rf (if f i.toNatClampNeg < 16 then some (adS D (f i.toNatClampNeg)) else none) = _; rw [if_pos h2]; rfl) d hp k
theorem v_astS (pc' : Nat) (ws' : va_W) (X : CX p s m args meth c D A cc nL own) (hAm : AMB D A s) (q0 : Nat) {a n x : Nat} {f g : Nat → Nat} {i : Int32} (h : astS f n i x = some g) (ha : ws[q0]? = some (a, .inl (D.1 105, n, .inr (.inr (.inr (.inr (sArr D f))))))) (d : decode cc pc = .ok (.aastore, 1)) (hp : pc + 1 = pc') (hw : ws.set q0 (a, .inl (D.1 105, n, .inr (.inr (.inr (.inr (sArr D g)))))) = ws') (k : V p l e R s m args below meth c D A nL Q ws' cells slots pc' lv st) : V p l e R s m args below meth c D A nL Q ws cells slots pc lv (.ref (adS D x) :: .int i :: .ref a :: st) := by
  subst hp
  subst hw
  obtain ⟨h1, h2, h3⟩ := astS_s h
  subst h3
  refine fun H locs ls hP hD hS hl => va_astqM X.hx X.hb X.hK hP hD hS q0 5 ha rfl (E := "java/lang/String") ?_ h1 d (fun H1 locs1 hP hD hS => ?_)
  · obtain ⟨cell, c1, c2, c3, -⟩ := (hAm.str h2).1.kept hS.2.1
    obtain ⟨kC, hkC, -⟩ := Vm.findClass_spec c3
    exact ⟨cell, c1, c2, ⟨kC, hkC⟩, fun comp hc => by rw [Option.some.inj (c3.symm.trans hc)]; exact va_asg _ _⟩
  · rw [sArr_upd _ _ _ _ h2] at hP hD
    exact k H1 locs1 ls hP hD hS hl
end V8
