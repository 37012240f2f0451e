set_option maxRecDepth 100000
set_option maxHeartbeats 2000000
section V7
variable {p : Program} {l : Launch} {e : Env} {R : Room} {s : State} {m : MethodId} {args : Array Value} {below : List Frame} {meth : Method} {c : Code} {D : va_G} {A : Nat → Prop} {cells slots : Nat} {Q : State → Prop} {cc : ByteArray} {nL : Nat} {own : String} {ws : va_W} {pc : Nat} {lv : VW} {st : List Value}
def clB (n mx : Nat) (f : Nat → Int32) : Option Unit := if n ≤ mx ∧ fitB f 0 n = true then some () else none
theorem clB_s {n mx : Nat} {f : Nat → Int32} {u : Unit} (h : clB n mx f = some u) : n ≤ mx ∧ fitB f 0 n = true := by
  unfold clB at h
  split at h
  · assumption
  · cases h
theorem v_cloneB (pc' c' s' : Nat) (X : CX p s m args meth c D A cc nL own) (hAm : AMB D A s) (q0 : Nat) {a n mx index : Nat} {f : Nat → Int32} {u : Unit} (h : clB n mx f = some u) (ha : ws[q0]? = some (a, .inl (D.1 102, n, .inl f))) (hlink : Cond.methodLink own index ⟨"[B", "clone", "()Ljava/lang/Object;"⟩ ∈ lw_all)
    (hframes : 1 ≤ R.frames) (hlocals : (st.map fun v => v.category).sum + 14 ≤ R.locals) (hcells : cells + 1 ≤ R.cells) (hslots : slots + mx ≤ R.slots) (d : decode cc pc = .ok (.invokevirtual index, 3)) (hp : pc + 3 = pc') (hc : cells + 1 = c') (hs : slots + mx = s')
    (k : ∀ q : Nat, V p l e R s m args below meth c D A nL Q (ws ++ [(q, .inl (D.1 102, n, .inl f))]) c' s' pc' lv (.ref q :: st)) : V p l e R s m args below meth c D A nL Q ws cells slots pc lv (.ref a :: st) := by
  subst hp; subst hc; subst hs
  obtain ⟨h1, h2⟩ := clB_s h
  have hfa : s.vm.findClass "[B" = some (D.1 102) := (X.hK.2 2 (D.1 102, .byte) rfl).2
  intro H locs ls hP hD hS hl
  refine va_clone X.hx X.hb (by rw [X.hml]; exact hl.1.symm) X.hown (X.hts _ hlink) (X.hts _ q534) (X.hts _ q375) (X.hts _ q376) (X.hts _ q535) (hAm.nw q536 rfl) X.hK hP hD hS X.hA q0 2 ha rfl hfa (fun i v hv => ?_) hframes hlocals hcells (Nat.le_trans (Nat.add_le_add_left h1 _) hslots) d (fun q H1 _ hP hD hS => ?_)
  · have h3 : (arrV (D.1 102) n (fun j => .int (f j))).slots[i]? = some v := hv
    have hi : i < n := by
      have h4 := (Array.getElem?_eq_some_iff.mp h3).1
      rwa [arrV_size] at h4
    have h5 : v = .int (f i) := by
      unfold arrV at h3
      simp [hi] at h3
      exact h3.symm
    rw [h5]
    have h6 := fitB_s h2 i hi
    rwa [Nat.zero_add] at h6
  · exact W.widen (Nat.le_refl _) (Nat.add_le_add_left h1 _) (k q H1 locs ls hP hD hS hl)
theorem v_castB (pc' : Nat) (X : CX p s m args meth c D A cc nL own) (q0 : Nat) {a : Nat} {x : vp_A} {index : Nat} (ha : ws[q0]? = some (a, .inl (D.1 102, x))) (hlink : Cond.classLink own index "[B" ∈ lw_all) (d : decode cc pc = .ok (.checkcast index, 3)) (hp : pc + 3 = pc') (k : V p l e R s m args below meth c D A nL Q ws cells slots pc' lv (.ref a :: st)) : V p l e R s m args below meth c D A nL Q ws cells slots pc lv (.ref a :: st) := by
  subst hp
  have hfa : s.vm.findClass "[B" = some (D.1 102) := (X.hK.2 2 (D.1 102, .byte) rfl).2
  exact fun H locs ls hP hD hS hl => va_castA X.hx X.hb X.hown (X.hts _ hlink) hP q0 ha hfa d (k H locs ls hP hD hS hl)
end V7
