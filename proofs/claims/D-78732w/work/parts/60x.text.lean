/-! PLAIN LAWS, 21: the text -/
set_option maxRecDepth 100000
def pu_ch (m : Nat) (byt text : Nat → Int32) (ch : Nat → Nat) : Prop := ∀ i, i < m → 1 ≤ ch i ∧ ch i ≤ 255 ∧ text i = nI (ch i) ∧ byt i = (nI (ch i)).toInt8.toInt32
def pu_TX (k nb : Nat) (byt : Nat → Int32) (cnt : Int32) (text : Nat → Int32) (len : Int32) : Prop := ∃ m, m ≤ k ∧ cnt = nI m ∧ len = nI m ∧ (nb = 16 ∨ nb = 34 ∨ nb = 70) ∧ m ≤ nb ∧ ∃ ch, pu_ch m byt text ch
theorem pu_TX_k {k k2 nb : Nat} {byt text : Nat → Int32} {cnt len : Int32} (T : pu_TX k nb byt cnt text len) (h : k ≤ k2) : pu_TX k2 nb byt cnt text len := by
  obtain ⟨m, hm, r⟩ := T
  exact ⟨m, by omega, r⟩
theorem pu_c16 : ∀ c, c < 256 → (Int32.toUInt32 (nI c) % 65536).toInt32 = nI c := by decide +kernel
theorem pu_c8 : ∀ c, c < 256 → ((nI c).toInt8.toInt32).toInt8.toInt32 = (nI c).toInt8.toInt32 := by decide +kernel
theorem pu_cb : ∀ c, c < 256 → (Int32.toUInt32 ((nI c).toInt8.toInt32 &&& 255) % 65536).toInt32 = nI c := by decide +kernel
theorem pu_cck {c : Nat} (h : c < 256) : cck (nI c) = some (nI c) := by
  unfold cck
  rw [pu_c16 c h, if_pos rfl]
theorem pu_fitB {f : Nat → Int32} {n : Nat} (h : ∀ i, i < n → (f i).toInt8.toInt32 = f i) : fitB f 0 n = true := by
  unfold fitB
  rw [List.all_eq_true]
  intro i hi
  rw [Nat.zero_add]
  simpa using h i (List.mem_range.mp hi)
theorem pu_cpyB {f : Nat → Int32} {n N : Nat} (hn : n ≤ 80) (hN : n ≤ N) (h : ∀ i, i < n → (f i).toInt8.toInt32 = f i) (g : Nat → Int32) : ∃ g2, cpyB f n 0 g N 0 (nI n) = some g2 ∧ ∀ k, k < n → g2 k = f k := by
  refine ⟨va_cpy f g 0 0 n, ?_, fun k hk => ?_⟩
  · unfold cpyB
    rw [nI_clamp (by omega), show (0 : Int32).toNatClampNeg = 0 from rfl, if_pos (pu_fitB h)]
    unfold cpyF
    rw [nI_clamp (by omega), show (0 : Int32).toNatClampNeg = 0 from rfl, if_neg]
    rintro (a | a | a | a | a)
    · exact absurd a (by decide)
    · exact absurd a (by decide)
    · exact nI_pos (by omega) a
    · omega
    · omega
  · unfold va_cpy
    rw [if_pos ⟨by omega, by omega⟩, Nat.zero_add, Nat.sub_zero]
theorem pu_fits {m : Nat} {byt text : Nat → Int32} {ch : Nat → Nat} (h : pu_ch m byt text ch) : ∀ i, i < m → (byt i).toInt8.toInt32 = byt i := by
  intro i hi
  obtain ⟨-, h2, -, h4⟩ := h i hi
  rw [h4]
  exact pu_c8 _ (by omega)
/-- room for one more -/
theorem pu_ensure {m nb : Nat} {byt text : Nat → Int32} {ch : Nat → Nat} (hm : m ≤ 63) (hnb : nb = 16 ∨ nb = 34 ∨ nb = 70) (hmn : m ≤ nb) (h : pu_ch m byt text ch) : ∃ nb2 byt2, J3_ensureCapacityInternal nb byt (nI m + 1) = some (nb2, byt2) ∧ (nb2 = 16 ∨ nb2 = 34 ∨ nb2 = 70) ∧ m < nb2 ∧ ∀ i, i < m → byt2 i = byt i := by
  unfold J3_ensureCapacityInternal
  have hs : nI nb >>> ((0 : Int32) &&& 31) = nI nb := by rcases hnb with rfl | rfl | rfl <;> decide
  rw [hs, pu_a1]
  rcases Nat.lt_or_ge m nb with c | c
  · rw [if_pos]
    · exact ⟨nb, byt, rfl, hnb, c, fun _ _ => rfl⟩
    · have key : ∀ a, a ≤ 64 → ∀ b, b ≤ 70 → a ≤ b → nI a - nI b ≤ 0 := by decide +kernel
      exact key _ (by omega) _ (by omega) (by omega)
  · have e : m = nb := by omega
    subst e
    rcases hnb with rfl | rfl | rfl
    · rw [if_neg (by decide), show J3_newCapacity 16 (nI (16 + 1)) = some 34 from by decide +kernel, pu_bind]
      obtain ⟨g2, e1, e2⟩ := pu_cpyB (f := byt) (n := 16) (N := 34) (by decide) (by decide) (pu_fits h) (fun _ => 0)
      refine ⟨34, g2, ?_, by decide, by decide, e2⟩
      unfold J7_copyOf_3
      rw [if_neg (by decide), show lenF ((34 : Int32) <<< ((0 : Int32) &&& 31)) 142 = some 34 from by decide +kernel, pu_bind, show (if (34 : Int32) <<< ((0 : Int32) &&& 31) < nI 16 then (34 : Int32) <<< ((0 : Int32) &&& 31) else nI 16) = nI 16 from by decide +kernel, e1, pu_bind, pu_bind]
    · rw [if_neg (by decide), show J3_newCapacity 34 (nI (34 + 1)) = some 70 from by decide +kernel, pu_bind]
      obtain ⟨g2, e1, e2⟩ := pu_cpyB (f := byt) (n := 34) (N := 70) (by decide) (by decide) (pu_fits h) (fun _ => 0)
      refine ⟨70, g2, ?_, by decide, by decide, e2⟩
      unfold J7_copyOf_3
      rw [if_neg (by decide), show lenF ((70 : Int32) <<< ((0 : Int32) &&& 31)) 142 = some 70 from by decide +kernel, pu_bind, show (if (70 : Int32) <<< ((0 : Int32) &&& 31) < nI 34 then (70 : Int32) <<< ((0 : Int32) &&& 31) else nI 34) = nI 34 from by decide +kernel, e1, pu_bind, pu_bind]
    · omega
theorem pu_append {k nb : Nat} {byt text : Nat → Int32} {cnt len : Int32} (hk : k ≤ 63) (T : pu_TX k nb byt cnt text len) (v : Int32) : ∃ r cnt2 nb2 byt2 text2 len2, C_append nb byt cnt v = some (r, cnt2, nb2, byt2) ∧ M_append text len v = some (r, text2, len2) ∧ pu_TX (k + 1) nb2 byt2 cnt2 text2 len2 := by
  obtain ⟨m, hm, rfl, rfl, hnb, hmn, ch, hch⟩ := T
  unfold C_append M_append
  rw [pu_wit, pu_btw, pu_bind, pu_bind]
  by_cases c : (1 : Int32).toInt ≤ v.toInt ∧ v.toInt ≤ (255 : Int32).toInt
  · rw [if_pos c, if_neg (by decide), if_neg (by decide)]
    obtain ⟨j, h1, h2, rfl⟩ := pu_bt2 1 255 (by decide) c (by decide)
    obtain ⟨nb2, byt2, e1, e2, e3, e4⟩ := pu_ensure (by omega) hnb hmn hch
    have hne : ¬ nI m = 120 := fun z => absurd ((nI_eq (b := 120) (by omega) (by omega)).mp z) (by omega)
    refine ⟨nI (m + 1), nI (m + 1), nb2, upd byt2 m ((nI j).toInt8.toInt32), upd text m (nI j), nI (m + 1), ?_, ?_, m + 1, by omega, rfl, rfl, e2, by omega, fun i => if i = m then j else ch i, fun i hi => ?_⟩
    · show (some (nI m)).bind _ = _
      rw [pu_bind, if_neg hne, pu_c16 j (by omega)]
      have ha : J4_append nb byt (nI m) (nI j) = some (nI (m + 1), nb2, upd byt2 m ((nI j).toInt8.toInt32)) := by
        unfold J4_append J3_append
        rw [e1, pu_bind]
        show (Option.bind (some 1) _).bind _ = _
        rw [pu_bind, if_neg (by decide)]
        unfold J11_canEncode
        rw [if_neg (show ¬ (255 : Int32) < nI j from nI_nlt (b := j) (a := 255) h2 (by omega)), pu_bind, if_neg (by decide)]
        unfold bst
        rw [if_neg (nI_in e3 (by omega)), pu_bind, nI_clamp (by omega), vp_nar_byte, pu_c8 j (by omega), pu_a1]
        rfl
      rw [ha, pu_bind]
      rfl
    · rw [if_neg hne, pu_ast (by omega) (by decide), pu_bind, pu_a1]
    · dsimp only
      by_cases z : i = m
      · subst z
        rw [if_pos rfl, pu_us, pu_us]
        exact ⟨h1, h2, rfl, rfl⟩
      · rw [if_neg z, pu_un z, pu_un z, e4 i (by omega)]
        exact hch i (by omega)
  · rw [if_neg c, if_pos rfl, if_pos rfl]
    exact ⟨-1, _, _, _, _, _, rfl, rfl, m, by omega, rfl, rfl, hnb, hmn, ch, hch⟩
theorem pu_setLen {k nb : Nat} {byt text : Nat → Int32} {cnt len : Int32} (T : pu_TX k nb byt cnt text len) (ml : Int32) (text2 : Nat → Int32) : ∃ ml2, J4_setLength nb byt ml cnt 0 = some (ml2, 0, nb, byt) ∧ pu_TX 0 nb byt 0 text2 0 := by
  obtain ⟨m, hm, rfl, rfl, hnb, hmn, ch, hch⟩ := T
  have he : J3_ensureCapacityInternal nb byt 0 = some (nb, byt) := by
    unfold J3_ensureCapacityInternal
    rw [if_pos (by rcases hnb with rfl | rfl | rfl <;> decide)]
  have h0 : pu_TX 0 nb byt 0 text2 0 := ⟨0, Nat.le_refl _, rfl, rfl, hnb, Nat.zero_le _, ch, fun i hi => absurd hi (by omega)⟩
  unfold J4_setLength J3_setLength
  rw [if_pos (by decide), he, pu_bind, if_pos (nI_pos' (by rcases hnb with rfl | rfl | rfl <;> omega))]
  by_cases c : nI m ≤ 0
  · rw [if_pos c]; exact ⟨ml, rfl, h0⟩
  · rw [if_neg c]; exact ⟨1, rfl, h0⟩
theorem pu_clear {k nb : Nat} {byt text : Nat → Int32} {cnt len : Int32} (T : pu_TX k nb byt cnt text len) (ml : Int32) : ∃ r ml2, C_clearText nb byt ml cnt = some (r, ml2, 0, nb, byt) ∧ M_clearText len = some (r, 0) ∧ pu_TX 0 nb byt 0 text 0 := by
  obtain ⟨ml2, e, T2⟩ := pu_setLen T ml text
  obtain ⟨m, hm, rfl, rfl, -⟩ := T
  refine ⟨nI m, ml2, ?_, rfl, T2⟩
  unfold C_clearText
  show (some (nI m)).bind _ = _
  rw [pu_bind, e, pu_bind]
/-- a sign of the text, read -/
theorem pu_here {m nb : Nat} {byt text : Nat → Int32} {ch : Nat → Nat} (hm : m ≤ 70) (hmn : m ≤ nb) (hnb : nb = 16 ∨ nb = 34 ∨ nb = 70) (h : pu_ch m byt text ch) {p : Nat} (hp : p < m) : J4_charAt nb byt (nI m) (nI p) = some (nI (ch p)) := by
  obtain ⟨h1, h2, h3, h4⟩ := h p hp
  have hs : nI nb >>> ((0 : Int32) &&& 31) = nI nb := by rcases hnb with rfl | rfl | rfl <;> decide
  unfold J4_charAt J3_charAt
  rw [hs, pu_bind]
  have hmin : (if nI nb < nI m then nI nb else nI m) = nI m := by rw [if_neg (nI_nlt hmn (by omega))]
  rw [hmin]
  unfold J5_checkIndex J12_checkIndex
  rw [if_neg (nI_pos (by omega)), if_pos (nI_lt hp (by omega)), pu_bind, pu_bind, pu_ald (by omega) (by omega), pu_bind, h4, pu_cb _ (by omega), pu_cck (by omega), pu_bind, pu_bind, pu_cck (by omega), pu_bind]
