set_option maxRecDepth 100000
/-- places of the rest, after k places -/
def tl_ix (k n : Nat) : List Nat := (List.range n).map (fun i => k + i)
theorem tl_get {wp tl : va_W} : (tl_ix wp.length tl.length).map (fun i => (wp ++ tl)[i]?) = tl.map some := by
  unfold tl_ix
  rw [List.map_map]
  apply List.ext_getElem?
  intro j
  by_cases h : j < tl.length
  · simp [h, List.getElem?_append_right]
  · simp [h]
theorem tl_R {isR : List Nat} {wp wr tl : va_W} (h : isR.map (fun i => wp[i]?) = wr.map some) : (isR ++ tl_ix wp.length tl.length).map (fun i => (wp ++ tl)[i]?) = (wr ++ tl).map some := by
  rw [List.map_append, tl_get, List.map_append]
  congr 1
  rw [← h]
  apply List.map_congr_left
  intro i hi
  have h1 : wp[i]? ∈ isR.map (fun i => wp[i]?) := List.mem_map.mpr ⟨i, hi, rfl⟩
  rw [h] at h1
  obtain ⟨y, -, hy⟩ := List.mem_map.mp h1
  have hlt : i < wp.length := (List.getElem?_eq_some_iff.mp hy.symm).1
  rw [List.getElem?_append_left hlt]
theorem tl_dis {isC isR : List Nat} {k n : Nat} (h : ∀ i ∈ isR, i ∉ isC) (hk : ∀ i ∈ isC, i < k) : ∀ i ∈ isR ++ tl_ix k n, i ∉ isC := by
  intro i hi hc
  rcases List.mem_append.mp hi with h1 | h1
  · exact h i h1 hc
  · unfold tl_ix at h1
    obtain ⟨j, -, rfl⟩ := List.mem_map.mp h1
    have := hk _ hc
    omega
theorem nd_of {l : List Nat} (h : l.Nodup) : va_nd l = true := by
  induction l with
  | nil => rfl
  | cons a l ih =>
    rw [List.nodup_cons] at h
    show (decide (a ∉ l) && va_nd l) = true
    rw [ih h.2, Bool.and_true, decide_eq_true_eq]
    exact h.1
theorem nd_to : ∀ {l : List Nat}, va_nd l = true → l.Nodup := by
  intro l
  induction l with
  | nil => intro _; exact List.nodup_nil
  | cons a l ih =>
    intro h
    have h : (decide (a ∉ l) && va_nd l) = true := h
    rw [Bool.and_eq_true, decide_eq_true_eq] at h
    exact List.nodup_cons.mpr ⟨h.1, ih h.2⟩
theorem tl_nd {isR : List Nat} {k n : Nat} (h : va_nd isR = true) (hk : ∀ i ∈ isR, i < k) : va_nd (isR ++ tl_ix k n) = true := by
  refine nd_of (List.nodup_append.mpr ⟨nd_to h, ?_, ?_⟩)
  · unfold tl_ix
    unfold List.Nodup
    rw [List.pairwise_map]
    refine List.Pairwise.imp ?_ List.nodup_range
    intro x y hxy e
    exact hxy (Nat.add_left_cancel e)
  · intro a ha b hb e
    unfold tl_ix at hb
    obtain ⟨j, -, rfl⟩ := List.mem_map.mp hb
    have := hk _ ha
    omega
