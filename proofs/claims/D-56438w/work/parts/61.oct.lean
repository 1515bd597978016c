/-! Digits.isNext over the digits of a number -/
set_option maxRecDepth 100000
/-- the n digits of k -/
def oct (n k : Nat) : List Nat := (List.range n).map (fun j => k / 8 ^ (n - 1 - j) % 8)
theorem oct_len {n k : Nat} : (oct n k).length = n := by rw [oct, List.length_map, List.length_range]
theorem oct_sDg {n k : Nat} (hn : n ≤ 3) : sDg (oct n k) := ⟨by rw [oct_len]; omega, fun x hx => by
  obtain ⟨j, -, rfl⟩ := List.mem_map.mp hx
  exact Nat.mod_lt _ (by decide)⟩
theorem oct_0 : ∀ n, n < 4 → oct n 0 = List.replicate n 0 := by decide +kernel
def octA (n k i : Nat) : Bool := decide (∀ j, j < n → i ≤ j → (oct n k).getD j 0 = 7)
def octB (n k i : Nat) : Bool := decide (0 < i → (oct n k).getD (i - 1) 0 ≠ 7)
def octC (n k i : Nat) : Bool := decide (i = 0 ↔ k + 1 = 8 ^ n)
def octE (n k i : Nat) : Bool := decide (∀ j, j < n → (oct n (k + 1)).getD j 0 = if i ≤ j then 0 else if j + 1 = i then (oct n k).getD j 0 + 1 else (oct n k).getD j 0)
theorem oct_t1 : ∀ n, n < 4 → ∀ k, k < 8 ^ n → ∀ i, i < n + 1 → (!octA n k i || !octB n k i || (octC n k i && octE n k i)) = true := by decide +kernel
theorem oct_t0 (n : Nat) (hn : n < 4) (k : Nat) (hk : k < 8 ^ n) (i : Nat) (hi : i < n + 1) (h1 : (∀ j, j < n → i ≤ j → (oct n k).getD j 0 = 7)) (h2 : (0 < i → (oct n k).getD (i - 1) 0 ≠ 7)) : (i = 0 ↔ k + 1 = 8 ^ n) ∧ ∀ j, j < n → (oct n (k + 1)).getD j 0 = if i ≤ j then 0 else if j + 1 = i then (oct n k).getD j 0 + 1 else (oct n k).getD j 0 := by
  have h := oct_t1 n hn k hk i hi
  rw [show octA n k i = true from decide_eq_true h1, show octB n k i = true from decide_eq_true h2, Bool.not_true, Bool.false_or, Bool.false_or, Bool.and_eq_true] at h
  exact ⟨of_decide_eq_true h.1, of_decide_eq_true h.2⟩
theorem oct_i7 : ∀ d, d < 8 → (nI d = 7 ↔ d = 7) := by decide +kernel
theorem oct_lt {n k j : Nat} (hn : n ≤ 3) (hj : j < n) : (oct n k).getD j 0 < 8 := by
  have h := (oct_sDg (k := k) hn).2 ((oct n k).getD j 0)
  exact h (by rw [List.getD_eq_getElem?_getD, List.getElem?_eq_getElem (by rw [oct_len]; exact hj)]; exact List.getElem_mem _)
theorem oct_next {n k i : Nat} {g f : Nat → Int32} (hn : n ≤ 3) (hk : k < 8 ^ n) (hg : g_is g (oct n k)) (hi : i ≤ n) (h1 : ∀ j, i ≤ j → j < n → g j = 7) (h2 : 0 < i → g (i - 1) ≠ 7) (h3 : ∀ j, i ≤ j → j < n → f j = 0) (h4 : ∀ j, j + 1 < i → f j = g j) (h5 : 0 < i → f (i - 1) = g (i - 1) + 1) : g_is f (oct n (k + 1)) ∧ (i = 0 ↔ k + 1 = 8 ^ n) := by
  have hgj : ∀ j, j < n → g j = nI ((oct n k).getD j 0) := fun j hj => hg j (by rw [oct_len]; exact hj)
  obtain ⟨t1, t2⟩ := oct_t0 n (by omega) k hk i (by omega) (fun j hj hij => (oct_i7 _ (oct_lt hn hj)).mp ((hgj j hj).symm.trans (h1 j hij hj))) (fun h0 z => h2 h0 ((hgj _ (by omega)).trans ((oct_i7 _ (oct_lt hn (by omega))).mpr z)))
  refine ⟨fun j hj => ?_, t1⟩
  rw [oct_len] at hj
  rw [t2 j hj]
  split
  · exact h3 j ‹_› hj
  · split
    · obtain rfl : j = i - 1 := by omega
      rw [h5 (by omega), hgj _ (by omega)]
      exact nI_1 _
    · rw [h4 j (by omega)]
      exact hgj j hj
