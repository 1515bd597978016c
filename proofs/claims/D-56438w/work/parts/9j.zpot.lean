/-! ROOM 10: what a shrink costs where a digit 0 ahead of the last is deleted *
-/
set_option maxRecDepth 100000
theorem tri_add (r m : Nat) : (r + m) * (r + m + 1) = r * (r + 1) + m * (2 * r + m + 1) := by
  have e1 : (r + m) * (r + m + 1) = r * r + r * m + r + (m * r + m * m + m) := by
    rw [Nat.add_mul, Nat.mul_add r (r + m) 1, Nat.mul_add m (r + m) 1, Nat.mul_add, Nat.mul_add, Nat.mul_one, Nat.mul_one]
  have e2 : r * (r + 1) = r * r + r := Nat.mul_succ r r
  have e3 : m * (2 * r + m + 1) = 2 * (m * r) + m * m + m := by
    rw [Nat.mul_add, Nat.mul_add, Nat.mul_one, Nat.mul_left_comm]
  have e4 := Nat.mul_comm r m
  omega
def hz : List Nat → Nat
  | [] => 0
  | x :: xs => (x - 1) * (xs.length - 1) + hz xs
theorem hz_stop : ∀ xs : List Nat, 2 * hz xs + 2 * sMs xs ≤ sMs xs * (sMs xs + 1)
  | [] => Nat.le_refl _
  | x :: xs => by
    have ih := hz_stop xs
    have hR : sMs (x :: xs) = sMs xs + (x + 1) := by unfold sMs; simp only [List.length_cons, List.sum_cons]; omega
    have hl : xs.length ≤ sMs xs := by unfold sMs; omega
    rw [hR, tri_add]
    show 2 * ((x - 1) * (xs.length - 1) + hz xs) + 2 * (sMs xs + (x + 1)) ≤ _
    have h1 : (x - 1) * (xs.length - 1) ≤ x * sMs xs := Nat.mul_le_mul (by omega) (by omega)
    have h2 : (x + 1) * (2 * sMs xs + (x + 1) + 1) = 2 * (x * sMs xs) + 2 * sMs xs + (x + 1) * (x + 1) + (x + 1) := by
      rw [Nat.mul_add, Nat.mul_add, Nat.mul_one, Nat.add_mul x 1 (2 * sMs xs), Nat.one_mul, Nat.mul_left_comm]
    have h3 : x + 1 ≤ (x + 1) * (x + 1) := Nat.le_mul_of_pos_left _ (by omega)
    omega
theorem sBe_cons (x : Nat) (xs : List Nat) (i : Nat) : sBe (x :: xs) (i + 1) = x + sBe xs i := by unfold sBe; simp
theorem hz_del : ∀ (xs : List Nat) (i : Nat), i < xs.length → hz xs ≤ hz (xs.eraseIdx i) + sBe xs i + xs.getD i 0 * xs.length
  | [], _, h => absurd h (by simp)
  | x :: xs, 0, _ => by
    show (x - 1) * (xs.length - 1) + hz xs ≤ hz xs + 0 + x * (xs.length + 1)
    have : (x - 1) * (xs.length - 1) ≤ x * (xs.length + 1) := Nat.mul_le_mul (by omega) (by omega)
    omega
  | x :: xs, i + 1, h => by
    have hi : i < xs.length := by simpa using h
    have ih := hz_del xs i hi
    rw [sBe_cons]
    show (x - 1) * (xs.length - 1) + hz xs ≤ (x - 1) * ((xs.eraseIdx i).length - 1) + hz (xs.eraseIdx i) + (x + sBe xs i) + xs.getD i 0 * (xs.length + 1)
    rw [List.length_eraseIdx_of_lt hi, Nat.mul_succ (xs.getD i 0) xs.length]
    have h1 : (x - 1) * (xs.length - 1) ≤ (x - 1) * (xs.length - 1 - 1 + 1) := Nat.mul_le_mul_left _ (by omega)
    rw [Nat.mul_succ] at h1
    omega
theorem hz_set : ∀ (xs : List Nat) (p e : Nat), p < xs.length → e < xs.getD p 0 → hz xs ≤ hz (xs.set p e) + (xs.getD p 0 - e) * (xs.length - 2 - p)
  | [], _, _, h, _ => absurd h (by simp)
  | x :: xs, 0, e, _, he => by
    have he : e < x := he
    show (x - 1) * (xs.length - 1) + hz xs ≤ (e - 1) * (xs.length - 1) + hz xs + (x - e) * (xs.length + 1 - 2 - 0)
    rw [show xs.length + 1 - 2 - 0 = xs.length - 1 by omega]
    have h1 : (x - 1) * (xs.length - 1) ≤ ((e - 1) + (x - e)) * (xs.length - 1) := Nat.mul_le_mul_right _ (by omega)
    rw [Nat.add_mul] at h1
    omega
  | x :: xs, p + 1, e, h, he => by
    have hp : p < xs.length := by simpa using h
    have he : e < xs.getD p 0 := he
    have ih := hz_set xs p e hp he
    show (x - 1) * (xs.length - 1) + hz xs ≤ (x - 1) * ((xs.set p e).length - 1) + hz (xs.set p e) + (xs.getD p 0 - e) * (xs.length + 1 - 2 - (p + 1))
    rw [List.length_set, show xs.length + 1 - 2 - (p + 1) = xs.length - 2 - p by omega]
    omega
/-- the digits behind a place, of which all but the last are not 0 -/
theorem tail_ge : ∀ (xs : List Nat) (p : Nat), p < xs.length → (∀ j, p < j → j + 1 < xs.length → xs.getD j 0 ≠ 0) → sBe xs p + xs.getD p 0 + (xs.length - 2 - p) ≤ xs.sum
  | [], _, h, _ => absurd h (by simp)
  | x :: xs, 0, _, h => by
    show 0 + x + (xs.length + 1 - 2 - 0) ≤ (x :: xs).sum
    rw [List.sum_cons]
    have : ∀ ys : List Nat, (∀ j, j + 1 < ys.length → ys.getD j 0 ≠ 0) → ys.length - 1 ≤ ys.sum := by
      intro ys
      induction ys with
      | nil => intro _; exact Nat.le_refl _
      | cons y ys ih =>
        intro hy
        rw [List.sum_cons, List.length_cons]
        have h1 := ih (fun j hj => hy (j + 1) (by simpa using hj))
        cases ys with
        | nil => simp
        | cons z ys =>
          have h2 : y ≠ 0 := hy 0 (by simp)
          simp only [List.length_cons] at h1 ⊢
          omega
    have := this xs (fun j hj => h (j + 1) (by omega) (by simpa using hj))
    omega
  | x :: xs, p + 1, hp, h => by
    have ih := tail_ge xs p (by simpa using hp) (fun j h1 h2 => h (j + 1) (by omega) (by simpa using h2))
    rw [sBe_cons, List.sum_cons]
    show x + sBe xs p + xs.getD p 0 + (xs.length + 1 - 2 - (p + 1)) ≤ x + xs.sum
    omega
theorem sMs_set_eq : ∀ (xs : List Nat) (p e : Nat), p < xs.length → sMs (xs.set p e) + xs.getD p 0 = sMs xs + e
  | [], _, _, h => absurd h (by simp)
  | x :: xs, 0, e, _ => by unfold sMs; simp only [List.set_cons_zero, List.length_cons, List.sum_cons]; show xs.length + 1 + (e + xs.sum) + x = _; omega
  | x :: xs, p + 1, e, h => by
    have := sMs_set_eq xs p e (by simpa using h)
    unfold sMs at this ⊢
    simp only [List.set_cons_succ, List.length_cons, List.sum_cons]
    show (xs.set p e).length + 1 + (x + (xs.set p e).sum) + xs.getD p 0 = _
    omega
theorem sMs_del_eq : ∀ (xs : List Nat) (i : Nat), i < xs.length → sMs (xs.eraseIdx i) + (xs.getD i 0 + 1) = sMs xs
  | [], _, h => absurd h (by simp)
  | x :: xs, 0, _ => by unfold sMs; simp only [List.eraseIdx_cons_zero, List.length_cons, List.sum_cons]; show xs.length + xs.sum + (x + 1) = _; omega
  | x :: xs, i + 1, h => by
    have hi : i < xs.length := by simpa using h
    have := sMs_del_eq xs i hi
    unfold sMs at this ⊢
    simp only [List.eraseIdx_cons_succ, List.length_cons, List.sum_cons]
    show (xs.eraseIdx i).length + 1 + (x + (xs.eraseIdx i).sum) + (xs.getD i 0 + 1) = _
    omega
theorem sBe_le : ∀ (xs : List Nat) (i : Nat), i < xs.length → sBe xs i + xs.getD i 0 ≤ xs.sum
  | [], _, h => absurd h (by simp)
  | x :: xs, 0, _ => by rw [List.sum_cons]; show 0 + x ≤ _; omega
  | x :: xs, i + 1, h => by
    have := sBe_le xs i (by simpa using h)
    rw [sBe_cons, List.sum_cons]
    show x + sBe xs i + xs.getD i 0 ≤ _
    omega
/-- the cost under the zero rule -/
theorem zero_cost {P : List mI} {c : Int32} (hz0 : ∀ xs, sDg xs → mFails P xs c = true → ∀ j, j + 1 < xs.length → xs.getD j 0 = 0 → ∃ i, i ≤ j + 1 ∧ mFails P (xs.eraseIdx i) c = true) : ∀ (k : Nat) (xs : List Nat), sDg xs → mFails P xs c = true → 2 * mTr P c k xs + 2 * hz xs ≤ sMs xs * (sMs xs + 1) := by
  intro k
  induction k with
  | zero => intro xs _ _; rw [mTr_zero]; have := hz_stop xs; omega
  | succ k ih =>
    intro xs hd hf
    rw [mTr_succ]
    rcases shr_step P c xs with ⟨i, h1, h2, h3, h4⟩ | ⟨p, e, h1, h2, h3, h4, h5, -⟩ | ⟨h1, h2⟩
    · rw [h2, h3]
      show 2 * (i + 1 + mTr P c k (xs.eraseIdx i)) + 2 * hz xs ≤ _
      have i1 := ih (xs.eraseIdx i) (sRed hd (mFind_mem h2)).2 (mFind_val h2)
      have i2 := hz_del xs i h1
      have i3 := sMs_del_eq xs i h1
      have i4 := sBe_le xs i h1
      rw [← i3, tri_add]
      have i5 : sMs xs = xs.length + xs.sum := rfl
      have e1 : (xs.getD i 0 + 1) * (2 * sMs (xs.eraseIdx i) + (xs.getD i 0 + 1) + 1) = xs.getD i 0 * (2 * sMs (xs.eraseIdx i) + (xs.getD i 0 + 1) + 1) + (2 * sMs (xs.eraseIdx i) + (xs.getD i 0 + 1) + 1) := Nat.succ_mul _ _
      have e2 : xs.getD i 0 * (2 * xs.length) ≤ xs.getD i 0 * (2 * sMs (xs.eraseIdx i) + (xs.getD i 0 + 1) + 1) := Nat.mul_le_mul_left _ (by omega)
      rw [Nat.mul_left_comm] at e2
      omega
    · rw [h3, h4]
      show 2 * (xs.length + sBe xs p + e + 1 + mTr P c k (xs.set p e)) + 2 * hz xs ≤ _
      have i1 := ih (xs.set p e) (sRed hd (mFind_mem h3)).2 (mFind_val h3)
      have i2 := hz_set xs p e h1 h2
      have i3 := sMs_set_eq xs p e h1
      have i4 := tail_ge xs p h1 (fun j hj1 hj2 z => by
        obtain ⟨i, hi, hx⟩ := hz0 xs hd hf j hj2 z
        rw [h5 i (by omega)] at hx
        cases hx)
      obtain ⟨m, hm⟩ : ∃ m, xs.getD p 0 = e + (m + 1) := ⟨xs.getD p 0 - e - 1, by omega⟩
      have i5 : sMs xs = xs.length + xs.sum := rfl
      have i6 : sMs xs = sMs (xs.set p e) + (m + 1) := by omega
      rw [i6, tri_add]
      rw [show xs.getD p 0 - e = m + 1 by omega, Nat.succ_mul] at i2
      have e1 : (m + 1) * (2 * sMs (xs.set p e) + (m + 1) + 1) = m * (2 * sMs (xs.set p e) + (m + 1) + 1) + (2 * sMs (xs.set p e) + (m + 1) + 1) := Nat.succ_mul _ _
      have e2 : m * (2 * (xs.length - 2 - p)) ≤ m * (2 * sMs (xs.set p e) + (m + 1) + 1) := Nat.mul_le_mul_left _ (by omega)
      rw [Nat.mul_left_comm] at e2
      omega
    · rw [h1, h2]
      show 2 * (sMs xs + 0) + 2 * hz xs ≤ _
      have := hz_stop xs
      omega
