/-! ROOM 33: the zero rule, and the last place never twice in a row *
-/
set_option maxRecDepth 100000
def lDg (xs : List Nat) : Nat := xs.getD (xs.length - 1) 0
theorem lDg_cons {x : Nat} {xs : List Nat} (h : xs ≠ []) : lDg (x :: xs) = lDg xs := by
  unfold lDg
  have hl : 1 ≤ xs.length := List.length_pos_iff.mpr h
  rw [List.length_cons, show xs.length + 1 - 1 = (xs.length - 1) + 1 by omega]
  rfl
theorem zt_stop : ∀ xs : List Nat, 2 * hz xs + 2 * sMs xs + lDg xs * (lDg xs + 1) ≤ sMs xs * (sMs xs + 1)
  | [] => Nat.le_refl _
  | [x] => by
    have e1 : hz [x] = 0 := by show (x - 1) * (0 - 1) + 0 = 0; rw [Nat.zero_sub, Nat.mul_zero]
    have e2 : sMs [x] = x + 1 := by unfold sMs; simp only [List.length_cons, List.length_nil, List.sum_cons, List.sum_nil]; omega
    have e3 : lDg [x] = x := rfl
    rw [e1, e2, e3]
    have := tri_add x 1
    omega
  | x :: y :: xs => by
    have ih := zt_stop (y :: xs)
    rw [lDg_cons (List.cons_ne_nil y xs)]
    obtain ⟨zs, hzs⟩ : ∃ zs, zs = y :: xs := ⟨_, rfl⟩
    rw [← hzs] at ih ⊢
    have hR : sMs (x :: zs) = sMs zs + (x + 1) := by unfold sMs; simp only [List.length_cons, List.sum_cons]; omega
    have hl : zs.length ≤ sMs zs := by unfold sMs; omega
    rw [hR, tri_add]
    show 2 * ((x - 1) * (zs.length - 1) + hz zs) + 2 * (sMs zs + (x + 1)) + _ ≤ _
    have h1 : (x - 1) * (zs.length - 1) ≤ x * sMs zs := Nat.mul_le_mul (by omega) (by omega)
    have h2 : (x + 1) * (2 * sMs zs + (x + 1) + 1) = 2 * (x * sMs zs) + 2 * sMs zs + (x + 1) * (x + 1) + (x + 1) := by
      rw [Nat.mul_add, Nat.mul_add, Nat.mul_one, Nat.add_mul x 1 (2 * sMs zs), Nat.one_mul, Nat.mul_left_comm]
    have h3 : x + 1 ≤ (x + 1) * (x + 1) := Nat.le_mul_of_pos_left _ (by omega)
    omega
/-- the digits behind a place, of which all but the last are not 0, with the last -/
theorem tail_ge2 : ∀ (xs : List Nat) (p : Nat), p + 1 < xs.length → (∀ j, p < j → j + 1 < xs.length → xs.getD j 0 ≠ 0) → sBe xs p + xs.getD p 0 + (xs.length - 2 - p) + lDg xs ≤ xs.sum
  | [], _, h, _ => absurd h (by simp)
  | x :: xs, 0, hl, h => by
    have hne : xs ≠ [] := by rintro rfl; simp at hl
    rw [lDg_cons hne]
    show 0 + x + (xs.length + 1 - 2 - 0) + lDg xs ≤ (x :: xs).sum
    rw [List.sum_cons]
    have : ∀ ys : List Nat, ys ≠ [] → (∀ j, j + 1 < ys.length → ys.getD j 0 ≠ 0) → ys.length - 1 + lDg ys ≤ ys.sum := by
      intro ys
      induction ys with
      | nil => intro h; exact absurd rfl h
      | cons y ys ih =>
        intro _ hy
        cases ys with
        | nil => show 1 - 1 + y ≤ [y].sum; simp
        | cons z ys =>
          have h1 := ih (List.cons_ne_nil z ys) (fun j hj => hy (j + 1) (by simpa using hj))
          have h2 : y ≠ 0 := hy 0 (by simp)
          rw [lDg_cons (List.cons_ne_nil z ys), List.sum_cons, List.length_cons]
          simp only [List.length_cons] at h1 ⊢
          omega
    have := this xs hne (fun j hj => h (j + 1) (by omega) (by simpa using hj))
    omega
  | x :: xs, p + 1, hp, h => by
    have hne : xs ≠ [] := by rintro rfl; simp at hp
    have ih := tail_ge2 xs p (by simpa using hp) (fun j h1 h2 => h (j + 1) (by omega) (by simpa using h2))
    rw [sBe_cons, List.sum_cons, lDg_cons hne]
    show x + sBe xs p + xs.getD p 0 + (xs.length + 1 - 2 - (p + 1)) + lDg xs ≤ x + xs.sum
    omega
theorem ztri_cost {P : List mI} {c : Int32} (hz0 : ∀ xs, sDg xs → mFails P xs c = true → ∀ j, j + 1 < xs.length → xs.getD j 0 = 0 → ∃ i, i ≤ j + 1 ∧ mFails P (xs.eraseIdx i) c = true) : ∀ (k : Nat) (xs : List Nat), sDg xs → mFails P xs c = true →
    2 * mTr P c k xs + 2 * hz xs + lDg xs * (lDg xs - 1) ≤ sMs xs * (sMs xs + 1) ∧ ((∀ e, e < lDg xs → mFails P (xs.set (xs.length - 1) e) c = false) → 2 * mTr P c k xs + 2 * hz xs + lDg xs * (lDg xs + 1) ≤ sMs xs * (sMs xs + 1)) := by
  intro k
  induction k with
  | zero =>
    intro xs _ _
    rw [mTr_zero]
    have h1 := zt_stop xs
    have h2 : lDg xs * (lDg xs - 1) ≤ lDg xs * (lDg xs + 1) := Nat.mul_le_mul_left _ (by omega)
    exact ⟨by omega, fun _ => by omega⟩
  | succ k ih =>
    intro xs hd hf
    have h2 : lDg xs * (lDg xs - 1) ≤ lDg xs * (lDg xs + 1) := Nat.mul_le_mul_left _ (by omega)
    -- all but a lowering of the last place meet the second bound
    have hbig : (¬ ∃ e, e < lDg xs ∧ mFind P c (redL xs) = some (xs.set (xs.length - 1) e) ∧ tN P c (redL xs) = xs.length + sBe xs (xs.length - 1) + e + 1 ∧ ∀ e2, e2 < e → mFails P (xs.set (xs.length - 1) e2) c = false) → 2 * mTr P c (k + 1) xs + 2 * hz xs + lDg xs * (lDg xs + 1) ≤ sMs xs * (sMs xs + 1) := by
      intro hno
      rw [mTr_succ]
      rcases shr_step P c xs with ⟨i, h1, h2, h3, h4⟩ | ⟨p, e, h1, h2, h3, h4, h5, h6, h7⟩ | ⟨h1, h2⟩
      · rw [h2, h3]
        show 2 * (i + 1 + mTr P c k (xs.eraseIdx i)) + 2 * hz xs + _ ≤ _
        have i1 := (ih (xs.eraseIdx i) (sRed hd (mFind_mem h2)).2 (mFind_val h2)).1
        have i2 := hz_del xs i h1
        have i3 := sMs_del_eq xs i h1
        have hle : (xs.eraseIdx i).length = xs.length - 1 := List.length_eraseIdx_of_lt h1
        rw [← i3, tri_add]
        have i5 : sMs xs = xs.length + xs.sum := rfl
        have e1 : (xs.getD i 0 + 1) * (2 * sMs (xs.eraseIdx i) + (xs.getD i 0 + 1) + 1) = xs.getD i 0 * (2 * sMs (xs.eraseIdx i) + (xs.getD i 0 + 1) + 1) + (2 * sMs (xs.eraseIdx i) + (xs.getD i 0 + 1) + 1) := Nat.succ_mul _ _
        by_cases hi : i + 1 = xs.length
        · -- the last digit goes
          have ev : xs.getD i 0 = lDg xs := by unfold lDg; rw [show xs.length - 1 = i by omega]
          have i4 := sBe_le xs i h1
          rw [ev] at i2 i3 i4 e1 ⊢
          have e2 : lDg xs * (2 * sMs (xs.eraseIdx i) + (lDg xs + 1) + 1) = lDg xs * (2 * (sMs (xs.eraseIdx i) + 1)) + lDg xs * lDg xs := by
            rw [← Nat.mul_add]; congr 1; omega
          have e3 : lDg xs * xs.length ≤ lDg xs * (sMs (xs.eraseIdx i) + 1) := Nat.mul_le_mul_left _ (by omega)
          have e4 : lDg xs * (lDg xs + 1) = lDg xs * lDg xs + lDg xs := Nat.mul_succ _ _
          rw [Nat.mul_left_comm] at e2
          omega
        · have ev : lDg (xs.eraseIdx i) = lDg xs := by
            unfold lDg
            rw [hle, List.getD_eq_getElem?_getD, List.getElem?_eraseIdx_of_ge (by omega), show xs.length - 1 - 1 + 1 = xs.length - 1 by omega, ← List.getD_eq_getElem?_getD]
          rw [ev] at i1
          have i4 : sBe xs i + xs.getD i 0 + lDg xs ≤ xs.sum := by
            have a1 := sAf_sum xs i h1
            have a2 := sAf_lt (xs := xs) (q := i) (p := xs.length - 1) (by omega) (by omega)
            unfold lDg
            omega
          have e2 : xs.getD i 0 * (2 * xs.length) ≤ xs.getD i 0 * (2 * sMs (xs.eraseIdx i) + (xs.getD i 0 + 1) + 1) := Nat.mul_le_mul_left _ (by omega)
          rw [Nat.mul_left_comm] at e2
          have e4 : lDg xs * (lDg xs + 1) = lDg xs * (lDg xs - 1) + 2 * lDg xs := by
            rcases Nat.eq_zero_or_pos (lDg xs) with z | z
            · rw [z]
            · obtain ⟨w, hw⟩ : ∃ w, lDg xs = w + 1 := ⟨lDg xs - 1, by omega⟩
              rw [hw, show w + 1 - 1 = w by omega]
              have a1 : (w + 1) * (w + 1 + 1) = (w + 1) * w + (w + 1) * 2 := by rw [← Nat.mul_add]
              omega
          omega
      · rw [h3, h4]
        show 2 * (xs.length + sBe xs p + e + 1 + mTr P c k (xs.set p e)) + 2 * hz xs + _ ≤ _
        have hp : p + 1 < xs.length := by
          rcases Nat.lt_or_ge (p + 1) xs.length with q | q
          · exact q
          · exfalso
            have ep : p = xs.length - 1 := by omega
            refine hno ⟨e, ?_, ?_, ?_, ?_⟩
            · unfold lDg; rw [← ep]; exact h2
            · rw [← ep]; exact h3
            · rw [← ep]; exact h4
            · rw [← ep]; exact h7
        have i1 := (ih (xs.set p e) (sRed hd (mFind_mem h3)).2 (mFind_val h3)).1
        have ev : lDg (xs.set p e) = lDg xs := by
          unfold lDg
          rw [List.length_set, getD_set_ne (by omega)]
        rw [ev] at i1
        have i2 := hz_set xs p e h1 h2
        have i3 := sMs_set_eq xs p e h1
        have i4 := tail_ge2 xs p hp (fun j hj1 hj2 z => by
          obtain ⟨i, hi, hx⟩ := hz0 xs hd hf j hj2 z
          rw [h5 i (by omega)] at hx
          cases hx)
        obtain ⟨m, hm⟩ : ∃ m, xs.getD p 0 = e + (m + 1) := ⟨xs.getD p 0 - e - 1, by omega⟩
        have i5 : sMs xs = xs.length + xs.sum := rfl
        have i6 : sMs xs = sMs (xs.set p e) + (m + 1) := by omega
        rw [i6, tri_add]
        rw [show xs.getD p 0 - e = m + 1 by omega, Nat.succ_mul] at i2
        have e1 : (m + 1) * (2 * sMs (xs.set p e) + (m + 1) + 1) = m * (2 * sMs (xs.set p e) + (m + 1) + 1) + (2 * sMs (xs.set p e) + (m + 1) + 1) := Nat.succ_mul _ _
        have e2 : m * (2 * (xs.length - 2 - p)) ≤ m * (2 * sMs (xs.set p e) + (m + 1) + 1) := Nat.mul_le_mul_left _ (by omega)
        rw [Nat.mul_left_comm] at e2
        have e4 : lDg xs * (lDg xs + 1) = lDg xs * (lDg xs - 1) + 2 * lDg xs := by
          rcases Nat.eq_zero_or_pos (lDg xs) with z | z
          · rw [z]
          · obtain ⟨w, hw⟩ : ∃ w, lDg xs = w + 1 := ⟨lDg xs - 1, by omega⟩
            rw [hw, show w + 1 - 1 = w by omega]
            have a1 : (w + 1) * (w + 1 + 1) = (w + 1) * w + (w + 1) * 2 := by rw [← Nat.mul_add]
            omega
        omega
      · rw [h1, h2]
        show 2 * (sMs xs + 0) + 2 * hz xs + _ ≤ _
        have := zt_stop xs
        omega
    by_cases hq : ∃ e, e < lDg xs ∧ mFind P c (redL xs) = some (xs.set (xs.length - 1) e) ∧ tN P c (redL xs) = xs.length + sBe xs (xs.length - 1) + e + 1 ∧ ∀ e2, e2 < e → mFails P (xs.set (xs.length - 1) e2) c = false
    · obtain ⟨e, h1, h3, h4, h5⟩ := hq
      have hl : xs.length - 1 < xs.length := by
        rcases Nat.eq_zero_or_pos xs.length with z | z
        · have : xs = [] := List.length_eq_zero_iff.mp z
          subst this
          exact absurd h1 (Nat.not_lt_zero _)
        · omega
      refine ⟨?_, fun hp => ?_⟩
      · rw [mTr_succ, h3, h4]
        show 2 * (xs.length + sBe xs (xs.length - 1) + e + 1 + mTr P c k (xs.set (xs.length - 1) e)) + 2 * hz xs + _ ≤ _
        have ev : lDg (xs.set (xs.length - 1) e) = e := by
          unfold lDg
          rw [List.length_set, getD_set_eq hl]
        have i1 := (ih (xs.set (xs.length - 1) e) (sRed hd (mFind_mem h3)).2 (mFind_val h3)).2 (fun e2 he => by
          rw [ev] at he
          rw [List.length_set, List.set_set]
          exact h5 e2 he)
        rw [ev] at i1
        have h1' : e < xs.getD (xs.length - 1) 0 := h1
        have i2 := hz_set xs (xs.length - 1) e hl h1'
        rw [show xs.length - 2 - (xs.length - 1) = 0 by omega, Nat.mul_zero] at i2
        have i3 := sMs_set_eq xs (xs.length - 1) e hl
        have i7 := sAf_sum xs (xs.length - 1) hl
        have i5 : sMs xs = xs.length + xs.sum := rfl
        have i8 : sAf xs (xs.length - 1) = 0 := by
          unfold sAf
          rw [List.drop_of_length_le (by omega)]
          rfl
        obtain ⟨m, hm⟩ : ∃ m, lDg xs = e + (m + 1) := ⟨lDg xs - e - 1, by omega⟩
        have hm2 : xs.getD (xs.length - 1) 0 = e + (m + 1) := hm
        have i6 : sMs xs = sMs (xs.set (xs.length - 1) e) + (m + 1) := by omega
        rw [i6, tri_add, hm]
        have e1 : (m + 1) * (2 * sMs (xs.set (xs.length - 1) e) + (m + 1) + 1) = m * (2 * sMs (xs.set (xs.length - 1) e)) + m * (m + 2) + (2 * sMs (xs.set (xs.length - 1) e) + (m + 2)) := by
          rw [Nat.succ_mul, ← Nat.mul_add]; rfl
        have e2 : (e + (m + 1)) * (e + (m + 1) - 1) = e * (e + 1) + 2 * (m * e) + m * (m + 1) := by
          rw [show e + (m + 1) - 1 = e + m by omega]
          have a1 : (e + (m + 1)) * (e + m) = e * e + e * m + (m * e + e + (m * m + m)) := by
            rw [Nat.add_mul, Nat.mul_add, Nat.succ_mul m, Nat.mul_add]
            omega
          have a2 : e * (e + 1) = e * e + e := Nat.mul_succ _ _
          have a3 : m * (m + 1) = m * m + m := Nat.mul_succ _ _
          have a4 := Nat.mul_comm e m
          omega
        have e3 : m * e ≤ m * sMs (xs.set (xs.length - 1) e) := Nat.mul_le_mul_left _ (by omega)
        rw [Nat.mul_left_comm] at e1
        have e5 : m * (m + 2) = m * (m + 1) + m := Nat.mul_succ m (m + 1)
        rw [e2]
        omega
      · have := mFind_val h3
        rw [hp e h1] at this
        cases this
    · have := hbig hq
      exact ⟨by omega, fun _ => this⟩
