/-! ROOM 1: what a step of a shrink is *
-/
set_option maxRecDepth 100000
theorem mFind_app {P : List mI} {c : Int32} : ∀ (a b : List (List Nat)), mFind P c (a ++ b) = (mFind P c a).or (mFind P c b)
  | [], _ => rfl
  | y :: a, b => by
    rw [List.cons_append, mFind_cons, mFind_cons, mFind_app a b]
    split
    · rfl
    · rfl
theorem tN_app {P : List mI} {c : Int32} : ∀ (a b : List (List Nat)), tN P c (a ++ b) = if (mFind P c a).isSome = true then tN P c a else a.length + tN P c b
  | [], b => by show tN P c b = if (none : Option (List Nat)).isSome = true then _ else 0 + tN P c b; rw [if_neg (by decide), Nat.zero_add]
  | y :: a, b => by
    rw [List.cons_append, mFind_cons, tN_cons, tN_cons, tN_app a b]
    split
    · rfl
    · split
      · rfl
      · simp only [List.length_cons]; omega
theorem mFind_none {P : List mI} {c : Int32} : ∀ {a : List (List Nat)}, mFind P c a = none → ∀ y ∈ a, mFails P y c = false
  | [], _, _, h => by cases h
  | z :: a, h, y, hy => by
    rw [mFind_cons] at h
    split at h
    · cases h
    · rename_i q
      rcases List.mem_cons.mp hy with rfl | hy
      · exact Bool.eq_false_iff.mpr q
      · exact mFind_none h y hy
theorem mFind_val {P : List mI} {c : Int32} : ∀ {a : List (List Nat)} {y : List Nat}, mFind P c a = some y → mFails P y c = true
  | [], _, h => by cases h
  | z :: a, y, h => by
    rw [mFind_cons] at h
    split at h
    · rename_i q; cases h; exact q
    · exact mFind_val h
theorem tN_none {P : List mI} {c : Int32} : ∀ {a : List (List Nat)}, mFind P c a = none → tN P c a = a.length
  | [], _ => rfl
  | z :: a, h => by
    rw [mFind_cons] at h
    split at h
    · cases h
    · rename_i q
      rw [tN_cons, if_neg q, tN_none h, List.length_cons]
theorem del_step {P : List mI} {c : Int32} {xs : List Nat} : ∀ (k i : Nat), xs.length = i + k → (mFind P c (delC xs i) = none ∧ ∀ j, i ≤ j → j < xs.length → mFails P (xs.eraseIdx j) c = false) ∨ ∃ j, i ≤ j ∧ j < xs.length ∧ mFind P c (delC xs i) = some (xs.eraseIdx j) ∧ tN P c (delC xs i) + i = j + 1 ∧ ∀ j2, i ≤ j2 → j2 < j → mFails P (xs.eraseIdx j2) c = false := by
  intro k
  induction k with
  | zero => intro i h; rw [delC_end (by omega)]; exact .inl ⟨rfl, fun j h1 h2 => absurd h2 (by omega)⟩
  | succ k ih =>
    intro i h
    rw [delC_cons (by omega), mFind_cons, tN_cons]
    by_cases q : mFails P (xs.eraseIdx i) c = true
    · rw [if_pos q, if_pos q]
      exact .inr ⟨i, Nat.le_refl _, by omega, rfl, by omega, fun j2 h1 h2 => absurd h2 (by omega)⟩
    · rw [if_neg q, if_neg q]
      rcases ih (i + 1) (by omega) with ⟨h1, h2⟩ | ⟨j, h1, h2, h3, h4, h5⟩
      · refine .inl ⟨h1, fun j h3 h4 => ?_⟩
        by_cases e : j = i
        · subst e; exact Bool.eq_false_iff.mpr q
        · exact h2 j (by omega) h4
      · refine .inr ⟨j, by omega, h2, h3, by omega, fun j2 h6 h7 => ?_⟩
        by_cases e : j2 = i
        · subst e; exact Bool.eq_false_iff.mpr q
        · exact h5 j2 (by omega) h7
theorem repD_step {P : List mI} {c : Int32} {xs : List Nat} {p : Nat} : ∀ (k i : Nat), xs.getD p 0 = i + k → (mFind P c (repD xs p i) = none ∧ ∀ e, i ≤ e → e < xs.getD p 0 → mFails P (xs.set p e) c = false) ∨ ∃ e, i ≤ e ∧ e < xs.getD p 0 ∧ mFind P c (repD xs p i) = some (xs.set p e) ∧ tN P c (repD xs p i) + i = e + 1 ∧ ∀ e2, i ≤ e2 → e2 < e → mFails P (xs.set p e2) c = false := by
  intro k
  induction k with
  | zero => intro i h; rw [repD_end (by omega)]; exact .inl ⟨rfl, fun j h1 h2 => absurd h2 (by omega)⟩
  | succ k ih =>
    intro i h
    rw [repD_cons (by omega), mFind_cons, tN_cons]
    by_cases q : mFails P (xs.set p i) c = true
    · rw [if_pos q, if_pos q]
      exact .inr ⟨i, Nat.le_refl _, by omega, rfl, by omega, fun j2 h1 h2 => absurd h2 (by omega)⟩
    · rw [if_neg q, if_neg q]
      rcases ih (i + 1) (by omega) with ⟨h1, h2⟩ | ⟨j, h1, h2, h3, h4, h5⟩
      · refine .inl ⟨h1, fun j h3 h4 => ?_⟩
        by_cases e : j = i
        · subst e; exact Bool.eq_false_iff.mpr q
        · exact h2 j (by omega) h4
      · refine .inr ⟨j, by omega, h2, h3, by omega, fun j2 h6 h7 => ?_⟩
        by_cases e : j2 = i
        · subst e; exact Bool.eq_false_iff.mpr q
        · exact h5 j2 (by omega) h7
theorem rm_repD (xs : List Nat) (p : Nat) : (repD xs p 0).length = xs.getD p 0 := by unfold repD; simp
/-- the sum of the digits ahead of a place -/
def sBe (xs : List Nat) (p : Nat) : Nat := (xs.take p).sum
theorem sBe_succ {xs : List Nat} {p : Nat} (h : p < xs.length) : sBe xs (p + 1) = sBe xs p + xs.getD p 0 := by
  unfold sBe
  rw [List.take_succ, List.sum_append, List.getD_eq_getElem?_getD, List.getElem?_eq_getElem h]
  simp
theorem repC_step {P : List mI} {c : Int32} {xs : List Nat} : ∀ (k i : Nat), xs.length = i + k → (mFind P c (repC xs i) = none ∧ ∀ p e, i ≤ p → p < xs.length → e < xs.getD p 0 → mFails P (xs.set p e) c = false) ∨ ∃ p e, i ≤ p ∧ p < xs.length ∧ e < xs.getD p 0 ∧ mFind P c (repC xs i) = some (xs.set p e) ∧ tN P c (repC xs i) + sBe xs i = sBe xs p + e + 1 ∧ (∀ p2 e2, i ≤ p2 → p2 < p → e2 < xs.getD p2 0 → mFails P (xs.set p2 e2) c = false) ∧ ∀ e2, e2 < e → mFails P (xs.set p e2) c = false := by
  intro k
  induction k with
  | zero => intro i h; rw [repC_end (by omega)]; exact .inl ⟨rfl, fun j e h1 h2 => absurd h2 (by omega)⟩
  | succ k ih =>
    intro i h
    rw [repC_cons (by omega), mFind_app, tN_app]
    have hs := sBe_succ (xs := xs) (p := i) (by omega)
    rcases repD_step (P := P) (c := c) (xs := xs) (p := i) (xs.getD i 0) 0 (by omega) with ⟨h1, h2⟩ | ⟨e, h1, h2, h3, h4, h5⟩
    · rw [h1, if_neg (by decide), rm_repD]
      rcases ih (i + 1) (by omega) with ⟨h3, h4⟩ | ⟨p, e, h3, h4, h5, h6, h7, h8, h9⟩
      · refine .inl ⟨h3, fun p e h5 h6 h7 => ?_⟩
        by_cases q : p = i
        · subst q; exact h2 e (Nat.zero_le _) h7
        · exact h4 p e (by omega) h6 h7
      · refine .inr ⟨p, e, by omega, h4, h5, h6, by omega, fun p2 e2 ha hb hc => ?_, h9⟩
        by_cases q : p2 = i
        · subst q; exact h2 e2 (Nat.zero_le _) hc
        · exact h8 p2 e2 (by omega) hb hc
    · rw [h3, if_pos (show (some (xs.set i e)).isSome = true from rfl)]
      exact .inr ⟨i, e, Nat.le_refl _, by omega, h2, rfl, by omega, fun p2 e2 ha hb => absurd hb (by omega), fun e2 he => h5 e2 (Nat.zero_le _) he⟩
theorem rm_delC (xs : List Nat) : (delC xs 0).length = xs.length := by unfold delC; simp
theorem sBe_zero (xs : List Nat) : sBe xs 0 = 0 := rfl
theorem sBe_all (xs : List Nat) : sBe xs xs.length = xs.sum := by unfold sBe; rw [List.take_length]
theorem rm_repC {xs : List Nat} : ∀ (k i : Nat), xs.length = i + k → (repC xs i).length + sBe xs i = xs.sum := by
  intro k
  induction k with
  | zero => intro i h; rw [repC_end (by omega), ← sBe_all, show i = xs.length by omega]; simp
  | succ k ih =>
    intro i h
    rw [repC_cons (by omega), List.length_append, rm_repD]
    have := ih (i + 1) (by omega)
    have := sBe_succ (xs := xs) (p := i) (by omega)
    omega
theorem rm_redL (xs : List Nat) : (redL xs).length = sMs xs := by
  unfold redL sMs
  rw [List.length_append, rm_delC]
  have := rm_repC (xs := xs) xs.length 0 (by omega)
  rw [sBe_zero] at this
  omega
/-- a step of a shrink: a deletion, a lowering, or the end -/
theorem shr_step (P : List mI) (c : Int32) (xs : List Nat) :
    (∃ i, i < xs.length ∧ mFind P c (redL xs) = some (xs.eraseIdx i) ∧ tN P c (redL xs) = i + 1 ∧ ∀ j, j < i → mFails P (xs.eraseIdx j) c = false) ∨
    (∃ p e, p < xs.length ∧ e < xs.getD p 0 ∧ mFind P c (redL xs) = some (xs.set p e) ∧ tN P c (redL xs) = xs.length + sBe xs p + e + 1 ∧ (∀ j, j < xs.length → mFails P (xs.eraseIdx j) c = false) ∧ (∀ p2 e2, p2 < p → e2 < xs.getD p2 0 → mFails P (xs.set p2 e2) c = false) ∧ ∀ e2, e2 < e → mFails P (xs.set p e2) c = false) ∨
    (mFind P c (redL xs) = none ∧ tN P c (redL xs) = sMs xs) := by
  unfold redL
  rw [mFind_app, tN_app]
  rcases del_step (P := P) (c := c) (xs := xs) xs.length 0 (by omega) with ⟨h1, h2⟩ | ⟨i, h1, h2, h3, h4, h5⟩
  · rw [h1, if_neg (by decide), rm_delC]
    rcases repC_step (P := P) (c := c) (xs := xs) xs.length 0 (by omega) with ⟨h3, h4⟩ | ⟨p, e, h3, h4, h5, h6, h7, h8, h9⟩
    · refine .inr (.inr ⟨h3, ?_⟩)
      rw [tN_none h3]
      have := rm_repC (xs := xs) xs.length 0 (by omega)
      rw [sBe_zero] at this
      unfold sMs
      omega
    · rw [sBe_zero] at h7
      exact .inr (.inl ⟨p, e, h4, h5, h6, by omega, fun j hj => h2 j (Nat.zero_le _) hj, fun p2 e2 ha hb => h8 p2 e2 (Nat.zero_le _) ha hb, h9⟩)
  · rw [h3, if_pos (show (some (xs.eraseIdx i)).isSome = true from rfl)]
    exact .inl ⟨i, h2, rfl, by omega, fun j hj => h5 j (Nat.zero_le _) hj⟩
/-- how many are tried in all -/
noncomputable def mTr (P : List mI) (c : Int32) (k : Nat) (xs : List Nat) : Nat := (mShr P c k xs).2
theorem mTr_zero (P : List mI) (c : Int32) (xs : List Nat) : mTr P c 0 xs = 0 := rfl
theorem mTr_succ (P : List mI) (c : Int32) (k : Nat) (xs : List Nat) : mTr P c (k + 1) xs = tN P c (redL xs) + (match mFind P c (redL xs) with | some y => mTr P c k y | none => 0) := by
  unfold mTr
  rw [mShr]
  cases mFind P c (redL xs) <;> rfl
/-- the sum of the first R numbers, twice -/
theorem n_succ (R : Nat) : (R + 1) * (R + 2) = R * (R + 1) + 2 * (R + 1) := by rw [← Nat.add_mul, Nat.mul_comm]
theorem mTr_le (P : List mI) (c : Int32) : ∀ (k : Nat) (xs : List Nat), sDg xs → 2 * mTr P c k xs ≤ sMs xs * (sMs xs + 1) := by
  intro k
  induction k with
  | zero => intro xs _; rw [mTr_zero]; omega
  | succ k ih =>
    intro xs h
    rw [mTr_succ]
    have h1 := tN_le (P := P) (c := c) (redL xs)
    rw [rm_redL] at h1
    cases e : mFind P c (redL xs) with
    | none =>
      show 2 * (tN P c (redL xs) + 0) ≤ _
      have : sMs xs * 2 ≤ sMs xs * (sMs xs + 1) := by
        rcases Nat.eq_zero_or_pos (sMs xs) with z | z
        · rw [z]; decide
        · exact Nat.mul_le_mul_left _ (by omega)
      omega
    | some y =>
      show 2 * (tN P c (redL xs) + mTr P c k y) ≤ _
      obtain ⟨h2, h3⟩ := sRed h (mFind_mem e)
      have h4 := ih y h3
      obtain ⟨R, hR⟩ : ∃ R, sMs xs = R + 1 := ⟨sMs xs - 1, by omega⟩
      rw [hR, n_succ]
      have : sMs y * (sMs y + 1) ≤ R * (R + 1) := Nat.mul_le_mul (by omega) (by omega)
      omega
