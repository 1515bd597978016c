/-! ROOM 38: what takes cost, by a potential *
-/
set_option maxRecDepth 100000
/-- the tries of all findings -/
noncomputable def tF9 (P : List mI) (F : List yF) : Nat := (F.map (fun f => mTr P f.2.2 (sMs (digs f.1) + 1) (digs f.1))).sum
theorem digs_of (xs : List Nat) : digs (txt xs) = xs := digs_txt xs
theorem tF9_zFk {P : List mI} {xs : List Nat} {F : List yF} : tF9 P (zFk P xs F) = tF9 P F + zTk P xs F := by
  unfold zFk zTk zF zT
  by_cases h : (mOut P xs).1 = 1
  · rw [if_pos h, if_pos h]
    by_cases h2 : fnd F (mCode P xs) = true
    · rw [if_pos h2, if_pos h2, Nat.add_zero]
    · rw [if_neg h2, if_neg h2]
      unfold tF9
      rw [List.map_append, List.sum_append, List.map_cons, List.map_nil, List.sum_cons, List.sum_nil, Nat.add_zero]
      show _ + mTr P (mCode P xs) (sMs (digs (txt xs)) + 1) (digs (txt xs)) = _
      rw [digs_of]
      rfl
  · rw [if_neg h, if_neg h, Nat.add_zero]
/-- the cells of a take, class and reference -/
theorem tk_cells {P : List mI} {xs : List Nat} {cov : Nat → Bool} {K : List (List Nat)} {F : List yF} {cp : Nat → Nat} {cK : Nat} :
    tkM P xs cov K F cp + mkC P xs cov K.length cK F + 15 * F.length + 11 * K.length + (cp 9 + cp 10) + 4 * tF9 P F ≤
      15 * (zFk P xs F).length + 11 * (tkL (tkB P xs cov) K xs).length + (tkC P xs cov K F cp 9 + tkC P xs cov K F cp 10) + 4 * tF9 P (zFk P xs F) + 1 := by
  rw [tF9_zFk]
  unfold tkM mkC
  have h1 := bsC_ge (mOut P xs).2.2.2 (cp 9)
  have h2 := g_bc_le (bsN 0 (mOut P xs).2.2.2) (cp 10)
  have h2b := g_bn_ge (bsN 0 (mOut P xs).2.2.2) (cp 10)
  have e9 := tkC0_9 (P := P) (xs := xs) (cov := cov) (K := K) (cp := cp)
  have e10 : tkC0 P xs cov K cp 10 = g_bn (bsN 0 (mOut P xs).2.2.2) (cp 10) := by unfold tkC0; split <;> rfl
  have hK : (if tkB P xs cov = true then 10 else 0) + z1 (tkB P xs cov) K.length cK + 11 * K.length ≤ 11 * (tkL (tkB P xs cov) K xs).length := by
    unfold tkL z1 zCb
    cases hb : tkB P xs cov with
    | true =>
      rw [if_pos rfl, if_pos rfl, List.length_append, Bool.true_and]
      simp only [List.length_cons, List.length_nil]
      split <;> omega
    | false => simp only [Bool.false_and, Bool.false_eq_true, ↓reduceIte]; omega
  have hF : tX F (mOut P xs).1 (mCode P xs) + tD P xs F (mOut P xs).1 (mCode P xs) (tkC0 P xs cov K cp) + 15 * F.length + (tkC0 P xs cov K cp 9 + tkC0 P xs cov K cp 10) ≤ 15 * (zFk P xs F).length + (tkC P xs cov K F cp 9 + tkC P xs cov K F cp 10) + 1 := by
    unfold tX tD tkC tCq zFk zF tFl
    by_cases h : (mOut P xs).1 = 1
    · rw [if_pos h, if_pos h, decide_eq_true h, Bool.true_and]
      cases hf : fnd F (mCode P xs) with
      | true =>
        simp only [Bool.not_true, Bool.false_eq_true, ↓reduceIte]
        omega
      | false =>
        simp only [Bool.not_false, Bool.false_eq_true, ↓reduceIte, List.length_append, List.length_cons, List.length_nil]
        have h3 := sShr_ge P (mCode P xs) (sMs xs + 1) xs (tkC0 P xs cov K cp 9)
        have e1 : cpU (cpU (tkC0 P xs cov K cp) 9 (tSh P xs (mCode P xs) (tkC0 P xs cov K cp 9)).2) 13 (g_an F.length (tkC0 P xs cov K cp 13)) 9 = (tSh P xs (mCode P xs) (tkC0 P xs cov K cp 9)).2 := rfl
        have e2 : cpU (cpU (tkC0 P xs cov K cp) 9 (tSh P xs (mCode P xs) (tkC0 P xs cov K cp 9)).2) 13 (g_an F.length (tkC0 P xs cov K cp 13)) 10 = tkC0 P xs cov K cp 10 := rfl
        rw [e1, e2]
        unfold tSh
        omega
    · rw [if_neg h, if_neg h, decide_eq_false h, Bool.false_and, if_neg (by decide), if_neg (by decide)]
      omega
  rw [e9, e10] at hF
  omega
