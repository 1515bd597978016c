/-! ROOM 39: what goOn costs, by the potential; slots *
-/
set_option maxRecDepth 100000
def cpG (cp : Nat → Nat) : Nat := cp 9 + cp 10
def cpS (cp : Nat → Nat) (cK : Nat) : Nat := 2 * (cp 9 + cp 10) + 4 * (cp 11 + cp 13) + 2 * cK
theorem g_as_le (n cap : Nat) : g_as n cap + 4 * cap ≤ 4 * g_an n cap := by
  unfold g_as g_an
  split
  · unfold g_gr
    split
    · omega
    · omega
  · omega
theorem g_bs_le2 (q cap : Nat) : g_bs q cap + 2 * cap ≤ 2 * g_bn q cap := by
  unfold g_bs g_bn
  split
  · omega
  · omega
/-- the slots of a take, class and reference -/
theorem tk_slots {P : List mI} {xs : List Nat} {cov : Nat → Bool} {K : List (List Nat)} {F : List yF} {cp : Nat → Nat} {cK : Nat} :
    tkS P xs cov K F cp + mkS P xs cov K.length cK F + 70 * K.length + cpS cp cK + 32 * tF9 P F ≤
      70 * (tkL (tkB P xs cov) K xs).length + cpS (tkC P xs cov K F cp) (zC (tkB P xs cov) K.length cK) + 32 * tF9 P (zFk P xs F) + 100 := by
  rw [tF9_zFk]
  unfold tkS mkS cpS
  have h1 := bsC_ge (mOut P xs).2.2.2 (cp 9)
  have h2 := g_bs_le2 (bsN 0 (mOut P xs).2.2.2) (cp 10)
  have h3 := g_as_le K.length (cp 11)
  have h4 := g_as_le F.length (cp 13)
  have e9 := tkC0_9 (P := P) (xs := xs) (cov := cov) (K := K) (cp := cp)
  have e10 : tkC0 P xs cov K cp 10 = g_bn (bsN 0 (mOut P xs).2.2.2) (cp 10) := by unfold tkC0; split <;> rfl
  have e13 := tkC0_13 (P := P) (xs := xs) (cov := cov) (K := K) (cp := cp)
  have e11 : tkC P xs cov K F cp 11 = tkC0 P xs cov K cp 11 := by unfold tkC tCq; split <;> rfl
  have f10 : tkC P xs cov K F cp 10 = tkC0 P xs cov K cp 10 := by unfold tkC tCq; split <;> rfl
  have hK : (if tkB P xs cov = true then 70 + g_as K.length (cp 11) else 0) + z2 (tkB P xs cov) K.length cK + 70 * K.length + 4 * cp 11 + 2 * cK ≤ 70 * (tkL (tkB P xs cov) K xs).length + 4 * tkC0 P xs cov K cp 11 + 2 * zC (tkB P xs cov) K.length cK := by
    unfold tkL z2 zC zCb tkC0
    cases hb : tkB P xs cov with
    | true =>
      simp only [↓reduceIte, List.length_append, List.length_cons, List.length_nil, Bool.true_and]
      have e1 : cpU (cpU (cpU cp 9 (bsC (cp 9) (mOut P xs).2.2.2)) 10 (g_bn (bsN 0 (mOut P xs).2.2.2) (cp 10))) 11 (g_an K.length (cp 11)) 11 = g_an K.length (cp 11) := rfl
      rw [e1]
      split <;> omega
    | false =>
      simp only [Bool.false_and, Bool.false_eq_true, ↓reduceIte]
      have e1 : cpU (cpU cp 9 (bsC (cp 9) (mOut P xs).2.2.2)) 10 (g_bn (bsN 0 (mOut P xs).2.2.2) (cp 10)) 11 = cp 11 := rfl
      rw [e1]
      omega
  have hF : 2 * tD P xs F (mOut P xs).1 (mCode P xs) (tkC0 P xs cov K cp) + tG F (mOut P xs).1 (mCode P xs) (cp 13) + 2 * tkC0 P xs cov K cp 9 + 4 * cp 13 ≤ 2 * tkC P xs cov K F cp 9 + 4 * tkC P xs cov K F cp 13 := by
    unfold tD tG tkC tCq
    by_cases h : tFl F (mOut P xs).1 (mCode P xs) = true
    · rw [if_pos h, if_pos h, if_pos h]
      have h5 := sShr_ge P (mCode P xs) (sMs xs + 1) xs (tkC0 P xs cov K cp 9)
      have e1 : cpU (cpU (tkC0 P xs cov K cp) 9 (tSh P xs (mCode P xs) (tkC0 P xs cov K cp 9)).2) 13 (g_an F.length (tkC0 P xs cov K cp 13)) 9 = (tSh P xs (mCode P xs) (tkC0 P xs cov K cp 9)).2 := rfl
      have e2 : cpU (cpU (tkC0 P xs cov K cp) 9 (tSh P xs (mCode P xs) (tkC0 P xs cov K cp 9)).2) 13 (g_an F.length (tkC0 P xs cov K cp 13)) 13 = g_an F.length (tkC0 P xs cov K cp 13) := rfl
      rw [e1, e2, e13]
      unfold tSh
      omega
    · rw [if_neg h, if_neg h, if_neg h, e13]
      omega
  rw [e9] at hF
  rw [e11, f10, e10]
  omega
theorem go_cost {P : List mI} {C : List yC} {b : Nat} (hP : P.length ≤ 16) (hC : C.length ≤ 8) (hCj : ∀ j, j < C.length → (C.getD j (0, 0, 0)).2.2 < 8) : ∀ (k : Nat) (cov : Nat → Bool) (K : List (List Nat)) (fq ac : Nat) (F : List yF) (rn tt : Nat) (cp : Nat → Nat) (cK sp M S M9 S9 : Nat) (Z : yR) (Z2 : Nat × Nat × Nat × Nat),
    gLoop P C b k cov K (K.drop fq) ac F rn tt cp sp M S = Z → mLoop P C b k cov K fq ac F cK sp M9 S9 = Z2 → fq ≤ K.length →
    Z.2.2.2.2.2.2.2.2.2.1 + Z2.2.2.1 + 15 * F.length + 11 * K.length + cpG cp + 4 * tF9 P F + 9 * rn ≤ M + M9 + 15 * Z.2.2.2.2.1.length + 11 * Z.2.1.length + cpG Z.2.2.2.2.2.2.2.1 + 4 * tF9 P Z.2.2.2.2.1 + 9 * Z.2.2.2.2.2.1 ∧
    Z.2.2.2.2.2.2.2.2.2.2 + Z2.2.2.2 + 70 * K.length + cpS cp cK + 32 * tF9 P F + 170 * rn ≤ S + S9 + 70 * Z.2.1.length + cpS Z.2.2.2.2.2.2.2.1 Z2.2.1 + 32 * tF9 P Z.2.2.2.2.1 + 170 * Z.2.2.2.2.2.1 := by
  intro k
  induction k with
  | zero =>
    intro cov K fq ac F rn tt cp cK sp M S M9 S9 Z Z2 h1 h2 hfq
    subst h1; subst h2
    show M + M9 + 15 * F.length + 11 * K.length + cpG cp + 4 * tF9 P F + 9 * rn ≤ M + M9 + 15 * F.length + 11 * K.length + cpG cp + 4 * tF9 P F + 9 * rn ∧ S + S9 + 70 * K.length + cpS cp cK + 32 * tF9 P F + 170 * rn ≤ S + S9 + 70 * K.length + cpS cp cK + 32 * tF9 P F + 170 * rn
    exact ⟨Nat.le_refl _, Nat.le_refl _⟩
  | succ k ih =>
    intro cov K fq ac F rn tt cp cK sp M S M9 S9 Z Z2 h1 h2 hfq
    unfold gLoop at h1
    unfold mLoop at h2
    have hdl : (K.drop fq).length = K.length - fq := List.length_drop
    by_cases hc : (K.drop fq).length = 0 ∨ ¬ sp < b
    · rw [if_pos hc] at h1
      rw [if_pos (by omega)] at h2
      subst h1; subst h2
      show M + M9 + 15 * F.length + 11 * K.length + cpG cp + 4 * tF9 P F + 9 * rn ≤ M + M9 + 15 * F.length + 11 * K.length + cpG cp + 4 * tF9 P F + 9 * rn ∧ S + S9 + 70 * K.length + cpS cp cK + 32 * tF9 P F + 170 * rn ≤ S + S9 + 70 * K.length + cpS cp cK + 32 * tF9 P F + 170 * rn
      exact ⟨Nat.le_refl _, Nat.le_refl _⟩
    · rw [if_neg hc] at h1
      rw [if_neg (by omega)] at h2
      have hlt : fq < K.length := by omega
      rw [drop_hd hlt] at h1
      obtain ⟨q1, eq1⟩ : ∃ z__, z__ = K.getD fq [] := ⟨_, rfl⟩
      rw [← eq1] at h1 h2
      by_cases hf : gFit C ac q1 = true
      · rw [if_pos hf] at h1 h2
        rw [tkL_drop hfq, gPq_drop] at h1
        rw [tkF_z] at h1
        have hln := tkL_len (b := tkB P (gEd C ac q1) cov) (K := K) (xs := gEd C ac q1)
        have hlt3 : fq < (tkL (tkB P (gEd C ac q1) cov) K (gEd C ac q1)).length := by omega
        obtain ⟨r1, r2⟩ := ih _ _ _ _ _ _ _ _ _ _ _ _ _ _ Z Z2 h1 h2 (gPf_le hlt3)
        have t1 := tk_cells (P := P) (xs := gEd C ac q1) (cov := cov) (K := K) (F := F) (cp := cp) (cK := cK)
        have t2 := tk_slots (P := P) (xs := gEd C ac q1) (cov := cov) (K := K) (F := F) (cp := cp) (cK := cK)
        have ha : aC (C.getD ac (0, 0, 0)).1 ≤ 8 := by unfold aC; split <;> omega
        unfold cpG at r1 ⊢
        exact ⟨by omega, by omega⟩
      · rw [if_neg hf] at h1 h2
        rw [gPq_drop] at h1
        exact ih _ _ _ _ _ _ _ _ _ _ _ _ _ _ Z Z2 h1 h2 (gPf_le hlt)
