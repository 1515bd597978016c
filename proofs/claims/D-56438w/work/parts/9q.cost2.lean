/-! ROOM 17: the cost lemma *
-/
set_option maxRecDepth 100000
/-- no deletion is accepted -/
def nDel (P : List mI) (c : Int32) (xs : List Nat) : Prop := ∀ j, j < xs.length → mFails P (xs.eraseIdx j) c = false
/-- a rank: at most E, never growing, falling where a lowering goes to the left of a lowering: with the first of the two (md = false), or with the second -/
def uRk (P : List mI) (c : Int32) (E : Nat) (md : Nat → Bool) (rk : List Nat → Nat) : Prop :=
  (∀ xs, sDg xs → mFails P xs c = true → 4 ≤ xs.length → rk xs ≤ E) ∧
  (∀ xs p e, sDg xs → 4 ≤ xs.length → mFails P xs c = true → nDel P c xs → p < xs.length → e < xs.getD p 0 → mFails P (xs.set p e) c = true → rk (xs.set p e) ≤ rk xs) ∧
  (∀ A q p, sDg A → 4 ≤ A.length → q < A.length → p < q → 1 ≤ A.getD q 0 → 1 ≤ A.getD p 0 → mFails P A c = true → nDel P c A → mFails P (A.set q (A.getD q 0 - 1)) c = true → nDel P c (A.set q (A.getD q 0 - 1)) →
    mFails P ((A.set q (A.getD q 0 - 1)).set p (A.getD p 0 - 1)) c = true → mFails P (A.set p (A.getD p 0 - 1)) c = false →
      (md A.length = false ∧ rk (A.set q (A.getD q 0 - 1)) + 1 ≤ rk A) ∨ (md A.length = true ∧ rk ((A.set q (A.getD q 0 - 1)).set p (A.getD p 0 - 1)) + 1 ≤ rk (A.set q (A.getD q 0 - 1))) ∨
      (¬ nDel P c ((A.set q (A.getD q 0 - 1)).set p (A.getD p 0 - 1)) ∧ rk ((A.set q (A.getD q 0 - 1)).set p (A.getD p 0 - 1)) + 1 ≤ rk (A.set q (A.getD q 0 - 1))))
/-- the string behind a unit lowering at q, the k-th of a run to the right -/
def uPend (P : List mI) (c : Int32) (md : Nat → Bool) (rk : List Nat → Nat) (A : List Nat) (q k b : Nat) (xs : List Nat) : Prop :=
  sDg A ∧ mFails P A c = true ∧ nDel P c A ∧ q < A.length ∧ 1 ≤ A.getD q 0 ∧ xs = A.set q (A.getD q 0 - 1) ∧ (∀ p2 e2, p2 < q → e2 < A.getD p2 0 → mFails P (A.set p2 e2) c = false) ∧ (∀ e2, e2 < A.getD q 0 - 1 → mFails P (A.set q e2) c = false) ∧
  1 ≤ k ∧ k ≤ q + 1 ∧ (md xs.length = true ∨ rk A ≤ b ∨ rk xs + 1 ≤ b ∨ ¬ nDel P c xs)
theorem sMs_8 {xs : List Nat} (h : sDg xs) : sMs xs ≤ 8 * xs.length := by
  have := sum_tk_le h xs.length
  rw [List.take_length] at this
  unfold sMs
  omega
theorem sMs_ge (xs : List Nat) : xs.length ≤ sMs xs := by unfold sMs; omega
theorem getD_set_ne {xs : List Nat} {p q e : Nat} (h : p ≠ q) : (xs.set q e).getD p 0 = xs.getD p 0 := by
  rw [List.getD_eq_getElem?_getD, List.getElem?_set_ne (Ne.symm h), ← List.getD_eq_getElem?_getD]
theorem getD_set_eq {xs : List Nat} {p e : Nat} (h : p < xs.length) : (xs.set p e).getD p 0 = e := by
  rw [List.getD_eq_getElem?_getD, List.getElem?_set_self h]
  rfl
theorem getD_le7 {xs : List Nat} (h : sDg xs) (p : Nat) : xs.getD p 0 ≤ 7 := by
  rcases Nat.lt_or_ge p xs.length with q | q
  · have := h.2 _ (rm_mem q (d := 0))
    omega
  · rw [List.getD_eq_getElem?_getD, List.getElem?_eq_none q]
    exact Nat.zero_le _
theorem u1_cost {P : List mI} {c : Int32} {E : Nat} {md : Nat → Bool} {rk : List Nat → Nat} {C : Nat → Nat → Nat → Nat → Nat} (hC : uOk C E) (hL : ∀ L R, L < 4 → R * (R + 1) / 2 ≤ C L R 0 E) (hr : uRk P c E md rk) :
    ∀ (n : Nat) (xs : List Nat), sDg xs → 4 ≤ xs.length → mFails P xs c = true → ∀ b, b ≤ E → (rk xs ≤ b → mTr P c n xs ≤ C xs.length (sMs xs) 0 b) ∧ ∀ A q k, rk xs ≤ b → uPend P c md rk A q k b xs → mTr P c n xs ≤ C xs.length (sMs xs) k b + k * sAf xs q := by
  intro n
  induction n with
  | zero => intro xs _ _ _ b _; rw [mTr_zero]; exact ⟨fun _ => Nat.zero_le _, fun _ _ _ _ _ => Nat.zero_le _⟩
  | succ n ih =>
    intro xs hd h4 hf b hb
    have hR1 := sMs_ge xs
    have hR2 := sMs_8 hd
    have hl8 := hd.1
    rw [mTr_succ]
    have ok := fun k (hk : k ≤ 8) => hC xs.length (sMs xs) k b h4 hl8 hR1 (by omega) hk hb
    -- what a deletion costs
    have hdel : ∀ i, i < xs.length → mFind P c (redL xs) = some (xs.eraseIdx i) → ∀ k, k ≤ 8 → i + 1 + mTr P c n (xs.eraseIdx i) ≤ C xs.length (sMs xs) k b := by
      intro i hi hm k hk
      obtain ⟨h1, h2⟩ := sRed hd (mFind_mem hm)
      have h3 := sMs_del_eq xs i hi
      have h5 := getD_le7 hd i
      have h6 := sMs_8 h2
      have h7 := sMs_ge (xs.eraseIdx i)
      have hle : (xs.eraseIdx i).length = xs.length - 1 := List.length_eraseIdx_of_lt hi
      have e1 : sMs xs - 1 - xs.getD i 0 = sMs (xs.eraseIdx i) := by omega
      have h8 := (ok k hk).2.2.2.2.1 (xs.getD i 0) (by omega) (by omega) (by omega)
      rw [e1] at h8
      have h9 : mTr P c n (xs.eraseIdx i) ≤ C (xs.length - 1) (sMs (xs.eraseIdx i)) 0 E := by
        rcases Nat.lt_or_ge (xs.length - 1) 4 with z | z
        · have a1 := mTr_le P c n (xs.eraseIdx i) h2
          have a2 := hL (xs.length - 1) (sMs (xs.eraseIdx i)) z
          have a3 : mTr P c n (xs.eraseIdx i) ≤ sMs (xs.eraseIdx i) * (sMs (xs.eraseIdx i) + 1) / 2 := by omega
          omega
        · have := (ih (xs.eraseIdx i) h2 (by omega) (mFind_val hm) E (Nat.le_refl _)).1 (hr.1 _ h2 (mFind_val hm) (by omega))
          rw [hle] at this
          exact this
      omega
    -- what a lowering by two or more costs
    have hlow : ∀ p e, p < xs.length → e + 2 ≤ xs.getD p 0 → mFind P c (redL xs) = some (xs.set p e) → rk (xs.set p e) ≤ b → ∀ k, k ≤ 8 → xs.length + sBe xs p + e + 1 + mTr P c n (xs.set p e) ≤ C xs.length (sMs xs) k b := by
      intro p e hp he hm hrk k hk
      obtain ⟨h1, h2⟩ := sRed hd (mFind_mem hm)
      have h3 := sMs_set_eq xs p e hp
      have h5 := getD_le7 hd p
      have h7 := sMs_ge (xs.set p e)
      rw [List.length_set] at h7
      have h8 := (ok k hk).2.2.2.1 (xs.getD p 0 - e - 2) (by omega) (by omega)
      rw [show sMs xs - (xs.getD p 0 - e - 2 + 2) = sMs (xs.set p e) by omega] at h8
      have h9 := (ih (xs.set p e) h2 (by rw [List.length_set]; omega) (mFind_val hm) b hb).1 hrk
      rw [List.length_set] at h9
      have h10 := sBe_le xs p hp
      have h11 : sMs xs = xs.length + xs.sum := rfl
      omega
    -- what a unit lowering costs, with what is to come
    have hunit : ∀ p k2 b2, p < xs.length → 1 ≤ xs.getD p 0 → mFind P c (redL xs) = some (xs.set p (xs.getD p 0 - 1)) → b2 ≤ E → rk (xs.set p (xs.getD p 0 - 1)) ≤ b2 → uPend P c md rk xs p k2 b2 (xs.set p (xs.getD p 0 - 1)) →
        xs.length + sBe xs p + (xs.getD p 0 - 1) + 1 + mTr P c n (xs.set p (xs.getD p 0 - 1)) ≤ sMs xs - sAf xs p + C xs.length (sMs xs - 1) k2 b2 + k2 * sAf xs p := by
      intro p k2 b2 hp h1 hm hb2 hrk hpe
      obtain ⟨-, h2⟩ := sRed hd (mFind_mem hm)
      have h3 := sMs_set_eq xs p (xs.getD p 0 - 1) hp
      have h9 := (ih (xs.set p (xs.getD p 0 - 1)) h2 (by rw [List.length_set]; omega) (mFind_val hm) b2 hb2).2 xs p k2 hrk hpe
      rw [List.length_set, sAf_set, show sMs (xs.set p (xs.getD p 0 - 1)) = sMs xs - 1 by omega] at h9
      have h10 := sAf_sum xs p hp
      have h11 : sMs xs = xs.length + xs.sum := rfl
      omega
    refine ⟨fun hrb => ?_, fun A q k hrb hpe => ?_⟩
    · rcases shr_step P c xs with ⟨i, h1, h2, h3, -⟩ | ⟨p, e, h1, h2, h3, h5, h6, h7, h8⟩ | ⟨h1, h2⟩
      · rw [h2, h3]; exact hdel i h1 h2 0 (by omega)
      · rw [h3, h5]
        have hrk : rk (xs.set p e) ≤ rk xs := hr.2.1 xs p e hd h4 hf h6 h1 h2 (mFind_val h3)
        rcases Nat.lt_or_ge (e + 1) (xs.getD p 0) with z | z
        · exact hlow p e h1 z h3 (by omega) 0 (by omega)
        · have ee : e = xs.getD p 0 - 1 := by omega
          subst ee
          have h9 := hunit p 1 b h1 (by omega) h3 hb (by omega) ⟨hd, hf, h6, h1, by omega, rfl, h7, h8, Nat.le_refl _, by omega, .inr (.inl hrb)⟩
          have hm := sMs_set_eq xs p (xs.getD p 0 - 1) h1
          have h7 := sMs_ge (xs.set p (xs.getD p 0 - 1))
          rw [List.length_set] at h7
          have h10 := (ok 0 (by omega)).2.1 (by omega) (by omega)
          rw [Nat.zero_add] at h10
          have h11 := sAf_sum xs p h1
          have h12 : sMs xs = xs.length + xs.sum := rfl
          show _ + mTr P c n (xs.set p (xs.getD p 0 - 1)) ≤ _
          omega
      · rw [h1, h2]; have := (ok 0 (by omega)).1; show _ + 0 ≤ _; omega
    · obtain ⟨a1, a2, a3, a4, a5, a6, a7, a8, a9, a10, a11⟩ := hpe
      have hlen : xs.length = A.length := by rw [a6, List.length_set]
      have hk8 : k ≤ 8 := by omega
      rcases shr_step P c xs with ⟨i, h1, h2, h3, -⟩ | ⟨p, e, h1, h2, h3, h5, h6, h7, h8⟩ | ⟨h1, h2⟩
      · rw [h2, h3]; have := hdel i h1 h2 k hk8; show i + 1 + mTr P c n (xs.eraseIdx i) ≤ _; omega
      · rw [h3, h5]
        have hrk : rk (xs.set p e) ≤ rk xs := hr.2.1 xs p e hd h4 hf h6 h1 h2 (mFind_val h3)
        rcases Nat.lt_or_ge (e + 1) (xs.getD p 0) with z | z
        · have := hlow p e h1 z h3 (by omega) k hk8
          show _ + mTr P c n (xs.set p e) ≤ _
          omega
        · have ee : e = xs.getD p 0 - 1 := by omega
          subst ee
          have hm := sMs_set_eq xs p (xs.getD p 0 - 1) h1
          have hge := sMs_ge (xs.set p (xs.getD p 0 - 1))
          rw [List.length_set] at hge
          have h11 := sAf_sum xs p h1
          have h12 : sMs xs = xs.length + xs.sum := rfl
          show _ + mTr P c n (xs.set p (xs.getD p 0 - 1)) ≤ _
          rcases Nat.lt_trichotomy p q with hpq | hpq | hpq
          · -- to the left
            have e1 : xs.getD p 0 = A.getD p 0 := by rw [a6, getD_set_ne (by omega)]
            have hv := hr.2.2 A q p a1 (by omega) a4 hpq a5 (by omega) a2 a3 (by rw [← a6]; exact hf) (by rw [← a6]; exact h6) (by rw [← a6, ← e1]; exact mFind_val h3) (a7 p _ hpq (by omega))
            rw [← a6, ← e1, ← hlen] at hv
            have hmdl : (xs.set p (xs.getD p 0 - 1)).length = xs.length := List.length_set
            have hv2 : 1 ≤ b ∧ rk (xs.set p (xs.getD p 0 - 1)) ≤ b - 1 ∧ (md (xs.set p (xs.getD p 0 - 1)).length = true ∨ rk xs ≤ b - 1 ∨ rk (xs.set p (xs.getD p 0 - 1)) + 1 ≤ b - 1 ∨ ¬ nDel P c (xs.set p (xs.getD p 0 - 1))) := by
              rw [hmdl]
              rcases hv with ⟨v1, v2⟩ | ⟨v1, v2⟩ | ⟨v1, v2⟩
              · rcases a11 with z2 | z2 | z2 | z2
                · rw [v1] at z2; cases z2
                · exact ⟨by omega, by omega, .inr (.inl (by omega))⟩
                · exact ⟨by omega, by omega, .inr (.inl (by omega))⟩
                · exact absurd h6 z2
              · exact ⟨by omega, by omega, .inl v1⟩
              · exact ⟨by omega, by omega, .inr (.inr (.inr v1))⟩
            have hb1 : 1 ≤ b := hv2.1
            have h9 := hunit p 1 (b - 1) h1 (by omega) h3 (by omega) hv2.2.1 ⟨hd, hf, h6, h1, by omega, rfl, h7, h8, Nat.le_refl _, by omega, hv2.2.2⟩
            have h10 := (ok k hk8).2.2.1 hb1 (by omega)
            omega
          · -- at the same place
            subst hpq
            have : mFails P (A.set p (xs.getD p 0 - 1)) c = false := a8 _ (by rw [a6, getD_set_eq a4] at h2; rw [a6, getD_set_eq a4]; omega)
            have h13 := mFind_val h3
            rw [a6, List.set_set, ← a6, this] at h13
            cases h13
          · -- to the right
            have h9 := hunit p (k + 1) b h1 (by omega) h3 hb (by omega) ⟨hd, hf, h6, h1, by omega, rfl, h7, h8, by omega, by omega, .inr (.inl hrb)⟩
            have h10 := (ok k hk8).2.1 (by omega) (by omega)
            have h13 := sAf_lt hpq h1
            have h14 : k * (1 + sAf xs p) ≤ k * sAf xs q := Nat.mul_le_mul_left _ (by omega)
            rw [Nat.mul_add, Nat.mul_one] at h14
            have h15 : (k + 1) * sAf xs p = k * sAf xs p + sAf xs p := Nat.succ_mul _ _
            omega
      · rw [h1, h2]; have := (ok k hk8).1; show _ + 0 ≤ _; omega
theorem uLook_3 {T L R : Nat} (e : Nat) (h : L < 4) : R * (R + 1) / 2 ≤ uLook T L R 0 e := by unfold uLook; rw [if_pos h]; exact Nat.le_refl _
/-- three exceptions a length -/
theorem u1_3 {P : List mI} {c : Int32} {md : Nat → Bool} {rk : List Nat → Nat} (hr : uRk P c 3 md rk) (n : Nat) {xs : List Nat} (hd : sDg xs) (h4 : 4 ≤ xs.length) (hf : mFails P xs c = true) : mTr P c n xs ≤ uLook uT3 xs.length (sMs xs) 0 3 :=
  (u1_cost uOk_3 (fun _ _ h => uLook_3 3 h) hr n xs hd h4 hf 3 (Nat.le_refl _)).1 (hr.1 _ hd hf h4)
