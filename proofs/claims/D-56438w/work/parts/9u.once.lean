/-! ROOM 21: what a shrink costs where each place is lowered once a length *
-/
set_option maxRecDepth 100000
def tOnce : Nat → Nat
  | 0 => 8
  | L + 1 => (L + 1) * (8 * (L + 1)) + (L + 1) + tOnce L
theorem tOnce_ge : ∀ L, 7 * (L + 1) ≤ tOnce L
  | 0 => by decide
  | L + 1 => by
    have := tOnce_ge L
    show 7 * (L + 1 + 1) ≤ (L + 1) * (8 * (L + 1)) + (L + 1) + tOnce L
    have : 8 * (L + 1) ≤ (L + 1) * (8 * (L + 1)) := Nat.le_mul_of_pos_left _ (by omega)
    omega
/-- what B can be lowered to at a place, A can -/
def uOnce (P : List mI) (c : Int32) : Prop := ∀ A B p e, sDg A → sDg B → A.length = B.length → p < A.length → e < B.getD p 0 → mFails P A c = true → nDel P c A → mFails P B c = true → nDel P c B → mFails P (B.set p e) c = true → mFails P (A.set p e) c = true
theorem mTr_nil {P : List mI} {c : Int32} (n : Nat) : mTr P c n [] = 0 := by
  cases n with
  | zero => rfl
  | succ n =>
    rw [mTr_succ]
    rfl
theorem once_cost {P : List mI} {c : Int32} (hO : uOnce P c) : ∀ (n : Nat) (xs : List Nat) (S : List Nat), sDg xs → xs ≠ [] → mFails P xs c = true → S.Nodup → (∀ p ∈ S, p < xs.length ∧ ∃ A, sDg A ∧ A.length = xs.length ∧ mFails P A c = true ∧ nDel P c A ∧ ∀ e2, e2 < xs.getD p 0 → mFails P (A.set p e2) c = false) →
    mTr P c n xs ≤ (xs.length - S.length) * (8 * xs.length) + xs.length + tOnce (xs.length - 1) := by
  intro n
  induction n with
  | zero => intro xs S _ _ _ _ _; rw [mTr_zero]; exact Nat.zero_le _
  | succ n ih =>
    intro xs S hd hne hf hS hA
    have h8 := sMs_8 hd
    have hl : 1 ≤ xs.length := List.length_pos_iff.mpr hne
    rw [mTr_succ]
    rcases shr_step P c xs with ⟨i, h1, h2, h3, -⟩ | ⟨p, e, h1, h2, h3, h5, h6, h7, h9⟩ | ⟨h1, h2⟩
    · rw [h2, h3]
      show i + 1 + mTr P c n (xs.eraseIdx i) ≤ _
      have hle : (xs.eraseIdx i).length = xs.length - 1 := List.length_eraseIdx_of_lt h1
      have : mTr P c n (xs.eraseIdx i) ≤ tOnce (xs.length - 1) := by
        rcases Nat.eq_zero_or_pos (xs.length - 1) with z | z
        · have : xs.eraseIdx i = [] := List.length_eq_zero_iff.mp (by omega)
          rw [this, mTr_nil]
          exact Nat.zero_le _
        · obtain ⟨-, d2⟩ := sRed hd (mFind_mem h2)
          have := ih (xs.eraseIdx i) [] d2 (fun z2 => by rw [z2] at hle; simp at hle; omega) (mFind_val h2) List.nodup_nil (fun p hp => by cases hp)
          rw [hle] at this
          obtain ⟨L, hL⟩ : ∃ L, xs.length - 1 = L + 1 := ⟨xs.length - 1 - 1, by omega⟩
          rw [hL] at this ⊢
          exact this
      omega
    · rw [h3, h5]
      show _ + mTr P c n (xs.set p e) ≤ _
      obtain ⟨-, d2⟩ := sRed hd (mFind_mem h3)
      by_cases q : p ∈ S
      · exfalso
        obtain ⟨-, A, a1, a2, a3, a4, a5⟩ := hA p q
        have := hO A xs p e a1 hd a2 (by omega) h2 a3 a4 hf h6 (mFind_val h3)
        rw [a5 e h2] at this
        cases this
      · have hS2 : (p :: S).Nodup := List.nodup_cons.mpr ⟨q, hS⟩
        have hlen := nodup_two (l2 := List.range xs.length) hS2 (fun v hv => by
          rcases List.mem_cons.mp hv with rfl | hv
          · exact List.mem_range.mpr h1
          · exact List.mem_range.mpr (hA v hv).1)
        rw [List.length_range, List.length_cons] at hlen
        have := ih (xs.set p e) (p :: S) d2 (fun z => hne (List.length_eq_zero_iff.mp (by have := congrArg List.length z; rw [List.length_set] at this; exact this))) (mFind_val h3) hS2 (fun v hv => by
          rcases List.mem_cons.mp hv with rfl | hv
          · exact ⟨by rw [List.length_set]; exact h1, xs, hd, by rw [List.length_set], hf, h6, fun e2 he => h9 e2 (by rw [getD_set_eq h1] at he; exact he)⟩
          · obtain ⟨b1, A, b2, b3, b4, b5, b6⟩ := hA v hv
            exact ⟨by rw [List.length_set]; exact b1, A, b2, by rw [List.length_set]; exact b3, b4, b5, fun e2 he => b6 e2 (by rw [getD_set_ne (fun z => q (by rw [← z]; exact hv))] at he; exact he)⟩)
        rw [List.length_set, List.length_cons] at this
        have h10 := sBe_le xs p h1
        have h11 : sMs xs = xs.length + xs.sum := rfl
        obtain ⟨k, hk⟩ : ∃ k, xs.length - S.length = k + 1 := ⟨xs.length - S.length - 1, by omega⟩
        rw [hk, Nat.succ_mul]
        rw [show xs.length - (S.length + 1) = k by omega] at this
        omega
    · rw [h1, h2]
      show sMs xs + 0 ≤ _
      have := tOnce_ge (xs.length - 1)
      omega
theorem tOnce_mono : ∀ {a b : Nat}, a ≤ b → tOnce a ≤ tOnce b := by
  intro a b h
  induction b with
  | zero => rw [Nat.le_zero.mp h]; exact Nat.le_refl _
  | succ b ih =>
    by_cases e : a = b + 1
    · rw [e]; exact Nat.le_refl _
    · exact Nat.le_trans (ih (by omega)) (Nat.le_add_left _ _)
theorem once_1676 {P : List mI} {c : Int32} (hO : uOnce P c) (n : Nat) {xs : List Nat} (hd : sDg xs) (hf : mFails P xs c = true) : mTr P c n xs ≤ 1676 := by
  by_cases h : xs = []
  · rw [h, mTr_nil]; exact Nat.zero_le _
  · have h1 := once_cost hO n xs [] hd h hf List.nodup_nil (fun p hp => by cases hp)
    have hl : 1 ≤ xs.length := List.length_pos_iff.mpr h
    obtain ⟨L, hL⟩ : ∃ L, xs.length = L + 1 := ⟨xs.length - 1, by omega⟩
    rw [hL] at h1
    have h2 : tOnce (L + 1) ≤ tOnce 8 := tOnce_mono (by have := hd.1; omega)
    have h3 : tOnce 8 = 1676 := rfl
    have h4 : tOnce (L + 1) = (L + 1) * (8 * (L + 1)) + (L + 1) + tOnce L := rfl
    simp only [List.length_nil, Nat.sub_zero, Nat.add_sub_cancel] at h1
    omega
/-- T1: one reading instruction, its register copied to no other -/
theorem T1 {P : List mI} {c : Int32} {ra : Nat} (hB : awB P c ≤ 1) (hR : pOne P) (hI : pInd P ra) : uOnce P c :=
  fun A B p e dA dB hl hp he fA nA fB nB fD => t1_key hB hR hI dA dB (by have := getD_le7 dB p; omega) hl hp fA nA fB nB fD
