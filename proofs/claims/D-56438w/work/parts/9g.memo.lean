/-! ROOM 7: a digit that changes nothing is deleted; programs without a memory *
-/
set_option maxRecDepth 100000
/-- every long input that fails has an early deletion that fails: cheap -/
theorem cheap_gen {P : List mI} {c : Int32} {r : Nat} (h : ∀ xs, sDg xs → mFails P xs c = true → r < xs.length → ∃ i, i ≤ r ∧ mFails P (xs.eraseIdx i) c = true) : ∀ (k : Nat) (xs : List Nat), sDg xs → mFails P xs c = true → 2 * mTr P c k xs ≤ 2 * (r + 1) * (xs.length - r) + 8 * r * (8 * r + 1) := by
  intro k
  induction k with
  | zero => intro xs _ _; rw [mTr_zero]; omega
  | succ k ih =>
    intro xs hd hf
    rcases Nat.lt_or_ge r xs.length with q | q
    · rw [mTr_succ]
      obtain ⟨i0, hi0, hx⟩ := h xs hd hf q
      rcases shr_step P c xs with ⟨i, h1, h2, h3, h4⟩ | ⟨p, e, h1, h2, h3, h4, h5, -⟩ | ⟨h1, h2⟩
      · rw [h2, h3]
        have hi : i ≤ r := by
          rcases Nat.lt_or_ge i0 i with z | z
          · rw [h4 i0 z] at hx; cases hx
          · omega
        have h5 := sRed hd (mFind_mem h2)
        have := ih (xs.eraseIdx i) h5.2 (mFind_val h2)
        rw [List.length_eraseIdx_of_lt h1] at this
        show 2 * (i + 1 + mTr P c k (xs.eraseIdx i)) ≤ _
        obtain ⟨m, hm⟩ : ∃ m, xs.length - r = m + 1 := ⟨xs.length - r - 1, by omega⟩
        rw [show xs.length - 1 - r = m by omega] at this
        rw [hm]
        have e9 := Nat.mul_succ (2 * (r + 1)) m
        rw [Nat.succ_eq_add_one] at e9
        omega
      · rw [h5 i0 (by omega)] at hx; cases hx
      · have := mFind_none h1 (xs.eraseIdx i0) (by unfold redL delC; exact List.mem_append_left _ (List.mem_map.mpr ⟨i0, by rw [List.drop_zero]; exact List.mem_range.mpr (by omega), rfl⟩))
        rw [hx] at this; cases this
    · have h1 := mTr_le P c (k + 1) xs hd
      have h2 : sMs xs ≤ 8 * r := by
        have := sum_tk_le hd xs.length
        rw [List.take_length] at this
        unfold sMs
        omega
      have h3 : sMs xs * (sMs xs + 1) ≤ 8 * r * (8 * r + 1) := Nat.mul_le_mul h2 (by omega)
      omega
theorem mDig_del {xs : List Nat} {j rd : Nat} (hj : j < xs.length) (h : j ≤ rd) : mDig (xs.eraseIdx j) rd = mDig xs (rd + 1) := by
  unfold mDig
  rw [List.length_eraseIdx_of_lt hj]
  by_cases q : rd < xs.length - 1
  · rw [if_pos q, if_pos (by omega), List.getD_eq_getElem?_getD, List.getD_eq_getElem?_getD, List.getElem?_eraseIdx_of_ge (by omega)]
  · rw [if_neg q, if_neg (by omega)]
/-- behind a deleted digit all goes on alike -/
theorem rI_shift {P : List mI} {xs : List Nat} {j : Nat} (hj : j < xs.length) : ∀ {k : Nat} {a : Nat} {g : Nat → Int32} {rd : Nat} {t : rC}, j ≤ rd → rI P xs k (a, g, rd + 1) = some t → rI P (xs.eraseIdx j) k (a, g, rd) = some (t.1, t.2.1, t.2.2 - 1)
  | 0, a, g, rd, t, _, h => by cases h; rfl
  | k + 1, a, g, rd, t, hr, h => by
    have h : (rS P xs (a, g, rd + 1)).bind (rI P xs k) = some t := h
    cases e : rS P xs (a, g, rd + 1) with
    | none => rw [e] at h; cases h
    | some s2 =>
      rw [e] at h
      have h : rI P xs k s2 = some t := h
      have e2 : rS P (xs.eraseIdx j) (a, g, rd) = some (s2.1, s2.2.1, s2.2.2 - 1) ∧ 1 ≤ s2.2.2 ∧ j ≤ s2.2.2 - 1 := by
        unfold rS at e ⊢
        split at e
        · rename_i q
          rw [if_pos q]
          have hm : mRegs (rIn P (a, g, rd)) (xs.eraseIdx j) rd g = mRegs (rIn P (a, g, rd + 1)) xs (rd + 1) g := by
            unfold mRegs rIn
            rw [mDig_del hj hr]
          have hd : mRd (rIn P (a, g, rd)) rd + 1 = mRd (rIn P (a, g, rd + 1)) (rd + 1) := by
            unfold mRd rIn
            split <;> rfl
          obtain ⟨nx, h1, h2⟩ := Option.map_eq_some_iff.mp e
          subst h2
          refine ⟨?_, ?_, ?_⟩
          · refine Option.map_eq_some_iff.mpr ⟨nx, ?_, ?_⟩
            · show mNext (rIn P (a, g, rd)) (mRegs (rIn P (a, g, rd)) (xs.eraseIdx j) rd g) a = some nx
              rw [hm]; exact h1
            · show (nx, mRegs (rIn P (a, g, rd)) (xs.eraseIdx j) rd g, mRd (rIn P (a, g, rd)) rd) = (nx, mRegs (rIn P (a, g, rd + 1)) xs (rd + 1) g, mRd (rIn P (a, g, rd + 1)) (rd + 1) - 1)
              rw [hm, ← hd]
              rfl
          · show 1 ≤ mRd (rIn P (a, g, rd + 1)) (rd + 1)
            omega
          · show j ≤ mRd (rIn P (a, g, rd + 1)) (rd + 1) - 1
            have : rd ≤ mRd (rIn P (a, g, rd)) rd := by unfold mRd; split <;> omega
            omega
        · cases e
      obtain ⟨e2, e3, e4⟩ := e2
      show (rS P (xs.eraseIdx j) (a, g, rd)).bind (rI P (xs.eraseIdx j) k) = _
      rw [e2]
      exact rI_shift hj e4 (show rI P xs k (s2.1, s2.2.1, s2.2.2 - 1 + 1) = some t by rw [Nat.sub_add_cancel e3]; exact h)
/-- a digit between two like states at the same reading instruction is deleted -/
theorem del_same {P : List mI} {c : Int32} {xs : List Nat} {n m m2 : Nat} {t s s2 : rC} (hn : n ≤ 63) (h : rI P xs n rZ = some t) (hF : rF P c t) (hm : rI P xs m rZ = some s) (hm2 : rI P xs m2 rZ = some s2) (hlt : m < m2) (hle : m2 ≤ n) (he : s.1 = s2.1) (hop : (rIn P s).1 = 0) (hrd : s2.2.2 = s.2.2 + 1) (hl : s.2.2 < xs.length) (hg : ∀ r, r ≠ (rIn P s).2.1 → s.2.1 r = s2.2.1 r) : mFails P (xs.eraseIdx s.2.2) c = true := by
  have h1 := (rI_unread hl hm (Nat.le_refl _)).1
  have hin : rIn P s2 = rIn P s := by unfold rIn; rw [he]
  obtain ⟨k, rfl⟩ : ∃ k, n = m2 + k := ⟨n - m2, by omega⟩
  rw [rI_add, hm2] at h
  have h : rI P xs k s2 = some t := h
  cases k with
  | zero =>
    cases h
    have := hF.2.1
    rw [hin, hop] at this
    cases this
  | succ k =>
    have h : (rS P xs s2).bind (rI P xs k) = some t := h
    cases e : rS P xs s2 with
    | none => rw [e] at h; cases h
    | some u =>
      rw [e] at h
      have h : rI P xs k u = some t := h
      obtain ⟨u1, u2, u3, u4⟩ := rS_some e
      have hreg : mRegs (rIn P s) (xs.eraseIdx s.2.2) s.2.2 s.2.1 = u.2.1 := by
        rw [u3, hin, hrd]
        unfold mRegs
        rw [if_pos hop, if_pos hop, mDig_del hl (Nat.le_refl _)]
        funext r
        unfold upd
        by_cases q : r = (rIn P s).2.1
        · rw [if_pos q, if_pos q]
        · rw [if_neg q, if_neg q]; exact hg r q
      have hu4 : u.2.2 = s.2.2 + 1 + 1 := by rw [u4, hin]; unfold mRd; rw [if_pos hop, hrd]
      have e2 : rS P (xs.eraseIdx s.2.2) s = some (u.1, u.2.1, s.2.2 + 1) := by
        unfold rS
        rw [if_pos (by rw [he]; exact u1), hreg]
        rw [hin, ← he] at u2
        rw [u2]
        show some (u.1, u.2.1, mRd (rIn P s) s.2.2) = _
        unfold mRd
        rw [if_pos hop]
      have h3 := rI_shift (P := P) hl (k := k) (a := u.1) (g := u.2.1) (rd := s.2.2 + 1) (t := t) (by omega) (by rw [← hu4]; exact h)
      refine rF_iff.mpr ⟨m + (k + 1), (t.1, t.2.1, t.2.2 - 1), by omega, ?_, ?_⟩
      · rw [rI_add, h1]
        show (rS P (xs.eraseIdx s.2.2) s).bind (rI P (xs.eraseIdx s.2.2) k) = _
        rw [e2]
        exact h3
      · exact hF
