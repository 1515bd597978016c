/-! ROOM 9: sums of the digit read: a digit 0 is deleted *
-/
set_option maxRecDepth 100000
/-- between two readings nothing is read -/
theorem rd_between {P : List mI} {xs : List Nat} {m m2 k : Nat} {s s2 u : rC} (h : rI P xs m rZ = some s) (h2 : rI P xs m2 rZ = some s2) (hu : rI P xs k rZ = some u) (hs : (rIn P s).1 = 0) (hr : s2.2.2 = s.2.2 + 1) (h1 : m < k) (h3 : k ≤ m2) : u.2.2 = s.2.2 + 1 ∧ (k < m2 → (rIn P u).1 ≠ 0) := by
  obtain ⟨a, rfl⟩ : ∃ a, k = m + 1 + a := ⟨k - (m + 1), by omega⟩
  obtain ⟨b, rfl⟩ : ∃ b, m2 = m + 1 + a + b := ⟨m2 - (m + 1 + a), by omega⟩
  have e1 : ∃ v, rI P xs (m + 1) rZ = some v := by
    cases e : rI P xs (m + 1) rZ with
    | some v => exact ⟨v, rfl⟩
    | none => rw [rI_add, e] at hu; cases hu
  obtain ⟨v, hv⟩ := e1
  have hv2 := hv
  rw [rI_succ, h] at hv2
  have hv3 := rd_step (show rS P xs s = some v from hv2)
  rw [if_pos hs] at hv3
  rw [rI_add, hv] at hu
  have q1 := rd_mono (show rI P xs a v = some u from hu)
  have hu2 : rI P xs (m + 1 + a) rZ = some u := by rw [rI_add, hv]; exact hu
  rw [rI_add, hu2] at h2
  have q2 := rd_mono (show rI P xs b u = some s2 from h2)
  refine ⟨by omega, fun hb z => ?_⟩
  obtain ⟨b, rfl⟩ : ∃ b2, b = b2 + 1 := ⟨b - 1, by omega⟩
  have h2 : (rS P xs u).bind (rI P xs b) = some s2 := h2
  cases e : rS P xs u with
  | none => rw [e] at h2; cases h2
  | some w =>
    rw [e] at h2
    have h4 := rd_step e
    rw [if_pos z] at h4
    have q3 := rd_mono (show rI P xs b w = some s2 from h2)
    omega
/-- one reading instruction, into ra; else only sums of ra into others -/
def pSum (P : List mI) (ra : Nat) : Prop := (∀ u, u < P.length → (P.getD u mI0).1 ≠ 1 ∧ (P.getD u mI0).1 ≠ 2 ∧ ((P.getD u mI0).1 = 3 → (P.getD u mI0).2.2.2 = ra) ∧ ((P.getD u mI0).1 = 0 → (P.getD u mI0).2.1 = ra)) ∧ ∀ u v, u < P.length → v < P.length → (P.getD u mI0).1 = 0 → (P.getD v mI0).1 = 0 → u = v
theorem zero_del {P : List mI} {c : Int32} {ra : Nat} (hP : pSum P ra) {xs : List Nat} {j : Nat} (hf : mFails P xs c = true) (hj : j + 1 < xs.length) (h0 : xs.getD j 0 = 0) : ∃ i, i ≤ j + 1 ∧ mFails P (xs.eraseIdx i) c = true := by
  obtain ⟨n, t, n1, n2, n3⟩ := rF_iff.mp hf
  rcases Nat.lt_or_ge (j + 1) t.2.2 with q | q
  · refine ⟨j, by omega, del_like n1 n2 n3 q (by omega) (fun m m2 s s2 h1 h2 h3 h4 h5 h6 h7 h8 h9 h10 => ?_)⟩
    refine ⟨hP.2 _ _ h7 h8 h5 h6, fun r hr => ?_⟩
    have hra : (rIn P s).2.1 = ra := (hP.1 _ h7).2.2.2 h5
    rw [hra] at hr
    -- behind the reading: ra holds 0, all else stays
    have hk : ∀ (k : Nat) (v : rC), m + 1 + k ≤ m2 → rI P xs (m + 1 + k) rZ = some v → v.2.1 ra = 0 ∧ v.2.1 r = s.2.1 r := by
      intro k
      induction k with
      | zero =>
        intro v _ hv
        rw [Nat.add_zero, rI_succ, h1] at hv
        obtain ⟨-, -, r3, -⟩ := rS_some (show rS P xs s = some v from hv)
        rw [r3]
        unfold mRegs
        rw [if_pos h5, hra, h9]
        have hd : mDig xs j = 0 := by
          unfold mDig
          rw [if_pos (by omega), h0]
          rfl
        unfold upd
        exact ⟨by rw [if_pos rfl]; exact hd, by rw [if_neg hr]⟩
      | succ k ih =>
        intro v hle hv
        rw [show m + 1 + (k + 1) = (m + 1 + k) + 1 by omega, rI_succ] at hv
        cases e : rI P xs (m + 1 + k) rZ with
        | none => rw [e] at hv; cases hv
        | some w =>
          rw [e] at hv
          obtain ⟨i1, i2⟩ := ih w (by omega) e
          obtain ⟨r1, -, r3, -⟩ := rS_some (show rS P xs w = some v from hv)
          have hb := (rd_between h1 h2 e h5 (by omega) (by omega) (by omega)).2 (by omega)
          obtain ⟨a1, a2, a3, -⟩ := hP.1 w.1 r1
          rw [r3]
          unfold mRegs
          rw [if_neg hb, if_neg (show (rIn P w).1 ≠ 1 from a1), if_neg (show (rIn P w).1 ≠ 2 from a2)]
          by_cases q3 : (rIn P w).1 = 3
          · rw [if_pos q3]
            have b2 : (rIn P w).2.2.2 = ra := a3 q3
            unfold upd
            refine ⟨?_, ?_⟩
            · by_cases q4 : ra = (rIn P w).2.1
              · rw [if_pos q4, b2, ← q4, i1, Int32.add_zero]
              · rw [if_neg q4]; exact i1
            by_cases q4 : r = (rIn P w).2.1
            · rw [if_pos q4, b2, i1, ← q4, Int32.add_zero]; exact i2
            · rw [if_neg q4]; exact i2
          · rw [if_neg q3]; exact ⟨i1, i2⟩
    obtain ⟨k, hk2⟩ : ∃ k, m2 = m + 1 + k := ⟨m2 - (m + 1), by omega⟩
    exact (hk k s2 (by omega) (by rw [← hk2]; exact h2)).2.symm
  · exact ⟨j + 1, Nat.le_refl _, rF_iff.mpr ⟨n, t, n1, (rI_unread hj n2 q).1, n3⟩⟩
