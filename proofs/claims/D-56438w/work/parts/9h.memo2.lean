/-! ROOM 8: when digits are read; one reading instruction and no other writing one *
-/
set_option maxRecDepth 100000
theorem rd_step {P : List mI} {xs : List Nat} {s t : rC} (h : rS P xs s = some t) : t.2.2 = if (rIn P s).1 = 0 then s.2.2 + 1 else s.2.2 := by
  rw [(rS_some h).2.2.2]; rfl
theorem rd_mono {P : List mI} {xs : List Nat} : ∀ {n : Nat} {s t : rC}, rI P xs n s = some t → s.2.2 ≤ t.2.2
  | 0, s, t, h => by cases h; exact Nat.le_refl _
  | n + 1, s, t, h => by
    have h : (rS P xs s).bind (rI P xs n) = some t := h
    cases e : rS P xs s with
    | none => rw [e] at h; cases h
    | some s2 =>
      rw [e] at h
      have h1 := rd_mono (show rI P xs n s2 = some t from h)
      have h2 := rd_step e
      split at h2 <;> omega
/-- the j-th digit is read at some time -/
theorem rd_at {P : List mI} {xs : List Nat} {j : Nat} : ∀ {n : Nat} {s t : rC}, rI P xs n s = some t → s.2.2 ≤ j → j < t.2.2 → ∃ m u, m < n ∧ rI P xs m s = some u ∧ u.1 < P.length ∧ (rIn P u).1 = 0 ∧ u.2.2 = j
  | 0, s, t, h, h1, h2 => by cases h; omega
  | n + 1, s, t, h, h1, h2 => by
    have h : (rS P xs s).bind (rI P xs n) = some t := h
    cases e : rS P xs s with
    | none => rw [e] at h; cases h
    | some s2 =>
      rw [e] at h
      have h3 := rd_step e
      by_cases q : (rIn P s).1 = 0 ∧ s.2.2 = j
      · exact ⟨0, s, by omega, rfl, (rS_some e).1, q.1, q.2⟩
      · have h4 : s2.2.2 ≤ j := by
          split at h3
          · rename_i q0
            have : s.2.2 ≠ j := fun z => q ⟨q0, z⟩
            omega
          · omega
        obtain ⟨m, u, u1, u2, u3⟩ := rd_at (show rI P xs n s2 = some t from h) h4 h2
        refine ⟨m + 1, u, by omega, ?_, u3⟩
        show (rS P xs s).bind (rI P xs m) = some u
        rw [e]
        exact u2
theorem rI_lt {P : List mI} {xs : List Nat} {m m2 : Nat} {s s2 : rC} (h : rI P xs m rZ = some s) (h2 : rI P xs m2 rZ = some s2) (hr : s.2.2 < s2.2.2) : m < m2 := by
  rcases Nat.lt_or_ge m m2 with q | q
  · exact q
  · exfalso
    obtain ⟨k, rfl⟩ : ∃ k, m = m2 + k := ⟨m - m2, by omega⟩
    rw [rI_add, h2] at h
    have := rd_mono (show rI P xs k s2 = some s from h)
    omega
/-- a digit is deleted if the states at its reading and at the next one are alike -/
theorem del_like {P : List mI} {c : Int32} {xs : List Nat} {n j : Nat} {t : rC} (hn : n ≤ 63) (h : rI P xs n rZ = some t) (hF : rF P c t) (hj : j + 1 < t.2.2) (hl : j < xs.length)
    (hs : ∀ m m2 s s2, rI P xs m rZ = some s → rI P xs m2 rZ = some s2 → m < m2 → m2 < n → (rIn P s).1 = 0 → (rIn P s2).1 = 0 → s.1 < P.length → s2.1 < P.length → s.2.2 = j → s2.2.2 = j + 1 → s.1 = s2.1 ∧ ∀ r, r ≠ (rIn P s).2.1 → s.2.1 r = s2.2.1 r) : mFails P (xs.eraseIdx j) c = true := by
  obtain ⟨m, s, s1, s2, s3, s4, s5⟩ := rd_at (j := j) h (Nat.zero_le _) (by omega)
  obtain ⟨m2, u, u1, u2, u3, u4, u5⟩ := rd_at (j := j + 1) h (Nat.zero_le _) hj
  have hlt := rI_lt s2 u2 (by omega)
  obtain ⟨a, b⟩ := hs m m2 s u s2 u2 hlt u1 s4 u4 s3 u3 s5 u5
  have := del_same hn h hF s2 u2 hlt (by omega) a s4 (by omega) (by omega) b
  rw [s5] at this
  exact this
/-- no writing instruction but one that reads -/
theorem memo_1 {P : List mI} {c : Int32} (hw : ∀ u, u < P.length → (P.getD u mI0).1 ≠ 1 ∧ (P.getD u mI0).1 ≠ 2 ∧ (P.getD u mI0).1 ≠ 3) (hu : ∀ u v, u < P.length → v < P.length → (P.getD u mI0).1 = 0 → (P.getD v mI0).1 = 0 → u = v) :
    ∀ xs, sDg xs → mFails P xs c = true → 1 < xs.length → ∃ i, i ≤ 1 ∧ mFails P (xs.eraseIdx i) c = true := by
  intro xs _ hf hl
  obtain ⟨n, t, n1, n2, n3⟩ := rF_iff.mp hf
  rcases Nat.lt_or_ge 1 t.2.2 with q | q
  · refine ⟨0, Nat.zero_le _, del_like n1 n2 n3 q (by omega) (fun m m2 s s2 h1 h2 h3 h4 h5 h6 h7 h8 h9 h10 => ?_)⟩
    have he : s.1 = s2.1 := hu s.1 s2.1 h7 h8 h5 h6
    refine ⟨he, fun r hr => ?_⟩
    have hz : ∀ (k : Nat) (v : rC), rI P xs k rZ = some v → v.2.1 r = 0 := by
      intro k
      induction k with
      | zero => intro v hv; cases hv; rfl
      | succ k ih =>
        intro v hv
        rw [rI_succ] at hv
        cases e : rI P xs k rZ with
        | none => rw [e] at hv; cases hv
        | some w =>
          rw [e] at hv
          obtain ⟨r1, r2, r3, r4⟩ := rS_some (show rS P xs w = some v from hv)
          rw [r3]
          obtain ⟨a1, a2, a3⟩ : (rIn P w).1 ≠ 1 ∧ (rIn P w).1 ≠ 2 ∧ (rIn P w).1 ≠ 3 := hw w.1 r1
          unfold mRegs
          by_cases q0 : (rIn P w).1 = 0
          · rw [if_pos q0]
            have : w.1 = s.1 := hu w.1 s.1 r1 h7 q0 h5
            unfold upd
            rw [if_neg (by unfold rIn at hr ⊢; rw [this]; exact hr)]
            exact ih w e
          · rw [if_neg q0, if_neg a1, if_neg a2, if_neg a3]
            exact ih w e
    rw [hz m s h1, hz m2 s2 h2]
  · exact ⟨1, Nat.le_refl _, rF_iff.mpr ⟨n, t, n1, (rI_unread hl n2 q).1, n3⟩⟩
