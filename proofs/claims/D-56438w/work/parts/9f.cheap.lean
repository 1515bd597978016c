/-! ROOM 6: runs of a code go together but at forks open both ways; cheap codes *
-/
set_option maxRecDepth 100000
theorem rI_gP {P : List mI} {xs : List Nat} : ∀ {k : Nat} {s t : rC}, rI P xs k s = some t → t.1 < P.length → gP P k s.1 t.1
  | 0, s, t, h, _ => by cases h; rfl
  | k + 1, s, t, h, ht => by
    have h : (rS P xs s).bind (rI P xs k) = some t := h
    cases e : rS P xs s with
    | none => rw [e] at h; cases h
    | some s2 =>
      rw [e] at h
      have h : rI P xs k s2 = some t := h
      have h1 := gS_step e
      rcases Nat.lt_or_ge s2.1 P.length with q | q
      · rw [Nat.min_eq_left (Nat.le_of_lt q)] at h1
        exact ⟨s2.1, h1, rI_gP h ht⟩
      · exfalso
        cases k with
        | zero => cases h; omega
        | succ k =>
          have h : (rS P xs s2).bind (rI P xs k) = some t := h
          rw [show rS P xs s2 = none by unfold rS; exact if_neg (by omega)] at h
          cases h
/-- a run that fails with c, from a state on -/
def rT (P : List mI) (c : Int32) (xs : List Nat) (s : rC) (k : Nat) : Prop := ∃ t, rI P xs k s = some t ∧ rF P c t
theorem rT_gZ {P : List mI} {c : Int32} {xs : List Nat} {s : rC} {k : Nat} (h : rT P c xs s k) : gZ P c s.1 := by
  obtain ⟨t, h1, h2⟩ := h
  exact ⟨k, t.1, rI_gP h1 h2.1, h2⟩
theorem rT_lt {P : List mI} {c : Int32} {xs : List Nat} {s : rC} {k : Nat} (h : rT P c xs s k) : s.1 < P.length := by
  obtain ⟨t, h1, h2⟩ := h
  cases k with
  | zero => cases h1; exact h2.1
  | succ k =>
    rcases Nat.lt_or_ge s.1 P.length with q | q
    · exact q
    · have h1 : (rS P xs s).bind (rI P xs k) = some t := h1
      rw [show rS P xs s = none by unfold rS; exact if_neg (by omega)] at h1
      cases h1
theorem rT_zero {P : List mI} {c : Int32} {xs : List Nat} {s : rC} (h : rT P c xs s 0) : rF P c s := by
  obtain ⟨t, h1, h2⟩ := h
  cases h1
  exact h2
theorem rT_succ {P : List mI} {c : Int32} {xs : List Nat} {s : rC} {k : Nat} (h : rT P c xs s (k + 1)) : ∃ s2, rS P xs s = some s2 ∧ rT P c xs s2 k := by
  obtain ⟨t, h1, h2⟩ := h
  have h1 : (rS P xs s).bind (rI P xs k) = some t := h1
  cases e : rS P xs s with
  | none => rw [e] at h1; cases h1
  | some s2 => rw [e] at h1; exact ⟨s2, rfl, t, h1, h2⟩
theorem rT_cons {P : List mI} {c : Int32} {xs : List Nat} {s s2 : rC} {k : Nat} (h : rS P xs s = some s2) (h2 : rT P c xs s2 k) : rT P c xs s (k + 1) := by
  obtain ⟨t, h3, h4⟩ := h2
  refine ⟨t, ?_, h4⟩
  show (rS P xs s).bind (rI P xs k) = some t
  rw [h]
  exact h3
theorem rT_iff {P : List mI} {c : Int32} {xs : List Nat} : mFails P xs c = true ↔ ∃ n, n ≤ 63 ∧ rT P c xs rZ n := by
  rw [rF_iff]
  exact ⟨fun ⟨n, t, h1, h2⟩ => ⟨n, h1, t, h2⟩, fun ⟨n, h1, t, h2⟩ => ⟨n, t, h1, h2⟩⟩
theorem rT_pos {P : List mI} {c : Int32} {xs : List Nat} {s : rC} {k : Nat} (h : rT P c xs s k) (hn : ¬ rF P c s) : ∃ j, k = j + 1 := by
  cases k with
  | zero => exact absurd (rT_zero h) hn
  | succ k => exact ⟨k, rfl⟩
/-- a fork open to c both ways -/
def gK (P : List mI) (c : Int32) (u : Nat) : Prop := (gS P u).length = 2 ∧ ∀ v ∈ gS P u, gZ P c v
/-- elsewhere two runs go on together -/
theorem rS_same {P : List mI} {c : Int32} {xs ys : List Nat} {s t s2 t2 : rC} {k j : Nat} (e : s.1 = t.1) (hs : rS P xs s = some s2) (ht : rS P ys t = some t2) (h1 : rT P c xs s2 k) (h2 : rT P c ys t2 j) (hk : ¬ gK P c s.1) : s2.1 = t2.1 := by
  have a1 := gS_step hs
  have a2 := gS_step ht
  rw [Nat.min_eq_left (Nat.le_of_lt (rT_lt h1))] at a1
  rw [Nat.min_eq_left (Nat.le_of_lt (rT_lt h2)), ← e] at a2
  have hl := gS_len (P := P) (u := s.1)
  by_cases q : (gS P s.1).length = 2
  · match hg : gS P s.1, q with
    | [a, b], _ =>
      rw [hg] at a1 a2
      by_cases e2 : s2.1 = t2.1
      · exact e2
      · exfalso
        refine hk ⟨by rw [hg]; rfl, fun v hv => ?_⟩
        rw [hg] at hv
        have z1 := rT_gZ h1
        have z2 := rT_gZ h2
        simp only [List.mem_cons, List.not_mem_nil, or_false] at a1 a2 hv
        rcases a1 with a1 | a1 <;> rcases a2 with a2 | a2
        · exact absurd (a1.trans a2.symm) e2
        · rcases hv with rfl | rfl
          · rw [← a1]; exact z1
          · rw [← a2]; exact z2
        · rcases hv with rfl | rfl
          · rw [← a2]; exact z2
          · rw [← a1]; exact z1
        · exact absurd (a1.trans a2.symm) e2
  · match hg : gS P s.1, q with
    | [], _ => rw [hg] at a1; cases a1
    | [a], _ =>
      rw [hg] at a1 a2
      rw [List.mem_singleton.mp a1, List.mem_singleton.mp a2]
    | [a, b], q => exact absurd rfl q
    | a :: b :: d :: l, _ => rw [hg] at hl; simp at hl
/-- digits that a run does not come to -/
theorem rI_unread {P : List mI} {xs : List Nat} {j : Nat} (hj : j < xs.length) : ∀ {n : Nat} {s t : rC}, rI P xs n s = some t → t.2.2 ≤ j → rI P (xs.eraseIdx j) n s = some t ∧ s.2.2 ≤ t.2.2
  | 0, s, t, h, _ => by cases h; exact ⟨rfl, Nat.le_refl _⟩
  | n + 1, s, t, h, ht => by
    have h : (rS P xs s).bind (rI P xs n) = some t := h
    cases e : rS P xs s with
    | none => rw [e] at h; cases h
    | some s2 =>
      rw [e] at h
      obtain ⟨h1, h2⟩ := rI_unread hj (show rI P xs n s2 = some t from h) ht
      obtain ⟨r1, r2, r3, r4⟩ := rS_some e
      have h3 : s.2.2 ≤ s2.2.2 := by rw [r4]; unfold mRd; split <;> omega
      refine ⟨?_, by omega⟩
      have hr : mRegs (rIn P s) (xs.eraseIdx j) s.2.2 s.2.1 = mRegs (rIn P s) xs s.2.2 s.2.1 := by
        unfold mRegs
        by_cases q : (rIn P s).1 = 0
        · rw [if_pos q, if_pos q]
          have : s2.2.2 = s.2.2 + 1 := by rw [r4]; unfold mRd; rw [if_pos q]
          congr 1
          unfold mDig
          have e1 : (xs.eraseIdx j).length = xs.length - 1 := List.length_eraseIdx_of_lt hj
          rw [if_pos (by omega), if_pos (by omega), List.getD_eq_getElem?_getD, List.getD_eq_getElem?_getD, List.getElem?_eraseIdx_of_lt (by omega)]
        · rw [if_neg q, if_neg q]
      show (rS P (xs.eraseIdx j) s).bind (rI P (xs.eraseIdx j) n) = some t
      have : rS P (xs.eraseIdx j) s = rS P xs s := by unfold rS; rw [hr]
      rw [this, e]
      exact h1
/-- a code whose runs read at most r digits is cheap -/
theorem cheap_le {P : List mI} {c : Int32} {r : Nat} (h : ∀ xs, sDg xs → mFails P xs c = true → ∃ n t, n ≤ 63 ∧ rI P xs n rZ = some t ∧ rF P c t ∧ t.2.2 ≤ r) : ∀ (k : Nat) (xs : List Nat), sDg xs → mFails P xs c = true → 2 * mTr P c k xs ≤ 2 * (r + 1) * (xs.length - r) + 8 * r * (8 * r + 1) := by
  intro k
  induction k with
  | zero => intro xs _ _; rw [mTr_zero]; omega
  | succ k ih =>
    intro xs hd hf
    rcases Nat.lt_or_ge r xs.length with q | q
    · rw [mTr_succ]
      obtain ⟨n, t, n1, n2, n3, n4⟩ := h xs hd hf
      have hx : mFails P (xs.eraseIdx r) c = true := rF_iff.mpr ⟨n, t, n1, (rI_unread q n2 n4).1, n3⟩
      rcases shr_step P c xs with ⟨i, h1, h2, h3, h4⟩ | ⟨p, e, h1, h2, h3, h4, h5, -⟩ | ⟨h1, h2⟩
      · rw [h2, h3]
        have hi : i ≤ r := by
          rcases Nat.lt_or_ge r i with z | z
          · rw [h4 r z] at hx; cases hx
          · exact z
        have h5 := sRed hd (mFind_mem h2)
        have := ih (xs.eraseIdx i) h5.2 (mFind_val h2)
        rw [List.length_eraseIdx_of_lt h1] at this
        show 2 * (i + 1 + mTr P c k (xs.eraseIdx i)) ≤ _
        obtain ⟨m, hm⟩ : ∃ m, xs.length - r = m + 1 := ⟨xs.length - r - 1, by omega⟩
        rw [show xs.length - 1 - r = m by omega] at this
        rw [hm]
        have e9 := Nat.mul_succ (2 * (r + 1)) m
        rw [Nat.succ_eq_add_one] at e9
        omega
      · rw [h5 r q] at hx; cases hx
      · have := mFind_none h1 (xs.eraseIdx r) (by unfold redL delC; exact List.mem_append_left _ (List.mem_map.mpr ⟨r, by rw [List.drop_zero]; exact List.mem_range.mpr q, rfl⟩))
        rw [hx] at this; cases this
    · have h1 := mTr_le P c (k + 1) xs hd
      have h2 : sMs xs ≤ 8 * r := by
        have := sum_tk_le hd xs.length
        rw [List.take_length] at this
        unfold sMs
        omega
      have h3 : sMs xs * (sMs xs + 1) ≤ 8 * r * (8 * r + 1) := Nat.mul_le_mul h2 (by omega)
      omega
/-- the reading instructions -/
def gR (P : List mI) : Nat := sm (fun u => b1 ((P.getD u mI0).1 = 0)) P.length
/-- a run that comes to no address twice reads no more digits than there are reading instructions -/
theorem rd_le {P : List mI} {xs : List Nat} : ∀ (n : Nat) (t : rC), rI P xs n rZ = some t → (∀ i j s s2, i < j → j < n → rI P xs i rZ = some s → rI P xs j rZ = some s2 → s.1 ≠ s2.1) → ∃ l : List Nat, l.length = t.2.2 ∧ l.Nodup ∧ ∀ u ∈ l, (u < P.length ∧ (P.getD u mI0).1 = 0) ∧ ∃ i s, i < n ∧ rI P xs i rZ = some s ∧ s.1 = u := by
  intro n
  induction n with
  | zero => intro t h _; cases h; exact ⟨[], rfl, List.nodup_nil, fun u hu => by cases hu⟩
  | succ n ih =>
    intro t h hd
    rw [rI_succ] at h
    cases e : rI P xs n rZ with
    | none => rw [e] at h; cases h
    | some s =>
      rw [e] at h
      have h : rS P xs s = some t := h
      obtain ⟨l, l1, l2, l3⟩ := ih s e (fun i j s1 s2 h1 h2 => hd i j s1 s2 h1 (by omega))
      obtain ⟨r1, r2, r3, r4⟩ := rS_some h
      by_cases q : (rIn P s).1 = 0
      · refine ⟨s.1 :: l, by rw [List.length_cons, l1, r4]; unfold mRd; rw [if_pos q], List.nodup_cons.mpr ⟨fun z => ?_, l2⟩, fun u hu => ?_⟩
        · obtain ⟨-, i, s2, i1, i2, i3⟩ := l3 _ z
          exact hd i n s2 s i1 (by omega) i2 e i3
        · rcases List.mem_cons.mp hu with rfl | hu
          · exact ⟨⟨r1, q⟩, n, s, by omega, e, rfl⟩
          · obtain ⟨a, i, s2, i1, i2, i3⟩ := l3 u hu
            exact ⟨a, i, s2, by omega, i2, i3⟩
      · refine ⟨l, by rw [l1, r4]; unfold mRd; rw [if_neg q], l2, fun u hu => ?_⟩
        obtain ⟨a, i, s2, i1, i2, i3⟩ := l3 u hu
        exact ⟨a, i, s2, by omega, i2, i3⟩
theorem rI_mid {P : List mI} {c : Int32} {xs : List Nat} {n i : Nat} {s t : rC} (h : rI P xs n rZ = some t) (hF : rF P c t) (hi : i ≤ n) (hs : rI P xs i rZ = some s) : rT P c xs s (n - i) := by
  obtain ⟨k, rfl⟩ : ∃ k, n = i + k := ⟨n - i, by omega⟩
  rw [rI_add, hs] at h
  rw [Nat.add_sub_cancel_left]
  exact ⟨t, h, hF⟩
/-- runs from the same address go on together while there is no fork open both ways -/
theorem rT_det {P : List mI} {c : Int32} {xs ys : List Nat} (hk : ∀ u, ¬ gK P c u) : ∀ (k j : Nat) (s t : rC), s.1 = t.1 → rT P c xs s k → rT P c ys t j → k = j := by
  intro k
  induction k with
  | zero =>
    intro j s t e h1 h2
    cases j with
    | zero => rfl
    | succ j =>
      obtain ⟨t2, h3, -⟩ := rT_succ h2
      have hF := rT_zero h1
      have : rF P c t := ⟨by rw [← e]; exact hF.1, by unfold rIn; rw [← e]; exact hF.2.1, by unfold rIn; rw [← e]; exact hF.2.2⟩
      rw [rF_stop this] at h3
      cases h3
  | succ k ih =>
    intro j s t e h1 h2
    obtain ⟨s2, h3, h4⟩ := rT_succ h1
    cases j with
    | zero =>
      have hF := rT_zero h2
      have : rF P c s := ⟨by rw [e]; exact hF.1, by unfold rIn; rw [e]; exact hF.2.1, by unfold rIn; rw [e]; exact hF.2.2⟩
      rw [rF_stop this] at h3
      cases h3
    | succ j =>
      obtain ⟨t2, h5, h6⟩ := rT_succ h2
      rw [ih j s2 t2 (rS_same e h3 h5 h4 h6 (hk _)) h4 h6]
/-- no fork open both ways: cheap -/
theorem cheap_0 {P : List mI} {c : Int32} (hk : ∀ u, ¬ gK P c u) {xs : List Nat} (hf : mFails P xs c = true) : ∃ n t, n ≤ 63 ∧ rI P xs n rZ = some t ∧ rF P c t ∧ t.2.2 ≤ gR P := by
  obtain ⟨n, t, n1, n2, n3⟩ := rF_iff.mp hf
  refine ⟨n, t, n1, n2, n3, ?_⟩
  obtain ⟨l, l1, l2, l3⟩ := rd_le n t n2 (fun i j s s2 h1 h2 h3 h4 e => by
    have a1 := rI_mid n2 n3 (by omega) h3
    have a2 := rI_mid n2 n3 (by omega) h4
    have := rT_det hk _ _ s s2 e a1 a2
    omega)
  rw [← l1]
  exact sm_nodup l2 (fun u hu => (l3 u hu).1)
theorem gK_of {P : List mI} {c : Int32} (h : gB P c = 0) : ∀ u, ¬ gK P c u := by
  intro u hu
  have hl : u < P.length + 1 := by
    rcases Nat.lt_or_ge u (P.length + 1) with q | q
    · exact q
    · have := hu.1
      unfold gS at this
      rw [if_neg (by omega)] at this
      cases this
  have h1 := sm_one (f := fun u => b1 ((gS P u).length = 2 ∧ ∀ v ∈ gS P u, zB P c v = true)) hl
  have h2 : b1 ((gS P u).length = 2 ∧ ∀ v ∈ gS P u, zB P c v = true) = 1 := b1_t ⟨hu.1, fun v hv => zB_t.mpr (hu.2 v hv)⟩
  unfold gB at h
  have h1 : b1 ((gS P u).length = 2 ∧ ∀ v ∈ gS P u, zB P c v = true) ≤ sm (fun u => b1 ((gS P u).length = 2 ∧ ∀ v ∈ gS P u, zB P c v = true)) (P.length + 1) := h1
  omega
