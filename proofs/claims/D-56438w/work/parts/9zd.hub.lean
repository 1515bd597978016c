/-! ROOM 30: several reading instructions: from the fork to the fork *
-/
set_option maxRecDepth 100000
theorem first_of {p : Nat → Prop} {a n : Nat} (h : a ≤ n) (hp : p n) : ∃ k, a ≤ k ∧ k ≤ n ∧ p k ∧ ∀ j, a ≤ j → j < k → ¬ p j := by
  obtain ⟨m, h1, h2⟩ := min_first (p := fun k => a ≤ k ∧ p k) (n := n) ⟨h, hp⟩
  refine ⟨m, h1.1, ?_, h1.2, fun j h3 h4 h5 => h2 j h4 ⟨h3, h5⟩⟩
  rcases Nat.lt_or_ge n m with q | q
  · exact absurd ⟨h, hp⟩ (h2 n q)
  · exact q
/-- a run from the fork to the fork, with a reading between -/
def uHub (P : List mI) (c : Int32) (X : List Nat) (n i i2 : Nat) : Prop := awT P c X 0 rZ n ∧ i < i2 ∧ i2 ≤ n ∧ isU P c X i ∧ isU P c X i2 ∧ (∀ k, i < k → k < i2 → ¬ isU P c X k) ∧ ∃ k, i < k ∧ k < i2 ∧ isR P X k
theorem uHub_of {P : List mI} {c : Int32} {y : List Nat} {n ta tb r : Nat} (hy : awT P c y 0 rZ n) (h1 : ta < tb) (h2 : tb ≤ n) (ra : nd P y ta r) (rb : nd P y tb r) (hr : r < P.length ∧ (P.getD r mI0).1 = 0) : ∃ i i2, uHub P c y n i i2 := by
  have hRa : isR P y ta := ⟨r, ra, hr.1, hr.2⟩
  have hRb : isR P y tb := ⟨r, rb, hr.1, hr.2⟩
  obtain ⟨j, u, j1, j2, j3, j4⟩ := tour_one (⟨hy, h1, h2, r, ra, rb⟩ : aTour P c y n ta tb)
  obtain ⟨k, k1, k2, k3, k4⟩ := first_of (p := isU P c y) j1 ⟨u, j3, j4⟩
  have hf := aw_forced hy hy (a := tb) (a2 := ta) h2 ⟨r, rb, ra⟩ (k - ta) (by omega) (fun t x ht x1 xK => k4 (ta + t) (by omega) (by omega) ⟨x, x1, xK⟩)
  obtain ⟨f1, v, f2, f3⟩ := hf
  rw [show ta + (k - ta) = k by omega] at f3
  have hU : isU P c y (tb + (k - ta)) := by
    obtain ⟨w, w1, w2⟩ := k3
    have := nd_fun f3 w1
    subst this
    exact ⟨v, f2, w2⟩
  obtain ⟨i2, b1, b2, b3, b4⟩ := first_of (p := isU P c y) (a := tb) (show tb ≤ tb + (k - ta) by omega) hU
  obtain ⟨i, a1, a2, a3, a4⟩ := last_of (p := isU P c y) (a := ta) tb ⟨k, k1, by omega, k3⟩
  have hne : i2 ≠ tb := by
    rintro rfl
    exact isU_R b3 hRb
  refine ⟨i, i2, hy, by omega, by omega, a3, b3, fun t h3 h4 => ?_, tb, by omega, by omega, hRb⟩
  rcases Nat.lt_or_ge t tb with q | q
  · exact a4 t h3 q
  · exact b4 t q h4
/-- between two comings to the fork something is read -/
theorem u_reads {P : List mI} {c : Int32} (hB : awB P c ≤ 1) {X y : List Nat} {n i i2 n2 j j2 : Nat} (h : uHub P c X n i i2) (hy : awT P c y 0 rZ n2) (h1 : isU P c y j) (h2 : isU P c y j2) (hj : j < j2) (hj2 : j2 ≤ n2) {s t : rC} (hs : rI P y j rZ = some s) (ht : rI P y j2 rZ = some t) : s.2.2 < t.2.2 := by
  obtain ⟨x1, x2, x3, x4, x5, x6, k, k1, k2, k3⟩ := h
  obtain ⟨j3, b1, b2, b3, b4⟩ := first_of (p := isU P c y) (a := j + 1) hj h2
  obtain ⟨u, u1, u2⟩ := h1
  obtain ⟨v, v1, v2⟩ := b3
  have := awK_one hB u2 v2
  subst this
  obtain ⟨w, w1, w2⟩ := x4
  have := awK_one hB u2 w2
  subst this
  obtain ⟨w', w3, w4⟩ := x5
  have := awK_one hB u2 w4
  subst this
  obtain ⟨p, hp⟩ := nd_some hy (show j + 1 ≤ n2 by omega)
  obtain ⟨q, hq⟩ := nd_some x1 (show i + 1 ≤ n by omega)
  have := tour_two hB (i := j) (j := i) (⟨hy, b1, by omega, u, u1, v1⟩ : aTour P c y n2 j j3) (⟨x1, x2, x3, u, w1, w3⟩ : aTour P c X n i i2) (Nat.le_refl _) b1 (Nat.le_refl _) x2 u2 u1 w1 hp hq
  subst this
  have hf := fun t (ht : i + 1 + t ≤ i2) => aw_forced hy x1 (a := j + 1) (a2 := i + 1) (by omega) ⟨p, hp, hq⟩ t (by omega) (fun t2 z h1 z1 zK => x6 (i + 1 + t2) (by omega) (by omega) ⟨z, z1, zK⟩)
  obtain ⟨f1, r, f2, f3⟩ := hf (k - (i + 1)) (by omega)
  rw [show i + 1 + (k - (i + 1)) = k by omega] at f3
  obtain ⟨r2, g1, g2, g3⟩ := k3
  have := nd_fun f3 g1
  subst this
  -- the reading comes ahead of j3
  have hlt : j + 1 + (k - (i + 1)) < j2 := by
    rcases Nat.lt_or_ge (j + 1 + (k - (i + 1))) j3 with q | q
    · omega
    · exfalso
      obtain ⟨-, z, z1, z2⟩ := hf (j3 - (j + 1)) (by omega)
      rw [show j + 1 + (j3 - (j + 1)) = j3 by omega] at z1
      have := nd_fun z1 v1
      subst this
      rcases Nat.eq_zero_or_pos (k - (i + 1) - (j3 - (j + 1))) with e | e
      · have e2 : i + 1 + (j3 - (j + 1)) = k := by omega
        rw [e2] at z2
        have := nd_fun z2 g1
        subst this
        have := awK_fork u2
        omega
      · exact x6 (i + 1 + (j3 - (j + 1))) (by omega) (by omega) ⟨z, z2, u2⟩
  obtain ⟨sr, c1, c2⟩ := f2
  have a1 := rd_pre ht c1 (by unfold rIn; rw [c2]; exact g3) hlt
  have a2 : s.2.2 ≤ sr.2.2 := by
    have h3 := c1
    rw [show j + 1 + (k - (i + 1)) = j + (1 + (k - (i + 1))) by omega, rI_add, hs] at h3
    exact rd_mono h3
  omega
/-- the other way: the fork comes no more -/
theorem u_exit {P : List mI} {c : Int32} (hB : awB P c ≤ 1) {X y : List Nat} {n i i2 n2 j v w : Nat} (h : uHub P c X n i i2) (hy : awT P c y 0 rZ n2) (hju : isU P c y j) (h1 : nd P y (j + 1) v) (h2 : nd P X (i + 1) w) (hne : v ≠ w) : ∀ t, j < t → t ≤ n2 → ¬ isU P c y t := by
  intro t ht ht2 ⟨z, z1, z2⟩
  obtain ⟨x1, x2, x3, ⟨u, u1, u2⟩, ⟨u', u3, u4⟩, -⟩ := h
  have := awK_one hB u2 u4
  subst this
  have := awK_one hB u2 z2
  subst this
  obtain ⟨x, y1, y2⟩ := hju
  have := awK_one hB u2 y2
  subst this
  exact hne (tour_two hB (i := j) (j := i) (⟨hy, ht, ht2, u, y1, z1⟩ : aTour P c y n2 j t) (⟨x1, x2, x3, u, u1, u3⟩ : aTour P c X n i i2) (Nat.le_refl _) ht (Nat.le_refl _) x2 u2 y1 u1 h1 h2)
/-- a node from which a run comes to the fork -/
def lead (P : List mI) (c : Int32) (r : Nat) : Prop := ∃ y n t t2, awT P c y 0 rZ n ∧ t < t2 ∧ t2 ≤ n ∧ nd P y t r ∧ isU P c y t2
theorem lead_go {P : List mI} {c : Int32} {y : List Nat} {n t r : Nat} (h : lead P c r) (hy : awT P c y 0 rZ n) (ht : t ≤ n) (hr : nd P y t r) : ∃ t2, t ≤ t2 ∧ t2 ≤ n ∧ isU P c y t2 := by
  obtain ⟨z, m, a, a2, z1, z2, z3, z4, z5⟩ := h
  obtain ⟨k, k1, k2, k3, k4⟩ := first_of (p := isU P c z) (Nat.le_of_lt z2) z5
  obtain ⟨f1, v, f2, f3⟩ := aw_forced hy z1 (a := t) (a2 := a) ht ⟨r, hr, z4⟩ (k - a) (by omega) (fun s x hs x1 xK => k4 (a + s) (by omega) (by omega) ⟨x, x1, xK⟩)
  rw [show a + (k - a) = k by omega] at f3
  obtain ⟨w, w1, w2⟩ := k3
  have := nd_fun f3 w1
  subst this
  exact ⟨t + (k - a), by omega, f1, v, f2, w2⟩
/-- at most two reading instructions -/
def pTwoR (P : List mI) : Prop := ∀ u v w, u < P.length → v < P.length → w < P.length → (P.getD u mI0).1 = 0 → (P.getD v mI0).1 = 0 → (P.getD w mI0).1 = 0 → u = v ∨ u = w ∨ v = w
/-- behind the exit at most one digit is read; none, if all readings lead to the fork -/
theorem exit_reads {P : List mI} {c : Int32} (hB : awB P c ≤ 1) (hR : pTwoR P) {X y : List Nat} {n i i2 n2 j v w : Nat} (h : uHub P c X n i i2) (hy : awT P c y 0 rZ n2) (hj : j < n2) (hju : isU P c y j) (h1 : nd P y (j + 1) v) (h2 : nd P X (i + 1) w) (hne : v ≠ w) {s t : rC} (hs : rI P y j rZ = some s) (ht : rI P y n2 rZ = some t) :
    t.2.2 ≤ s.2.2 + 1 ∧ ((∀ r, r < P.length → (P.getD r mI0).1 = 0 → lead P c r) → t.2.2 ≤ s.2.2) := by
  have hx := u_exit hB h hy hju h1 h2 hne
  have hnl : ∀ k r, j < k → k ≤ n2 → nd P y k r → ¬ lead P c r := by
    intro k r h3 h4 h5 h6
    obtain ⟨t2, t3, t4, t5⟩ := lead_go h6 hy h4 h5
    exact hx t2 (by omega) t4 t5
  have rdt : ∀ q, s.2.2 ≤ q → q < t.2.2 → ∃ m z, j < m ∧ m < n2 ∧ rI P y m rZ = some z ∧ z.1 < P.length ∧ (rIn P z).1 = 0 ∧ z.2.2 = q := by
    intro q h3 h4
    obtain ⟨m, z, m1, m2, m3, m4, m5⟩ := rd_at (j := q) ht (Nat.zero_le _) h4
    refine ⟨m, z, ?_, m1, m2, m3, m4, m5⟩
    rcases Nat.lt_trichotomy m j with e | e | e
    · have := rd_pre hs m2 m4 e; omega
    · subst e
      exact absurd (isR_of m2 m3 m4) (isU_R hju)
    · exact e
  refine ⟨?_, fun hl => ?_⟩
  · rcases Nat.lt_or_ge (s.2.2 + 1) t.2.2 with q | q
    · exfalso
      obtain ⟨m, z, a1, a2, a3, a4, a5, a6⟩ := rdt s.2.2 (Nat.le_refl _) (by omega)
      obtain ⟨m2, z2, b1, b2, b3, b4, b5, b6⟩ := rdt (s.2.2 + 1) (by omega) (by omega)
      have hlt := rI_lt a3 b3 (by omega)
      obtain ⟨x1, x2, x3, x4, x5, x6, k, k1, k2, r, r1, r2, r3⟩ := h
      have hlr : lead P c r := ⟨X, n, k, i2, x1, k2, x3, r1, x5⟩
      rcases hR z.1 z2.1 r a4 b4 r2 a5 b5 r3 with e | e | e
      · obtain ⟨tt, u, t1, t2, t3, t4⟩ := tour_one (⟨hy, hlt, by omega, z.1, ⟨z, a3, rfl⟩, ⟨z2, b3, e.symm⟩⟩ : aTour P c y n2 m m2)
        exact hx tt (by omega) (by omega) ⟨u, t3, t4⟩
      · exact hnl m z.1 a1 (by omega) ⟨z, a3, rfl⟩ (by rw [e]; exact hlr)
      · exact hnl m2 z2.1 b1 (by omega) ⟨z2, b3, rfl⟩ (by rw [e]; exact hlr)
    · exact q
  · rcases Nat.lt_or_ge s.2.2 t.2.2 with q | q
    · exfalso
      obtain ⟨m, z, a1, a2, a3, a4, a5, a6⟩ := rdt s.2.2 (Nat.le_refl _) q
      exact hnl m z.1 a1 (by omega) ⟨z, a3, rfl⟩ (hl z.1 a4 a5)
    · exact q
