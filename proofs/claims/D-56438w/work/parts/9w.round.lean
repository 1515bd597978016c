/-! ROOM 23: rounds: from a reading over the fork to the next reading *
-/
set_option maxRecDepth 100000
theorem last_of {p : Nat → Prop} {a : Nat} : ∀ b, (∃ i, a ≤ i ∧ i < b ∧ p i) → ∃ i, a ≤ i ∧ i < b ∧ p i ∧ ∀ k, i < k → k < b → ¬ p k
  | 0, ⟨i, _, h, _⟩ => absurd h (Nat.not_lt_zero _)
  | b + 1, ⟨i, h1, h2, h3⟩ => by
    by_cases q : a ≤ b ∧ p b
    · exact ⟨b, q.1, by omega, q.2, fun k h4 h5 => absurd h5 (by omega)⟩
    · have hib : i < b := by
        rcases Nat.lt_or_ge i b with z | z
        · exact z
        · have : i = b := by omega
          subst this
          exact absurd ⟨h1, h3⟩ q
      obtain ⟨j, j1, j2, j3, j4⟩ := last_of b ⟨i, h1, hib, h3⟩
      refine ⟨j, j1, by omega, j3, fun k h4 h5 h6 => ?_⟩
      by_cases e : k = b
      · subst e; exact q ⟨by omega, h6⟩
      · exact j4 k h4 (by omega) h6
def isU (P : List mI) (c : Int32) (xs : List Nat) (i : Nat) : Prop := ∃ u, nd P xs i u ∧ awK P c u
def isR (P : List mI) (xs : List Nat) (i : Nat) : Prop := ∃ u, nd P xs i u ∧ u < P.length ∧ (P.getD u mI0).1 = 0
theorem isR_of {P : List mI} {xs : List Nat} {i : Nat} {s : rC} (h : rI P xs i rZ = some s) (h1 : s.1 < P.length) (h2 : (rIn P s).1 = 0) : isR P xs i := ⟨s.1, ⟨s, h, rfl⟩, h1, h2⟩
theorem awK_fork {P : List mI} {c : Int32} {u : Nat} (h : awK P c u) : (P.getD u mI0).1 = 4 ∨ (P.getD u mI0).1 = 5 := (gS_two (awS_two h.1)).2
theorem isU_R {P : List mI} {c : Int32} {xs : List Nat} {i : Nat} (h : isU P c xs i) : ¬ isR P xs i := by
  rintro ⟨v, v1, -, v3⟩
  obtain ⟨u, u1, u2⟩ := h
  have := nd_fun u1 v1
  subst this
  have := awK_fork u2
  omega
/-- a run, two readings of it and nothing read between -/
def rRef (P : List mI) (c : Int32) (X : List Nat) (n m0 m1 : Nat) : Prop := awT P c X 0 rZ n ∧ m0 < m1 ∧ m1 ≤ n ∧ isR P X m0 ∧ isR P X m1 ∧ ∀ k, m0 < k → k < m1 → ¬ isR P X k
theorem rRef_tour {P : List mI} {c : Int32} {X : List Nat} {n m0 m1 : Nat} (hR : pOne P) (h : rRef P c X n m0 m1) : aTour P c X n m0 m1 := by
  obtain ⟨h1, h2, h3, ⟨u, u1, u2, u3⟩, ⟨v, v1, v2, v3⟩, -⟩ := h
  have := hR u v u2 v2 u3 v3
  subst this
  exact ⟨h1, h2, h3, u, u1, v1⟩
/-- the fork comes once -/
theorem ref_u {P : List mI} {c : Int32} (hB : awB P c ≤ 1) (hR : pOne P) {X : List Nat} {n m0 m1 : Nat} (h : rRef P c X n m0 m1) : ∃ i, m0 < i ∧ i < m1 ∧ isU P c X i ∧ ∀ k, m0 ≤ k → k < m1 → isU P c X k → k = i := by
  have hT := rRef_tour hR h
  obtain ⟨h1, h2, h3, hr0, hr1, hr2⟩ := h
  obtain ⟨i0, u0, a1, a2, a3, a4⟩ := tour_one hT
  obtain ⟨j, j1, j2, j3, j4⟩ := last_of (p := isU P c X) (a := m0) m1 ⟨i0, a1, a2, u0, a3, a4⟩
  have hj0 : m0 < j := by
    rcases Nat.lt_or_ge m0 j with q | q
    · exact q
    · have : j = m0 := by omega
      subst this
      exact absurd hr0 (isU_R j3)
  refine ⟨j, hj0, j2, j3, fun k0 k1 k2 k3 => ?_⟩
  rcases Nat.lt_trichotomy k0 j with q | q | q
  · exfalso
    obtain ⟨i, i1, i2, i3, i4⟩ := last_of (p := isU P c X) (a := m0) j ⟨k0, k1, q, k3⟩
    obtain ⟨u, u1, u2⟩ := i3
    obtain ⟨v, v1, v2⟩ := j3
    have huv := awK_one hB u2 v2
    subst huv
    have hal := fun K (hK : i + K ≤ j) (hK2 : j + K ≤ m1) => aw_along (c := c) (xs := X) (ys := X) (n := n) (n2 := n) (a := i) (a2 := j) h1 h1 ⟨u, u1, v1⟩ K (by omega) (by omega) (fun t w ht w1 w2 wK => by
      cases t with
      | zero =>
        obtain ⟨x, hx⟩ := nd_some h1 (show i + 0 + 1 ≤ n by omega)
        obtain ⟨y, hy⟩ := nd_some h1 (show j + 0 + 1 ≤ n by omega)
        have := tour_two hB (i := i) (j := j) (⟨h1, i2, by omega, u, u1, v1⟩ : aTour P c X n i j) hT (Nat.le_refl _) i2 j1 j2 u2 u1 v1 hx hy
        subst this
        exact ⟨x, hx, hy⟩
      | succ t => exact absurd ⟨w, w2, wK⟩ (j4 (j + (t + 1)) (by omega) (by omega)))
    rcases Nat.lt_or_ge (j - i) (m1 - j) with z | z
    · obtain ⟨w, w1, w2⟩ := hal (j - i) (by omega) (by omega)
      rw [show i + (j - i) = j by omega] at w1
      have := nd_fun w1 v1
      subst this
      exact j4 (j + (j - i)) (by omega) (by omega) ⟨w, w2, v2⟩
    · obtain ⟨w, w1, w2⟩ := hal (m1 - j) (by omega) (by omega)
      rw [show j + (m1 - j) = m1 by omega] at w2
      obtain ⟨r, r1, r2, r3⟩ := hr1
      have := nd_fun w2 r1
      subst this
      exact hr2 (i + (m1 - j)) (by omega) (by omega) ⟨w, w1, r2, r3⟩
  · exact q
  · exact absurd k3 (j4 k0 q k2)
/-- a reading, and the way to the fork -/
theorem round_u {P : List mI} {c : Int32} (hR : pOne P) {X ys : List Nat} {n m0 m1 i n2 m : Nat} (h : rRef P c X n m0 m1) (hi : m0 < i) (hi1 : i < m1) (hu : isU P c X i) (hq : ∀ k, m0 ≤ k → k < m1 → isU P c X k → k = i) (hy : awT P c ys 0 rZ n2) (hm : m ≤ n2) (hr : isR P ys m) :
    m + (i - m0) ≤ n2 ∧ isU P c ys (m + (i - m0)) ∧ (∀ k, k ≤ i - m0 → ∃ u, nd P ys (m + k) u ∧ nd P X (m0 + k) u) ∧ (∀ k, k < i - m0 → ¬ isU P c ys (m + k)) ∧ ∀ k, 0 < k → k ≤ i - m0 → ¬ isR P ys (m + k) := by
  obtain ⟨h1, h2, h3, ⟨u, u1, u2, u3⟩, hr1, hr2⟩ := h
  obtain ⟨v, v1, v2, v3⟩ := hr
  have := hR u v u2 v2 u3 v3
  subst this
  have hf := fun k (hk : k ≤ i - m0) => aw_forced hy h1 hm ⟨u, v1, u1⟩ k (by omega) (fun t w ht w1 wK => by have := hq (m0 + t) (by omega) (by omega) ⟨w, w1, wK⟩; omega)
  have hnd := fun k hk => (hf k hk).2
  refine ⟨(hf (i - m0) (Nat.le_refl _)).1, ?_, hnd, fun k hk => ?_, fun k h0 hk => ?_⟩
  · obtain ⟨w, w1, w2⟩ := hnd (i - m0) (Nat.le_refl _)
    rw [show m0 + (i - m0) = i by omega] at w2
    obtain ⟨x, x1, x2⟩ := hu
    have := nd_fun w2 x1
    subst this
    exact ⟨w, w1, x2⟩
  · rintro ⟨x, x1, x2⟩
    obtain ⟨w, w1, w2⟩ := hnd k (by omega)
    have := nd_fun w1 x1
    subst this
    have := hq (m0 + k) (by omega) (by omega) ⟨w, w2, x2⟩
    omega
  · rintro ⟨x, x1, x2, x3⟩
    obtain ⟨w, w1, w2⟩ := hnd k hk
    have := nd_fun w1 x1
    subst this
    exact hr2 (m0 + k) (by omega) (by omega) ⟨w, w2, x2, x3⟩
/-- the way from the fork to the next reading -/
theorem round_loop {P : List mI} {c : Int32} {X ys : List Nat} {n m0 m1 i n2 j v : Nat} (h : rRef P c X n m0 m1) (hi : m0 < i) (hi1 : i < m1) (hq : ∀ k, m0 ≤ k → k < m1 → isU P c X k → k = i) (hy : awT P c ys 0 rZ n2) (hj : j + 1 ≤ n2) (h1 : nd P ys (j + 1) v) (h2 : nd P X (i + 1) v) :
    ∀ k, 1 ≤ k → k ≤ m1 - i → j + k ≤ n2 ∧ ∃ u, nd P ys (j + k) u ∧ nd P X (i + k) u := by
  intro k hk hk2
  have := aw_forced hy h.1 hj ⟨v, h1, h2⟩ (k - 1) (by have := h.2.2.1; omega) (fun t w ht w1 wK => by have := hq (i + 1 + t) (by omega) (by omega) ⟨w, w1, wK⟩; omega)
  rw [show j + 1 + (k - 1) = j + k by omega, show i + 1 + (k - 1) = i + k by omega] at this
  exact this
/-- the other way from the fork: no fork and no reading comes any more -/
theorem round_exit {P : List mI} {c : Int32} (hB : awB P c ≤ 1) (hR : pOne P) {X ys : List Nat} {n m0 m1 i n2 j v w : Nat} (h : rRef P c X n m0 m1) (hi : m0 < i) (hi1 : i < m1) (hu : isU P c X i) (hq : ∀ k, m0 ≤ k → k < m1 → isU P c X k → k = i) (hy : awT P c ys 0 rZ n2) (hju : isU P c ys j) (h1 : nd P ys (j + 1) v) (h2 : nd P X (i + 1) w) (hne : v ≠ w) :
    ∀ t, j < t → t ≤ n2 → ¬ isU P c ys t ∧ ¬ isR P ys t := by
  have hU : ∀ t, j < t → t ≤ n2 → ¬ isU P c ys t := by
    intro t ht ht2 ⟨z, z1, z2⟩
    obtain ⟨x, x1, x2⟩ := hju
    have := awK_one hB x2 z2
    subst this
    obtain ⟨y, y1, y2⟩ := hu
    have := awK_one hB x2 y2
    subst this
    exact hne (tour_two hB (i := j) (j := i) (⟨hy, ht, ht2, x, x1, z1⟩ : aTour P c ys n2 j t) (rRef_tour hR h) (Nat.le_refl _) ht (Nat.le_of_lt hi) hi1 x2 x1 y1 h1 h2)
  refine fun t ht ht2 => ⟨hU t ht ht2, fun hr => ?_⟩
  obtain ⟨a1, a2, -⟩ := round_u hR h hi hi1 hu hq hy ht2 hr
  exact hU _ (by omega) a1 a2
/-- no node comes twice between readings -/
theorem no_twice {P : List mI} {c : Int32} (hB : awB P c ≤ 1) (hR : pOne P) {X ys : List Nat} {n m0 m1 i n2 m j j2 z : Nat} (h : rRef P c X n m0 m1) (hi : m0 < i) (hi1 : i < m1) (hu : isU P c X i) (hq : ∀ k, m0 ≤ k → k < m1 → isU P c X k → k = i) (hy : awT P c ys 0 rZ n2) (hm : isR P ys m) (hmj : m < j) (hjj : j < j2) (hj2 : j2 ≤ n2) (hno : ∀ k, m < k → k ≤ j2 → ¬ isR P ys k) (hz : nd P ys j z) (hz2 : nd P ys j2 z) : False := by
  obtain ⟨a1, a2, a3, a4, a5⟩ := round_u hR h hi hi1 hu hq hy (show m ≤ n2 by omega) hm
  obtain ⟨w, hw⟩ := nd_some h.1 (show i + 1 ≤ n by have := h.2.2.1; omega)
  -- the forks that come after the reading
  have hone : ∀ k, m < k → k ≤ n2 → isU P c ys k → k = m + (i - m0) ∨ (j2 < k ∧ ∃ r, j2 < r ∧ r < k ∧ m + (i - m0) + (m1 - i) = r ∧ isR P ys r) := by
    intro k k1 k2 k3
    rcases Nat.lt_trichotomy k (m + (i - m0)) with q | q | q
    · have := a4 (k - m) (by omega)
      rw [show m + (k - m) = k by omega] at this
      exact absurd k3 this
    · exact .inl q
    · right
      obtain ⟨v, hv⟩ := nd_some hy (show m + (i - m0) + 1 ≤ n2 by omega)
      by_cases e : v = w
      · subst e
        have hl := round_loop h hi hi1 hq hy (show m + (i - m0) + 1 ≤ n2 by omega) hv hw
        obtain ⟨b1, r, r1, r2⟩ := hl (m1 - i) (by omega) (Nat.le_refl _)
        rw [show i + (m1 - i) = m1 by omega] at r2
        obtain ⟨x, x1, x2, x3⟩ := h.2.2.2.2.1
        have := nd_fun r2 x1
        subst this
        have hR2 : isR P ys (m + (i - m0) + (m1 - i)) := ⟨r, r1, x2, x3⟩
        have hj2r : j2 < m + (i - m0) + (m1 - i) := by
          rcases Nat.lt_or_ge j2 (m + (i - m0) + (m1 - i)) with q2 | q2
          · exact q2
          · exact absurd hR2 (hno _ (by omega) q2)
        rcases Nat.lt_or_ge (m + (i - m0) + (m1 - i)) k with q2 | q2
        · exact ⟨by omega, _, hj2r, q2, rfl, hR2⟩
        · exfalso
          by_cases e2 : k = m + (i - m0) + (m1 - i)
          · rw [e2] at k3; exact isU_R k3 hR2
          · obtain ⟨b2, y, y1, y2⟩ := hl (k - (m + (i - m0))) (by omega) (by omega)
            rw [show m + (i - m0) + (k - (m + (i - m0))) = k by omega] at y1
            obtain ⟨x, x1, x2⟩ := k3
            have := nd_fun y1 x1
            subst this
            have := hq (i + (k - (m + (i - m0)))) (by omega) (by omega) ⟨y, y2, x2⟩
            omega
      · exact absurd k3 (round_exit hB hR h hi hi1 hu hq hy a2 hv hw e k q k2).1
  obtain ⟨t, u, t1, t2, t3, t4⟩ := tour_one (⟨hy, hjj, hj2, z, hz, hz2⟩ : aTour P c ys n2 j j2)
  have ht : t = m + (i - m0) := by
    rcases hone t (by omega) (by omega) ⟨u, t3, t4⟩ with q | q
    · exact q
    · omega
  -- from the second coming on to the fork again
  have hfo := fun k (hk : k ≤ t - j) => aw_forced hy hy (a := j2) (a2 := j) hj2 ⟨z, hz2, hz⟩ k (by omega) (fun s x hs x1 xK => by
    rcases hone (j + s) (by omega) (by omega) ⟨x, x1, xK⟩ with q | q <;> omega)
  obtain ⟨f1, x, f2, f3⟩ := hfo (t - j) (Nat.le_refl _)
  rw [show j + (t - j) = t by omega] at f3
  have := nd_fun f3 t3
  subst this
  rcases hone (j2 + (t - j)) (by omega) f1 ⟨x, f2, t4⟩ with q | ⟨-, r, r1, r2, -, ⟨y, y1, y2, y3⟩⟩
  · omega
  · obtain ⟨-, w2, w3, w4⟩ := hfo (r - j2) (by omega)
    rw [show j2 + (r - j2) = r by omega] at w3
    have := nd_fun w3 y1
    subst this
    refine absurd (⟨w2, w4, y2, y3⟩ : isR P ys (j + (r - j2))) ?_
    have := a5 (j + (r - j2) - m) (by omega) (by omega)
    rw [show m + (j + (r - j2) - m) = j + (r - j2) by omega] at this
    exact this
