/-! ROOM 22: tours: a run that comes back to a node *
-/
set_option maxRecDepth 100000
/-- at the time i a run is at the node u -/
def nd (P : List mI) (xs : List Nat) (i u : Nat) : Prop := ∃ s, rI P xs i rZ = some s ∧ s.1 = u
theorem nd_fun {P : List mI} {xs : List Nat} {i u v : Nat} (h : nd P xs i u) (h2 : nd P xs i v) : u = v := by
  obtain ⟨s, h1, rfl⟩ := h
  obtain ⟨t, h3, rfl⟩ := h2
  rw [h1] at h3
  cases h3
  rfl
/-- a run of c that is at the same node at the times a and b -/
def aTour (P : List mI) (c : Int32) (xs : List Nat) (n a b : Nat) : Prop := awT P c xs 0 rZ n ∧ a < b ∧ b ≤ n ∧ ∃ u, nd P xs a u ∧ nd P xs b u
theorem nd_some {P : List mI} {c : Int32} {xs : List Nat} {n i : Nat} (h : awT P c xs 0 rZ n) (hi : i ≤ n) : ∃ u, nd P xs i u := by
  obtain ⟨s, hs⟩ := awT_time h hi
  exact ⟨s.1, s, hs.2.1, rfl⟩
theorem nd_step {P : List mI} {c : Int32} {xs : List Nat} {n i u v : Nat} (h : awT P c xs 0 rZ n) (hi : i < n) (h1 : nd P xs i u) (h2 : nd P xs (i + 1) v) : v ∈ awS P u ∧ awZ P c v ∧ ¬ (u < P.length ∧ (P.getD u mI0).1 = 7) := by
  obtain ⟨s, hs⟩ := awT_time h (Nat.le_of_lt hi)
  rw [show n - i = (n - i - 1) + 1 by omega] at hs
  obtain ⟨s2, f1, f2, f3⟩ := awT_next hs
  have e1 := nd_fun h1 ⟨s, hs.2.1, rfl⟩
  have e2 := nd_fun h2 ⟨s2, f2.2.1, rfl⟩
  subst e1
  subst e2
  refine ⟨f3, awT_awZ f2, fun z => ?_⟩
  have := awE_gS (awS_mem.mp f3)
  rw [fail_nil z.1 z.2] at this
  cases this
theorem nd_awZ {P : List mI} {c : Int32} {xs : List Nat} {n i u : Nat} (h : awT P c xs 0 rZ n) (hi : i ≤ n) (h1 : nd P xs i u) : awZ P c u := by
  obtain ⟨s, hs⟩ := awT_time h hi
  have := nd_fun h1 ⟨s, hs.2.1, rfl⟩
  subst this
  exact awT_awZ hs
def onT (P : List mI) (xs : List Nat) (a b z : Nat) : Prop := ∃ j, a ≤ j ∧ j < b ∧ nd P xs j z
/-- two tours that have both ways of each fork open both ways: no -/
theorem tour_no {P : List mI} {c : Int32} {xs ys : List Nat} {n n2 a b a2 b2 : Nat} (hx : aTour P c xs n a b) (hy : aTour P c ys n2 a2 b2)
    (H : ∀ u, awK P c u → onT P xs a b u ∨ onT P ys a2 b2 u → ∀ z ∈ awS P u, awZ P c z → onT P xs a b z ∨ onT P ys a2 b2 z) : False := by
  have one : ∀ {zs : List Nat} {N p r j u v : Nat}, aTour P c zs N p r → p ≤ j → j < r → nd P zs j u → nd P zs (j + 1) v → onT P zs p r v := by
    intro zs N p r j u v ht h1 h2 h3 h4
    obtain ⟨t1, t2, t3, w, w1, w2⟩ := ht
    by_cases e : j + 1 = r
    · rw [e] at h4
      have := nd_fun h4 w2
      subst this
      exact ⟨p, Nat.le_refl _, t2, w1⟩
    · exact ⟨j + 1, by omega, by omega, h4⟩
  have stp : ∀ {zs : List Nat} {N p r u : Nat}, aTour P c zs N p r → onT P zs p r u → ∃ v, v ∈ awS P u ∧ awZ P c v ∧ onT P zs p r v ∧ ¬ (u < P.length ∧ (P.getD u mI0).1 = 7) := by
    intro zs N p r u ht ⟨j, j1, j2, j3⟩
    obtain ⟨v, hv⟩ := nd_some ht.1 (show j + 1 ≤ N by have := ht.2.2.1; omega)
    obtain ⟨a1, a2, a3⟩ := nd_step ht.1 (by have := ht.2.2.1; omega) j3 hv
    exact ⟨v, a1, a2, one ht j1 j2 j3 hv, a3⟩
  obtain ⟨s, hs⟩ := awT_time hx.1 (show a ≤ n by have := hx.2.1; have := hx.2.2.1; omega)
  refine aw_closed (c := c) (xs := xs) (Q := fun z => onT P xs a b z ∨ onT P ys a2 b2 z) ?_ ?_ hs (.inl ⟨a, Nat.le_refl _, hx.2.1, s, hs.2.1, rfl⟩)
  · intro u hu z hz hzz
    by_cases q : awK P c u
    · exact H u q hu z hz hzz
    · rcases hu with hu | hu
      · obtain ⟨v, v1, v2, v3, -⟩ := stp hx hu
        by_cases e : z = v
        · rw [e]; exact .inl v3
        · exact absurd (awK_of hz v1 hzz v2 e).1 q
      · obtain ⟨v, v1, v2, v3, -⟩ := stp hy hu
        by_cases e : z = v
        · rw [e]; exact .inr v3
        · exact absurd (awK_of hz v1 hzz v2 e).1 q
  · rintro u (hu | hu)
    · obtain ⟨v, -, -, -, v4⟩ := stp hx hu
      exact v4
    · obtain ⟨v, -, -, -, v4⟩ := stp hy hu
      exact v4
/-- a tour comes to a fork open both ways -/
theorem tour_one {P : List mI} {c : Int32} {xs : List Nat} {n a b : Nat} (hx : aTour P c xs n a b) : ∃ i u, a ≤ i ∧ i < b ∧ nd P xs i u ∧ awK P c u := by
  by_cases q : ∃ u, awK P c u ∧ onT P xs a b u
  · obtain ⟨u, h1, j, j1, j2, j3⟩ := q
    exact ⟨j, u, j1, j2, j3, h1⟩
  · exact absurd (tour_no hx hx (fun u hu h => absurd ⟨u, hu, h.elim id id⟩ q)) id
/-- with one such fork two tours leave it the same way -/
theorem tour_two {P : List mI} {c : Int32} (hB : awB P c ≤ 1) {xs ys : List Nat} {n n2 a b a2 b2 i j u v w : Nat} (hx : aTour P c xs n a b) (hy : aTour P c ys n2 a2 b2) (hi : a ≤ i) (hi2 : i < b) (hj : a2 ≤ j) (hj2 : j < b2) (hu : awK P c u) (h1 : nd P xs i u) (h2 : nd P ys j u) (h3 : nd P xs (i + 1) v) (h4 : nd P ys (j + 1) w) : v = w := by
  by_cases e : v = w
  · exact e
  · exfalso
    have hv : onT P xs a b v := by
      by_cases q : i + 1 = b
      · rw [q] at h3
        obtain ⟨x, x1, x2⟩ := hx.2.2.2
        have := nd_fun h3 x2
        subst this
        exact ⟨a, Nat.le_refl _, hx.2.1, x1⟩
      · exact ⟨i + 1, by omega, by omega, h3⟩
    have hw : onT P ys a2 b2 w := by
      by_cases q : j + 1 = b2
      · rw [q] at h4
        obtain ⟨x, x1, x2⟩ := hy.2.2.2
        have := nd_fun h4 x2
        subst this
        exact ⟨a2, Nat.le_refl _, hy.2.1, x1⟩
      · exact ⟨j + 1, by omega, by omega, h4⟩
    obtain ⟨a1, a2, -⟩ := nd_step hx.1 (by have := hx.2.2.1; omega) h1 h3
    obtain ⟨b1, b2, -⟩ := nd_step hy.1 (by have := hy.2.2.1; omega) h2 h4
    obtain ⟨-, hall⟩ := awK_of a1 b1 a2 b2 e
    refine tour_no hx hy (fun u2 hu2 _ z hz hzz => ?_)
    rw [awK_one hB hu2 hu] at hz
    rcases hall z hz with e | e
    · rw [e]; exact .inl hv
    · rw [e]; exact .inr hw
/-- from the same node two runs of c go on together while there is no such fork -/
theorem aw_forced {P : List mI} {c : Int32} {xs ys : List Nat} {n n2 a a2 : Nat} (hx : awT P c xs 0 rZ n) (hy : awT P c ys 0 rZ n2) (ha : a ≤ n) (h0 : ∃ u, nd P xs a u ∧ nd P ys a2 u) : ∀ k, a2 + k ≤ n2 → (∀ i u, i < k → nd P ys (a2 + i) u → ¬ awK P c u) → a + k ≤ n ∧ ∃ u, nd P xs (a + k) u ∧ nd P ys (a2 + k) u := by
  intro k
  induction k with
  | zero => intro _ _; exact ⟨ha, h0⟩
  | succ k ih =>
    intro hk hn
    obtain ⟨h1, u, u1, u2⟩ := ih (by omega) (fun i u hi => hn i u (by omega))
    obtain ⟨v, hv⟩ := nd_some hy (show a2 + (k + 1) ≤ n2 from hk)
    obtain ⟨b1, b2, b3⟩ := nd_step hy (show a2 + k < n2 by omega) u2 hv
    have hlt : a + k < n := by
      rcases Nat.lt_or_ge (a + k) n with q | q
      · exact q
      · exfalso
        have e : a + k = n := by omega
        obtain ⟨s, hs⟩ := awT_time hx (Nat.le_refl n)
        rw [Nat.sub_self] at hs
        rw [e] at u1
        have := nd_fun u1 ⟨s, hs.2.1, rfl⟩
        subst this
        have hF := rT_zero hs.2.2.1
        exact b3 ⟨hF.1, hF.2.1⟩
    obtain ⟨w, hw⟩ := nd_some hx (show a + (k + 1) ≤ n by omega)
    obtain ⟨c1, c2, -⟩ := nd_step hx hlt u1 hw
    refine ⟨by omega, v, ?_, hv⟩
    by_cases e : w = v
    · rw [← e]; exact hw
    · exact absurd (awK_of c1 b1 c2 b2 e).1 (hn k u (by omega) u2)
/-- the same, given that the fork is left the same way -/
theorem aw_along {P : List mI} {c : Int32} {xs ys : List Nat} {n n2 a a2 : Nat} (hx : awT P c xs 0 rZ n) (hy : awT P c ys 0 rZ n2) (h0 : ∃ u, nd P xs a u ∧ nd P ys a2 u) : ∀ k, a + k ≤ n → a2 + k ≤ n2 → (∀ i u, i < k → nd P xs (a + i) u → nd P ys (a2 + i) u → awK P c u → ∃ v, nd P xs (a + i + 1) v ∧ nd P ys (a2 + i + 1) v) → ∃ u, nd P xs (a + k) u ∧ nd P ys (a2 + k) u := by
  intro k
  induction k with
  | zero => intro _ _ _; exact h0
  | succ k ih =>
    intro hk hk2 hn
    obtain ⟨u, u1, u2⟩ := ih (by omega) (by omega) (fun i u hi => hn i u (by omega))
    by_cases q : awK P c u
    · exact hn k u (by omega) u1 u2 q
    · obtain ⟨v, hv⟩ := nd_some hy (show a2 + k + 1 ≤ n2 by omega)
      obtain ⟨w, hw⟩ := nd_some hx (show a + k + 1 ≤ n by omega)
      obtain ⟨b1, b2, -⟩ := nd_step hy (show a2 + k < n2 by omega) u2 hv
      obtain ⟨c1, c2, -⟩ := nd_step hx (show a + k < n by omega) u1 hw
      by_cases e : w = v
      · rw [e] at hw; exact ⟨v, hw, hv⟩
      · exact absurd (awK_of c1 b1 c2 b2 e).1 q
