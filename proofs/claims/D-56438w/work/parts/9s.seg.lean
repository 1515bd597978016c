/-! ROOM 19: runs of a code along alive edges; the way from a reading to the next one *
-/
set_option maxRecDepth 100000
/-- at the time m a run of a code is at s; k steps are to come -/
def awT (P : List mI) (c : Int32) (xs : List Nat) (m : Nat) (s : rC) (k : Nat) : Prop := sDg xs ∧ rI P xs m rZ = some s ∧ rT P c xs s k ∧ m + k ≤ 63
theorem awT_of {P : List mI} {c : Int32} {xs : List Nat} (hd : sDg xs) (h : mFails P xs c = true) : ∃ n, awT P c xs 0 rZ n := by
  obtain ⟨n, h1, h2⟩ := rT_iff.mp h
  exact ⟨n, hd, rfl, h2, by omega⟩
theorem awT_fails {P : List mI} {c : Int32} {xs : List Nat} {n m : Nat} {s : rC} (h : awT P c xs m s n) : mFails P xs c = true := by
  obtain ⟨h1, h2, ⟨t, h3, h4⟩, h5⟩ := h
  exact rT_iff.mpr ⟨m + n, h5, t, by rw [rI_add, h2]; exact h3, h4⟩
theorem awT_next {P : List mI} {c : Int32} {xs : List Nat} {m k : Nat} {s : rC} (h : awT P c xs m s (k + 1)) : ∃ s2, rS P xs s = some s2 ∧ awT P c xs (m + 1) s2 k ∧ s2.1 ∈ awS P s.1 := by
  obtain ⟨h1, h2, h3, h4⟩ := h
  obtain ⟨s2, e1, e2⟩ := rT_succ h3
  refine ⟨s2, e1, ⟨h1, by rw [rI_succ, h2]; exact e1, e2, by omega⟩, awS_mem.mpr ⟨xs, m, s, s2, h1, by omega, h2, e1, rfl, ?_⟩⟩
  have := rT_lt e2
  omega
theorem awT_at {P : List mI} {c : Int32} {xs : List Nat} : ∀ {i m k : Nat} {s : rC}, awT P c xs m s k → i ≤ k → ∃ t, rI P xs i s = some t ∧ awT P c xs (m + i) t (k - i)
  | 0, m, k, s, h, _ => ⟨s, rfl, h⟩
  | i + 1, m, 0, s, h, hi => absurd hi (by omega)
  | i + 1, m, k + 1, s, h, hi => by
    obtain ⟨s2, e1, e2, -⟩ := awT_next h
    obtain ⟨t, f1, f2⟩ := awT_at (i := i) e2 (by omega)
    refine ⟨t, ?_, by rw [show m + (i + 1) = m + 1 + i by omega, show k + 1 - (i + 1) = k - i by omega]; exact f2⟩
    show (rS P xs s).bind (rI P xs i) = some t
    rw [e1]; exact f1
theorem awT_time {P : List mI} {c : Int32} {xs : List Nat} {n i : Nat} (h : awT P c xs 0 rZ n) (hi : i ≤ n) : ∃ t, awT P c xs i t (n - i) := by
  obtain ⟨t, -, h2⟩ := awT_at h hi
  rw [Nat.zero_add] at h2
  exact ⟨t, h2⟩
theorem awT_awZ {P : List mI} {c : Int32} {xs : List Nat} : ∀ {k m : Nat} {s : rC}, awT P c xs m s k → awZ P c s.1
  | 0, m, s, h => ⟨0, s.1, rfl, rT_zero h.2.2.1⟩
  | k + 1, m, s, h => by
    obtain ⟨s2, -, e2, e3⟩ := awT_next h
    obtain ⟨j, f, h1, h2⟩ := awT_awZ e2
    exact ⟨j + 1, f, ⟨s2.1, e3, h1⟩, h2⟩
theorem awT_lt {P : List mI} {c : Int32} {xs : List Nat} {k m : Nat} {s : rC} (h : awT P c xs m s k) : s.1 < P.length := rT_lt h.2.2.1
/-- a fork that runs leave both ways, both open to c -/
def awK (P : List mI) (c : Int32) (u : Nat) : Prop := (awS P u).length = 2 ∧ ∀ v ∈ awS P u, awZ P c v
theorem awK_of {P : List mI} {c : Int32} {u v w : Nat} (hv : v ∈ awS P u) (hw : w ∈ awS P u) (zv : awZ P c v) (zw : awZ P c w) (hne : v ≠ w) : awK P c u ∧ ∀ x ∈ awS P u, x = v ∨ x = w := by
  have hl := awS_len (P := P) (u := u)
  have hd := awS_nodup (P := P) (u := u)
  have hall : ∀ x ∈ awS P u, x = v ∨ x = w := by
    intro x hx
    by_cases q : x = v ∨ x = w
    · exact q
    · exfalso
      have := nodup_two (l := [v, w, x]) (l2 := awS P u) (by
        refine List.nodup_cons.mpr ⟨fun z => ?_, List.nodup_cons.mpr ⟨fun z => ?_, List.nodup_cons.mpr ⟨List.not_mem_nil, List.nodup_nil⟩⟩⟩
        · rcases List.mem_cons.mp z with z | z
          · exact hne z
          · exact q (.inl (List.mem_singleton.mp z).symm)
        · exact q (.inr (List.mem_singleton.mp z).symm)) (fun y hy => by
        rcases List.mem_cons.mp hy with rfl | hy
        · exact hv
        · rcases List.mem_cons.mp hy with rfl | hy
          · exact hw
          · rw [List.mem_singleton.mp hy]; exact hx)
      simp only [List.length_cons, List.length_nil] at this
      omega
  have h2 := nodup_two (l := [v, w]) (l2 := awS P u) (List.nodup_cons.mpr ⟨fun z => hne (List.mem_singleton.mp z), List.nodup_cons.mpr ⟨List.not_mem_nil, List.nodup_nil⟩⟩) (fun y hy => by
    rcases List.mem_cons.mp hy with rfl | hy
    · exact hv
    · rw [List.mem_singleton.mp hy]; exact hw)
  simp only [List.length_cons, List.length_nil] at h2
  exact ⟨⟨by omega, fun x hx => (hall x hx).elim (fun e => by rw [e]; exact zv) (fun e => by rw [e]; exact zw)⟩, hall⟩
/-- a set of nodes closed under alive edges to where c can be reached, without c: no run of c comes to it -/
theorem aw_closed {P : List mI} {c : Int32} {xs : List Nat} {Q : Nat → Prop} (hcl : ∀ u, Q u → ∀ v ∈ awS P u, awZ P c v → Q v) (hf : ∀ u, Q u → ¬ (u < P.length ∧ (P.getD u mI0).1 = 7)) : ∀ {k m : Nat} {s : rC}, awT P c xs m s k → ¬ Q s.1
  | 0, m, s, h, hq => hf _ hq ⟨(rT_zero h.2.2.1).1, (rT_zero h.2.2.1).2.1⟩
  | k + 1, m, s, h, hq => by
    obtain ⟨s2, -, e2, e3⟩ := awT_next h
    exact aw_closed hcl hf e2 (hcl _ hq _ e3 (awT_awZ e2))
/-- forks open both ways, counted -/
theorem awK_none {P : List mI} {c : Int32} (h : awB P c = 0) (u : Nat) : ¬ awK P c u := by
  intro hu
  have hl := (gS_two (awS_two hu.1)).1
  have h1 := sm_one (f := fun u => b1 ((awS P u).length = 2 ∧ ∀ v ∈ awS P u, awzB P c v = true)) (show u < P.length + 1 by omega)
  have h2 : b1 ((awS P u).length = 2 ∧ ∀ v ∈ awS P u, awzB P c v = true) = 1 := b1_t ⟨hu.1, fun v hv => awzB_t.mpr (hu.2 v hv)⟩
  unfold awB at h
  have h1 : b1 ((awS P u).length = 2 ∧ ∀ v ∈ awS P u, awzB P c v = true) ≤ sm (fun u => b1 ((awS P u).length = 2 ∧ ∀ v ∈ awS P u, awzB P c v = true)) (P.length + 1) := h1
  omega
theorem awK_count {P : List mI} {c : Int32} {l : List Nat} (hd : l.Nodup) (h : ∀ u ∈ l, awK P c u) : l.length ≤ awB P c :=
  sm_nodup (p := fun u => (awS P u).length = 2 ∧ ∀ v ∈ awS P u, awzB P c v = true) hd (fun u hu => ⟨by have := (gS_two (awS_two (h u hu).1)).1; omega, (h u hu).1, fun v hv => awzB_t.mpr ((h u hu).2 v hv)⟩)
theorem awK_one {P : List mI} {c : Int32} (h : awB P c ≤ 1) {u v : Nat} (hu : awK P c u) (hv : awK P c v) : u = v := by
  by_cases e : u = v
  · exact e
  · have := awK_count (l := [u, v]) (List.nodup_cons.mpr ⟨fun z => e (List.mem_singleton.mp z), List.nodup_cons.mpr ⟨List.not_mem_nil, List.nodup_nil⟩⟩) (fun w hw => by
      rcases List.mem_cons.mp hw with rfl | hw
      · exact hu
      · rw [List.mem_singleton.mp hw]; exact hv)
    simp only [List.length_cons, List.length_nil] at this
    omega
/-- two runs that part at a fork and both come back to where they both were before -/
theorem aw_back {P : List mI} {c : Int32} (hB : awB P c ≤ 1) {xs ys : List Nat} {n n2 a b b2 : Nat} (hx : awT P c xs 0 rZ n) (hy : awT P c ys 0 rZ n2) (hb : b ≤ n) (hb2 : b2 ≤ n2)
    (hs : sPath P xs ys a) (hab : a < b) (hab2 : a < b2) (hback : ∀ s t, rI P xs a rZ = some s → rI P xs b rZ = some t → s.1 = t.1) (hback2 : ∀ s t, rI P ys a rZ = some s → rI P ys b2 rZ = some t → s.1 = t.1) :
    ∀ i, a + i ≤ b → a + i ≤ b2 → ∀ s t, rI P xs (a + i) rZ = some s → rI P ys (a + i) rZ = some t → s.1 = t.1 := by
  intro i
  induction i with
  | zero =>
    intro _ _ s t h1 h2
    obtain ⟨u, v, e1, e2, e3⟩ := hs a (Nat.le_refl _)
    rw [Nat.add_zero] at h1 h2
    rw [e1] at h1; rw [e2] at h2
    cases h1; cases h2
    exact e3
  | succ i ih =>
    intro hi hi2 s t h1 h2
    -- states at the time before
    have st : ∀ {zs : List Nat} {N j : Nat} (hz : awT P c zs 0 rZ N), j < N → ∃ w w2, rI P zs j rZ = some w ∧ rI P zs (j + 1) rZ = some w2 ∧ w2.1 ∈ awS P w.1 ∧ awZ P c w2.1 ∧ ¬ (w.1 < P.length ∧ (P.getD w.1 mI0).1 = 7) := by
      intro zs N j hz hj
      obtain ⟨w, hw⟩ := awT_time hz (Nat.le_of_lt hj)
      rw [show N - j = (N - j - 1) + 1 by omega] at hw
      obtain ⟨w2, f1, f2, f3⟩ := awT_next hw
      refine ⟨w, w2, hw.2.1, f2.2.1, f3, awT_awZ f2, fun z => ?_⟩
      have := awS_mem.mp f3
      have := awE_gS this
      rw [fail_nil z.1 z.2] at this
      cases this
    obtain ⟨w, w2, x1, x2, x3, x4, -⟩ := st hx (show a + i < n by omega)
    obtain ⟨v, v2, y1, y2, y3, y4, -⟩ := st hy (show a + i < n2 by omega)
    have e0 := ih (by omega) (by omega) w v x1 y1
    rw [show a + (i + 1) = a + i + 1 by omega, x2] at h1
    rw [show a + (i + 1) = a + i + 1 by omega, y2] at h2
    have h1 := Option.some.inj h1
    have h2 := Option.some.inj h2
    subst h1
    subst h2
    by_cases q : w2.1 = v2.1
    · exact q
    · exfalso
      rw [← e0] at y3
      obtain ⟨hK, hall⟩ := awK_of x3 y3 x4 y4 q
      refine aw_closed (c := c) (xs := xs) (Q := fun z => (∃ j r, a ≤ j ∧ j ≤ b ∧ rI P xs j rZ = some r ∧ r.1 = z) ∨ (∃ j r, a ≤ j ∧ j ≤ b2 ∧ rI P ys j rZ = some r ∧ r.1 = z)) ?_ ?_ (awT_time hx (show a + i ≤ n by omega)).choose_spec (.inl ⟨a + i, _, by omega, by omega, (awT_time hx (show a + i ≤ n by omega)).choose_spec.2.1, rfl⟩)
      · -- closed
        have hw2 : (∃ j r, a ≤ j ∧ j ≤ b ∧ rI P xs j rZ = some r ∧ r.1 = w2.1) ∨ (∃ j r, a ≤ j ∧ j ≤ b2 ∧ rI P ys j rZ = some r ∧ r.1 = w2.1) := .inl ⟨a + i + 1, w2, by omega, by omega, x2, rfl⟩
        have hv2 : (∃ j r, a ≤ j ∧ j ≤ b ∧ rI P xs j rZ = some r ∧ r.1 = v2.1) ∨ (∃ j r, a ≤ j ∧ j ≤ b2 ∧ rI P ys j rZ = some r ∧ r.1 = v2.1) := .inr ⟨a + i + 1, v2, by omega, by omega, y2, rfl⟩
        have stepx : ∀ j r, a ≤ j → j < b → rI P xs j rZ = some r → ∀ z ∈ awS P r.1, awZ P c z → (∃ j r, a ≤ j ∧ j ≤ b ∧ rI P xs j rZ = some r ∧ r.1 = z) ∨ (∃ j r, a ≤ j ∧ j ≤ b2 ∧ rI P ys j rZ = some r ∧ r.1 = z) := by
          intro j r h1 h2 h3 z hz hzz
          obtain ⟨r1, r2, f1, f2, f3, f4, -⟩ := st hx (show j < n by omega)
          rw [h3] at f1; cases f1
          by_cases e : z = r2.1
          · exact .inl ⟨j + 1, r2, by omega, by omega, f2, e.symm⟩
          · have hK2 := (awK_of hz f3 hzz f4 e).1
            have := awK_one hB hK hK2
            rw [← this] at hz
            rcases hall z hz with e2 | e2
            · rw [e2]; exact hw2
            · rw [e2]; exact hv2
        have stepy : ∀ j r, a ≤ j → j < b2 → rI P ys j rZ = some r → ∀ z ∈ awS P r.1, awZ P c z → (∃ j r, a ≤ j ∧ j ≤ b ∧ rI P xs j rZ = some r ∧ r.1 = z) ∨ (∃ j r, a ≤ j ∧ j ≤ b2 ∧ rI P ys j rZ = some r ∧ r.1 = z) := by
          intro j r h1 h2 h3 z hz hzz
          obtain ⟨r1, r2, f1, f2, f3, f4, -⟩ := st hy (show j < n2 by omega)
          rw [h3] at f1; cases f1
          by_cases e : z = r2.1
          · exact .inr ⟨j + 1, r2, by omega, by omega, f2, e.symm⟩
          · have hK2 := (awK_of hz f3 hzz f4 e).1
            have := awK_one hB hK hK2
            rw [← this] at hz
            rcases hall z hz with e2 | e2
            · rw [e2]; exact hw2
            · rw [e2]; exact hv2
        rintro z (⟨j, r, j1, j2, j3, rfl⟩ | ⟨j, r, j1, j2, j3, rfl⟩) z2 hz2 hzz
        · by_cases e : j = b
          · subst e
            obtain ⟨ra, hra⟩ := awT_time hx (show a ≤ n by omega)
            have := hback ra r hra.2.1 j3
            rw [← this] at hz2
            exact stepx a ra (Nat.le_refl _) hab hra.2.1 z2 hz2 hzz
          · exact stepx j r j1 (by omega) j3 z2 hz2 hzz
        · by_cases e : j = b2
          · subst e
            obtain ⟨ra, hra⟩ := awT_time hy (show a ≤ n2 by omega)
            have := hback2 ra r hra.2.1 j3
            rw [← this] at hz2
            exact stepy a ra (Nat.le_refl _) hab2 hra.2.1 z2 hz2 hzz
          · exact stepy j r j1 (by omega) j3 z2 hz2 hzz
      · -- without c
        have endx : ∀ j r, a ≤ j → j < b → rI P xs j rZ = some r → ¬ (r.1 < P.length ∧ (P.getD r.1 mI0).1 = 7) := by
          intro j r h1 h2 h3
          obtain ⟨r1, r2, f1, -, -, -, f5⟩ := st hx (show j < n by omega)
          rw [h3] at f1; cases f1
          exact f5
        have endy : ∀ j r, a ≤ j → j < b2 → rI P ys j rZ = some r → ¬ (r.1 < P.length ∧ (P.getD r.1 mI0).1 = 7) := by
          intro j r h1 h2 h3
          obtain ⟨r1, r2, f1, -, -, -, f5⟩ := st hy (show j < n2 by omega)
          rw [h3] at f1; cases f1
          exact f5
        rintro z (⟨j, r, j1, j2, j3, rfl⟩ | ⟨j, r, j1, j2, j3, rfl⟩)
        · by_cases e : j = b
          · subst e
            obtain ⟨ra, hra⟩ := awT_time hx (show a ≤ n by omega)
            rw [← hback ra r hra.2.1 j3]
            exact endx a ra (Nat.le_refl _) hab hra.2.1
          · exact endx j r j1 (by omega) j3
        · by_cases e : j = b2
          · subst e
            obtain ⟨ra, hra⟩ := awT_time hy (show a ≤ n2 by omega)
            rw [← hback2 ra r hra.2.1 j3]
            exact endy a ra (Nat.le_refl _) hab2 hra.2.1
          · exact endy j r j1 (by omega) j3
