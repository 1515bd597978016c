/-! ROOM 37: tight campaigns: the seed's run comes to no node twice *
-/
set_option maxRecDepth 100000
theorem oN_two {cov : Nat → Bool} {u v w : Nat} (hv : v < 17) (hw : w < 17) (h1 : cov (17 * u + v) = true) (h2 : cov (17 * u + w) = true) (hne : v ≠ w) : 2 ≤ oN cov u := by
  unfold oN
  rw [fb_sm1]
  exact sm_nodup (p := fun x => cov (17 * u + x) = true) (l := [v, w]) (List.nodup_cons.mpr ⟨fun z => hne (List.mem_singleton.mp z), List.nodup_cons.mpr ⟨List.not_mem_nil, List.nodup_nil⟩⟩) (fun x hx => by
    rcases List.mem_cons.mp hx with rfl | hx
    · exact ⟨hv, h1⟩
    · rw [List.mem_singleton.mp hx]; exact ⟨hw, h2⟩)
theorem oN_one {cov : Nat → Bool} {u v : Nat} (hv : v < 17) (h1 : cov (17 * u + v) = true) : 1 ≤ oN cov u := by
  unfold oN
  rw [fb_sm1]
  exact sm_nodup (p := fun x => cov (17 * u + x) = true) (l := [v]) (List.nodup_cons.mpr ⟨List.not_mem_nil, List.nodup_nil⟩) (fun x hx => by
    rw [List.mem_singleton.mp hx]; exact ⟨hv, h1⟩)
/-- a first run that passes and comes to a node twice leaves slack -/
theorem seed_slack {P : List mI} {xs : List Nat} (hP : P.length ≤ 16) (hp : (mOut P xs).1 = 0) {i j : Nat} {s t : rC} (hij : i < j) (h1 : rI P xs i rZ = some s) (h2 : rI P xs j rZ = some t) (he : min s.1 P.length = min t.1 P.length) :
    sm (vN P (cvO (fun _ => false) (mOut P xs).2.2.2)) P.length + 1 ≤ sm (oN (cvO (fun _ => false) (mOut P xs).2.2.2)) P.length := by
  obtain ⟨cov, hcov⟩ : ∃ cov, cov = cvO (fun _ => false) (mOut P xs).2.2.2 := ⟨_, rfl⟩
  rw [← hcov]
  have hc : ∀ e, cov e = true ↔ e ∈ (mOut P xs).2.2.2 := fun e => by
    rw [hcov, cvO_iff]
    exact ⟨fun h => h.resolve_left (fun z => by cases z), .inr⟩
  obtain ⟨N, z, p1, p2, p3, p4, p5⟩ := rP_some hp
  obtain ⟨hz1, hz2⟩ := pass_nil p3 p4
  -- each step of the run is covered
  have edge : ∀ {k : Nat} {a b : rC}, rI P xs k rZ = some a → rS P xs a = some b → cov (17 * a.1 + min b.1 P.length) = true := by
    intro k a b ha hb
    have hk1 : rI P xs (k + 1) rZ = some b := by rw [rI_succ, ha]; exact hb
    have hk : k + 1 ≤ N := rI_stop p2 p3 hk1
    refine (hc _).mpr (rE_iff.mpr ⟨k, a, b, by omega, ha, hb, fun q => ?_, rfl⟩)
    have : k + 1 = N := by omega
    subst this
    rw [p2] at hk1
    cases hk1
    have := p5 q.1
    omega
  have dec : ∀ {u v : Nat}, v < 17 → cov (17 * u + v) = true → ∃ k a b, rI P xs k rZ = some a ∧ rS P xs a = some b ∧ a.1 = u ∧ min b.1 P.length = v := by
    intro u v hv h
    obtain ⟨k, a, b, -, h3, h4, -, h6⟩ := rE_iff.mp ((hc _).mp h)
    have : min b.1 P.length < 17 := by omega
    exact ⟨k, a, b, h3, h4, by omega, by omega⟩
  -- nodes that are come to are left
  have hle : ∀ u, u < P.length → vN P cov u ≤ oN cov u := by
    intro u hu
    by_cases q : gS P u ≠ [] ∧ gV cov u
    · rw [vN_t q]
      have hvis : ∃ k a, rI P xs k rZ = some a ∧ a.1 = u := by
        rcases q.2 with z0 | ⟨w, hw⟩
        · exact ⟨0, rZ, rfl, z0.symm⟩
        · obtain ⟨k, a, b, h3, h4, h5, h6⟩ := dec (u := w) (v := u) (by omega) hw
          exact ⟨k + 1, b, by rw [rI_succ, h3]; exact h4, by omega⟩
      obtain ⟨k, a, ha, hau⟩ := hvis
      obtain ⟨b, hb⟩ := rS_of (xs := xs) (s := a) (by rw [hau]; exact q.1)
      have := edge ha hb
      rw [hau] at this
      exact oN_one (by omega) this
    · rw [vN_f q]; exact Nat.zero_le _
  -- some node is left two ways
  have htwo : ∃ u, u < P.length ∧ 2 ≤ oN cov u := by
    apply Classical.byContradiction
    intro hno
    have fun1 : ∀ {k k2 : Nat} {a b a2 b2 : rC}, rI P xs k rZ = some a → rS P xs a = some b → rI P xs k2 rZ = some a2 → rS P xs a2 = some b2 → a.1 = a2.1 → min b.1 P.length = min b2.1 P.length := by
      intro k k2 a b a2 b2 ha hb ha2 hb2 e
      apply Classical.byContradiction
      intro hne
      refine hno ⟨a.1, (rS_some hb).1, oN_two (v := min b.1 P.length) (w := min b2.1 P.length) (by omega) (by omega) (edge ha hb) ?_ hne⟩
      rw [e]
      exact edge ha2 hb2
    have hjN : j ≤ N := rI_stop p2 p3 h2
    have along : ∀ k, j + k ≤ N → ∃ a b, rI P xs (i + k) rZ = some a ∧ rI P xs (j + k) rZ = some b ∧ min a.1 P.length = min b.1 P.length := by
      intro k
      induction k with
      | zero => intro _; exact ⟨s, t, h1, h2, he⟩
      | succ k ih =>
        intro hk
        obtain ⟨a, b, a1, b1, e1⟩ := ih (by omega)
        have get : ∀ m, m ≤ N → ∃ w, rI P xs m rZ = some w := by
          intro m hm
          cases e : rI P xs m rZ with
          | some w => exact ⟨w, rfl⟩
          | none =>
            obtain ⟨r, rfl⟩ : ∃ r, N = m + r := ⟨N - m, by omega⟩
            rw [rI_add, e] at p2
            cases p2
        obtain ⟨a', ha'⟩ := get (i + k + 1) (by omega)
        obtain ⟨b', hb'⟩ := get (j + k + 1) (by omega)
        have sa : rS P xs a = some a' := by rw [rI_succ, a1] at ha'; exact ha'
        have sb : rS P xs b = some b' := by rw [rI_succ, b1] at hb'; exact hb'
        have la := (rS_some sa).1
        have lb := (rS_some sb).1
        exact ⟨a', b', ha', hb', fun1 a1 sa b1 sb (by omega)⟩
    obtain ⟨a, b, a1, b1, e1⟩ := along (N - j) (by omega)
    rw [show j + (N - j) = N by omega, p2] at b1
    cases b1
    -- the node of the end is left at an earlier time
    obtain ⟨r, hr⟩ : ∃ r, N = (i + (N - j)) + (r + 1) := ⟨N - (i + (N - j)) - 1, by omega⟩
    have h3 := p2
    rw [hr, rI_add, a1] at h3
    have h3 : (rS P xs a).bind (rI P xs r) = some z := h3
    cases e : rS P xs a with
    | none => rw [e] at h3; cases h3
    | some a' =>
      have := gS_step e
      have la := (rS_some e).1
      rw [show a.1 = min z.1 P.length by omega, hz1] at this
      cases this
  obtain ⟨u, hu, hu2⟩ := htwo
  have h3 : sm (fun v => vN P cov v + b1 (v = u)) P.length ≤ sm (oN cov) P.length := by
    refine sm_le (fun v hv => ?_)
    by_cases q : v = u
    · subst q
      rw [b1_t rfl]
      have := vN_le (P := P) (cov := cov) (u := v)
      omega
    · rw [b1_f q]; exact hle v hv
  rw [sm_add, sm_iso hu] at h3
  exact h3
