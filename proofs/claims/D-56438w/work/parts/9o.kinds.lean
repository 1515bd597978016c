/-! ROOM 15: which campaigns can be dear *
-/
set_option maxRecDepth 100000
/-- six codes or more: cheap, or one of three kinds of programs -/
theorem camp_kinds {P : List mI} {c : Int32} {cs : List Int32} (hP : P.length ≤ 16) (hc : ∃ xs, mFails P xs c = true) (hd : (c :: cs).Nodup) (hcs : ∀ d ∈ cs, ∃ xs, mFails P xs d = true) (hp : ∃ xs, (mOut P xs).1 = 0) (h5 : 5 ≤ cs.length) :
    gB P c = 0 ∨ gQ P ≤ 1 ∨ (cs.length = 5 ∧ ((gC P = 7 ∧ gB P c = 1 ∧ gQ P ≤ 3) ∨ (gC P = 8 ∧ gB P c ≤ 2 ∧ gQ P = 2))) := by
  have h1 := gB_camp hc hd hcs hp
  have h2 := cnt_le hd (fun d hd2 => by
    rcases List.mem_cons.mp hd2 with rfl | z
    · exact hc
    · exact hcs d z)
  rw [List.length_cons] at h2
  omega
theorem gQ_two {P : List mI} (h : gQ P ≤ 1) {u v : Nat} (hu : u < P.length) (hv : v < P.length) (h1 : (P.getD u mI0).1 < 4) (h2 : (P.getD v mI0).1 < 4) : u = v := by
  by_cases e : u = v
  · exact e
  · exfalso
    have := sm_nodup (p := fun u => (P.getD u mI0).1 ≠ 4 ∧ (P.getD u mI0).1 ≠ 5 ∧ (P.getD u mI0).1 ≠ 7) (n := P.length) (l := [u, v]) (List.nodup_cons.mpr ⟨fun z => e (List.mem_singleton.mp z), List.nodup_cons.mpr ⟨List.not_mem_nil, List.nodup_nil⟩⟩) (fun w hw => by
      rcases List.mem_cons.mp hw with rfl | hw
      · exact ⟨hu, by omega, by omega, by omega⟩
      · rw [List.mem_singleton.mp hw]
        exact ⟨hv, by omega, by omega, by omega⟩)
    unfold gQ at h
    simp only [List.length_cons, List.length_nil] at this
    omega
/-- nothing is read -/
theorem no_read {P : List mI} {xs : List Nat} (h : ∀ u, u < P.length → (P.getD u mI0).1 ≠ 0) : ∀ (n : Nat) (t : rC), rI P xs n rZ = some t → t.2.2 = 0 := by
  intro n
  induction n with
  | zero => intro t ht; cases ht; rfl
  | succ n ih =>
    intro t ht
    rw [rI_succ] at ht
    cases e : rI P xs n rZ with
    | none => rw [e] at ht; cases ht
    | some s =>
      rw [e] at ht
      have ht : rS P xs s = some t := ht
      rw [rd_step ht, if_neg (show (rIn P s).1 ≠ 0 from h s.1 (rS_some ht).1)]
      exact ih s e
/-- at most one instruction that neither forks nor fails: cheap -/
theorem memo_Q {P : List mI} {c : Int32} (h : gQ P ≤ 1) : ∀ xs, sDg xs → mFails P xs c = true → 1 < xs.length → ∃ i, i ≤ 1 ∧ mFails P (xs.eraseIdx i) c = true := by
  by_cases q : ∃ u, u < P.length ∧ (P.getD u mI0).1 = 0
  · obtain ⟨u, hu, h0⟩ := q
    refine memo_1 (fun v hv => ?_) (fun v w hv hw h1 h2 => gQ_two h hv hw (by omega) (by omega))
    refine ⟨fun z => ?_, fun z => ?_, fun z => ?_⟩ <;>
      · have := gQ_two h hu hv (by omega) (by omega)
        subst this
        omega
  · intro xs _ hf hl
    obtain ⟨n, t, n1, n2, n3⟩ := rF_iff.mp hf
    have := no_read (fun u hu z => q ⟨u, hu, z⟩) n t n2
    exact ⟨1, Nat.le_refl _, rF_iff.mpr ⟨n, t, n1, (rI_unread hl n2 (by omega)).1, n3⟩⟩
