/-! ROOM 14: codes, forks and other instructions fill the program *
-/
set_option maxRecDepth 100000
/-- the instructions that neither fork nor fail -/
def gQ (P : List mI) : Nat := sm (fun u => b1 ((P.getD u mI0).1 ≠ 4 ∧ (P.getD u mI0).1 ≠ 5 ∧ (P.getD u mI0).1 ≠ 7)) P.length
theorem sm_const (k : Nat) : ∀ n, sm (fun _ => k) n = n * k
  | 0 => (Nat.zero_mul _).symm
  | n + 1 => by show sm (fun _ => k) n + k = _; rw [sm_const k n, Nat.succ_mul]
theorem gS_two {P : List mI} {u : Nat} (h : (gS P u).length = 2) : u < P.length ∧ ((P.getD u mI0).1 = 4 ∨ (P.getD u mI0).1 = 5) := by
  unfold gS at h
  split at h
  · rename_i q
    refine ⟨q, ?_⟩
    split at h
    · rename_i q2; exact q2
    · split at h
      · cases h
      · split at h <;> cases h
  · cases h
theorem gC_eq (P : List mI) : gC P = sm (fun u => b1 ((gS P u).length = 2)) P.length := by
  show sm (fun u => b1 ((gS P u).length = 2)) P.length + b1 ((gS P P.length).length = 2) = _
  rw [b1_f (fun z => absurd (gS_two z).1 (Nat.lt_irrefl _)), Nat.add_zero]
theorem cnt_le {P : List mI} {cs : List Int32} (hd : cs.Nodup) (hcs : ∀ d ∈ cs, ∃ xs, mFails P xs d = true) : cs.length + gC P + gQ P ≤ P.length := by
  have hL : ∀ ds : List Int32, ds.Nodup → (∀ d ∈ ds, ∃ xs, mFails P xs d = true) → ∃ T : List Nat, T.length = ds.length ∧ T.Nodup ∧ ∀ t ∈ T, t < P.length ∧ (P.getD t mI0).1 = 7 ∧ (P.getD t mI0).2.2.1 ∈ ds := by
    intro ds
    induction ds with
    | nil => intro _ _; exact ⟨[], rfl, List.nodup_nil, fun t ht => by cases ht⟩
    | cons d ds ih =>
      intro h1 h2
      obtain ⟨T, t1, t2, t3⟩ := ih (List.nodup_cons.mp h1).2 (fun e he => h2 e (List.mem_cons_of_mem _ he))
      obtain ⟨xs, hx⟩ := h2 d List.mem_cons_self
      obtain ⟨n, t, -, -, f2, f3, f4⟩ := rF_iff.mp hx
      refine ⟨t.1 :: T, by rw [List.length_cons, List.length_cons, t1], List.nodup_cons.mpr ⟨fun z => ?_, t2⟩, fun s hs => ?_⟩
      · have := (t3 _ z).2.2
        rw [show (P.getD t.1 mI0).2.2.1 = d from f4] at this
        exact (List.nodup_cons.mp h1).1 this
      · rcases List.mem_cons.mp hs with rfl | hs
        · exact ⟨f2, f3, by rw [show (P.getD t.1 mI0).2.2.1 = d from f4]; exact List.mem_cons_self⟩
        · obtain ⟨a1, a2, a3⟩ := t3 s hs
          exact ⟨a1, a2, List.mem_cons_of_mem _ a3⟩
  obtain ⟨T, t1, t2, t3⟩ := hL cs hd hcs
  have h1 := sm_nodup (p := fun u => (P.getD u mI0).1 = 7) t2 (fun t ht => ⟨(t3 t ht).1, (t3 t ht).2.1⟩)
  have h2 : sm (fun u => b1 ((P.getD u mI0).1 = 7) + b1 ((gS P u).length = 2) + b1 ((P.getD u mI0).1 ≠ 4 ∧ (P.getD u mI0).1 ≠ 5 ∧ (P.getD u mI0).1 ≠ 7)) P.length ≤ sm (fun _ => 1) P.length := by
    refine sm_le (fun u _ => ?_)
    by_cases q7 : (P.getD u mI0).1 = 7
    · rw [b1_t q7, b1_f (fun z => by have := (gS_two z).2; omega), b1_f (fun z => z.2.2 q7)]
      exact Nat.le_refl _
    · rw [b1_f q7]
      by_cases q : (gS P u).length = 2
      · rw [b1_t q, b1_f (fun z => (gS_two q).2.elim z.1 z.2.1)]
        exact Nat.le_refl _
      · rw [b1_f q]
        have := b1_le (p := (P.getD u mI0).1 ≠ 4 ∧ (P.getD u mI0).1 ≠ 5 ∧ (P.getD u mI0).1 ≠ 7)
        omega
  rw [sm_add, sm_add, sm_const, Nat.mul_one] at h2
  rw [gC_eq, ← t1]
  have h3 : gQ P = sm (fun u => b1 ((P.getD u mI0).1 ≠ 4 ∧ (P.getD u mI0).1 ≠ 5 ∧ (P.getD u mI0).1 ≠ 7)) P.length := rfl
  omega
