/-! ROOM 35: a tour jumps back; forks that runs leave both ways *
-/
set_option maxRecDepth 100000
theorem back_edge {P : List mI} {c : Int32} {y : List Nat} {n a b : Nat} (h : aTour P c y n a b) : ∃ j f g, a ≤ j ∧ j < b ∧ nd P y j f ∧ nd P y (j + 1) g ∧ g ≤ f := by
  apply Classical.byContradiction
  intro hno
  obtain ⟨h1, h2, h3, u, u1, u2⟩ := h
  have up : ∀ k, a + k ≤ b → ∃ v, nd P y (a + k) v ∧ u + k ≤ v := by
    intro k
    induction k with
    | zero => intro _; exact ⟨u, u1, Nat.le_refl _⟩
    | succ k ih =>
      intro hk
      obtain ⟨v, v1, v2⟩ := ih (by omega)
      obtain ⟨w, hw⟩ := nd_some h1 (show a + k + 1 ≤ n by omega)
      refine ⟨w, hw, ?_⟩
      rcases Nat.lt_or_ge v w with q | q
      · omega
      · exact absurd ⟨a + k, v, w, by omega, by omega, v1, hw, q⟩ hno
  obtain ⟨v, v1, v2⟩ := up (b - a) (by omega)
  rw [show a + (b - a) = b by omega] at v1
  have := nd_fun v1 u2
  omega
/-- what a fork asks -/
def asks (P : List mI) (s : rC) : Prop := ((rIn P s).1 = 4 ∧ s.2.1 (rIn P s).2.1 < (rIn P s).2.2.1) ∨ ((rIn P s).1 = 5 ∧ s.2.1 (rIn P s).2.1 = (rIn P s).2.2.1)
/-- without JUMP a tour jumps back at a fork that finds what it asks -/
theorem back_fork {P : List mI} {c : Int32} (hJ : ∀ u, u < P.length → (P.getD u mI0).1 ≠ 6) {y : List Nat} {n a b : Nat} (h : aTour P c y n a b) : ∃ j s, a ≤ j ∧ j < b ∧ rI P y j rZ = some s ∧ s.1 < P.length ∧ asks P s := by
  obtain ⟨j, f, g, j1, j2, ⟨s, s1, s2⟩, ⟨t, t1, t2⟩, j5⟩ := back_edge h
  rw [rI_succ, s1] at t1
  obtain ⟨p1, p2, p3, -⟩ := rS_some (show rS P y s = some t from t1)
  refine ⟨j, s, j1, j2, s1, p1, ?_⟩
  unfold mNext at p2
  by_cases q4 : (rIn P s).1 = 4
  · have hm : mRegs (rIn P s) y s.2.2 s.2.1 = s.2.1 := by
      unfold mRegs
      rw [if_neg (by omega), if_neg (by omega), if_neg (by omega), if_neg (by omega)]
    rw [if_pos q4, p3, hm] at p2
    split at p2
    · rename_i z; exact .inl ⟨q4, z⟩
    · have := Option.some.inj p2; omega
  · rw [if_neg q4] at p2
    by_cases q5 : (rIn P s).1 = 5
    · have hm : mRegs (rIn P s) y s.2.2 s.2.1 = s.2.1 := by
        unfold mRegs
        rw [if_neg (by omega), if_neg (by omega), if_neg (by omega), if_neg (by omega)]
      rw [if_pos q5, p3, hm] at p2
      split at p2
      · rename_i z; exact .inr ⟨q5, z⟩
      · have := Option.some.inj p2; omega
    · rw [if_neg q5, if_neg (show ¬ (rIn P s).1 = 6 from hJ s.1 p1)] at p2
      split at p2
      · cases p2
      · have := Option.some.inj p2; omega
/-- where all forks are alive each is left the other way too -/
theorem alive_no {P : List mI} (h : awC P = gC P) {f : Nat} (hf : (gS P f).length = 2) : ∃ z m t, sDg z ∧ m ≤ 63 ∧ rI P z m rZ = some t ∧ t.1 = f ∧ ¬ asks P t := by
  have h2 : (awS P f).length = 2 := by
    apply Classical.byContradiction
    intro hne
    have := awC_le (P := P) (D := [f]) (List.nodup_cons.mpr ⟨List.not_mem_nil, List.nodup_nil⟩) (fun u hu => by rw [List.mem_singleton.mp hu]; exact ⟨hf, hne⟩)
    simp only [List.length_cons, List.length_nil] at this
    omega
  obtain ⟨hl, hop⟩ := gS_two hf
  apply Classical.byContradiction
  intro hno
  have hall : ∀ v ∈ awS P f, v = min (P.getD f mI0).2.2.2 P.length := by
    intro v hv
    obtain ⟨z, m, t, t2, z1, z2, z3, z4, z5, z6⟩ := awS_mem.mp hv
    have hask : asks P t := Classical.not_not.mp (fun h => hno ⟨z, m, t, z1, z2, z3, z5, h⟩)
    obtain ⟨p1, p2, p3, -⟩ := rS_some z4
    have hin : rIn P t = P.getD f mI0 := by unfold rIn; rw [z5]
    have hm : mRegs (rIn P t) z t.2.2 t.2.1 = t.2.1 := by
      unfold mRegs
      rw [hin, if_neg (by omega), if_neg (by omega), if_neg (by omega), if_neg (by omega)]
    rw [p3, hm] at p2
    unfold mNext at p2
    rw [← z6]
    rcases hask with ⟨a1, a2⟩ | ⟨a1, a2⟩
    · rw [if_pos a1, if_pos a2] at p2
      rw [← Option.some.inj p2, hin]
    · rw [if_neg (by omega), if_pos a1, if_pos a2] at p2
      rw [← Option.some.inj p2, hin]
  have hd := awS_nodup (P := P) (u := f)
  match hg : awS P f, h2 with
  | [a, b], _ =>
    rw [hg] at hall hd
    have e1 := hall a List.mem_cons_self
    have e2 := hall b (List.mem_cons_of_mem _ List.mem_cons_self)
    exact (List.nodup_cons.mp hd).1 (List.mem_singleton.mpr (e1.trans e2.symm))
