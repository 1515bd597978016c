/-! ROOM 2: a run as a row of states *
-/
set_option maxRecDepth 100000
/-- a state of a run: address, registers, digits read -/
abbrev rC : Type := Nat × (Nat → Int32) × Nat
def rIn (P : List mI) (s : rC) : mI := P.getD s.1 mI0
/-- the next state -/
def rS (P : List mI) (xs : List Nat) (s : rC) : Option rC :=
  if s.1 < P.length then (mNext (rIn P s) (mRegs (rIn P s) xs s.2.2 s.2.1) s.1).map (fun nx => (nx, mRegs (rIn P s) xs s.2.2 s.2.1, mRd (rIn P s) s.2.2)) else none
/-- the state n steps on -/
def rI (P : List mI) (xs : List Nat) : Nat → rC → Option rC
  | 0, s => some s
  | n + 1, s => (rS P xs s).bind (rI P xs n)
def rZ : rC := (0, fun _ => 0, 0)
/-- the end of a run that fails with c -/
def rF (P : List mI) (c : Int32) (s : rC) : Prop := s.1 < P.length ∧ (rIn P s).1 = 7 ∧ (rIn P s).2.2.1 = c
theorem rS_some {P : List mI} {xs : List Nat} {s t : rC} (h : rS P xs s = some t) : s.1 < P.length ∧ mNext (rIn P s) t.2.1 s.1 = some t.1 ∧ t.2.1 = mRegs (rIn P s) xs s.2.2 s.2.1 ∧ t.2.2 = mRd (rIn P s) s.2.2 := by
  unfold rS at h
  split at h
  · rename_i q
    cases e : mNext (rIn P s) (mRegs (rIn P s) xs s.2.2 s.2.1) s.1 with
    | none => rw [e] at h; cases h
    | some nx =>
      rw [e] at h
      cases h
      exact ⟨q, e, rfl, rfl⟩
  · cases h
theorem rF_stop {P : List mI} {xs : List Nat} {c : Int32} {s : rC} (h : rF P c s) : rS P xs s = none := by
  unfold rS
  rw [if_pos h.1]
  unfold mNext
  rw [if_neg (by rw [h.2.1]; decide), if_neg (by rw [h.2.1]; decide), if_neg (by rw [h.2.1]; decide), if_pos (.inl h.2.1)]
  rfl
theorem rI_add {P : List mI} {xs : List Nat} : ∀ (m n : Nat) (s : rC), rI P xs (m + n) s = (rI P xs m s).bind (rI P xs n)
  | 0, n, s => by rw [Nat.zero_add]; rfl
  | m + 1, n, s => by
    rw [Nat.add_right_comm]
    show (rS P xs s).bind (rI P xs (m + n)) = ((rS P xs s).bind (rI P xs m)).bind (rI P xs n)
    cases rS P xs s with
    | none => rfl
    | some t => exact rI_add m n t
theorem rI_one {P : List mI} {xs : List Nat} (s : rC) : rI P xs 1 s = rS P xs s := by
  show (rS P xs s).bind (rI P xs 0) = _
  cases rS P xs s <;> rfl
theorem rI_succ {P : List mI} {xs : List Nat} {n : Nat} {s : rC} : rI P xs (n + 1) s = (rI P xs n s).bind (rS P xs) := by
  rw [rI_add]
  congr 1
  funext t
  exact rI_one t
/-- a run fails with c: by states -/
theorem rF_run {P : List mI} {xs : List Nat} {c : Int32} : ∀ (k st : Nat) (s : rC), k + st = 65 → (st = 64 → ¬ s.1 < P.length) → ((mRun P xs k s.1 s.2.1 s.2.2 st).1 = 1 ∧ (mRun P xs k s.1 s.2.1 s.2.2 st).2.1 = some c ↔ ∃ n t, n + st ≤ 63 ∧ rI P xs n s = some t ∧ rF P c t) := by
  intro k
  induction k with
  | zero =>
    intro st s hk hst
    constructor
    · rintro ⟨h, -⟩; cases h
    · rintro ⟨n, t, h1, -⟩; omega
  | succ k ih =>
    intro st s hk hst
    by_cases h0 : s.1 < P.length
    · cases e : mNext (P.getD s.1 mI0) (mRegs (P.getD s.1 mI0) xs s.2.2 s.2.1) s.1 with
      | none =>
        have hs : rS P xs s = none := by unfold rS rIn; rw [if_pos h0, e]; rfl
        have er : mRun P xs (k + 1) s.1 s.2.1 s.2.2 st = (if (P.getD s.1 mI0).1 = 7 then 1 else 0, some (P.getD s.1 mI0).2.2.1, st + 1, []) := by rw [mRun, if_pos h0, e]
        rw [er]
        constructor
        · rintro ⟨h1, h2⟩
          refine ⟨0, s, ?_, rfl, h0, ?_, ?_⟩
          · by_cases q : st = 64
            · exact absurd h0 (hst q)
            · have : st ≤ 64 := by omega
              omega
          · by_cases q : (P.getD s.1 mI0).1 = 7
            · exact q
            · rw [if_neg q] at h1; cases h1
          · exact Option.some.inj h2
        · rintro ⟨n, t, h1, h2, h3⟩
          cases n with
          | zero =>
            cases h2
            exact ⟨if_pos h3.2.1, congrArg some h3.2.2⟩
          | succ n =>
            rw [rI, hs] at h2
            cases h2
      | some nx =>
        have hs : rS P xs s = some (nx, mRegs (P.getD s.1 mI0) xs s.2.2 s.2.1, mRd (P.getD s.1 mI0) s.2.2) := by unfold rS rIn; rw [if_pos h0, e]; rfl
        by_cases hh : nx < P.length ∧ st + 1 = 64
        · have er : mRun P xs (k + 1) s.1 s.2.1 s.2.2 st = (2, none, st + 1, []) := by rw [mRun, if_pos h0, e]; exact if_pos hh
          rw [er]
          constructor
          · rintro ⟨h1, -⟩; cases h1
          · rintro ⟨n, t, h1, h2, h3⟩
            have : n = 0 := by omega
            subst this
            cases h2
            rw [rF_stop h3] at hs
            cases hs
        · have i2 := ih (st + 1) (nx, mRegs (P.getD s.1 mI0) xs s.2.2 s.2.1, mRd (P.getD s.1 mI0) s.2.2) (by omega) (fun q z => hh ⟨z, q⟩)
          have er1 : (mRun P xs (k + 1) s.1 s.2.1 s.2.2 st).1 = (mRun P xs k nx (mRegs (P.getD s.1 mI0) xs s.2.2 s.2.1) (mRd (P.getD s.1 mI0) s.2.2) (st + 1)).1 := by rw [mRun, if_pos h0, e]; show (if nx < P.length ∧ st + 1 = 64 then _ else _ : Nat × Option Int32 × Nat × List Nat).1 = _; rw [if_neg hh]
          have er2 : (mRun P xs (k + 1) s.1 s.2.1 s.2.2 st).2.1 = (mRun P xs k nx (mRegs (P.getD s.1 mI0) xs s.2.2 s.2.1) (mRd (P.getD s.1 mI0) s.2.2) (st + 1)).2.1 := by rw [mRun, if_pos h0, e]; show (if nx < P.length ∧ st + 1 = 64 then _ else _ : Nat × Option Int32 × Nat × List Nat).2.1 = _; rw [if_neg hh]
          rw [er1, er2]
          refine i2.trans ⟨?_, ?_⟩
          · rintro ⟨n, t, h1, h2, h3⟩
            refine ⟨n + 1, t, by omega, ?_, h3⟩
            rw [rI, hs]
            exact h2
          · rintro ⟨n, t, h1, h2, h3⟩
            cases n with
            | zero =>
              cases h2
              rw [rF_stop h3] at hs
              cases hs
            | succ n =>
              rw [rI, hs] at h2
              exact ⟨n, t, by omega, h2, h3⟩
    · have er : mRun P xs (k + 1) s.1 s.2.1 s.2.2 st = (0, none, st, []) := by rw [mRun, if_neg h0]
      rw [er]
      constructor
      · rintro ⟨h1, -⟩; cases h1
      · rintro ⟨n, t, h1, h2, h3⟩
        cases n with
        | zero => cases h2; exact absurd h3.1 h0
        | succ n =>
          rw [rI, show rS P xs s = none by unfold rS; exact if_neg h0] at h2
          cases h2
/-- a run fails with c -/
theorem rF_iff {P : List mI} {xs : List Nat} {c : Int32} : mFails P xs c = true ↔ ∃ n t, n ≤ 63 ∧ rI P xs n rZ = some t ∧ rF P c t := by
  unfold mFails
  rw [decide_eq_true_iff, mOut_eq]
  exact rF_run 65 0 rZ rfl (fun h => by cases h)
theorem rF_code {P : List mI} {xs : List Nat} (h : (mOut P xs).1 = 1) : mFails P xs (mCode P xs) = true := by
  unfold mFails mCode
  rw [decide_eq_true_iff]
  refine ⟨h, ?_⟩
  cases e : (mOut P xs).2.1 with
  | some c => rfl
  | none =>
    have h1 := mCode_get h 0
    have h2 := mCode_get h 1
    rw [e] at h1 h2
    exact absurd (h1.trans h2.symm) (by decide)
/-- the edges of a run -/
theorem rE_run {P : List mI} {xs : List Nat} {x : Nat} : ∀ (k st : Nat) (s : rC), k + st = 65 → (st = 64 → ¬ s.1 < P.length) → (x ∈ (mRun P xs k s.1 s.2.1 s.2.2 st).2.2.2 ↔ ∃ n t u, n + st ≤ 63 ∧ rI P xs n s = some t ∧ rS P xs t = some u ∧ ¬ (u.1 < P.length ∧ n + st = 63) ∧ x = 17 * t.1 + min u.1 P.length) := by
  intro k
  induction k with
  | zero =>
    intro st s hk hst
    constructor
    · intro h; cases h
    · rintro ⟨n, t, u, h1, -⟩; omega
  | succ k ih =>
    intro st s hk hst
    by_cases h0 : s.1 < P.length
    · cases e : mNext (P.getD s.1 mI0) (mRegs (P.getD s.1 mI0) xs s.2.2 s.2.1) s.1 with
      | none =>
        have hs : rS P xs s = none := by unfold rS rIn; rw [if_pos h0, e]; rfl
        have er : mRun P xs (k + 1) s.1 s.2.1 s.2.2 st = (if (P.getD s.1 mI0).1 = 7 then 1 else 0, some (P.getD s.1 mI0).2.2.1, st + 1, []) := by rw [mRun, if_pos h0, e]
        rw [er]
        constructor
        · intro h; cases h
        · rintro ⟨n, t, u, h1, h2, h3, h4, h5⟩
          cases n with
          | zero => cases h2; rw [hs] at h3; cases h3
          | succ n => rw [rI, hs] at h2; cases h2
      | some nx =>
        have hs : rS P xs s = some (nx, mRegs (P.getD s.1 mI0) xs s.2.2 s.2.1, mRd (P.getD s.1 mI0) s.2.2) := by unfold rS rIn; rw [if_pos h0, e]; rfl
        have hl : st < 64 := by
          rcases Nat.lt_or_ge st 64 with q | q
          · exact q
          · exact absurd h0 (hst (by omega))
        by_cases hh : nx < P.length ∧ st + 1 = 64
        · have er : mRun P xs (k + 1) s.1 s.2.1 s.2.2 st = (2, none, st + 1, []) := by rw [mRun, if_pos h0, e]; exact if_pos hh
          rw [er]
          constructor
          · intro h; cases h
          · rintro ⟨n, t, u, h1, h2, h3, h4, h5⟩
            have : n = 0 := by omega
            subst this
            cases h2
            rw [hs] at h3
            cases h3
            exact absurd ⟨hh.1, by omega⟩ h4
        · have i2 := ih (st + 1) (nx, mRegs (P.getD s.1 mI0) xs s.2.2 s.2.1, mRd (P.getD s.1 mI0) s.2.2) (by omega) (fun q z => hh ⟨z, q⟩)
          have er : (mRun P xs (k + 1) s.1 s.2.1 s.2.2 st).2.2.2 = (17 * s.1 + min nx P.length) :: (mRun P xs k nx (mRegs (P.getD s.1 mI0) xs s.2.2 s.2.1) (mRd (P.getD s.1 mI0) s.2.2) (st + 1)).2.2.2 := by rw [mRun, if_pos h0, e]; show (if nx < P.length ∧ st + 1 = 64 then _ else _ : Nat × Option Int32 × Nat × List Nat).2.2.2 = _; rw [if_neg hh]
          rw [er, List.mem_cons]
          constructor
          · rintro (h | h)
            · exact ⟨0, s, _, by omega, rfl, hs, fun z => hh ⟨z.1, by omega⟩, h⟩
            · obtain ⟨n, t, u, h1, h2, h3, h4, h5⟩ := i2.mp h
              exact ⟨n + 1, t, u, by omega, by rw [rI, hs]; exact h2, h3, fun z => h4 ⟨z.1, by omega⟩, h5⟩
          · rintro ⟨n, t, u, h1, h2, h3, h4, h5⟩
            cases n with
            | zero => cases h2; rw [hs] at h3; cases h3; exact .inl h5
            | succ n =>
              rw [rI, hs] at h2
              exact .inr (i2.mpr ⟨n, t, u, by omega, h2, h3, fun z => h4 ⟨z.1, by omega⟩, h5⟩)
    · have er : mRun P xs (k + 1) s.1 s.2.1 s.2.2 st = (0, none, st, []) := by rw [mRun, if_neg h0]
      rw [er]
      constructor
      · intro h; cases h
      · rintro ⟨n, t, u, h1, h2, h3, h4, h5⟩
        have hs : rS P xs s = none := by unfold rS; exact if_neg h0
        cases n with
        | zero => cases h2; rw [hs] at h3; cases h3
        | succ n => rw [rI, hs] at h2; cases h2
theorem rE_iff {P : List mI} {xs : List Nat} {x : Nat} : x ∈ (mOut P xs).2.2.2 ↔ ∃ n t u, n ≤ 63 ∧ rI P xs n rZ = some t ∧ rS P xs t = some u ∧ ¬ (u.1 < P.length ∧ n = 63) ∧ x = 17 * t.1 + min u.1 P.length := by
  rw [mOut_eq]
  exact rE_run 65 0 rZ rfl (fun h => by cases h)
/-- a run that passes -/
theorem rP_run {P : List mI} {xs : List Nat} : ∀ (k st : Nat) (s : rC), k + st = 65 → (st = 64 → ¬ s.1 < P.length) → (mRun P xs k s.1 s.2.1 s.2.2 st).1 = 0 → ∃ n t, n + st ≤ 64 ∧ rI P xs n s = some t ∧ rS P xs t = none ∧ ¬ (t.1 < P.length ∧ (rIn P t).1 = 7) ∧ (t.1 < P.length → n + st ≤ 63) := by
  intro k
  induction k with
  | zero => intro st s hk hst h; cases h
  | succ k ih =>
    intro st s hk hst h
    by_cases h0 : s.1 < P.length
    · cases e : mNext (P.getD s.1 mI0) (mRegs (P.getD s.1 mI0) xs s.2.2 s.2.1) s.1 with
      | none =>
        have hs : rS P xs s = none := by unfold rS rIn; rw [if_pos h0, e]; rfl
        rw [mRun, if_pos h0, e] at h
        refine ⟨0, s, by omega, rfl, hs, fun z => ?_, fun _ => ?_⟩
        rotate_left
        · rcases Nat.lt_or_ge st 64 with q | q
          · omega
          · exact absurd h0 (hst (by omega))
        have h : (if (P.getD s.1 mI0).1 = 7 then 1 else 0) = 0 := h
        rw [if_pos (show (P.getD s.1 mI0).1 = 7 from z.2)] at h
        cases h
      | some nx =>
        have hs : rS P xs s = some (nx, mRegs (P.getD s.1 mI0) xs s.2.2 s.2.1, mRd (P.getD s.1 mI0) s.2.2) := by unfold rS rIn; rw [if_pos h0, e]; rfl
        rw [mRun, if_pos h0, e] at h
        have h : (if nx < P.length ∧ st + 1 = 64 then (2, none, st + 1, []) else ((mRun P xs k nx (mRegs (P.getD s.1 mI0) xs s.2.2 s.2.1) (mRd (P.getD s.1 mI0) s.2.2) (st + 1)).1, _, _, _) : Nat × Option Int32 × Nat × List Nat).1 = 0 := h
        by_cases hh : nx < P.length ∧ st + 1 = 64
        · rw [if_pos hh] at h; cases h
        · rw [if_neg hh] at h
          obtain ⟨n, t, h1, h2, h3, h4, h5⟩ := ih (st + 1) (nx, mRegs (P.getD s.1 mI0) xs s.2.2 s.2.1, mRd (P.getD s.1 mI0) s.2.2) (by omega) (fun q z => hh ⟨z, q⟩) h
          exact ⟨n + 1, t, by omega, by rw [rI, hs]; exact h2, h3, h4, fun z => by have := h5 z; omega⟩
    · exact ⟨0, s, by omega, rfl, by unfold rS; exact if_neg h0, fun z => h0 z.1, fun z => absurd z h0⟩
theorem rP_some {P : List mI} {xs : List Nat} (h : (mOut P xs).1 = 0) : ∃ n t, n ≤ 64 ∧ rI P xs n rZ = some t ∧ rS P xs t = none ∧ ¬ (t.1 < P.length ∧ (rIn P t).1 = 7) ∧ (t.1 < P.length → n ≤ 63) := by
  rw [mOut_eq] at h
  exact rP_run 65 0 rZ rfl (fun h => by cases h) h
