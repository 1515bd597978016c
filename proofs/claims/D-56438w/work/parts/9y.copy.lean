/-! ROOM 25: one reading instruction and one sum of what it reads *
-/
set_option maxRecDepth 100000
/-- one sum, of ra into rb; nothing else is summed -/
def pCopy (P : List mI) (ra rb : Nat) : Prop := ra ≠ rb ∧ (∀ u, u < P.length → ((P.getD u mI0).1 = 0 → (P.getD u mI0).2.1 = ra) ∧ ((P.getD u mI0).1 = 3 → (P.getD u mI0).2.1 = rb ∧ (P.getD u mI0).2.2.2 = ra)) ∧ ∀ u v, u < P.length → v < P.length → (P.getD u mI0).1 = 3 → (P.getD v mI0).1 = 3 → u = v
/-- a run with a reading, the fork and the next reading -/
def rHub (P : List mI) (c : Int32) (X : List Nat) (n m0 i m1 : Nat) : Prop := rRef P c X n m0 m1 ∧ m0 < i ∧ i < m1 ∧ isU P c X i ∧ ∀ k, m0 ≤ k → k < m1 → isU P c X k → k = i
theorem isR_state {P : List mI} {xs : List Nat} {i : Nat} {s : rC} (h : rI P xs i rZ = some s) (hn : ¬ isR P xs i) (hl : s.1 < P.length) : (rIn P s).1 ≠ 0 := fun z => hn (isR_of h hl z)
/-- the weights are 0 or 1 -/
theorem wt_one {P : List mI} {c : Int32} {ra rb : Nat} (hB : awB P c ≤ 1) (hR : pOne P) (hc : pCopy P ra rb) {X ys : List Nat} {n m0 i0 m1 n2 : Nat} (hh : rHub P c X n m0 i0 m1) (hy : awT P c ys 0 rZ n2) (p : Nat) :
    ∀ (i : Nat) (s : rC), i ≤ n2 → rI P ys i rZ = some s → (∀ r, r ≠ ra → r ≠ rb → wt P ys p i r = 0) ∧ (wt P ys p i ra = 0 ∨ (wt P ys p i ra = 1 ∧ s.2.2 = p + 1)) ∧
      (wt P ys p i rb = 0 ∨ (wt P ys p i rb = 1 ∧ p + 1 ≤ s.2.2 ∧ (s.2.2 = p + 1 → ∃ j t, j < i ∧ rI P ys j rZ = some t ∧ (rIn P t).1 = 3 ∧ t.1 < P.length ∧ t.2.2 = p + 1))) := by
  intro i
  induction i with
  | zero => intro s _ _; exact ⟨fun r _ _ => rfl, .inl rfl, .inl rfl⟩
  | succ i ih =>
    intro s hi hs
    obtain ⟨w, hw⟩ := awT_time hy (show i ≤ n2 by omega)
    obtain ⟨i1, i2, i3⟩ := ih w (by omega) hw.2.1
    have hs1 := hs
    rw [rI_succ, hw.2.1] at hs1
    have hs1 : rS P ys w = some s := hs1
    have hrd := rd_step hs1
    obtain ⟨k1, k2⟩ := hc.2.1 w.1 (awT_lt hw)
    have hne := hc.1
    rw [wt_succ hw.2.1]
    unfold wS
    by_cases q0 : (rIn P w).1 = 0
    · rw [if_pos q0] at hrd ⊢
      have e : (rIn P w).2.1 = ra := k1 q0
      rw [e]
      unfold upd
      refine ⟨fun r h1 h2 => by rw [if_neg h1]; exact i1 r h1 h2, ?_, ?_⟩
      · rw [if_pos rfl]
        by_cases z : w.2.2 = p
        · rw [if_pos z]; exact .inr ⟨rfl, by omega⟩
        · rw [if_neg z]; exact .inl rfl
      · rw [if_neg (Ne.symm hne)]
        rcases i3 with z | ⟨z, z2, -⟩
        · exact .inl z
        · exact .inr ⟨z, by omega, fun z3 => absurd z3 (by omega)⟩
    · rw [if_neg q0] at hrd ⊢
      have keep : wt P ys p i rb = 0 ∨ (wt P ys p i rb = 1 ∧ p + 1 ≤ s.2.2 ∧ (s.2.2 = p + 1 → ∃ j t, j < i + 1 ∧ rI P ys j rZ = some t ∧ (rIn P t).1 = 3 ∧ t.1 < P.length ∧ t.2.2 = p + 1)) := by
        rcases i3 with z | ⟨z, z2, z3⟩
        · exact .inl z
        · refine .inr ⟨z, by omega, fun z4 => ?_⟩
          obtain ⟨j, t, j1, j2⟩ := z3 (by omega)
          exact ⟨j, t, by omega, j2⟩
      have keepa : wt P ys p i ra = 0 ∨ (wt P ys p i ra = 1 ∧ s.2.2 = p + 1) := by rw [hrd]; exact i2
      by_cases q1 : (rIn P w).1 = 1
      · rw [if_pos q1]
        unfold upd
        refine ⟨fun r h1 h2 => ?_, ?_, ?_⟩
        · split
          · rfl
          · exact i1 r h1 h2
        · split
          · exact .inl rfl
          · exact keepa
        · split
          · exact .inl rfl
          · exact keep
      · rw [if_neg q1]
        by_cases q3 : (rIn P w).1 = 3
        · rw [if_pos q3]
          obtain ⟨e1, e2⟩ := k2 q3
          rw [show (rIn P w).2.1 = rb from e1, show (rIn P w).2.2.2 = ra from e2]
          unfold upd
          refine ⟨fun r h1 h2 => by rw [if_neg h2]; exact i1 r h1 h2, by rw [if_neg hne]; exact keepa, ?_⟩
          rw [if_pos rfl]
          rcases i2 with z | ⟨z, z2⟩
          · rw [z, Int32.add_zero]; exact keep
          · rcases i3 with y | ⟨y, y2, y3⟩
            · rw [z, y]
              exact .inr ⟨by decide, by omega, fun _ => ⟨i, w, by omega, hw.2.1, q3, awT_lt hw, z2⟩⟩
            · exfalso
              obtain ⟨j, t, j1, j2, j3, j4, j5⟩ := y3 z2
              obtain ⟨m, r, r1, r2, r3, r4, r5⟩ := rd_at (j := p) j2 (Nat.zero_le _) (by omega)
              have hnode : w.1 = t.1 := hc.2.2 _ _ (awT_lt hw) j4 q3 j3
              refine no_twice hB hR hh.1 hh.2.1 hh.2.2.1 hh.2.2.2.1 hh.2.2.2.2 hy (isR_of r2 r3 r4) r1 j1 (show i ≤ n2 by omega) (fun k k1 k2 => ?_) ⟨t, j2, rfl⟩ ⟨w, hw.2.1, hnode⟩
              rintro ⟨x, ⟨sx, x1, rfl⟩, x2, x3⟩
              have a1 := rd_pre x1 r2 r4 k1
              rcases Nat.lt_or_ge k i with z4 | z4
              · have a2 := rd_pre hw.2.1 x1 x3 z4
                omega
              · have : k = i := by omega
                subst this
                rw [hw.2.1] at x1
                cases x1
                exact q0 x3
        · rw [if_neg q3]
          exact ⟨i1, keepa, keep⟩
/-- what is read does not grow where nothing is read -/
theorem rd_stay {P : List mI} {ys : List Nat} {m : Nat} {s : rC} (h : rI P ys m rZ = some s) : ∀ (k : Nat) (t : rC), rI P ys (m + k) rZ = some t → (∀ j, j < k → ¬ isR P ys (m + j)) → t.2.2 = s.2.2 := by
  intro k
  induction k with
  | zero => intro t ht _; rw [Nat.add_zero, h] at ht; cases ht; rfl
  | succ k ih =>
    intro t ht hn
    rw [show m + (k + 1) = m + k + 1 by omega, rI_succ] at ht
    cases e : rI P ys (m + k) rZ with
    | none => rw [e] at ht; cases ht
    | some w =>
      rw [e] at ht
      have ht : rS P ys w = some t := ht
      have := ih w e (fun j hj => hn j (by omega))
      rw [rd_step ht, if_neg (isR_state e (hn k (by omega)) (rS_some ht).1)]
      exact this
/-- two runs from like states, all digits read: the second fails too -/
theorem fail_of {P : List mI} {c : Int32} {ys zs : List Nat} {n T : Nat} {s : rC} (hl : ys.length = zs.length) (hy : awT P c ys 0 rZ n) (hT : T ≤ n) (h1 : rI P ys T rZ = some s) (h2 : rI P zs T rZ = some s) (hr : ys.length ≤ s.2.2) : mFails P zs c = true := by
  obtain ⟨t, ht⟩ := awT_time hy (Nat.le_refl n)
  rw [Nat.sub_self] at ht
  obtain ⟨k, rfl⟩ : ∃ k, n = T + k := ⟨n - T, by omega⟩
  have h3 := ht.2.1
  rw [rI_add, h1] at h3
  have h4 := rI_agree (j := t.2.2) (ys := zs) (fun i h5 h6 => by unfold mDig; rw [if_neg (by omega), if_neg (by omega)]) h3 (Nat.le_refl _)
  refine rF_iff.mpr ⟨T + k, t, by have := ht.2.2.2; omega, ?_, rT_zero ht.2.2.1⟩
  rw [rI_add, h2]
  exact h4
/-- A and B together, E with ra as A and all else as B: no reading, no sum -/
theorem lockAB {P : List mI} {A B E : List Nat} {ra T : Nat} : ∀ (k : Nat), (∀ i, i ≤ k → ∃ u, nd P A (T + i) u ∧ nd P B (T + i) u) → (∀ i s, i < k → rI P A (T + i) rZ = some s → (rIn P s).1 ≠ 0 ∧ (rIn P s).1 ≠ 3) →
    (∃ a b e, rI P A T rZ = some a ∧ rI P B T rZ = some b ∧ rI P E T rZ = some e ∧ e.1 = a.1 ∧ e.2.2 = a.2.2 ∧ b.2.2 = a.2.2 ∧ e.2.1 ra = a.2.1 ra ∧ ∀ r, r ≠ ra → e.2.1 r = b.2.1 r) →
    ∃ a b e, rI P A (T + k) rZ = some a ∧ rI P B (T + k) rZ = some b ∧ rI P E (T + k) rZ = some e ∧ e.1 = a.1 ∧ e.2.2 = a.2.2 ∧ b.2.2 = a.2.2 ∧ e.2.1 ra = a.2.1 ra ∧ ∀ r, r ≠ ra → e.2.1 r = b.2.1 r := by
  intro k
  induction k with
  | zero => intro _ _ h; exact h
  | succ k ih =>
    intro hn ho h
    obtain ⟨a, b, e, a1, b1, e1, e2, e3, e4, e5, e6⟩ := ih (fun i hi => hn i (by omega)) (fun i s hi => ho i s (by omega)) h
    obtain ⟨o0, o3⟩ := ho k a (by omega) a1
    obtain ⟨u, ⟨sa, u1, rfl⟩, ⟨sb, v1, v2⟩⟩ := hn (k + 1) (Nat.le_refl _)
    obtain ⟨u', ⟨a', w1, rfl⟩, ⟨b', x1, x2⟩⟩ := hn k (by omega)
    rw [a1] at w1; cases w1
    rw [b1] at x1; cases x1
    rw [show T + (k + 1) = T + k + 1 by omega] at u1 v1 ⊢
    have s1 : rS P A a = some sa := by rw [rI_succ, a1] at u1; exact u1
    have s2 : rS P B b = some sb := by rw [rI_succ, b1] at v1; exact v1
    obtain ⟨p1, p2, p3, p4⟩ := rS_some s1
    obtain ⟨-, q2, q3, q4⟩ := rS_some s2
    have ib : rIn P b = rIn P a := by unfold rIn; rw [x2]
    have ie : rIn P e = rIn P a := by unfold rIn; rw [e2]
    rw [ib, e4] at q3 q4
    rw [ib, x2, v2] at q2
    have hg : ∀ r, r ≠ ra → mRegs (rIn P a) E a.2.2 e.2.1 r = sb.2.1 r := by
      intro r hr
      rw [q3]
      unfold mRegs
      rw [if_neg o0, if_neg o0]
      by_cases z1 : (rIn P a).1 = 1
      · rw [if_pos z1, if_pos z1]
        unfold upd
        split
        · rfl
        · exact e6 r hr
      · rw [if_neg z1, if_neg z1]
        by_cases z2 : (rIn P a).1 = 2
        · rw [if_pos z2, if_pos z2]
          unfold upd
          by_cases z : r = (rIn P a).2.1
          · rw [if_pos z, if_pos z, ← z, e6 r hr]
          · rw [if_neg z, if_neg z]; exact e6 r hr
        · rw [if_neg z2, if_neg z2, if_neg o3, if_neg o3]
          exact e6 r hr
    have hga : mRegs (rIn P a) E a.2.2 e.2.1 ra = sa.2.1 ra := by
      rw [p3]
      unfold mRegs
      rw [if_neg o0, if_neg o0]
      by_cases z1 : (rIn P a).1 = 1
      · rw [if_pos z1, if_pos z1]
        unfold upd
        split
        · rfl
        · exact e5
      · rw [if_neg z1, if_neg z1]
        by_cases z2 : (rIn P a).1 = 2
        · rw [if_pos z2, if_pos z2]
          unfold upd
          by_cases z : ra = (rIn P a).2.1
          · rw [if_pos z, if_pos z, ← z, e5]
          · rw [if_neg z, if_neg z]; exact e5
        · rw [if_neg z2, if_neg z2, if_neg o3, if_neg o3]
          exact e5
    have hnx : mNext (rIn P a) (mRegs (rIn P a) E a.2.2 e.2.1) a.1 = some sa.1 := by
      by_cases z : (rIn P a).2.1 = ra
      · rw [mNext_eq (g2 := sa.2.1) (by rw [z]; exact hga)]; exact p2
      · rw [mNext_eq (g2 := sb.2.1) (hg _ z)]; exact q2
    refine ⟨sa, sb, (sa.1, mRegs (rIn P a) E a.2.2 e.2.1, sa.2.2), u1, v1, ?_, rfl, rfl, by rw [p4, q4], hga, hg⟩
    rw [rI_succ, e1]
    show rS P E e = _
    unfold rS
    rw [if_pos (by rw [e2]; exact p1), ie, e3, e2, hnx, p4]
    rfl
