/-! ROOM 13: four runs in lockstep *
-/
set_option maxRecDepth 100000
theorem i4_add (a b c d : Int32) : (a - b) + (c - d) = (a + c) - (b + d) := by grind
theorem i4_add3 (a b c d e f : Int32) : (a - b - c) + (d - e - f) = (a + d) - (b + e) - (c + f) := by grind
theorem i4_k (a b c : Int32) : (a - b) + c = (a + c) - b := by grind
theorem i4_k3 (a b c d : Int32) : (a - b - c) + d = (a + d) - b - c := by grind
/-- what a step makes of the weights of the digit p -/
def wS (i : mI) (p rd : Nat) (w : Nat → Int32) : Nat → Int32 :=
  if i.1 = 0 then upd w i.2.1 (if rd = p then 1 else 0) else if i.1 = 1 then upd w i.2.1 0 else if i.1 = 3 then upd w i.2.1 (w i.2.1 + w i.2.2.2) else w
/-- four inputs: x, less one at q, less one at p and at q, less one at p -/
def is4 (p q : Nat) (xa xb xd xe : List Nat) : Prop := p ≠ q ∧ ∀ j, mDig xb j = mDig xa j - (if j = q then 1 else 0) ∧ mDig xd j = mDig xa j - (if j = p then 1 else 0) - (if j = q then 1 else 0) ∧ mDig xe j = mDig xa j - (if j = p then 1 else 0)
def rel4 (al be ga gb gd ge : Nat → Int32) : Prop := ∀ r, gb r = ga r - be r ∧ gd r = ga r - al r - be r ∧ ge r = ga r - al r
theorem rel4_step {i : mI} {p q rd : Nat} {xa xb xd xe : List Nat} {al be ga gb gd ge : Nat → Int32} (hx : is4 p q xa xb xd xe) (h : rel4 al be ga gb gd ge) : rel4 (wS i p rd al) (wS i q rd be) (mRegs i xa rd ga) (mRegs i xb rd gb) (mRegs i xd rd gd) (mRegs i xe rd ge) := by
  intro r
  obtain ⟨e1, e2, e3⟩ := hx.2 rd
  unfold wS mRegs
  by_cases q0 : i.1 = 0
  · rw [if_pos q0, if_pos q0, if_pos q0, if_pos q0, if_pos q0, if_pos q0]
    unfold upd
    by_cases z : r = i.2.1
    · rw [if_pos z, if_pos z, if_pos z, if_pos z, if_pos z, if_pos z]
      exact ⟨e1, e2, e3⟩
    · rw [if_neg z, if_neg z, if_neg z, if_neg z, if_neg z, if_neg z]
      exact h r
  · rw [if_neg q0, if_neg q0, if_neg q0, if_neg q0, if_neg q0, if_neg q0]
    by_cases q1 : i.1 = 1
    · rw [if_pos q1, if_pos q1, if_pos q1, if_pos q1, if_pos q1, if_pos q1]
      unfold upd
      by_cases z : r = i.2.1
      · rw [if_pos z, if_pos z, if_pos z, if_pos z, if_pos z]
        exact ⟨by grind, by grind, by grind⟩
      · rw [if_neg z, if_neg z, if_neg z, if_neg z, if_neg z, if_neg z]
        exact h r
    · rw [if_neg q1, if_neg q1, if_neg q1, if_neg q1, if_neg q1, if_neg q1]
      by_cases q2 : i.1 = 2
      · rw [if_pos q2, if_pos q2, if_pos q2, if_pos q2, if_neg (by rw [q2]; decide), if_neg (by rw [q2]; decide)]
        unfold upd
        by_cases z : r = i.2.1
        · obtain ⟨a, b, c⟩ := h i.2.1
          rw [if_pos z, if_pos z, if_pos z, if_pos z, z, a, b, c]
          exact ⟨i4_k _ _ _, i4_k3 _ _ _ _, i4_k _ _ _⟩
        · rw [if_neg z, if_neg z, if_neg z, if_neg z]
          exact h r
      · rw [if_neg q2, if_neg q2, if_neg q2, if_neg q2]
        by_cases q3 : i.1 = 3
        · rw [if_pos q3, if_pos q3, if_pos q3, if_pos q3, if_pos q3, if_pos q3]
          unfold upd
          by_cases z : r = i.2.1
          · obtain ⟨a, b, c⟩ := h i.2.1
            obtain ⟨a2, b2, c2⟩ := h i.2.2.2
            rw [if_pos z, if_pos z, if_pos z, if_pos z, if_pos z, if_pos z, a, b, c, a2, b2, c2]
            exact ⟨i4_add _ _ _ _, i4_add3 _ _ _ _ _ _, i4_add _ _ _ _⟩
          · rw [if_neg z, if_neg z, if_neg z, if_neg z, if_neg z, if_neg z]
            exact h r
        · rw [if_neg q3, if_neg q3, if_neg q3, if_neg q3, if_neg q3, if_neg q3]
          exact h r
/-- a register whose weights are nought or alike: the fourth has the value of one of the three -/
theorem rel4_val {al be ga gb gd ge : Nat → Int32} (h : rel4 al be ga gb gd ge) {r : Nat} (hg : al r = 0 ∨ be r = 0 ∨ al r = be r) : ge r = ga r ∨ ge r = gb r ∨ ge r = gd r := by
  obtain ⟨a, b, c⟩ := h r
  rcases hg with z | z | z
  · left; rw [c, z]; grind
  · right; right; rw [c, b, z]; grind
  · right; left; rw [c, a, z]
/-- at a test where three go together the fourth goes with them -/
theorem rel4_next {i : mI} {a : Nat} {n : Option Nat} {al be ga gb gd ge : Nat → Int32} (h : rel4 al be ga gb gd ge) (hg : al i.2.1 = 0 ∨ be i.2.1 = 0 ∨ al i.2.1 = be i.2.1) (h1 : mNext i ga a = n) (h2 : mNext i gb a = n) (h3 : mNext i gd a = n) : mNext i ge a = n := by
  rcases rel4_val h hg with z | z | z
  · rw [mNext_eq z]; exact h1
  · rw [mNext_eq z]; exact h2
  · rw [mNext_eq z]; exact h3
