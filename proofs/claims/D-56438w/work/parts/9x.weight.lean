/-! ROOM 24: what a digit weighs in a register; runs in lockstep *
-/
set_option maxRecDepth 100000
/-- the weights of the digit p in the registers at the time i -/
def wt (P : List mI) (ys : List Nat) (p : Nat) : Nat → Nat → Int32
  | 0 => fun _ => 0
  | i + 1 => match rI P ys i rZ with
    | some s => wS (rIn P s) p s.2.2 (wt P ys p i)
    | none => wt P ys p i
theorem wt_succ {P : List mI} {ys : List Nat} {p i : Nat} {s : rC} (h : rI P ys i rZ = some s) : wt P ys p (i + 1) = wS (rIn P s) p s.2.2 (wt P ys p i) := by
  rw [wt, h]
theorem path_rd {P : List mI} {xs ys : List Nat} : ∀ {m : Nat} {s t : rC}, sPath P xs ys m → rI P xs m rZ = some s → rI P ys m rZ = some t → s.1 = t.1 ∧ s.2.2 = t.2.2 := by
  intro m
  induction m with
  | zero => intro s t _ h1 h2; cases h1; cases h2; exact ⟨rfl, rfl⟩
  | succ m ih =>
    intro s t hp h1 h2
    obtain ⟨x, y, x1, x2, x3⟩ := hp (m + 1) (Nat.le_refl _)
    rw [h1] at x1; rw [h2] at x2
    cases x1; cases x2
    refine ⟨x3, ?_⟩
    obtain ⟨u, v, e1, e2, e3⟩ := hp m (by omega)
    rw [rI_succ, e1] at h1
    rw [rI_succ, e2] at h2
    obtain ⟨-, i2⟩ := ih (sPath_mono hp (by omega)) e1 e2
    rw [rd_step (show rS P xs u = some s from h1), rd_step (show rS P ys v = some t from h2), i2]
    unfold rIn
    rw [e3]
theorem wt_path {P : List mI} {xs ys : List Nat} {p : Nat} : ∀ {m : Nat}, sPath P xs ys m → wt P xs p m = wt P ys p m := by
  intro m
  induction m with
  | zero => intro _; rfl
  | succ m ih =>
    intro hp
    obtain ⟨u, v, e1, e2, e3⟩ := hp m (by omega)
    rw [wt_succ e1, wt_succ e2, ih (sPath_mono hp (by omega)), (path_rd (sPath_mono hp (by omega)) e1 e2).2]
    unfold rIn
    rw [e3]
theorem i4_m (a b c d m : Int32) : (a - b * m) + (c - d * m) = (a + c) - (b + d) * m := by grind
theorem i4_m1 (a b m v : Int32) : (a - b * m) + v = (a + v) - b * m := by grind
theorem i4_m0 (a m : Int32) : a = a - 0 * m := by grind
/-- two inputs, the second less by m at the place j -/
def is2 (j m : Nat) (ys zs : List Nat) : Prop := ∀ i, mDig zs i = mDig ys i - (if i = j then 1 else 0) * nI m
theorem lock2 {P : List mI} {ys zs : List Nat} {j m : Nat} (h : is2 j m ys zs) : ∀ {i : Nat} {s t : rC}, sPath P ys zs i → rI P ys i rZ = some s → rI P zs i rZ = some t → ∀ r, t.2.1 r = s.2.1 r - wt P ys j i r * nI m := by
  intro i
  induction i with
  | zero => intro s t _ h1 h2 r; cases h1; cases h2; exact i4_m0 0 _
  | succ i ih =>
    intro s t hp h1 h2 r
    obtain ⟨u, v, e1, e2, e3⟩ := hp i (by omega)
    have i0 := ih (sPath_mono hp (by omega)) e1 e2
    have hrd := (path_rd (sPath_mono hp (by omega)) e1 e2).2
    rw [rI_succ, e1] at h1
    rw [rI_succ, e2] at h2
    rw [wt_succ e1, (rS_some (show rS P ys u = some s from h1)).2.2.1, (rS_some (show rS P zs v = some t from h2)).2.2.1]
    have ev : rIn P v = rIn P u := by unfold rIn; rw [e3]
    rw [ev, ← hrd]
    unfold mRegs wS
    by_cases q0 : (rIn P u).1 = 0
    · rw [if_pos q0, if_pos q0, if_pos q0]
      unfold upd
      by_cases q : r = (rIn P u).2.1
      · rw [if_pos q, if_pos q, if_pos q]; exact h u.2.2
      · rw [if_neg q, if_neg q, if_neg q]; exact i0 r
    · rw [if_neg q0, if_neg q0, if_neg q0]
      by_cases q1 : (rIn P u).1 = 1
      · rw [if_pos q1, if_pos q1, if_pos q1]
        unfold upd
        by_cases q : r = (rIn P u).2.1
        · rw [if_pos q, if_pos q, if_pos q]; exact i4_m0 _ _
        · rw [if_neg q, if_neg q, if_neg q]; exact i0 r
      · rw [if_neg q1, if_neg q1, if_neg q1]
        by_cases q2 : (rIn P u).1 = 2
        · rw [if_pos q2, if_pos q2, if_neg (by rw [q2]; decide)]
          unfold upd
          by_cases q : r = (rIn P u).2.1
          · rw [if_pos q, if_pos q, i0 (rIn P u).2.1, q]; exact i4_m1 _ _ _ _
          · rw [if_neg q, if_neg q]; exact i0 r
        · rw [if_neg q2, if_neg q2]
          by_cases q3 : (rIn P u).1 = 3
          · rw [if_pos q3, if_pos q3, if_pos q3]
            unfold upd
            by_cases q : r = (rIn P u).2.1
            · rw [if_pos q, if_pos q, if_pos q, i0 (rIn P u).2.1, i0 (rIn P u).2.2.2]; exact i4_m _ _ _ _ _
            · rw [if_neg q, if_neg q, if_neg q]; exact i0 r
          · rw [if_neg q3, if_neg q3, if_neg q3]; exact i0 r
/-- four inputs in lockstep, as long as three are together -/
theorem lock4 {P : List mI} {p q : Nat} {A B D E : List Nat} (h4 : is4 p q A B D E) : ∀ (T : Nat), sPath P A B T → sPath P A D T →
    (∀ i s, i < T → rI P A i rZ = some s → wt P A p i (rIn P s).2.1 = 0 ∨ wt P A q i (rIn P s).2.1 = 0 ∨ wt P A p i (rIn P s).2.1 = wt P A q i (rIn P s).2.1) →
    ∃ a b d e, rI P A T rZ = some a ∧ rI P B T rZ = some b ∧ rI P D T rZ = some d ∧ rI P E T rZ = some e ∧ e.1 = a.1 ∧ e.2.2 = a.2.2 ∧ rel4 (wt P A p T) (wt P A q T) a.2.1 b.2.1 d.2.1 e.2.1 ∧ sPath P A E T := by
  intro T
  induction T with
  | zero =>
    intro _ _ _
    refine ⟨rZ, rZ, rZ, rZ, rfl, rfl, rfl, rfl, rfl, rfl, fun r => ⟨(by decide : (0 : Int32) = 0 - 0), (by decide : (0 : Int32) = 0 - 0 - 0), (by decide : (0 : Int32) = 0 - 0)⟩, fun i hi => ?_⟩
    have : i = 0 := by omega
    subst this
    exact ⟨rZ, rZ, rfl, rfl, rfl⟩
  | succ T ih =>
    intro hB hD hw
    obtain ⟨a, b, d, e, a1, b1, d1, e1, e2, e3, hr, hE⟩ := ih (sPath_mono hB (by omega)) (sPath_mono hD (by omega)) (fun i s hi => hw i s (by omega))
    obtain ⟨a', b', x1, x2, x3⟩ := hB (T + 1) (Nat.le_refl _)
    obtain ⟨a'', d', y1, y2, y3⟩ := hD (T + 1) (Nat.le_refl _)
    rw [x1] at y1
    cases y1
    have z1 := path_rd (sPath_mono hB (by omega)) a1 b1
    have z2 := path_rd (sPath_mono hD (by omega)) a1 d1
    have eb : rIn P b = rIn P a := by unfold rIn; rw [z1.1]
    have ed : rIn P d = rIn P a := by unfold rIn; rw [z2.1]
    have ee : rIn P e = rIn P a := by unfold rIn; rw [e2]
    have sa : rS P A a = some a' := by have := x1; rw [rI_succ, a1] at this; exact this
    have sb : rS P B b = some b' := by have := x2; rw [rI_succ, b1] at this; exact this
    have sd : rS P D d = some d' := by have := y2; rw [rI_succ, d1] at this; exact this
    obtain ⟨p1, p2, p3, p4⟩ := rS_some sa
    obtain ⟨-, q2, q3, -⟩ := rS_some sb
    obtain ⟨-, r2, r3, -⟩ := rS_some sd
    rw [eb, ← z1.2] at q3
    rw [ed, ← z2.2] at r3
    rw [eb, ← z1.1] at q2
    rw [ed, ← z2.1] at r2
    have hs := rel4_step (i := rIn P a) (rd := a.2.2) h4 hr
    have hstep : rS P E e = some (a'.1, mRegs (rIn P a) E a.2.2 e.2.1, a'.2.2) := by
      unfold rS
      rw [if_pos (by rw [e2]; exact p1), ee, e3, e2]
      have hn : mNext (rIn P a) (mRegs (rIn P a) E a.2.2 e.2.1) a.1 = some a'.1 := by
        rw [p3] at p2
        rw [q3, ← x3] at q2
        rw [r3, ← y3] at r2
        by_cases qf : (rIn P a).1 = 4 ∨ (rIn P a).1 = 5
        · have hm : ∀ (zs : List Nat) (g : Nat → Int32), mRegs (rIn P a) zs a.2.2 g = g := by
            intro zs g
            unfold mRegs
            rw [if_neg (by omega), if_neg (by omega), if_neg (by omega), if_neg (by omega)]
          rw [hm] at p2 q2 r2 ⊢
          exact rel4_next hr (hw T a (by omega) a1) p2 q2 r2
        · have hm : ∀ g g2 : Nat → Int32, mNext (rIn P a) g a.1 = mNext (rIn P a) g2 a.1 := by
            intro g g2
            unfold mNext
            rw [if_neg (fun z => qf (.inl z)), if_neg (fun z => qf (.inr z)), if_neg (fun z => qf (.inl z)), if_neg (fun z => qf (.inr z))]
          rw [hm _ (mRegs (rIn P a) A a.2.2 a.2.1)]
          exact p2
      rw [hn, p4]
      rfl
    have hEt : rI P E (T + 1) rZ = some (a'.1, mRegs (rIn P a) E a.2.2 e.2.1, a'.2.2) := by rw [rI_succ, e1]; exact hstep
    refine ⟨a', b', d', _, x1, x2, y2, hEt, rfl, rfl, ?_, fun i hi => ?_⟩
    · rw [wt_succ a1, wt_succ a1, p3, q3, r3]
      exact hs
    · rcases Nat.lt_or_ge i (T + 1) with z | z
      · exact hE i (by omega)
      · have : i = T + 1 := by omega
        subst this
        exact ⟨a', _, x1, hEt, rfl⟩
