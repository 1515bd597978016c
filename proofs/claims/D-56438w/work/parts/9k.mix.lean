/-! ROOM 11: programs without PLUS: mixed inputs take the path that both take *
-/
set_option maxRecDepth 100000
def pPure (P : List mI) : Prop := ∀ u, u < P.length → (P.getD u mI0).1 ≠ 3
/-- z has at each place the digit of x or that of y -/
def isMix (xs ys zs : List Nat) : Prop := xs.length = ys.length ∧ xs.length = zs.length ∧ ∀ j, zs.getD j 0 = xs.getD j 0 ∨ zs.getD j 0 = ys.getD j 0
/-- two runs take the same path for n steps -/
def sPath (P : List mI) (xs ys : List Nat) (n : Nat) : Prop := ∀ i, i ≤ n → ∃ u v, rI P xs i rZ = some u ∧ rI P ys i rZ = some v ∧ u.1 = v.1
theorem sPath_mono {P : List mI} {xs ys : List Nat} {n m : Nat} (h : sPath P xs ys n) (hm : m ≤ n) : sPath P xs ys m := fun i hi => h i (by omega)
theorem mNext_eq {i : mI} {g g2 : Nat → Int32} {a : Nat} (h : g i.2.1 = g2 i.2.1) : mNext i g a = mNext i g2 a := by unfold mNext; rw [h]
theorem mix_run {P : List mI} {xs ys zs : List Nat} (hP : pPure P) (hm : isMix xs ys zs) : ∀ (n : Nat), sPath P xs ys n → ∃ u v w, rI P xs n rZ = some u ∧ rI P ys n rZ = some v ∧ rI P zs n rZ = some w ∧ u.1 = v.1 ∧ w.1 = u.1 ∧ u.2.2 = v.2.2 ∧ w.2.2 = u.2.2 ∧ ∀ r, w.2.1 r = u.2.1 r ∨ w.2.1 r = v.2.1 r := by
  intro n
  induction n with
  | zero => intro _; exact ⟨rZ, rZ, rZ, rfl, rfl, rfl, rfl, rfl, rfl, rfl, fun r => .inl rfl⟩
  | succ n ih =>
    intro h
    obtain ⟨u, v, w, h1, h2, h3, h4, h5, h6, h7, h8⟩ := ih (sPath_mono h (by omega))
    obtain ⟨u2, v2, k1, k2, k3⟩ := h (n + 1) (Nat.le_refl _)
    rw [rI_succ, h1] at k1
    rw [rI_succ, h2] at k2
    have k1 : rS P xs u = some u2 := k1
    have k2 : rS P ys v = some v2 := k2
    obtain ⟨a1, a2, a3, a4⟩ := rS_some k1
    obtain ⟨b1, b2, b3, b4⟩ := rS_some k2
    have ev : rIn P v = rIn P u := by unfold rIn; rw [h4]
    have ew : rIn P w = rIn P u := by unfold rIn; rw [h5]
    rw [ev] at b2 b3 b4
    have hp := hP u.1 a1
    have hreg : ∀ r, mRegs (rIn P u) zs w.2.2 w.2.1 r = u2.2.1 r ∨ mRegs (rIn P u) zs w.2.2 w.2.1 r = v2.2.1 r := by
      intro r
      rw [a3, b3]
      unfold mRegs
      by_cases q0 : (rIn P u).1 = 0
      · rw [if_pos q0, if_pos q0, if_pos q0]
        unfold upd
        by_cases q : r = (rIn P u).2.1
        · rw [if_pos q, if_pos q, if_pos q]
          unfold mDig
          rw [h7, ← h6, ← hm.1, ← hm.2.1]
          by_cases q2 : u.2.2 < xs.length
          · rw [if_pos q2, if_pos q2, if_pos q2]
            rcases hm.2.2 u.2.2 with z | z
            · rw [z]; exact .inl rfl
            · rw [z]; exact .inr rfl
          · rw [if_neg q2, if_neg q2, if_neg q2]; exact .inl rfl
        · rw [if_neg q, if_neg q, if_neg q]; exact h8 r
      · rw [if_neg q0, if_neg q0, if_neg q0]
        by_cases q1 : (rIn P u).1 = 1
        · rw [if_pos q1, if_pos q1, if_pos q1]
          unfold upd
          by_cases q : r = (rIn P u).2.1
          · rw [if_pos q, if_pos q]; exact .inl rfl
          · rw [if_neg q, if_neg q, if_neg q]; exact h8 r
        · rw [if_neg q1, if_neg q1, if_neg q1]
          by_cases q2 : (rIn P u).1 = 2
          · rw [if_pos q2, if_pos q2, if_pos q2]
            unfold upd
            by_cases q : r = (rIn P u).2.1
            · rw [if_pos q, if_pos q, if_pos q]
              rcases h8 (rIn P u).2.1 with z | z
              · rw [z]; exact .inl rfl
              · rw [z]; exact .inr rfl
            · rw [if_neg q, if_neg q, if_neg q]; exact h8 r
          · rw [if_neg q2, if_neg q2, if_neg q2, if_neg (show (rIn P u).1 ≠ 3 from hp), if_neg (show (rIn P u).1 ≠ 3 from hp), if_neg (show (rIn P u).1 ≠ 3 from hp)]
            exact h8 r
    have hn : mNext (rIn P u) (mRegs (rIn P u) zs w.2.2 w.2.1) u.1 = some u2.1 := by
      rcases hreg (rIn P u).2.1 with z | z
      · rw [mNext_eq z]; exact a2
      · rw [mNext_eq z, k3, h4]; exact b2
    refine ⟨u2, v2, (u2.1, mRegs (rIn P u) zs w.2.2 w.2.1, mRd (rIn P u) w.2.2), by rw [rI_succ, h1]; exact k1, by rw [rI_succ, h2]; exact k2, ?_, k3, rfl, by rw [a4, b4, h6], by rw [a4]; show mRd (rIn P u) w.2.2 = _; rw [h7], hreg⟩
    rw [rI_succ, h3]
    show rS P zs w = _
    unfold rS
    rw [if_pos (by rw [h5]; exact a1), ew, h5, hn]
    rfl
/-- a mixed input fails as both do -/
theorem mix_fail {P : List mI} {c : Int32} {xs ys zs : List Nat} {n : Nat} {t : rC} (hP : pPure P) (hm : isMix xs ys zs) (hn : n ≤ 63) (h : rI P xs n rZ = some t) (hF : rF P c t) (hs : sPath P xs ys n) : mFails P zs c = true ∧ sPath P xs zs n := by
  obtain ⟨u, v, w, h1, h2, h3, h4, h5, -⟩ := mix_run hP hm n hs
  rw [h] at h1
  cases h1
  refine ⟨rF_iff.mpr ⟨n, w, hn, h3, by rw [h5]; exact hF.1, by unfold rIn; rw [h5]; exact hF.2.1, by unfold rIn; rw [h5]; exact hF.2.2⟩, fun i hi => ?_⟩
  obtain ⟨u, v, w, h1, h2, h3, h4, h5, -⟩ := mix_run hP hm i (sPath_mono hs hi)
  exact ⟨u, w, h1, h3, h5.symm⟩
