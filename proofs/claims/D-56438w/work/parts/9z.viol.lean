/-! ROOM 26: one sum: where a lowering goes to the left of a lowering *
-/
set_option maxRecDepth 100000
theorem nI_less {x : Nat} (h : 1 ≤ x) : nI (x - 1) = nI x - 1 := by
  have h1 := nI_add (x - 1) 1
  rw [show x - 1 + 1 = x by omega] at h1
  rw [← h1, show nI 1 = 1 from rfl]
  grind
theorem sDg_set {A : List Nat} {q e : Nat} (h : sDg A) (he : e < 8) : sDg (A.set q e) := ⟨by rw [List.length_set]; exact h.1, fun y hy => by
  rcases List.mem_or_eq_of_mem_set hy with z | z
  · exact h.2 y z
  · omega⟩
theorem mDig_low {A : List Nat} {q j : Nat} (hq : q < A.length) (h1 : 1 ≤ A.getD q 0) : mDig (A.set q (A.getD q 0 - 1)) j = mDig A j - (if j = q then 1 else 0) := by
  by_cases e : j = q
  · subst e
    unfold mDig
    rw [List.length_set, if_pos hq, if_pos hq, getD_set_eq hq, if_pos rfl]
    exact nI_less h1
  · rw [mDig_set e, if_neg e]
    grind
theorem is4_of {A : List Nat} {p q : Nat} (hq : q < A.length) (hpq : p < q) (h1 : 1 ≤ A.getD q 0) (h2 : 1 ≤ A.getD p 0) : is4 p q A (A.set q (A.getD q 0 - 1)) ((A.set q (A.getD q 0 - 1)).set p (A.getD p 0 - 1)) (A.set p (A.getD p 0 - 1)) := by
  refine ⟨by omega, fun j => ⟨mDig_low hq h1, ?_, mDig_low (by omega) h2⟩⟩
  have h3 := mDig_low (A := A.set q (A.getD q 0 - 1)) (q := p) (j := j) (by rw [List.length_set]; omega) (by rw [getD_set_ne (by omega)]; exact h2)
  rw [getD_set_ne (by omega)] at h3
  rw [h3, mDig_low hq h1]
  grind
/-- the time of the fork behind the last reading -/
def crit (P : List mI) (A : List Nat) (d T : Nat) : Prop := ∃ m s, rI P A m rZ = some s ∧ s.1 < P.length ∧ (rIn P s).1 = 0 ∧ s.2.2 + 1 = A.length ∧ T = m + d
theorem sPath_nd {P : List mI} {xs ys : List Nat} {n : Nat} (h : ∀ i, i ≤ n → ∃ u, nd P xs i u ∧ nd P ys i u) : sPath P xs ys n := by
  intro i hi
  obtain ⟨u, ⟨s, s1, s2⟩, ⟨t, t1, t2⟩⟩ := h i hi
  exact ⟨s, t, s1, t1, by rw [s2, t2]⟩
theorem nd_sPath {P : List mI} {xs ys : List Nat} {n i : Nat} (h : sPath P xs ys n) (hi : i ≤ n) : ∃ u, nd P xs i u ∧ nd P ys i u := by
  obtain ⟨s, t, h1, h2, h3⟩ := h i hi
  exact ⟨s.1, ⟨s, h1, rfl⟩, t, h2, h3.symm⟩
theorem isU_lt {P : List mI} {c : Int32} {ys : List Nat} {n T : Nat} (hy : awT P c ys 0 rZ n) (hT : T ≤ n) (h : isU P c ys T) : T < n := by
  rcases Nat.lt_or_ge T n with q | q
  · exact q
  · exfalso
    have : T = n := by omega
    subst this
    obtain ⟨t, ht⟩ := awT_time hy (Nat.le_refl T)
    rw [Nat.sub_self] at ht
    obtain ⟨u, u1, u2⟩ := h
    have := nd_fun u1 ⟨t, ht.2.1, rfl⟩
    subst this
    have h1 := awK_fork u2
    have h2 : (P.getD t.1 mI0).1 = 7 := (rT_zero ht.2.2.1).2.1
    omega
theorem isR_lt {P : List mI} {c : Int32} {ys : List Nat} {n T : Nat} (hy : awT P c ys 0 rZ n) (hT : T ≤ n) (h : isR P ys T) : T < n := by
  rcases Nat.lt_or_ge T n with q | q
  · exact q
  · exfalso
    have : T = n := by omega
    subst this
    obtain ⟨t, ht⟩ := awT_time hy (Nat.le_refl T)
    rw [Nat.sub_self] at ht
    obtain ⟨u, u1, u2, u3⟩ := h
    have := nd_fun u1 ⟨t, ht.2.1, rfl⟩
    subst this
    have h2 : (P.getD t.1 mI0).1 = 7 := (rT_zero ht.2.2.1).2.1
    omega
theorem fork_nd {P : List mI} {ys : List Nat} {T v : Nat} {s : rC} (h : rI P ys T rZ = some s) (hf : (rIn P s).1 = 4 ∨ (rIn P s).1 = 5) (hv : nd P ys (T + 1) v) : mNext (rIn P s) s.2.1 s.1 = some v := by
  obtain ⟨t, t1, rfl⟩ := hv
  rw [rI_succ, h] at t1
  obtain ⟨-, p2, p3, -⟩ := rS_some (show rS P ys s = some t from t1)
  have hm : mRegs (rIn P s) ys s.2.2 s.2.1 = s.2.1 := by
    unfold mRegs
    rw [if_neg (by omega), if_neg (by omega), if_neg (by omega), if_neg (by omega)]
  rw [p3, hm] at p2
  exact p2
theorem fork_same {P : List mI} {ys zs : List Nat} {T v w : Nat} {s t : rC} (h : rI P ys T rZ = some s) (h2 : rI P zs T rZ = some t) (e : s.1 = t.1) (hf : (rIn P s).1 = 4 ∨ (rIn P s).1 = 5) (hr : s.2.1 (rIn P s).2.1 = t.2.1 (rIn P s).2.1) (hv : nd P ys (T + 1) v) (hw : nd P zs (T + 1) w) : v = w := by
  have ei : rIn P t = rIn P s := by unfold rIn; rw [e]
  have a := fork_nd h hf hv
  have b := fork_nd h2 (by rw [ei]; exact hf) hw
  rw [ei, ← e, ← mNext_eq (g := s.2.1) (by exact hr), a] at b
  exact Option.some.inj b
/-- three runs together to a time with all digits read and the last one forgotten: the fourth fails -/
theorem viol_late {P : List mI} {c : Int32} {ra rb : Nat} (hB : awB P c ≤ 1) (hR : pOne P) (hc : pCopy P ra rb) {X : List Nat} {n m0 i0 m1 : Nat} (hh : rHub P c X n m0 i0 m1) {A B D E : List Nat} {p q nA nB nD T : Nat} (h4 : is4 p q A B D E) (hpq : p < q) (hq : q < A.length)
    (lB : B.length = A.length) (lD : D.length = A.length) (lE : E.length = A.length) (tA : awT P c A 0 rZ nA) (tB : awT P c B 0 rZ nB) (tD : awT P c D 0 rZ nD) (hA : T ≤ nA) (hB2 : T ≤ nB) (hD : T ≤ nD) (pB : sPath P A B T) (pD : sPath P A D T) {a : rC} (ha : rI P A T rZ = some a) (hr : A.length ≤ a.2.2) (hw : wt P A q T ra = 0 ∨ wt P A p T rb = 0) : mFails P E c = true := by
  have W := fun z i s hi hs => wt_one hB hR hc hh tA z i s hi hs
  obtain ⟨a', b, d, e, a1, b1, d1, e1, e2, e3, hrel, -⟩ := lock4 h4 T pB pD (fun i s hi hs => by
    obtain ⟨x1, x2, x3⟩ := W p i s (by omega) hs
    obtain ⟨y1, y2, y3⟩ := W q i s (by omega) hs
    by_cases ea : (rIn P s).2.1 = ra
    · rw [ea]
      rcases x2 with z | ⟨-, z⟩
      · exact .inl z
      · rcases y2 with y | ⟨-, y⟩
        · exact .inr (.inl y)
        · omega
    · by_cases eb : (rIn P s).2.1 = rb
      · rw [eb]
        rcases x3 with z | ⟨z, -⟩
        · exact .inl z
        · rcases y3 with y | ⟨y, -⟩
          · exact .inr (.inl y)
          · exact .inr (.inr (by rw [z, y]))
      · exact .inl (x1 _ ea eb))
  rw [ha] at a1
  cases a1
  obtain ⟨x1, x2, x3⟩ := W p T a hA ha
  obtain ⟨y1, y2, y3⟩ := W q T a hA ha
  have xa : wt P A p T ra = 0 := by
    rcases x2 with z | ⟨-, z⟩
    · exact z
    · omega
  have fin : ∀ (Y : List Nat) (nY : Nat) (y : rC), Y.length = A.length → awT P c Y 0 rZ nY → T ≤ nY → rI P Y T rZ = some y → y.1 = a.1 → y.2.2 = a.2.2 → (∀ r, e.2.1 r = y.2.1 r) → mFails P E c = true := by
    intro Y nY y lY tY hY hy z1 z2 z3
    have ee : e = y := Prod.ext (by rw [e2, z1]) (Prod.ext (funext z3) (by rw [e3, z2]))
    subst ee
    exact fail_of (by rw [lY, lE]) tY hY hy e1 (by rw [lY, e3]; exact hr)
  have eqB := path_rd pB ha b1
  have eqD := path_rd pD ha d1
  rcases x3 with z | ⟨z, -⟩
  · refine fin A nA a rfl tA hA ha rfl rfl (fun r => ?_)
    rw [(hrel r).2.2]
    by_cases ea : r = ra
    · rw [ea, xa]; grind
    · by_cases eb : r = rb
      · rw [eb, z]; grind
      · rw [x1 r ea eb]; grind
  · have ya : wt P A q T ra = 0 := by
      rcases hw with z2 | z2
      · exact z2
      · rw [z] at z2; exact absurd z2 (by decide)
    rcases y3 with y | ⟨y, -⟩
    · refine fin D nD d lD tD hD d1 eqD.1.symm eqD.2.symm (fun r => ?_)
      rw [(hrel r).2.2, (hrel r).2.1]
      by_cases ea : r = ra
      · rw [ea, ya]; grind
      · by_cases eb : r = rb
        · rw [eb, y]; grind
        · rw [y1 r ea eb]; grind
    · refine fin B nB b lB tB hB2 b1 eqB.1.symm eqB.2.symm (fun r => ?_)
      rw [(hrel r).2.2, (hrel r).1]
      by_cases ea : r = ra
      · rw [ea, ya, xa]
      · by_cases eb : r = rb
        · rw [eb, y, z]
        · rw [y1 r ea eb, x1 r ea eb]
