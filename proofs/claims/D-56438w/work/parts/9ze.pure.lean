/-! ROOM 31: two reading instructions, no sum: where a lowering goes to the left of a lowering *
-/
set_option maxRecDepth 100000
theorem wt_pure {P : List mI} (hP : pPure P) {y : List Nat} {p : Nat} : ∀ (i : Nat) (s : rC), rI P y i rZ = some s → ∀ r, wt P y p i r = 0 ∨ (wt P y p i r = 1 ∧ p + 1 ≤ s.2.2 ∧ ∃ t z, t < i ∧ rI P y t rZ = some z ∧ z.1 < P.length ∧ (rIn P z).1 = 0 ∧ (rIn P z).2.1 = r ∧ z.2.2 = p ∧ ∀ t2 z2, t < t2 → t2 < i → rI P y t2 rZ = some z2 → (rIn P z2).1 = 0 → (rIn P z2).2.1 ≠ r) := by
  intro i
  induction i with
  | zero => intro s _ r; exact .inl rfl
  | succ i ih =>
    intro s hs r
    rw [rI_succ] at hs
    cases e : rI P y i rZ with
    | none => rw [e] at hs; cases hs
    | some w =>
      rw [e] at hs
      have hs : rS P y w = some s := hs
      have hrd := rd_step hs
      have hl := (rS_some hs).1
      have keep : (rIn P w).1 ≠ 0 ∨ (rIn P w).2.1 ≠ r → (wt P y p i r = 0 ∨ (wt P y p i r = 1 ∧ p + 1 ≤ s.2.2 ∧ ∃ t z, t < i + 1 ∧ rI P y t rZ = some z ∧ z.1 < P.length ∧ (rIn P z).1 = 0 ∧ (rIn P z).2.1 = r ∧ z.2.2 = p ∧ ∀ t2 z2, t < t2 → t2 < i + 1 → rI P y t2 rZ = some z2 → (rIn P z2).1 = 0 → (rIn P z2).2.1 ≠ r)) := by
        intro hor
        rcases ih w e r with z | ⟨z1, z2, t, z, a1, a2, a3, a4, a5, a6, a7⟩
        · exact .inl z
        · refine .inr ⟨z1, by split at hrd <;> omega, t, z, by omega, a2, a3, a4, a5, a6, fun t2 z2 b1 b2 b3 b4 => ?_⟩
          rcases Nat.lt_or_ge t2 i with q | q
          · exact a7 t2 z2 b1 q b3 b4
          · have : t2 = i := by omega
            subst this
            rw [e] at b3
            cases b3
            exact hor.resolve_left (fun h => h b4)
      rw [wt_succ e]
      unfold wS
      by_cases q0 : (rIn P w).1 = 0
      · rw [if_pos q0] at hrd ⊢
        unfold upd
        by_cases q : r = (rIn P w).2.1
        · rw [if_pos q]
          by_cases z : w.2.2 = p
          · rw [if_pos z]
            exact .inr ⟨rfl, by omega, i, w, by omega, e, hl, q0, q.symm, z, fun t2 z2 b1 b2 => absurd b2 (by omega)⟩
          · rw [if_neg z]; exact .inl rfl
        · rw [if_neg q]
          exact keep (.inr (Ne.symm q))
      · rw [if_neg q0]
        by_cases q1 : (rIn P w).1 = 1
        · rw [if_pos q1]
          unfold upd
          split
          · exact .inl rfl
          · exact keep (.inl q0)
        · rw [if_neg q1, if_neg (show (rIn P w).1 ≠ 3 from hP w.1 hl)]
          exact keep (.inl q0)
theorem fail_of2 {P : List mI} {c : Int32} {ys zs : List Nat} {n T : Nat} {s : rC} (hy : awT P c ys 0 rZ n) (hT : T ≤ n) (h1 : rI P ys T rZ = some s) (h2 : rI P zs T rZ = some s) (hd : ∀ i, s.2.2 ≤ i → mDig ys i = mDig zs i) : mFails P zs c = true := by
  obtain ⟨t, ht⟩ := awT_time hy (Nat.le_refl n)
  rw [Nat.sub_self] at ht
  obtain ⟨k, rfl⟩ : ∃ k, n = T + k := ⟨n - T, by omega⟩
  have h3 := ht.2.1
  rw [rI_add, h1] at h3
  have h4 := rI_agree (j := t.2.2) (ys := zs) (fun i h5 _ => hd i h5) h3 (Nat.le_refl _)
  refine rF_iff.mpr ⟨T + k, t, by have := ht.2.2.2; omega, ?_, rT_zero ht.2.2.1⟩
  rw [rI_add, h2]
  exact h4
def allLead (P : List mI) (c : Int32) : Prop := ∀ r, r < P.length → (P.getD r mI0).1 = 0 → lead P c r
/-- the time of the fork with all digits read (less one, if et = 1) -/
def uK (P : List mI) (c : Int32) (et : Nat) (y : List Nat) (T : Nat) : Prop := isU P c y T ∧ ∃ s, rI P y T rZ = some s ∧ s.2.2 + et = y.length
theorem t3_viol {P : List mI} {c : Int32} (hB : awB P c ≤ 1) (hR : pTwoR P) (hP : pPure P) {X : List Nat} {n i0 i1 : Nat} (hh : uHub P c X n i0 i1) {et : Nat} (het : (allLead P c ∧ et = 0) ∨ (¬ allLead P c ∧ et = 1)) {A B D E : List Nat} {p q : Nat} (h4 : is4 p q A B D E) (hpq : p < q) (hq : q < A.length)
    (lB : B.length = A.length) (lD : D.length = A.length) (dA : sDg A) (dB : sDg B) (dD : sDg D) (fA : mFails P A c = true) (fB : mFails P B c = true) (fD : mFails P D c = true) (fE : mFails P E c = false) (nA : nDel P c A) (nB : nDel P c B) (nD : nDel P c D) :
    ∃ T u vA vB vD, uK P c et A T ∧ nd P A T u ∧ awK P c u ∧ nd P A (T + 1) vA ∧ nd P B (T + 1) vB ∧ nd P D (T + 1) vD ∧ sPath P A B T ∧ sPath P A D T ∧ q + 1 = A.length ∧ ((wt P A q T (P.getD u mI0).2.1 = 1 ∧ vA ≠ vB) ∨ (wt P A q T (P.getD u mI0).2.1 = 0 ∧ vB ≠ vD)) := by
  obtain ⟨n1, tA⟩ := awT_of dA fA
  obtain ⟨n2, tB⟩ := awT_of dB fB
  obtain ⟨n3, tD⟩ := awT_of dD fD
  have W := fun z i s hs r => (wt_pure hP (y := A) (p := z) i s hs r)
  have maj : ∀ i s, rI P A i rZ = some s → wt P A p i (rIn P s).2.1 = 0 ∨ wt P A q i (rIn P s).2.1 = 0 ∨ wt P A p i (rIn P s).2.1 = wt P A q i (rIn P s).2.1 := by
    intro i s hs
    rcases W p i s hs (rIn P s).2.1 with z | ⟨z, -⟩
    · exact .inl z
    · rcases W q i s hs (rIn P s).2.1 with y | ⟨y, -⟩
      · exact .inr (.inl y)
      · exact .inr (.inr (by rw [z, y]))
  -- they part
  have hpart : ∃ k, k ≤ n1 ∧ ¬ ∃ u, nd P A k u ∧ nd P B k u ∧ nd P D k u := by
    by_cases z : ∃ k, k ≤ n1 ∧ ¬ ∃ u, nd P A k u ∧ nd P B k u ∧ nd P D k u
    · exact z
    · exfalso
      have hall : ∀ k, k ≤ n1 → ∃ u, nd P A k u ∧ nd P B k u ∧ nd P D k u := fun k hk => Classical.not_not.mp (fun h => z ⟨k, hk, h⟩)
      obtain ⟨a, b, d, e, a1, b1, d1, e1, e2, e3, -, -⟩ := lock4 h4 n1 (sPath_nd (fun i hi => by obtain ⟨u, u1, u2, -⟩ := hall i hi; exact ⟨u, u1, u2⟩)) (sPath_nd (fun i hi => by obtain ⟨u, u1, -, u2⟩ := hall i hi; exact ⟨u, u1, u2⟩)) (fun i s _ hs => maj i s hs)
      obtain ⟨g, hg⟩ := awT_time tA (Nat.le_refl n1)
      rw [Nat.sub_self] at hg
      have := hg.2.1
      rw [a1] at this
      cases this
      have hF := rT_zero hg.2.2.1
      have : mFails P E c = true := rF_iff.mpr ⟨n1, e, by have := hg.2.2.2; omega, e1, by rw [e2]; exact hF.1, by unfold rIn; rw [e2]; exact hF.2.1, by unfold rIn; rw [e2]; exact hF.2.2⟩
      rw [fE] at this
      cases this
  obtain ⟨k0, hk0, hk1⟩ := hpart
  obtain ⟨k, k1, k2, k3, k4⟩ := first_of (p := fun k => ¬ ∃ u, nd P A k u ∧ nd P B k u ∧ nd P D k u) (Nat.zero_le k0) hk1
  have hkpos : 1 ≤ k := by
    rcases Nat.eq_zero_or_pos k with z | z
    · subst z
      exact absurd ⟨0, ⟨rZ, rfl, rfl⟩, ⟨rZ, rfl, rfl⟩, ⟨rZ, rfl, rfl⟩⟩ k3
    · exact z
  obtain ⟨T, hT⟩ : ∃ T, k = T + 1 := ⟨k - 1, by omega⟩
  subst hT
  have same : ∀ j, j ≤ T → ∃ u, nd P A j u ∧ nd P B j u ∧ nd P D j u := fun j hj => Classical.not_not.mp (k4 j (Nat.zero_le _) (by omega))
  have qB : sPath P A B T := sPath_nd (fun i hi => by obtain ⟨u, u1, u2, -⟩ := same i hi; exact ⟨u, u1, u2⟩)
  have qD : sPath P A D T := sPath_nd (fun i hi => by obtain ⟨u, u1, -, u2⟩ := same i hi; exact ⟨u, u1, u2⟩)
  obtain ⟨u, uA, uB, uD⟩ := same T (Nat.le_refl _)
  have hTA : T < n1 := by omega
  obtain ⟨vA, hvA⟩ := nd_some tA (show T + 1 ≤ n1 by omega)
  obtain ⟨sA1, sA2, sA3⟩ := nd_step tA hTA uA hvA
  have run : ∀ {Y : List Nat} {nY : Nat}, awT P c Y 0 rZ nY → nd P Y T u → T < nY := by
    intro Y nY tY uY
    obtain ⟨g, hg⟩ := awT_time tY (Nat.le_refl nY)
    rw [Nat.sub_self] at hg
    have hF := rT_zero hg.2.2.1
    rcases Nat.lt_trichotomy T nY with z | z | z
    · exact z
    · subst z
      have := nd_fun uY ⟨g, hg.2.1, rfl⟩
      subst this
      exact absurd ⟨hF.1, hF.2.1⟩ sA3
    · obtain ⟨s, s1, s2⟩ := uY
      have := rI_stop hg.2.1 (rF_stop hF) s1
      omega
  have hTB := run tB uB
  have hTD := run tD uD
  obtain ⟨vB, hvB⟩ := nd_some tB (show T + 1 ≤ n2 by omega)
  obtain ⟨vD, hvD⟩ := nd_some tD (show T + 1 ≤ n3 by omega)
  obtain ⟨sB1, sB2, -⟩ := nd_step tB hTB uB hvB
  obtain ⟨sD1, sD2, -⟩ := nd_step tD hTD uD hvD
  have hnall : ¬ (vA = vB ∧ vB = vD) := by
    rintro ⟨z1, z2⟩
    subst z1
    subst z2
    exact k3 ⟨vA, hvA, hvB, hvD⟩
  have huK : awK P c u := by
    by_cases z : vA = vB
    · have : vB ≠ vD := fun h => hnall ⟨z, h⟩
      exact (awK_of sB1 sD1 sB2 sD2 this).1
    · exact (awK_of sA1 sB1 sA2 sB2 z).1
  have UA : isU P c A T := ⟨u, uA, huK⟩
  have UB : isU P c B T := ⟨u, uB, huK⟩
  have UD : isU P c D T := ⟨u, uD, huK⟩
  obtain ⟨a, b, d, e, a1, b1, d1, e1, e2, e3, hrel, pE⟩ := lock4 h4 T qB qD (fun i s _ hs => maj i s hs)
  have eqB := path_rd qB a1 b1
  have eqD := path_rd qD a1 d1
  -- one of them goes out: the digits read
  obtain ⟨w, hw⟩ := nd_some hh.1 (show i0 + 1 ≤ n by have := hh.2.1; have := hh.2.2.1; omega)
  have full : ∀ {Y : List Nat} {nY : Nat} {y : rC} {v : Nat}, awT P c Y 0 rZ nY → nDel P c Y → Y.length = A.length → T < nY → isU P c Y T → nd P Y (T + 1) v → v ≠ w → rI P Y T rZ = some y → y.2.2 = a.2.2 → A.length ≤ a.2.2 + 1 ∧ (allLead P c → A.length ≤ a.2.2) := by
    intro Y nY y v tY hY lY hT hU hv hne hy hr
    obtain ⟨g, hg⟩ := awT_time tY (Nat.le_refl nY)
    rw [Nat.sub_self] at hg
    have hl := nDel_full hY (by have := hg.2.2.2; omega) hg.2.1 (rT_zero hg.2.2.1)
    obtain ⟨r1, r2⟩ := exit_reads hB hR hh tY hT hU hv hw hne hy hg.2.1
    exact ⟨by omega, fun h => by have := r2 h; omega⟩
  have hN : A.length ≤ a.2.2 + 1 ∧ (allLead P c → A.length ≤ a.2.2) := by
    by_cases zA : vA = w
    · by_cases zB : vB = w
      · by_cases zD : vD = w
        · exact absurd ⟨zA.trans zB.symm, zB.trans zD.symm⟩ hnall
        · exact full tD nD lD hTD UD hvD zD d1 eqD.2.symm
      · exact full tB nB lB hTB UB hvB zB b1 eqB.2.symm
    · exact full tA nA rfl hTA UA hvA zA a1 rfl
  have hua : u = a.1 := nd_fun uA ⟨a, a1, rfl⟩
  have hfk : (rIn P a).1 = 4 ∨ (rIn P a).1 = 5 := by have := awK_fork huK; rw [hua] at this; exact this
  have hrg : (P.getD u mI0).2.1 = (rIn P a).2.1 := by rw [hua]; rfl
  have sameAB : a.2.1 (rIn P a).2.1 = b.2.1 (rIn P a).2.1 → vA = vB := fun h => fork_same a1 b1 eqB.1 hfk h hvA hvB
  have sameBD : b.2.1 (rIn P a).2.1 = d.2.1 (rIn P a).2.1 → vB = vD := fun h => fork_same b1 d1 (by rw [← eqB.1]; exact eqD.1) (by unfold rIn; rw [← eqB.1]; exact hfk) (by unfold rIn; rw [← eqB.1]; exact h) hvB hvD
  -- the digit p stands in a register
  obtain ⟨r, wr, pr, tp, zp, x1, x2, x3, x4, x5, x6, x7⟩ : ∃ r, wt P A p T r = 1 ∧ p + 1 ≤ a.2.2 ∧ ∃ t z, t < T ∧ rI P A t rZ = some z ∧ z.1 < P.length ∧ (rIn P z).1 = 0 ∧ (rIn P z).2.1 = r ∧ z.2.2 = p ∧ ∀ t2 z2, t < t2 → t2 < T → rI P A t2 rZ = some z2 → (rIn P z2).1 = 0 → (rIn P z2).2.1 ≠ r := by
    by_cases z : ∃ r, wt P A p T r ≠ 0
    · obtain ⟨r, hr⟩ := z
      rcases W p T a a1 r with y | ⟨y1, y2, y3⟩
      · exact absurd y hr
      · exact ⟨r, y1, y2, y3⟩
    · exfalso
      have z0 : ∀ r, wt P A p T r = 0 := fun r => Classical.not_not.mp (fun h => z ⟨r, h⟩)
      rcases Nat.lt_or_ge p a.2.2 with y | y
      · have ee : e = a := Prod.ext e2 (Prod.ext (funext (fun r => by rw [(hrel r).2.2, z0 r]; grind)) e3)
        subst ee
        have := fail_of2 tA (by omega) a1 e1 (fun i hi => by rw [(h4.2 i).2.2, if_neg (by omega)]; grind)
        rw [fE] at this
        cases this
      · have q0 : ∀ r, wt P A q T r = 0 := fun r => (W q T a a1 r).resolve_right (fun h => by omega)
        refine hnall ⟨sameAB ?_, sameBD ?_⟩
        · rw [(hrel _).1, q0]; grind
        · rw [(hrel _).1, (hrel _).2.1, q0, z0]; grind
  have ctx : q + 1 = A.length ∧ a.2.2 + et = A.length := by
    rcases Nat.lt_or_ge q a.2.2 with y | y
    · -- the digit q stands in another register
      obtain ⟨r', wr', pr', tq, zq, y1, y2, y3, y4, y5, y6, y7⟩ : ∃ r, wt P A q T r = 1 ∧ q + 1 ≤ a.2.2 ∧ ∃ t z, t < T ∧ rI P A t rZ = some z ∧ z.1 < P.length ∧ (rIn P z).1 = 0 ∧ (rIn P z).2.1 = r ∧ z.2.2 = q ∧ ∀ t2 z2, t < t2 → t2 < T → rI P A t2 rZ = some z2 → (rIn P z2).1 = 0 → (rIn P z2).2.1 ≠ r := by
        by_cases z : ∃ r, wt P A q T r ≠ 0
        · obtain ⟨r, hr⟩ := z
          rcases W q T a a1 r with y | ⟨y1, y2, y3⟩
          · exact absurd y hr
          · exact ⟨r, y1, y2, y3⟩
        · exfalso
          have z0 : ∀ r, wt P A q T r = 0 := fun r => Classical.not_not.mp (fun h => z ⟨r, h⟩)
          have ee : e = d := Prod.ext (by rw [e2, eqD.1]) (Prod.ext (funext (fun r => by rw [(hrel r).2.2, (hrel r).2.1, z0 r]; grind)) (by rw [e3, eqD.2]))
          subst ee
          have := fail_of2 tD (by omega) d1 e1 (fun i hi => by rw [(h4.2 i).2.2, (h4.2 i).2.1, if_neg (by omega), if_neg (by omega)]; grind)
          rw [fE] at this
          cases this
      have hlt : tp < tq := rI_lt x2 y2 (by omega)
      have hrr : r ≠ r' := by
        intro h
        exact x7 tq zq hlt y1 y2 y4 (by rw [y5, h])
      have hnn : zp.1 ≠ zq.1 := by
        intro h
        refine hrr ?_
        rw [← x5, ← y5]
        unfold rIn
        rw [h]
      have lp : lead P c zp.1 := ⟨A, n1, tp, T, tA, x1, by omega, ⟨zp, x2, rfl⟩, UA⟩
      have lq : lead P c zq.1 := ⟨A, n1, tq, T, tA, y1, by omega, ⟨zq, y2, rfl⟩, UA⟩
      have hal : allLead P c := by
        intro r0 h1 h2
        rcases hR zp.1 zq.1 r0 x3 y3 h1 x4 y4 h2 with z | z | z
        · exact absurd z hnn
        · rw [← z]; exact lp
        · rw [← z]; exact lq
      have hLN := hN.2 hal
      obtain ⟨tl, zl, l1, l2, l3, l4, l5⟩ := rd_at (j := a.2.2 - 1) a1 (Nat.zero_le _) (by omega)
      have hq1 : a.2.2 - 1 = q := by
        rcases hR zp.1 zq.1 zl.1 x3 y3 l3 x4 y4 l4 with z | z | z
        · exact absurd z hnn
        · exfalso
          have : tp < tl := rI_lt x2 l2 (by omega)
          exact x7 tl zl this l1 l2 l4 (by rw [← x5]; unfold rIn; rw [z])
        · rcases Nat.lt_or_ge q (a.2.2 - 1) with z2 | z2
          · exfalso
            have : tq < tl := rI_lt y2 l2 (by omega)
            exact y7 tl zl this l1 l2 l4 (by rw [← y5]; unfold rIn; rw [z])
          · omega
      rcases het with ⟨-, z⟩ | ⟨z, -⟩
      · omega
      · exact absurd hal z
    · have := hN.1
      have hna : ¬ allLead P c := fun h => by have := hN.2 h; omega
      rcases het with ⟨z, -⟩ | ⟨-, z⟩
      · exact absurd z hna
      · omega
  refine ⟨T, u, vA, vB, vD, ⟨UA, a, a1, ctx.2⟩, uA, huK, hvA, hvB, hvD, qB, qD, ctx.1, ?_⟩
  rw [hrg]
  rcases W q T a a1 (rIn P a).2.1 with y | ⟨y, -, tq, zq, y1, y2, y3, y4, y5, y6, y7⟩
  · refine .inr ⟨y, fun z => hnall ⟨sameAB ?_, z⟩⟩
    rw [(hrel _).1, y]; grind
  · have y0 : wt P A p T (rIn P a).2.1 = 0 := by
      rcases W p T a a1 (rIn P a).2.1 with g | ⟨-, -, t, z, g1, g2, g3, g4, g5, g6, g7⟩
      · exact g
      · exact absurd y5 (g7 tq zq (rI_lt g2 y2 (by omega)) y1 y2 y4)
    refine .inl ⟨y, fun z => hnall ⟨z, sameBD ?_⟩⟩
    rw [(hrel _).1, (hrel _).2.1, y0]; grind
