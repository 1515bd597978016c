/-! ROOM 27: one sum: where a lowering goes to the left of a lowering, the fork's test parts the strings *
-/
set_option maxRecDepth 100000
set_option maxHeartbeats 1000000 in
theorem t2_viol {P : List mI} {c : Int32} {ra rb : Nat} (hB : awB P c ≤ 1) (hR : pOne P) (hc : pCopy P ra rb) {X : List Nat} {n m0 i0 m1 : Nat} (hh : rHub P c X n m0 i0 m1) {A B D E : List Nat} {p q : Nat} (h4 : is4 p q A B D E) (hpq : p < q) (hq : q < A.length)
    (lB : B.length = A.length) (lD : D.length = A.length) (lE : E.length = A.length) (dA : sDg A) (dB : sDg B) (dD : sDg D) (fA : mFails P A c = true) (fB : mFails P B c = true) (fD : mFails P D c = true) (fE : mFails P E c = false) (nA : nDel P c A) (nB : nDel P c B) (nD : nDel P c D) :
    ∃ T u vA vB vD, crit P A (i0 - m0) T ∧ nd P A T u ∧ awK P c u ∧ nd P A (T + 1) vA ∧ nd P B (T + 1) vB ∧ nd P D (T + 1) vD ∧ sPath P A B T ∧ sPath P A D T ∧ q + 1 = A.length ∧ ((wt P A q T (P.getD u mI0).2.1 = 1 ∧ vA ≠ vB) ∨ (wt P A q T (P.getD u mI0).2.1 = 0 ∧ vB ≠ vD)) := by
  obtain ⟨n1, tA⟩ := awT_of dA fA
  obtain ⟨n2, tB⟩ := awT_of dB fB
  obtain ⟨n3, tD⟩ := awT_of dD fD
  obtain ⟨hr, hm0, hm1, hu, huq⟩ := id hh
  have fin : ∀ {Y : List Nat} {nY : Nat}, awT P c Y 0 rZ nY → nDel P c Y → Y.length = A.length → ∃ m s, m ≤ nY ∧ rI P Y m rZ = some s ∧ s.1 < P.length ∧ (rIn P s).1 = 0 ∧ s.2.2 = A.length - 1 := by
    intro Y nY tY hY lY
    obtain ⟨z, hz⟩ := awT_time tY (Nat.le_refl nY)
    rw [Nat.sub_self] at hz
    have hl := nDel_full hY (by have := hz.2.2.2; omega) hz.2.1 (rT_zero hz.2.2.1)
    obtain ⟨m, s, s1, s2, s3, s4, s5⟩ := rd_at (j := A.length - 1) hz.2.1 (Nat.zero_le _) (by omega)
    exact ⟨m, s, by omega, s2, s3, s4, s5⟩
  obtain ⟨m, sA, hmA, a1, a2, a3, a4⟩ := fin tA nA rfl
  obtain ⟨mB, sB, hmB, b1, b2, b3, b4⟩ := fin tB nB lB
  obtain ⟨mD, sD, hmD, d1, d2, d3, d4⟩ := fin tD nD lD
  obtain ⟨eB, pB⟩ := seg_same hB hR tA tB _ m mB sA sB hmA hmB a1 b1 a2 b2 a3 b3 a4 b4
  subst eB
  obtain ⟨eD, pD⟩ := seg_same hB hR tA tD _ m mD sA sD hmA hmD a1 d1 a2 d2 a3 d3 a4 d4
  subst eD
  obtain ⟨d, hd⟩ : ∃ d, d = i0 - m0 := ⟨_, rfl⟩
  have rA := round_u hR hr hm0 hm1 hu huq tA hmA (isR_of a1 a2 a3)
  have rB := round_u hR hr hm0 hm1 hu huq tB hmB (isR_of b1 b2 b3)
  have rD := round_u hR hr hm0 hm1 hu huq tD hmD (isR_of d1 d2 d3)
  rw [← hd] at rA rB rD ⊢
  obtain ⟨A1, A2, A3, A4, A5⟩ := rA
  obtain ⟨B1, B2, B3, B4, B5⟩ := rB
  obtain ⟨D1, D2, D3, D4, D5⟩ := rD
  have glue : ∀ {Y : List Nat}, sPath P A Y m → (∀ k, k ≤ d → ∃ u, nd P Y (m + k) u ∧ nd P X (m0 + k) u) → sPath P A Y (m + d) := by
    intro Y hp hk
    refine sPath_nd (fun i hi => ?_)
    rcases Nat.lt_or_ge m i with z | z
    · obtain ⟨u, u1, u2⟩ := A3 (i - m) (by omega)
      obtain ⟨v, v1, v2⟩ := hk (i - m) (by omega)
      rw [show m + (i - m) = i by omega] at u1 v1
      have := nd_fun u2 v2
      subst this
      exact ⟨u, u1, v1⟩
    · exact nd_sPath hp z
  have qB := glue pB B3
  have qD := glue pD D3
  obtain ⟨T, hT⟩ : ∃ T, T = m + d := ⟨_, rfl⟩
  rw [← hT] at A1 A2 B1 B2 D1 D2 qB qD
  obtain ⟨a, ha⟩ := awT_time tA A1
  have hrT : a.2.2 = A.length := by
    have h1 := awT_time tA (show m + 1 ≤ n1 by omega)
    obtain ⟨w, hw⟩ := h1
    have h2 := hw.2.1
    rw [rI_succ, a1] at h2
    have h3 := rd_step (show rS P A sA = some w from h2)
    rw [if_pos a3] at h3
    have h5 := rd_stay hw.2.1 (d - 1) a (by rw [show m + 1 + (d - 1) = T by omega]; exact ha.2.1) (fun j hj => by
      have := A5 (j + 1) (by omega) (by omega)
      rw [show m + (j + 1) = m + 1 + j by omega] at this
      exact this)
    omega
  have late : ∀ T2, T2 ≤ n1 → T2 ≤ n2 → T2 ≤ n3 → sPath P A B T2 → sPath P A D T2 → ∀ a' : rC, rI P A T2 rZ = some a' → A.length ≤ a'.2.2 → (wt P A q T2 ra = 0 ∨ wt P A p T2 rb = 0) → False := by
    intro T2 h1 h2 h3 p1 p2 a' h6 h7 h8
    have := viol_late hB hR hc hh h4 hpq hq lB lD lE tA tB tD h1 h2 h3 p1 p2 h6 h7 h8
    rw [fE] at this
    cases this
  obtain ⟨x1, x2, x3⟩ := wt_one hB hR hc hh tA p T a A1 ha.2.1
  obtain ⟨y1, y2, y3⟩ := wt_one hB hR hc hh tA q T a A1 ha.2.1
  have xa : wt P A p T ra = 0 := by
    rcases x2 with z | ⟨-, z⟩
    · exact z
    · omega
  obtain ⟨ya, hqL⟩ : wt P A q T ra = 1 ∧ q + 1 = A.length := by
    rcases y2 with z | ⟨z, z2⟩
    · exact (late T A1 B1 D1 qB qD a ha.2.1 (by omega) (.inl z)).elim
    · exact ⟨z, by omega⟩
  have xb : wt P A p T rb = 1 := by
    rcases x3 with z | ⟨z, -⟩
    · exact (late T A1 B1 D1 qB qD a ha.2.1 (by omega) (.inr z)).elim
    · exact z
  have T1 := isU_lt tA A1 A2
  have T2 := isU_lt tB B1 B2
  have T3 := isU_lt tD D1 D2
  obtain ⟨vA, hvA⟩ := nd_some tA (show T + 1 ≤ n1 by omega)
  obtain ⟨vB, hvB⟩ := nd_some tB (show T + 1 ≤ n2 by omega)
  obtain ⟨vD, hvD⟩ := nd_some tD (show T + 1 ≤ n3 by omega)
  have A2b := A2
  obtain ⟨u, hu1, huK⟩ := A2b
  have hua : u = a.1 := nd_fun hu1 ⟨a, ha.2.1, rfl⟩
  refine ⟨T, u, vA, vB, vD, ⟨m, sA, a1, a2, a3, by omega, hT⟩, hu1, huK, hvA, hvB, hvD, qB, qD, hqL, ?_⟩
  have hfk : (rIn P a).1 = 4 ∨ (rIn P a).1 = 5 := by have := awK_fork huK; rw [hua] at this; exact this
  have hrg : (P.getD u mI0).2.1 = (rIn P a).2.1 := by rw [hua]; rfl
  rw [hrg]
  -- the states of the four
  obtain ⟨a', b, e9, e, a1', b1', d1', e1', e2, e3, hrel, pE⟩ := lock4 h4 T qB qD (fun i s hi hs => by
    obtain ⟨x1, x2, x3⟩ := wt_one hB hR hc hh tA p i s (by omega) hs
    obtain ⟨y1, y2, y3⟩ := wt_one hB hR hc hh tA q i s (by omega) hs
    by_cases ea : (rIn P s).2.1 = ra
    · rw [ea]
      rcases x2 with z | ⟨-, z⟩
      · exact .inl z
      · rcases y2 with y | ⟨-, y⟩
        · exact .inr (.inl y)
        · omega
    · by_cases eb : (rIn P s).2.1 = rb
      · rw [eb]
        rcases x3 with z | ⟨z, -⟩
        · exact .inl z
        · rcases y3 with y | ⟨y, -⟩
          · exact .inr (.inl y)
          · exact .inr (.inr (by rw [z, y]))
      · exact .inl (x1 _ ea eb))
  rw [ha.2.1] at a1'
  cases a1'
  have eqB := path_rd qB ha.2.1 b1'
  have eqD := path_rd qD ha.2.1 d1'
  have sameAB : a.2.1 (rIn P a).2.1 = b.2.1 (rIn P a).2.1 → vA = vB := fun h => fork_same ha.2.1 b1' eqB.1 hfk h hvA hvB
  have sameBD : b.2.1 (rIn P a).2.1 = e9.2.1 (rIn P a).2.1 → vB = vD := fun h => fork_same b1' d1' (by rw [← eqB.1]; exact eqD.1) (by unfold rIn; rw [← eqB.1]; exact hfk) (by unfold rIn; rw [← eqB.1]; exact h) hvB hvD
  -- the hub's way
  obtain ⟨w, hw⟩ := nd_some hr.1 (show i0 + 1 ≤ n by have := hr.2.2.1; omega)
  -- three together
  have three : vA = vB → vB = vD → False := by
    intro z1 z2
    subst z1
    subst z2
    by_cases hw2 : vA = w
    · subst hw2
      have lA := round_loop hr hm0 hm1 huq tA (show T + 1 ≤ n1 by omega) hvA hw
      have lB2 := round_loop hr hm0 hm1 huq tB (show T + 1 ≤ n2 by omega) hvB hw
      have lD2 := round_loop hr hm0 hm1 huq tD (show T + 1 ≤ n3 by omega) hvD hw
      obtain ⟨e0, he0⟩ : ∃ e0, e0 = m1 - i0 := ⟨_, rfl⟩
      rw [← he0] at lA lB2 lD2
      have rdg : ∀ {Y : List Nat}, (∀ k, 1 ≤ k → k ≤ e0 → ∃ u, nd P Y (T + k) u ∧ nd P X (i0 + k) u) → isR P Y (T + e0) := by
        intro Y hY
        obtain ⟨r, r1, r2⟩ := hY e0 (by omega) (Nat.le_refl _)
        rw [show i0 + e0 = m1 by omega] at r2
        obtain ⟨x, x1, x2, x3⟩ := hr.2.2.2.2.1
        have := nd_fun r2 x1
        subst this
        exact ⟨r, r1, x2, x3⟩
      have RA := rdg (fun k h1 h2 => (lA k h1 h2).2)
      have RB := rdg (fun k h1 h2 => (lB2 k h1 h2).2)
      have RD := rdg (fun k h1 h2 => (lD2 k h1 h2).2)
      have NA := isR_lt tA (lA e0 (by omega) (Nat.le_refl _)).1 RA
      have NB := isR_lt tB (lB2 e0 (by omega) (Nat.le_refl _)).1 RB
      have ND := isR_lt tD (lD2 e0 (by omega) (Nat.le_refl _)).1 RD
      have ext : ∀ {Y : List Nat} {nY : Nat}, awT P c Y 0 rZ nY → T + e0 < nY → sPath P A Y T → isR P Y (T + e0) → (∀ k, 1 ≤ k → k ≤ e0 → ∃ u, nd P Y (T + k) u ∧ nd P X (i0 + k) u) → sPath P A Y (T + e0 + 1) := by
        intro Y nY tY hY pY RY kY
        have hnodes : ∀ i, i ≤ T + e0 → ∃ u, nd P A i u ∧ nd P Y i u := by
          intro i hi
          rcases Nat.lt_or_ge T i with z | z
          · obtain ⟨u, u1, u2⟩ := (lA (i - T) (by omega) (by omega)).2
            obtain ⟨v, v1, v2⟩ := kY (i - T) (by omega) (by omega)
            rw [show T + (i - T) = i by omega] at u1 v1
            have := nd_fun u2 v2
            subst this
            exact ⟨u, u1, v1⟩
          · exact nd_sPath pY z
        refine sPath_nd (fun i hi => ?_)
        rcases Nat.lt_or_ge (T + e0) i with z | z
        · have : i = T + e0 + 1 := by omega
          subst this
          exact (aw_forced tA tY (a := T + e0) (a2 := T + e0) (by omega) (hnodes _ (Nat.le_refl _)) 1 (by omega) (fun t x ht x1 xK => by
            have : t = 0 := by omega
            subst this
            exact isU_R ⟨x, x1, xK⟩ RY)).2
        · exact hnodes i z
      have PB := ext tB NB qB RB (fun k h1 h2 => (lB2 k h1 h2).2)
      have PD := ext tD ND qD RD (fun k h1 h2 => (lD2 k h1 h2).2)
      obtain ⟨a9, ha9⟩ := awT_time tA (show T + e0 + 1 ≤ n1 by omega)
      have hrd : A.length + 1 ≤ a9.2.2 := by
        obtain ⟨x, ⟨sx, k1, rfl⟩, k2, k3⟩ := RA
        have g1 := rd_pre ha9.2.1 k1 k3 (by omega)
        have g2 := k1
        rw [rI_add, ha.2.1] at g2
        have := rd_mono (show rI P A e0 a = some sx from g2)
        omega
      obtain ⟨-, g2, -⟩ := wt_one hB hR hc hh tA q (T + e0 + 1) a9 (by omega) ha9.2.1
      refine late (T + e0 + 1) (by omega) (by omega) (by omega) PB PD a9 ha9.2.1 (by omega) (.inl ?_)
      rcases g2 with z | ⟨-, z⟩
      · exact z
      · omega
    · have xA := round_exit hB hR hr hm0 hm1 hu huq tA A2 hvA hw hw2
      have xB := round_exit hB hR hr hm0 hm1 hu huq tB B2 hvB hw hw2
      have xD := round_exit hB hR hr hm0 hm1 hu huq tD D2 hvD hw hw2
      have ends : ∀ {Y : List Nat} {nY : Nat}, awT P c Y 0 rZ nY → T < nY → sPath P A Y T → nd P Y (T + 1) vA → (∀ t, T < t → t ≤ nY → ¬ isU P c Y t ∧ ¬ isR P Y t) → nY = n1 ∧ sPath P A Y n1 := by
        intro Y nY tY hY pY vY kY
        have f1 := aw_forced tA tY (a := T + 1) (a2 := T + 1) (by omega) ⟨vA, hvA, vY⟩ (nY - (T + 1)) (by omega) (fun t x ht x1 xK => (kY (T + 1 + t) (by omega) (by omega)).1 ⟨x, x1, xK⟩)
        have f2 := fun k hk => aw_forced tY tA (a := T + 1) (a2 := T + 1) (by omega) ⟨vA, vY, hvA⟩ k hk (fun t x ht x1 xK => (xA (T + 1 + t) (by omega) (by omega)).1 ⟨x, x1, xK⟩)
        have f3 := (f2 (n1 - (T + 1)) (by omega)).1
        refine ⟨by omega, sPath_nd (fun i hi => ?_)⟩
        rcases Nat.lt_or_ge T i with z | z
        · obtain ⟨-, u, u1, u2⟩ := f2 (i - (T + 1)) (by omega)
          rw [show T + 1 + (i - (T + 1)) = i by omega] at u1 u2
          exact ⟨u, u2, u1⟩
        · exact nd_sPath pY z
      obtain ⟨-, PB⟩ := ends tB T2 qB hvB xB
      obtain ⟨-, PD⟩ := ends tD T3 qD hvD xD
      obtain ⟨g, -, -, k, g1, -, -, k1, k2, -, -, -⟩ := lock4 h4 n1 PB PD (fun i s hi hs => by
        obtain ⟨x1, x2, x3⟩ := wt_one hB hR hc hh tA p i s (by omega) hs
        obtain ⟨y1, y2, y3⟩ := wt_one hB hR hc hh tA q i s (by omega) hs
        by_cases ea : (rIn P s).2.1 = ra
        · rw [ea]
          rcases x2 with z | ⟨-, z⟩
          · exact .inl z
          · rcases y2 with y | ⟨-, y⟩
            · exact .inr (.inl y)
            · omega
        · by_cases eb : (rIn P s).2.1 = rb
          · rw [eb]
            rcases x3 with z | ⟨z, -⟩
            · exact .inl z
            · rcases y3 with y | ⟨y, -⟩
              · exact .inr (.inl y)
              · exact .inr (.inr (by rw [z, y]))
          · exact .inl (x1 _ ea eb))
      obtain ⟨z, hz⟩ := awT_time tA (Nat.le_refl n1)
      rw [Nat.sub_self] at hz
      have := hz.2.1
      rw [g1] at this
      cases this
      have hF := rT_zero hz.2.2.1
      have : mFails P E c = true := rF_iff.mpr ⟨n1, k, by have := hz.2.2.2; omega, k1, by rw [k2]; exact hF.1, by unfold rIn; rw [k2]; exact hF.2.1, by unfold rIn; rw [k2]; exact hF.2.2⟩
      rw [fE] at this
      cases this
  -- A and B together, the sum told apart
  have two : wt P A q T rb = 1 → vA = vB → False := by
    intro yb z1
    subst z1
    -- the sum was made in this round
    obtain ⟨j, t, j1, j2, j3, j4, j5⟩ : ∃ j t, j < T ∧ rI P A j rZ = some t ∧ (rIn P t).1 = 3 ∧ t.1 < P.length ∧ t.2.2 = q + 1 := by
      rcases y3 with z | ⟨-, -, z⟩
      · rw [z] at yb; exact absurd yb (by decide)
      · exact z (by omega)
    have hmj : m < j := rI_lt a1 j2 (by omega)
    have noSum : ∀ t2 s2, T ≤ t2 → t2 ≤ n1 → rI P A t2 rZ = some s2 → (∀ k, T < k → k ≤ t2 → ¬ isR P A k) → (rIn P s2).1 ≠ 3 := by
      intro t2 s2 h1 h2 h3 h5 h6
      have hs2 : s2.1 < P.length := by
        obtain ⟨z, hz⟩ := awT_time tA h2
        have := hz.2.1
        rw [h3] at this
        cases this
        exact awT_lt hz
      refine no_twice hB hR hr hm0 hm1 hu huq tA (isR_of a1 a2 a3) hmj (show j < t2 by omega) h2 (fun k k1 k2 => ?_) ⟨t, j2, rfl⟩ ⟨s2, h3, hc.2.2 _ _ hs2 j4 h6 j3⟩
      rcases Nat.lt_or_ge T k with z | z
      · exact h5 k z k2
      · have := A5 (k - m) (by omega) (by omega)
        rw [show m + (k - m) = k by omega] at this
        exact this
    have start : ∃ x y z, rI P A T rZ = some x ∧ rI P B T rZ = some y ∧ rI P E T rZ = some z ∧ z.1 = x.1 ∧ z.2.2 = x.2.2 ∧ y.2.2 = x.2.2 ∧ z.2.1 ra = x.2.1 ra ∧ ∀ r, r ≠ ra → z.2.1 r = y.2.1 r := by
      refine ⟨a, b, e, ha.2.1, b1', e1', e2, e3, eqB.2.symm, ?_, fun r hr0 => ?_⟩
      · rw [(hrel ra).2.2, xa]; grind
      · rw [(hrel r).2.2, (hrel r).1]
        by_cases eb : r = rb
        · rw [eb, xb, yb]
        · rw [x1 r hr0 eb, y1 r hr0 eb]
    by_cases hw2 : vA = w
    · subst hw2
      have lA := round_loop hr hm0 hm1 huq tA (show T + 1 ≤ n1 by omega) hvA hw
      have lB2 := round_loop hr hm0 hm1 huq tB (show T + 1 ≤ n2 by omega) hvB hw
      obtain ⟨e0, he0⟩ : ∃ e0, e0 = m1 - i0 := ⟨_, rfl⟩
      rw [← he0] at lA lB2
      have nodes : ∀ i, i ≤ e0 → ∃ u, nd P A (T + i) u ∧ nd P B (T + i) u := by
        intro i hi
        rcases Nat.eq_zero_or_pos i with z | z
        · subst z; exact nd_sPath qB (Nat.le_refl _)
        · obtain ⟨u, u1, u2⟩ := (lA i z hi).2
          obtain ⟨v, v1, v2⟩ := (lB2 i z hi).2
          have := nd_fun u2 v2
          subst this
          exact ⟨u, u1, v1⟩
      have noR : ∀ i, i < e0 → ¬ isR P A (T + i) := by
        intro i hi hR2
        rcases Nat.eq_zero_or_pos i with z | z
        · subst z; exact isU_R A2 hR2
        · obtain ⟨u, u1, u2⟩ := (lA i z (by omega)).2
          obtain ⟨x, x1, x2, x3⟩ := hR2
          have := nd_fun u1 x1
          subst this
          exact hr.2.2.2.2.2 (i0 + i) (by omega) (by omega) ⟨u, u2, x2, x3⟩
      obtain ⟨x, y, z, k1, k2, k3, k4, k5, k6, k7, k8⟩ := lockAB e0 nodes (fun i s hi hs => ⟨by
        obtain ⟨g, hg⟩ := awT_time tA (show T + i ≤ n1 by have := (lA e0 (by omega) (Nat.le_refl _)).1; omega)
        have := hg.2.1
        rw [hs] at this
        cases this
        exact isR_state hs (noR i hi) (awT_lt hg), noSum (T + i) s (by omega) (by have := (lA e0 (by omega) (Nat.le_refl _)).1; omega) hs (fun k h1 h2 => by have := noR (k - T) (by omega); rw [show T + (k - T) = k by omega] at this; exact this)⟩) start
      -- the reading makes E's state B's
      have RB : isR P B (T + e0) := by
        obtain ⟨r, r1, r2⟩ := (lB2 e0 (by omega) (Nat.le_refl _)).2
        rw [show i0 + e0 = m1 by omega] at r2
        obtain ⟨x, x1, x2, x3⟩ := hr.2.2.2.2.1
        have := nd_fun r2 x1
        subst this
        exact ⟨r, r1, x2, x3⟩
      have NB := isR_lt tB (lB2 e0 (by omega) (Nat.le_refl _)).1 RB
      obtain ⟨g, hg⟩ := awT_time tB (show T + e0 + 1 ≤ n2 by omega)
      have hsB : rS P B y = some g := by
        have := hg.2.1
        rw [rI_succ, k2] at this
        exact this
      obtain ⟨r, ⟨sr, r1, rfl⟩, r3, r4⟩ := RB
      rw [k2] at r1
      cases r1
      have hyx : y.1 = x.1 := by
        obtain ⟨u, u1, u2⟩ := nodes e0 (Nat.le_refl _)
        rw [nd_fun ⟨y, k2, rfl⟩ u2, nd_fun ⟨x, k1, rfl⟩ u1]
      have hra : (rIn P y).2.1 = ra := (hc.2.1 y.1 r3).1 r4
      have hrdx : A.length ≤ x.2.2 := by
        have g2 := k1
        rw [rI_add, ha.2.1] at g2
        have := rd_mono (show rI P A e0 a = some x from g2)
        omega
      have hsE : rS P E z = some g := rS_read hsB (by rw [hyx, k4]) r4 (by rw [k6, k5]) (by unfold mDig; rw [if_neg (by omega), if_neg (by omega)]) (fun r hr0 => by rw [hra] at hr0; exact (k8 r hr0).symm)
      have hE1 : rI P E (T + e0 + 1) rZ = some g := by rw [rI_succ, k3]; exact hsE
      have := fail_of (by rw [lB, lE]) tB (show T + e0 + 1 ≤ n2 by omega) hg.2.1 hE1 (by have h9 := rd_step hsB; rw [if_pos (show (rIn P y).1 = 0 from r4)] at h9; rw [lB, h9, k6]; omega)
      rw [fE] at this
      cases this
    · have xA := round_exit hB hR hr hm0 hm1 hu huq tA A2 hvA hw hw2
      have xB := round_exit hB hR hr hm0 hm1 hu huq tB B2 hvB hw hw2
      have f2 := fun k hk => aw_forced tB tA (a := T + 1) (a2 := T + 1) (by omega) ⟨vA, hvB, hvA⟩ k hk (fun t x ht x1 xK => (xA (T + 1 + t) (by omega) (by omega)).1 ⟨x, x1, xK⟩)
      obtain ⟨x, y, z, k1, k2, k3, k4, k5, k6, k7, k8⟩ := lockAB (n1 - T) (fun i hi => by
        rcases Nat.eq_zero_or_pos i with z | z
        · subst z; exact nd_sPath qB (Nat.le_refl _)
        · obtain ⟨-, u, u1, u2⟩ := f2 (i - 1) (by omega)
          rw [show T + 1 + (i - 1) = T + i by omega] at u1 u2
          exact ⟨u, u2, u1⟩) (fun i s hi hs => ⟨by
        obtain ⟨g, hg⟩ := awT_time tA (show T + i ≤ n1 by omega)
        have := hg.2.1
        rw [hs] at this
        cases this
        refine isR_state hs ?_ (awT_lt hg)
        rcases Nat.eq_zero_or_pos i with z | z
        · subst z; exact isU_R A2
        · exact (xA (T + i) (by omega) (by omega)).2, noSum (T + i) s (by omega) (by omega) hs (fun k h1 h2 => (xA k h1 (by omega)).2)⟩) start
      rw [show T + (n1 - T) = n1 by omega] at k1 k3
      obtain ⟨g, hg⟩ := awT_time tA (Nat.le_refl n1)
      rw [Nat.sub_self] at hg
      have := hg.2.1
      rw [k1] at this
      cases this
      have hF := rT_zero hg.2.2.1
      have : mFails P E c = true := rF_iff.mpr ⟨n1, z, by have := hg.2.2.2; omega, k3, by rw [k4]; exact hF.1, by unfold rIn; rw [k4]; exact hF.2.1, by unfold rIn; rw [k4]; exact hF.2.2⟩
      rw [fE] at this
      cases this
  -- which register is tested
  by_cases ea : (rIn P a).2.1 = ra
  · rw [ea]
    refine .inl ⟨ya, fun z => three z (sameBD ?_)⟩
    rw [ea, (hrel ra).1, (hrel ra).2.1, xa]
    grind
  · by_cases eb : (rIn P a).2.1 = rb
    · rw [eb]
      rcases y3 with y | ⟨y, -⟩
      · refine .inr ⟨y, fun z => three (sameAB ?_) z⟩
        rw [eb, (hrel rb).1, y]
        grind
      · exact .inl ⟨y, fun z => two y z⟩
    · exfalso
      refine three (sameAB ?_) (sameBD ?_)
      · rw [(hrel _).1, y1 _ ea eb]; grind
      · rw [(hrel _).1, (hrel _).2.1, y1 _ ea eb, x1 _ ea eb]; grind
