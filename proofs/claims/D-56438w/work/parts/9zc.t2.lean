/-! ROOM 29: one sum: three exceptions a length *
-/
set_option maxRecDepth 100000
/-- a string of c that no deletion of which fails -/
def isF (P : List mI) (c : Int32) (L : Nat) (y : List Nat) : Prop := sDg y ∧ y.length = L ∧ mFails P y c = true ∧ nDel P c y
/-- two readings give a hub -/
theorem hub_of {P : List mI} {c : Int32} (hB : awB P c ≤ 1) (hR : pOne P) {L : Nat} {y : List Nat} (hy : isF P c L y) (hL : 2 ≤ L) : ∃ n m0 i m1, rHub P c y n m0 i m1 := by
  obtain ⟨d, l, f, nd0⟩ := hy
  obtain ⟨n, t⟩ := awT_of d f
  obtain ⟨z, hz⟩ := awT_time t (Nat.le_refl n)
  rw [Nat.sub_self] at hz
  have hl := nDel_full nd0 (by have := hz.2.2.2; omega) hz.2.1 (rT_zero hz.2.2.1)
  obtain ⟨m0, s, s1, s2, s3, s4, s5⟩ := rd_at (j := 0) hz.2.1 (Nat.zero_le _) (by omega)
  obtain ⟨m1, s', t1, t2, t3, t4, t5⟩ := rd_at (j := 1) hz.2.1 (Nat.zero_le _) (by omega)
  have hlt := rI_lt s2 t2 (by omega)
  have href : rRef P c y n m0 m1 := ⟨t, hlt, by omega, isR_of s2 s3 s4, isR_of t2 t3 t4, fun k h1 h2 ⟨u, ⟨su, u1, u2⟩, u3, u4⟩ => by
    have := (rd_between s2 t2 u1 s4 (by omega) h1 (by omega)).2 h2
    subst u2
    exact this u4⟩
  obtain ⟨i, i1, i2, i3, i4⟩ := ref_u hB hR href
  exact ⟨n, m0, i, m1, href, i1, i2, i3, i4⟩
/-- two such strings of the same length take the same way to the fork behind the last reading -/
theorem crit_path {P : List mI} {c : Int32} (hB : awB P c ≤ 1) (hR : pOne P) {X : List Nat} {n m0 i0 m1 : Nat} (hh : rHub P c X n m0 i0 m1) {L : Nat} (hL : 1 ≤ L) {y z : List Nat} (hy : isF P c L y) (hz : isF P c L z) :
    ∃ T ny nz, awT P c y 0 rZ ny ∧ awT P c z 0 rZ nz ∧ T ≤ ny ∧ T ≤ nz ∧ crit P y (i0 - m0) T ∧ crit P z (i0 - m0) T ∧ sPath P y z T ∧ isU P c y T ∧ ∀ T2, crit P y (i0 - m0) T2 → T2 = T := by
  obtain ⟨n1, tA⟩ := awT_of hy.1 hy.2.2.1
  obtain ⟨n2, tB⟩ := awT_of hz.1 hz.2.2.1
  obtain ⟨hr, hm0, hm1, hu, huq⟩ := id hh
  have fin : ∀ {Y : List Nat} {nY : Nat}, awT P c Y 0 rZ nY → nDel P c Y → Y.length = L → ∃ m s, m ≤ nY ∧ rI P Y m rZ = some s ∧ s.1 < P.length ∧ (rIn P s).1 = 0 ∧ s.2.2 = L - 1 := by
    intro Y nY tY hY lY
    obtain ⟨z, hz⟩ := awT_time tY (Nat.le_refl nY)
    rw [Nat.sub_self] at hz
    have hl := nDel_full hY (by have := hz.2.2.2; omega) hz.2.1 (rT_zero hz.2.2.1)
    obtain ⟨m, s, s1, s2, s3, s4, s5⟩ := rd_at (j := L - 1) hz.2.1 (Nat.zero_le _) (by omega)
    exact ⟨m, s, by omega, s2, s3, s4, s5⟩
  obtain ⟨m, sA, hmA, a1, a2, a3, a4⟩ := fin tA hy.2.2.2 hy.2.1
  obtain ⟨mB, sB, hmB, b1, b2, b3, b4⟩ := fin tB hz.2.2.2 hz.2.1
  obtain ⟨eB, pB⟩ := seg_same hB hR tA tB _ m mB sA sB hmA hmB a1 b1 a2 b2 a3 b3 a4 b4
  subst eB
  obtain ⟨A1, A2, A3, -, -⟩ := round_u hR hr hm0 hm1 hu huq tA hmA (isR_of a1 a2 a3)
  obtain ⟨B1, B2, B3, -, -⟩ := round_u hR hr hm0 hm1 hu huq tB hmB (isR_of b1 b2 b3)
  have ly := hy.2.1
  have lz := hz.2.1
  refine ⟨m + (i0 - m0), n1, n2, tA, tB, A1, B1, ⟨m, sA, a1, a2, a3, by omega, rfl⟩, ⟨m, sB, b1, b2, b3, by omega, rfl⟩, ?_, A2, ?_⟩
  · refine sPath_nd (fun i hi => ?_)
    rcases Nat.lt_or_ge m i with q | q
    · obtain ⟨u, u1, u2⟩ := A3 (i - m) (by omega)
      obtain ⟨v, v1, v2⟩ := B3 (i - m) (by omega)
      rw [show m + (i - m) = i by omega] at u1 v1
      have := nd_fun u2 v2
      subst this
      exact ⟨u, u1, v1⟩
    · exact nd_sPath pB q
  · rintro T2 ⟨m2, s2, c1, c2, c3, c4, c5⟩
    have : m2 = m := by
      rcases Nat.lt_trichotomy m2 m with q | q | q
      · have := rd_pre a1 c1 c3 q; omega
      · exact q
      · have := rd_pre c1 a1 a3 q; omega
    omega
noncomputable def critT (P : List mI) (c : Int32) (d L : Nat) : Nat := by
  classical exact if h : ∃ T y, isF P c L y ∧ crit P y d T then h.choose else 0
theorem critT_eq {P : List mI} {c : Int32} (hB : awB P c ≤ 1) (hR : pOne P) {X : List Nat} {n m0 i0 m1 : Nat} (hh : rHub P c X n m0 i0 m1) {L : Nat} (hL : 1 ≤ L) {y : List Nat} {T : Nat} (hy : isF P c L y) (hT : crit P y (i0 - m0) T) : critT P c (i0 - m0) L = T := by
  classical
  have h : ∃ T y, isF P c L y ∧ crit P y (i0 - m0) T := ⟨T, y, hy, hT⟩
  obtain ⟨z, h1, h2⟩ := h.choose_spec
  have e : critT P c (i0 - m0) L = h.choose := by unfold critT; exact dif_pos h
  rw [e]
  obtain ⟨T0, -, -, -, -, -, -, c1, c2, -, -, c3⟩ := crit_path hB hR hh hL hy h1
  obtain ⟨T1, -, -, -, -, -, -, d1, d2, -, -, d3⟩ := crit_path hB hR hh hL h1 hy
  have e1 := d3 _ h2
  have e2 := d3 _ c2
  have e3 := c3 _ hT
  rw [e1, e3, e2]
/-- the value of a register at a time -/
def rgAt (P : List mI) (y : List Nat) (T rg : Nat) : Int32 := match rI P y T rZ with
  | some s => s.2.1 rg
  | none => 0
noncomputable def t2rk (P : List mI) (c : Int32) (d : Nat) (i : mI) (y : List Nat) : Nat := by
  classical exact if isF P c y.length y then 1 + toCross i (rgAt P y (critT P c d y.length) i.2.1) y.sum else 0
noncomputable def t2md (P : List mI) (c : Int32) (d : Nat) (i : mI) (L : Nat) : Bool := by
  classical exact decide (∃ y, isF P c L y ∧ wt P y (L - 1) (critT P c d L) i.2.1 = 0)
theorem sum_low {A : List Nat} {q e : Nat} (hq : q < A.length) : (A.set q e).sum + A.getD q 0 = A.sum + e := by
  have := sMs_set_eq A q e hq
  unfold sMs at this
  rw [List.length_set] at this
  omega
theorem is2_low {A : List Nat} {q e : Nat} (hq : q < A.length) (he : e ≤ A.getD q 0) : is2 q (A.getD q 0 - e) A (A.set q e) := by
  intro j
  by_cases z : j = q
  · subst z
    rw [if_pos rfl]
    unfold mDig
    rw [List.length_set, if_pos hq, if_pos hq, getD_set_eq hq]
    have := nI_add (A.getD j 0 - e) e
    rw [show A.getD j 0 - e + e = A.getD j 0 by omega] at this
    rw [← this]
    grind
  · rw [mDig_set z, if_neg z]
    grind
theorem T2 {P : List mI} {c : Int32} {ra rb : Nat} (hB : awB P c ≤ 1) (hR : pOne P) (hc : pCopy P ra rb) : ∃ md rk, uRk P c 3 md rk := by
  classical
  by_cases hex : ∃ X n m0 i0 m1, rHub P c X n m0 i0 m1
  · obtain ⟨X, n, m0, i0, m1, hh⟩ := hex
    obtain ⟨d, hd⟩ : ∃ d, d = i0 - m0 := ⟨_, rfl⟩
    obtain ⟨u, hu1, huK⟩ := hh.2.2.2.1
    obtain ⟨ins, hins⟩ : ∃ ins, ins = P.getD u mI0 := ⟨_, rfl⟩
    have hfk : ins.1 = 4 ∨ ins.1 = 5 := by rw [hins]; exact awK_fork huK
    have ct := fun {L y T} (hL : 1 ≤ L) (hy : isF P c L y) hT => critT_eq (T := T) hB hR hh hL hy hT
    rw [← hd] at ct
    have rkF : ∀ {y : List Nat}, isF P c y.length y → t2rk P c d ins y = 1 + toCross ins (rgAt P y (critT P c d y.length) ins.2.1) y.sum := by
      intro y h; unfold t2rk; exact if_pos h
    have rkN : ∀ {y : List Nat}, ¬ isF P c y.length y → t2rk P c d ins y = 0 := by
      intro y h; unfold t2rk; exact if_neg h
    refine ⟨t2md P c d ins, t2rk P c d ins, fun xs _ _ _ => ?_, fun xs p e hd1 h4 hf hn hp he hf2 => ?_, fun A q p dA h4 hq hpq h1 h2 fA nA fB nB fD fE => ?_⟩
    · by_cases q : isF P c xs.length xs
      · rw [rkF q]
        have := toCross_le (i := ins) (F := rgAt P xs (critT P c d xs.length) ins.2.1) (s := xs.sum)
        omega
      · rw [rkN q]; exact Nat.zero_le _
    · have hX : isF P c xs.length xs := ⟨hd1, rfl, hf, hn⟩
      rw [rkF hX]
      by_cases q : isF P c (xs.set p e).length (xs.set p e)
      · rw [rkF q]
        rw [List.length_set] at q ⊢
        obtain ⟨T, ny, nz, t1, t2, t3, t4, t5, t6, t7, t8, -⟩ := crit_path hB hR hh (show 1 ≤ xs.length by omega) hX q
        rw [← hd] at t5 t6
        rw [ct (by omega) hX t5]
        obtain ⟨s, hs⟩ := awT_time t1 t3
        obtain ⟨t, ht⟩ := awT_time t2 t4
        have hl := lock2 (is2_low hp (Nat.le_of_lt he)) t7 hs.2.1 ht.2.1 ins.2.1
        obtain ⟨w1, w2, w3⟩ := wt_one hB hR hc hh t1 p T s t3 hs.2.1
        have hw : wt P xs p T ins.2.1 = 0 ∨ wt P xs p T ins.2.1 = 1 := by
          by_cases ea : ins.2.1 = ra
          · rw [ea]; exact w2.imp id (fun z => z.1)
          · by_cases eb : ins.2.1 = rb
            · rw [eb]; exact w3.imp id (fun z => z.1)
            · exact .inl (w1 _ ea eb)
        have := sum_low (e := e) hp
        refine Nat.add_le_add_left (toCross_mono (w := wt P xs p T ins.2.1) (m := xs.getD p 0 - e) ?_ hw (by omega)) 1
        unfold rgAt
        rw [hs.2.1, ht.2.1]
        exact hl
      · rw [rkN q]; exact Nat.zero_le _
    · obtain ⟨B, hBd⟩ : ∃ B, B = A.set q (A.getD q 0 - 1) := ⟨_, rfl⟩
      have h8 := getD_le7 dA q
      have h8p := getD_le7 dA p
      have dB : sDg B := by rw [hBd]; exact sDg_set dA (by omega)
      have lB : B.length = A.length := by rw [hBd, List.length_set]
      have h4i := is4_of hq hpq h1 h2
      rw [← hBd] at fB nB fD h4i ⊢
      have ep : A.getD p 0 = B.getD p 0 := by rw [hBd, getD_set_ne (by omega)]
      obtain ⟨D, hDd⟩ : ∃ D, D = B.set p (A.getD p 0 - 1) := ⟨_, rfl⟩
      have dD : sDg D := by rw [hDd]; exact sDg_set dB (by omega)
      have lD : D.length = A.length := by rw [hDd, List.length_set, lB]
      rw [← hDd] at fD h4i ⊢
      have iA : isF P c A.length A := ⟨dA, rfl, fA, nA⟩
      have iB : isF P c A.length B := ⟨dB, lB, fB, nB⟩
      have sB : B.sum + 1 = A.sum := by have := sum_low (e := A.getD q 0 - 1) hq; rw [← hBd] at this; omega
      have sD : D.sum + 1 = B.sum := by have := sum_low (A := B) (e := A.getD p 0 - 1) (show p < B.length by omega); rw [← hDd] at this; omega
      have sA : A.sum < 1000 := by
        have := sMs_8 dA
        have := dA.1
        unfold sMs at *
        omega
      by_cases nD : nDel P c D
      · have iD : isF P c A.length D := ⟨dD, lD, fD, nD⟩
        obtain ⟨T, u2, vA, vB, vD, c1, c2, c3, c4, c5, c6, pB, pD, c7, c8⟩ := t2_viol hB hR hc hh h4i hpq hq lB lD (by rw [List.length_set]) dA dB dD fA fB fD fE nA nB nD
        have := awK_one hB c3 huK
        subst this
        rw [← hins] at c8
        rw [← hd] at c1
        have eT := ct (by omega) iA c1
        have rg : ∀ {Y : List Nat}, isF P c A.length Y → ∃ s, rI P Y T rZ = some s ∧ t2rk P c d ins Y = 1 + toCross ins (s.2.1 ins.2.1) Y.sum := by
          intro Y hY
          obtain ⟨T', ny, nz, t1, t2, t3, t4, t5, t6, -, -, -⟩ := crit_path hB hR hh (show 1 ≤ A.length by omega) hY iA
          rw [← hd] at t5
          have e1 := ct (by omega) hY t5
          obtain ⟨s, hs⟩ := awT_time t1 t3
          rw [← e1, eT] at hs
          refine ⟨s, hs.2.1, ?_⟩
          rw [rkF (by rw [hY.2.1]; exact hY), hY.2.1, eT]
          unfold rgAt
          rw [hs.2.1]
        obtain ⟨sa, a1, a2⟩ := rg iA
        obtain ⟨sb, b1, b2⟩ := rg iB
        obtain ⟨sd, d1, d2⟩ := rg iD
        have pa := path_rd pB a1 b1
        have pd := path_rd pD a1 d1
        have ua : u2 = sa.1 := nd_fun c2 ⟨sa, a1, rfl⟩
        have ia : rIn P sa = ins := by unfold rIn; rw [hins, ua]
        have ib : rIn P sb = ins := by unfold rIn; rw [hins, ua, pa.1]
        have id' : rIn P sd = ins := by unfold rIn; rw [hins, ua, pd.1]
        have nA1 := fork_nd a1 (by rw [ia]; exact hfk) c4
        have nB1 := fork_nd b1 (by rw [ib]; exact hfk) c5
        have nD1 := fork_nd d1 (by rw [id']; exact hfk) c6
        rw [ia] at nA1
        rw [ib, ← pa.1] at nB1
        rw [id', ← pd.1] at nD1
        have q1 : q = A.length - 1 := by omega
        rcases c8 with ⟨w1, w2⟩ | ⟨w1, w2⟩
        · left
          refine ⟨?_, ?_⟩
          · unfold t2md
            rw [decide_eq_false_iff_not]
            rintro ⟨y, y1, y2⟩
            obtain ⟨T', ny, nz, t1, t2, t3, t4, t5, t6, t7, -, -⟩ := crit_path hB hR hh (show 1 ≤ A.length by omega) iA y1
            rw [← hd] at t5
            have e1 := ct (by omega) iA t5
            rw [← wt_path (by rw [e1]; exact t7), eT, ← q1, w1] at y2
            exact absurd y2 (by decide)
          · rw [a2, b2]
            have hl := lock2 (m := 1) (j := q) (ys := A) (zs := B) (by
              have := is2_low (e := A.getD q 0 - 1) hq (by omega)
              rw [show A.getD q 0 - (A.getD q 0 - 1) = 1 by omega, ← hBd] at this
              exact this) pB a1 b1 ins.2.1
            have := toCross_drop (i := ins) (g := sa.2.1) (g2 := sb.2.1) (a := sa.1) (s := A.sum) (s2 := B.sum) hfk (by rw [hl, w1, show nI 1 = 1 from rfl]; grind) (by rw [nA1, nB1]; exact fun z => w2 (Option.some.inj z)) (by omega) sA
            omega
        · right; left
          refine ⟨?_, ?_⟩
          · unfold t2md
            rw [decide_eq_true_iff]
            exact ⟨A, iA, by rw [eT, ← q1]; exact w1⟩
          · rw [b2, d2]
            have pBD : sPath P B D T := by
              intro i hi
              obtain ⟨x, y, x1, x2, x3⟩ := pB i hi
              obtain ⟨x', z, y1, y2, y3⟩ := pD i hi
              rw [x1] at y1
              cases y1
              exact ⟨y, z, x2, y2, by rw [← x3, y3]⟩
            have hl := lock2 (m := 1) (j := p) (ys := B) (zs := D) (by
              have := is2_low (A := B) (q := p) (e := A.getD p 0 - 1) (by omega) (by omega)
              rw [← hDd, ← ep, show A.getD p 0 - (A.getD p 0 - 1) = 1 by omega] at this
              exact this) pBD b1 d1 ins.2.1
            obtain ⟨T', ny, nz, t1, t2, t3, t4, t5, t6, -, -, -⟩ := crit_path hB hR hh (show 1 ≤ A.length by omega) iB iA
            rw [← hd] at t5
            have e1 := ct (by omega) iB t5
            rw [← e1, eT] at t3
            obtain ⟨x1, x2, x3⟩ := wt_one hB hR hc hh t1 p T sb t3 b1
            have hw : wt P B p T ins.2.1 = 0 ∨ wt P B p T ins.2.1 = 1 := by
              by_cases ea : ins.2.1 = ra
              · rw [ea]; exact x2.imp id (fun z => z.1)
              · by_cases eb : ins.2.1 = rb
                · rw [eb]; exact x3.imp id (fun z => z.1)
                · exact .inl (x1 _ ea eb)
            have hne : mNext ins sb.2.1 sa.1 ≠ mNext ins sd.2.1 sa.1 := by rw [nB1, nD1]; exact fun z => w2 (Option.some.inj z)
            rcases hw with z | z
            · exfalso
              refine hne (mNext_eq ?_)
              rw [hl, z]; grind
            · have := toCross_drop (i := ins) (g := sb.2.1) (g2 := sd.2.1) (a := sa.1) (s := B.sum) (s2 := D.sum) hfk (by rw [hl, z, show nI 1 = 1 from rfl]; grind) hne (by omega) (by omega)
              omega
      · right; right
        refine ⟨nD, ?_⟩
        rw [rkN (fun z => nD z.2.2.2), rkF (by rw [lB]; exact iB)]
        omega
  · refine ⟨fun _ => true, fun _ => 0, fun _ _ _ _ => Nat.zero_le _, fun _ _ _ _ _ _ _ _ _ _ => Nat.le_refl _, fun A q p dA h4 hq hpq h1 h2 fA nA _ _ _ _ => ?_⟩
    obtain ⟨n, m0, i, m1, h⟩ := hub_of hB hR (L := A.length) ⟨dA, rfl, fA, nA⟩ (by omega)
    exact absurd ⟨A, n, m0, i, m1, h⟩ hex
