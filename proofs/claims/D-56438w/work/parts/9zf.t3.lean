/-! ROOM 32: the rank, for any critical time; two reading instructions: three exceptions a length *
-/
set_option maxRecDepth 100000
noncomputable def grT (P : List mI) (c : Int32) (K : List Nat → Nat → Prop) (L : Nat) : Nat := by
  classical exact if h : ∃ T y, isF P c L y ∧ K y T then h.choose else 0
noncomputable def grk (P : List mI) (c : Int32) (K : List Nat → Nat → Prop) (i : mI) (y : List Nat) : Nat := by
  classical exact if isF P c y.length y then 1 + toCross i (rgAt P y (grT P c K y.length) i.2.1) y.sum else 0
noncomputable def gmd (P : List mI) (c : Int32) (K : List Nat → Nat → Prop) (i : mI) (L : Nat) : Bool := by
  classical exact decide (∃ y, isF P c L y ∧ wt P y (L - 1) (grT P c K L) i.2.1 = 0)
theorem g_rank {P : List mI} {c : Int32} {K : List Nat → Nat → Prop} {u : Nat} (huK : awK P c u)
    (k1 : ∀ {L : Nat} {y z : List Nat} {T : Nat}, 4 ≤ L → isF P c L y → isF P c L z → K y T → K z T ∧ sPath P y z T)
    (k1' : ∀ {y : List Nat} {T T2 : Nat}, isF P c y.length y → K y T → K y T2 → T = T2)
    (k2 : ∀ {y : List Nat} {T : Nat} (p : Nat), isF P c y.length y → K y T → wt P y p T (P.getD u mI0).2.1 = 0 ∨ wt P y p T (P.getD u mI0).2.1 = 1)
    (k3 : ∀ {A B D E : List Nat} {p q : Nat}, is4 p q A B D E → p < q → q < A.length → 4 ≤ A.length → isF P c A.length A → isF P c A.length B → isF P c A.length D → mFails P E c = false →
      ∃ T vA vB vD, K A T ∧ nd P A T u ∧ nd P A (T + 1) vA ∧ nd P B (T + 1) vB ∧ nd P D (T + 1) vD ∧ sPath P A B T ∧ sPath P A D T ∧ q + 1 = A.length ∧ ((wt P A q T (P.getD u mI0).2.1 = 1 ∧ vA ≠ vB) ∨ (wt P A q T (P.getD u mI0).2.1 = 0 ∧ vB ≠ vD))) :
    ∃ md rk, uRk P c 3 md rk := by
  classical
  obtain ⟨ins, hins⟩ : ∃ ins, ins = P.getD u mI0 := ⟨_, rfl⟩
  have hfk : ins.1 = 4 ∨ ins.1 = 5 := by rw [hins]; exact awK_fork huK
  rw [← hins] at k2 k3
  have ct : ∀ {L : Nat} {y : List Nat} {T : Nat}, 4 ≤ L → isF P c L y → K y T → grT P c K L = T := by
    intro L y T hL hy hT
    have h : ∃ T y, isF P c L y ∧ K y T := ⟨T, y, hy, hT⟩
    obtain ⟨z, h1, h2⟩ := h.choose_spec
    have e : grT P c K L = h.choose := by unfold grT; exact dif_pos h
    rw [e]
    exact k1' (y := y) (by rw [hy.2.1]; exact hy) (k1 hL h1 hy h2).1 hT
  have rkF : ∀ {y : List Nat}, isF P c y.length y → grk P c K ins y = 1 + toCross ins (rgAt P y (grT P c K y.length) ins.2.1) y.sum := by
    intro y h; unfold grk; exact if_pos h
  have rkN : ∀ {y : List Nat}, ¬ isF P c y.length y → grk P c K ins y = 0 := by
    intro y h; unfold grk; exact if_neg h
  have st : ∀ {y z : List Nat} {T : Nat}, sPath P y z T → ∃ s t, rI P y T rZ = some s ∧ rI P z T rZ = some t := by
    intro y z T h
    obtain ⟨s, t, h1, h2, -⟩ := h T (Nat.le_refl _)
    exact ⟨s, t, h1, h2⟩
  refine ⟨gmd P c K ins, grk P c K ins, fun xs _ _ _ => ?_, fun xs p e hd1 h4 hf hn hp he hf2 => ?_, fun A q p dA h4 hq hpq h1 h2 fA nA fB nB fD fE => ?_⟩
  · by_cases q : isF P c xs.length xs
    · rw [rkF q]
      have := toCross_le (i := ins) (F := rgAt P xs (grT P c K xs.length) ins.2.1) (s := xs.sum)
      omega
    · rw [rkN q]; exact Nat.zero_le _
  · have hX : isF P c xs.length xs := ⟨hd1, rfl, hf, hn⟩
    rw [rkF hX]
    by_cases q : isF P c (xs.set p e).length (xs.set p e)
    · rw [rkF q]
      rw [List.length_set] at q ⊢
      have hs := sum_low (e := e) hp
      by_cases hex : ∃ T, K xs T
      · obtain ⟨T, hT⟩ := hex
        obtain ⟨k, hpath⟩ := k1 h4 hX q hT
        rw [ct h4 hX hT]
        obtain ⟨s, t, s1, t1⟩ := st hpath
        have hl := lock2 (is2_low hp (Nat.le_of_lt he)) hpath s1 t1 ins.2.1
        refine Nat.add_le_add_left (toCross_mono (w := wt P xs p T ins.2.1) (m := xs.getD p 0 - e) ?_ (k2 p hX hT) (by omega)) 1
        unfold rgAt
        rw [s1, t1]
        exact hl
      · have hno : ¬ ∃ T y, isF P c xs.length y ∧ K y T := by
          rintro ⟨T, y, y1, y2⟩
          exact hex ⟨T, (k1 h4 y1 hX y2).1⟩
        have e0 : grT P c K xs.length = 0 := by unfold grT; exact dif_neg hno
        rw [e0]
        refine Nat.add_le_add_left (toCross_mono (w := 0) (m := xs.getD p 0 - e) ?_ (.inl rfl) (by omega)) 1
        show (0 : Int32) = 0 - 0 * _
        grind
    · rw [rkN q]; exact Nat.zero_le _
  · obtain ⟨B, hBd⟩ : ∃ B, B = A.set q (A.getD q 0 - 1) := ⟨_, rfl⟩
    have h8 := getD_le7 dA q
    have h8p := getD_le7 dA p
    have dB : sDg B := by rw [hBd]; exact sDg_set dA (by omega)
    have lB : B.length = A.length := by rw [hBd, List.length_set]
    have h4i := is4_of hq hpq h1 h2
    rw [← hBd] at fB nB fD h4i ⊢
    have ep : A.getD p 0 = B.getD p 0 := by rw [hBd, getD_set_ne (by omega)]
    obtain ⟨D, hDd⟩ : ∃ D, D = B.set p (A.getD p 0 - 1) := ⟨_, rfl⟩
    have dD : sDg D := by rw [hDd]; exact sDg_set dB (by omega)
    have lD : D.length = A.length := by rw [hDd, List.length_set, lB]
    rw [← hDd] at fD h4i ⊢
    have iA : isF P c A.length A := ⟨dA, rfl, fA, nA⟩
    have iB : isF P c A.length B := ⟨dB, lB, fB, nB⟩
    have sB : B.sum + 1 = A.sum := by have := sum_low (e := A.getD q 0 - 1) hq; rw [← hBd] at this; omega
    have sD : D.sum + 1 = B.sum := by have := sum_low (A := B) (e := A.getD p 0 - 1) (show p < B.length by omega); rw [← hDd] at this; omega
    have sA : A.sum < 1000 := by
      have := sMs_8 dA
      have := dA.1
      unfold sMs at *
      omega
    by_cases nD : nDel P c D
    · have iD : isF P c A.length D := ⟨dD, lD, fD, nD⟩
      obtain ⟨T, vA, vB, vD, c1, c2, c4, c5, c6, pB, pD, c7, c8⟩ := k3 h4i hpq hq h4 iA iB iD fE
      have eT := ct h4 iA c1
      have rg : ∀ {Y : List Nat} {s : rC}, isF P c A.length Y → rI P Y T rZ = some s → grk P c K ins Y = 1 + toCross ins (s.2.1 ins.2.1) Y.sum := by
        intro Y s hY hs
        rw [rkF (by rw [hY.2.1]; exact hY), hY.2.1, eT]
        unfold rgAt
        rw [hs]
      obtain ⟨sa, sb, a1, b1⟩ := st pB
      obtain ⟨sa', sd, a1', d1⟩ := st pD
      have a2 := rg iA a1
      have b2 := rg iB b1
      have d2 := rg iD d1
      have pa := path_rd pB a1 b1
      have pd := path_rd pD a1 d1
      have ua : u = sa.1 := nd_fun c2 ⟨sa, a1, rfl⟩
      have ia : rIn P sa = ins := by unfold rIn; rw [hins, ua]
      have ib : rIn P sb = ins := by unfold rIn; rw [hins, ua, pa.1]
      have id' : rIn P sd = ins := by unfold rIn; rw [hins, ua, pd.1]
      have nA1 := fork_nd a1 (by rw [ia]; exact hfk) c4
      have nB1 := fork_nd b1 (by rw [ib]; exact hfk) c5
      have nD1 := fork_nd d1 (by rw [id']; exact hfk) c6
      rw [ia] at nA1
      rw [ib, ← pa.1] at nB1
      rw [id', ← pd.1] at nD1
      have q1 : q = A.length - 1 := by omega
      rcases c8 with ⟨w1, w2⟩ | ⟨w1, w2⟩
      · left
        refine ⟨?_, ?_⟩
        · unfold gmd
          rw [decide_eq_false_iff_not]
          rintro ⟨y, y1, y2⟩
          obtain ⟨-, hpath⟩ := k1 h4 iA y1 c1
          rw [eT, ← wt_path hpath, ← q1, w1] at y2
          exact absurd y2 (by decide)
        · rw [a2, b2]
          have hl := lock2 (m := 1) (j := q) (ys := A) (zs := B) (by
            have := is2_low (e := A.getD q 0 - 1) hq (by omega)
            rw [show A.getD q 0 - (A.getD q 0 - 1) = 1 by omega, ← hBd] at this
            exact this) pB a1 b1 ins.2.1
          have := toCross_drop (i := ins) (g := sa.2.1) (g2 := sb.2.1) (a := sa.1) (s := A.sum) (s2 := B.sum) hfk (by rw [hl, w1, show nI 1 = 1 from rfl]; grind) (by rw [nA1, nB1]; exact fun z => w2 (Option.some.inj z)) (by omega) sA
          omega
      · right; left
        refine ⟨?_, ?_⟩
        · unfold gmd
          rw [decide_eq_true_iff]
          exact ⟨A, iA, by rw [eT, ← q1]; exact w1⟩
        · rw [b2, d2]
          have pBD : sPath P B D T := by
            intro i hi
            obtain ⟨x, y, x1, x2, x3⟩ := pB i hi
            obtain ⟨x', z, y1, y2, y3⟩ := pD i hi
            rw [x1] at y1
            cases y1
            exact ⟨y, z, x2, y2, by rw [← x3, y3]⟩
          have hl := lock2 (m := 1) (j := p) (ys := B) (zs := D) (by
            have := is2_low (A := B) (q := p) (e := A.getD p 0 - 1) (by omega) (by omega)
            rw [← hDd, ← ep, show A.getD p 0 - (A.getD p 0 - 1) = 1 by omega] at this
            exact this) pBD b1 d1 ins.2.1
          have kB := (k1 h4 iA iB c1).1
          have hw := k2 p (y := B) (by rw [lB]; exact iB) kB
          have hne : mNext ins sb.2.1 sa.1 ≠ mNext ins sd.2.1 sa.1 := by rw [nB1, nD1]; exact fun z => w2 (Option.some.inj z)
          rcases hw with z | z
          · exfalso
            refine hne (mNext_eq ?_)
            rw [hl, z]; grind
          · have := toCross_drop (i := ins) (g := sb.2.1) (g2 := sd.2.1) (a := sa.1) (s := B.sum) (s2 := D.sum) hfk (by rw [hl, z, show nI 1 = 1 from rfl]; grind) hne (by omega) (by omega)
            omega
    · right; right
      refine ⟨nD, ?_⟩
      rw [rkN (fun z => nD z.2.2.2), rkF (by rw [lB]; exact iB)]
      omega
/-- T3: at most two reading instructions, no sum -/
theorem T3 {P : List mI} {c : Int32} (hB : awB P c ≤ 1) (hR : pTwoR P) (hP : pPure P) : ∃ md rk, uRk P c 3 md rk := by
  classical
  by_cases hex : ∃ X n i i2, uHub P c X n i i2
  · obtain ⟨X, n, i, i2, hh⟩ := hex
    obtain ⟨u, hu1, huK⟩ := hh.2.2.2.1
    obtain ⟨et, het⟩ : ∃ et, (allLead P c ∧ et = 0) ∨ (¬ allLead P c ∧ et = 1) := by
      by_cases z : allLead P c
      · exact ⟨0, .inl ⟨z, rfl⟩⟩
      · exact ⟨1, .inr ⟨z, rfl⟩⟩
    obtain ⟨w, hw⟩ := nd_some hh.1 (show i + 1 ≤ n by have := hh.2.1; have := hh.2.2.1; omega)
    refine g_rank (K := uK P c et) huK ?_ ?_ ?_ ?_
    · intro L y z T hL hy hz hK
      obtain ⟨n1, tY⟩ := awT_of hy.1 hy.2.2.1
      obtain ⟨n2, tZ⟩ := awT_of hz.1 hz.2.2.1
      obtain ⟨hU, s, hs, hr⟩ := hK
      have hT : T ≤ n1 := by
        rcases Nat.lt_or_ge n1 T with q | q
        · obtain ⟨g, hg⟩ := awT_time tY (Nat.le_refl n1)
          rw [Nat.sub_self] at hg
          have := rI_stop hg.2.1 (rF_stop (rT_zero hg.2.2.1)) hs
          omega
        · exact q
      have full : ∀ {Y : List Nat} {nY T2 v : Nat} {a : rC}, awT P c Y 0 rZ nY → isF P c L Y → T2 < nY → isU P c Y T2 → nd P Y (T2 + 1) v → v ≠ w → rI P Y T2 rZ = some a → L ≤ a.2.2 + et := by
        intro Y nY T2 v a tY hY h1 h2 h3 h5 h6
        obtain ⟨g, hg⟩ := awT_time tY (Nat.le_refl nY)
        rw [Nat.sub_self] at hg
        have hl := nDel_full hY.2.2.2 (by have := hg.2.2.2; omega) hg.2.1 (rT_zero hg.2.2.1)
        rw [hY.2.1] at hl
        obtain ⟨r1, r2⟩ := exit_reads hB hR hh tY h1 h2 h3 hw h5 h6 hg.2.1
        rcases het with ⟨z, e⟩ | ⟨z, e⟩
        · have := r2 z; omega
        · omega
      have path : ∀ j, j ≤ T → sPath P y z j := by
        intro j
        induction j with
        | zero => intro _; exact sPath_nd (fun i3 hi3 => by have : i3 = 0 := by omega
                                                            subst this
                                                            exact ⟨0, ⟨rZ, rfl, rfl⟩, ⟨rZ, rfl, rfl⟩⟩)
        | succ j ih =>
          intro hj
          have hpj := ih (by omega)
          obtain ⟨v, v1, v2⟩ := nd_sPath hpj (Nat.le_refl j)
          obtain ⟨p1, hp1⟩ := nd_some tY (show j + 1 ≤ n1 by omega)
          obtain ⟨a1, a2, a3⟩ := nd_step tY (show j < n1 by omega) v1 hp1
          have hjz : j < n2 := by
            rcases Nat.lt_or_ge j n2 with q | q
            · exact q
            · exfalso
              obtain ⟨g, hg⟩ := awT_time tZ (Nat.le_refl n2)
              rw [Nat.sub_self] at hg
              have hF := rT_zero hg.2.2.1
              have hjn : j = n2 := by
                obtain ⟨s2, s3, -⟩ := v2
                have := rI_stop hg.2.1 (rF_stop hF) s3
                omega
              subst hjn
              have := nd_fun v2 ⟨g, hg.2.1, rfl⟩
              subst this
              exact a3 ⟨hF.1, hF.2.1⟩
          obtain ⟨p2, hp2⟩ := nd_some tZ (show j + 1 ≤ n2 by omega)
          obtain ⟨b1, b2, -⟩ := nd_step tZ hjz v2 hp2
          have e : p1 = p2 := by
            by_cases e : p1 = p2
            · exact e
            · exfalso
              have hK := (awK_of a1 b1 a2 b2 e).1
              have Uy : isU P c y j := ⟨v, v1, hK⟩
              have Uz : isU P c z j := ⟨v, v2, hK⟩
              obtain ⟨sy, hsy⟩ := awT_time tY (show j ≤ n1 by omega)
              obtain ⟨sz, hsz⟩ := awT_time tZ (show j ≤ n2 by omega)
              have hlt := u_reads hB hh tY Uy hU (by omega) hT hsy.2.1 hs
              have hrz := (path_rd hpj hsy.2.1 hsz.2.1).2
              have hyL := hy.2.1
              by_cases e2 : p1 = w
              · have := full tZ hz hjz Uz hp2 (fun h => e (e2.trans h.symm)) hsz.2.1
                omega
              · have := full tY hy (by omega) Uy hp1 e2 hsy.2.1
                omega
          subst e
          intro i3 hi3
          rcases Nat.lt_or_ge i3 (j + 1) with q | q
          · exact hpj i3 (by omega)
          · have : i3 = j + 1 := by omega
            subst this
            obtain ⟨x, x1, x2⟩ := hp1
            obtain ⟨x', x3, x4⟩ := hp2
            exact ⟨x, x', x1, x3, by rw [x2, x4]⟩
      have hp := path T (Nat.le_refl _)
      obtain ⟨v, v1, v2⟩ := nd_sPath hp (Nat.le_refl T)
      obtain ⟨v', v3, v4⟩ := hU
      have := nd_fun v1 v3
      subst this
      obtain ⟨s', t', g1, g2, -⟩ := hp T (Nat.le_refl _)
      rw [hs] at g1
      cases g1
      refine ⟨⟨⟨v, v2, v4⟩, t', g2, ?_⟩, hp⟩
      rw [← (path_rd hp hs g2).2, hr, hy.2.1, hz.2.1]
    · intro y T T2 hy hK hK2
      obtain ⟨n1, tY⟩ := awT_of hy.1 hy.2.2.1
      have bnd : ∀ {T : Nat} {s : rC}, rI P y T rZ = some s → T ≤ n1 := by
        intro T s hs
        rcases Nat.lt_or_ge n1 T with q | q
        · obtain ⟨g, hg⟩ := awT_time tY (Nat.le_refl n1)
          rw [Nat.sub_self] at hg
          have := rI_stop hg.2.1 (rF_stop (rT_zero hg.2.2.1)) hs
          omega
        · exact q
      obtain ⟨hU, s, hs, hr⟩ := hK
      obtain ⟨hU2, s2, hs2, hr2⟩ := hK2
      rcases Nat.lt_trichotomy T T2 with q | q | q
      · have := u_reads hB hh tY hU hU2 q (bnd hs2) hs hs2; omega
      · exact q
      · have := u_reads hB hh tY hU2 hU q (bnd hs) hs2 hs; omega
    · intro y T p hy hK
      obtain ⟨hU, s, hs, hr⟩ := hK
      exact (wt_pure hP T s hs _).imp id (fun z => z.1)
    · intro A B D E p q h4 hpq hq hL iA iB iD fE
      obtain ⟨T, u2, vA, vB, vD, c1, c2, c3, c4⟩ := t3_viol hB hR hP hh het h4 hpq hq iB.2.1 iD.2.1 iA.1 iB.1 iD.1 iA.2.2.1 iB.2.2.1 iD.2.2.1 fE iA.2.2.2 iB.2.2.2 iD.2.2.2
      have := awK_one hB c3 huK
      subst this
      exact ⟨T, vA, vB, vD, c1, c2, c4⟩
  · refine ⟨fun _ => true, fun _ => 0, fun _ _ _ _ => Nat.zero_le _, fun _ _ _ _ _ _ _ _ _ _ => Nat.le_refl _, fun A q p dA h4 hq hpq h1 h2 fA nA _ _ _ _ => ?_⟩
    exfalso
    obtain ⟨n, t⟩ := awT_of dA fA
    obtain ⟨z, hz⟩ := awT_time t (Nat.le_refl n)
    rw [Nat.sub_self] at hz
    have hl := nDel_full nA (by have := hz.2.2.2; omega) hz.2.1 (rT_zero hz.2.2.1)
    obtain ⟨t0, s0, a1, a2, a3, a4, a5⟩ := rd_at (j := 0) hz.2.1 (Nat.zero_le _) (by omega)
    obtain ⟨t1, s1, b1, b2, b3, b4, b5⟩ := rd_at (j := 1) hz.2.1 (Nat.zero_le _) (by omega)
    obtain ⟨t2, s2, c1, c2, c3, c4, c5⟩ := rd_at (j := 2) hz.2.1 (Nat.zero_le _) (by omega)
    have l1 := rI_lt a2 b2 (by omega)
    have l2 := rI_lt b2 c2 (by omega)
    rcases hR s0.1 s1.1 s2.1 a3 b3 c3 a4 b4 c4 with e | e | e
    · obtain ⟨i, i2, h⟩ := uHub_of t l1 (by omega) ⟨s0, a2, rfl⟩ ⟨s1, b2, e.symm⟩ ⟨a3, a4⟩
      exact hex ⟨A, n, i, i2, h⟩
    · obtain ⟨i, i2, h⟩ := uHub_of t (show t0 < t2 by omega) (by omega) ⟨s0, a2, rfl⟩ ⟨s2, c2, e.symm⟩ ⟨a3, a4⟩
      exact hex ⟨A, n, i, i2, h⟩
    · obtain ⟨i, i2, h⟩ := uHub_of t l2 (by omega) ⟨s1, b2, rfl⟩ ⟨s2, c2, e.symm⟩ ⟨b3, b4⟩
      exact hex ⟨A, n, i, i2, h⟩
