/-! the law's cases with references *
-/
set_option maxRecDepth 100000
set_option maxHeartbeats 4000000 in
set_option maxRecDepth 100000 in
/-- the law: derive -/
theorem lw_3 {p : Program} {l : Launch} {e : Env} {R : Room} {s : State} {m : MethodId} {args : Array Value} {below : List Frame} {meth : Method} {c : Code} {Q : State → Prop} {D : va_G} {A : Nat → Prop} (hx : p.tables.exec = Jvm.exec) (hb : c.code = cL_law) (hts : ∀ w ∈ lw_all, w.before args s = true) (hown : s.vm.findClass RX0 = some m.cls) (hK : va_K D gCl (gT D) s) (hE : g_Env D A s) (hml : c.maxLocals = 8) (hRf : 15 ≤ R.frames) (hRl : 573 ≤ R.locals) (hl9 : l.stackTraces = false) (b L : Nat) (xs : Nat → Int32) (hX : va_X b L xs s s.heap) (hbl : b < s.heap.size) (hbA : ¬ A b) (x y o i : Nat) (hi : i + 5 ≤ L) (hL : L ≤ 320) (z : yW) (hv : yV z) (hrn : z.rn ≤ 40 * i) (c0 s0 : Nat) (hRc : c0 + (161 + 150) ≤ R.cells) (hRs : s0 + (24206 + 24206) ≤ R.slots)
    (kk : ∀ (w2 : g_H) (l2 : Nat → Nat) (th2 : Int32) (cells slots : Nat) (H : Heap) (locs : List Loc) (ls : Array Slot), lR D w2 l2 x y o (z) th2 → cells ≤ c0 + (161 + 150) → slots ≤ s0 + (24206 + 24206) → g_W D A s.heap H locs w2 → lv_has ls 8 [(0, .ref b), (1, .ref x), (2, .ref y), (3, .ref o), (4, .int (nI i))] → W p l e R s m args below meth c H locs cells slots Q (F0 m 1835 ls [])) :
    ∀ (k : Nat) (w1 : g_H) (l1 : Nat → Nat) (th : Int32) (cells : Nat) (slots : Nat) (H : Heap) (locs : List Loc) (ls : Array Slot), 0 < k → lR D w1 l1 x y o z th → cells ≤ c0 → slots ≤ s0 → g_W D A s.heap H locs w1 → lv_has ls 8 [(0, .ref b), (1, .ref x), (2, .ref y), (3, .ref o), (4, .int (nI i))] → W p l e R s m args below meth c H locs cells slots Q (F0 m 449 ls []) := by
  intro k
  induction k with
  | zero => intro w1 l1 th cells slots H locs ls hfuel hR hcl hsl hW hl; exact absurd hfuel (by omega)
  | succ k ih =>
    intro w1 l1 th cells slots H locs ls hfuel hR hcl hsl hW hl
    obtain ⟨n0, d0, s0v, v0, f0, hM0⟩ := hR.mid
    obtain ⟨⟨rf, hS⟩, ⟨mf, en, td, st, E, hZ⟩, ho, hlo, hmu⟩ := id hM0
    obtain ⟨hvA, hcv, hKd, hcK, hYI, ⟨hfq, hac, hP16, hC8⟩, hCd, hcp3, hfI, hrn0⟩ := id hv
    have hF16 := hfI.lt hP16
    have hK3 := hYI.q.2.2
    have htt := hYI.2.2.2
    have hdl : (z.K.drop z.fq).length = z.K.length - z.fq := List.length_drop
    refine lv_aload_n hx hb dL_law_449 rfl (lv_at hl 1 rfl) ?_
    refine lv_aload_n hx hb dL_law_450 rfl (lv_at hl 0 rfl) ?_
    refine lv_iload hx hb dL_law_451 (lv_at hl 4 rfl) ?_
    refine lv_iconst (v := 1) hx hb dL_law_453 (by decide) ?_
    refine lv_iadd hx hb dL_law_454 ?_
    refine g_topi (y := nI (i + 1)) (nI_add i 1) ?_
    refine va_sld hx hb hX hbl hbA hW.2.2.1 (vp_in_nI (show i + 1 < L by omega) (by omega)) dL_law_455 ?_
    rw [nI_clamp (show i + 1 < 2 ^ 31 by omega)]
    refine lv_aload_n hx hb dL_law_456 rfl (lv_at hl 3 rfl) ?_
    refine g_calli (vx_runSW (hh := [(0, 9, 12, 110), (0, 9, 15, 130), (0, 9, 18, 132)]) (As := [.ref x, .int ((xs (i + 1))), .ref o]) (rest := []) ⟨hx, hb, hml, hown, hts⟩ (mtX0_derive l D w1 H.size hl9 l1 x z.ac z.rn z.tt rf z.P z.C z.A z.cov z.K (z.K.drop z.fq) z.F z.cp hS hvA.1 (xs (i + 1)) o n0 d0 s0v v0 f0 ho (fun r1 u1 hp => by obtain ⟨-, -, hex⟩ := hp; exact hex.at ho (fun z => z))) (vx_cwSW 3 hts (lw_SW q1060 q1061 q33 q1062) rfl rfl rfl (by decide +kernel) ⟨Nat.le_trans (Nat.le_of_ble_eq_true rfl) hRf, Nat.le_trans (Nat.le_of_ble_eq_true rfl) hRl⟩) (g_preS hW hK hE) rfl rfl hl.1 rfl (lv_room (Nat.le_of_ble_eq_true rfl)) dL_law_457 ⟨?_, ?_⟩) hW (fun r5 u1 H locs hp hW => ?_)
    · (try simp only [headSpec]); omega
    · (try simp only [headSpec]); omega
    have hC : ∃ l3 s1, lMid D u1 l3 x y o (z) z th n0 d0 s1 v0 f0 ∧ eR3 z.A (xs (i + 1)) r5 ∧ ((¬ (xs (i + 1)) < 0 ∧ (dvN z.A (xs (i + 1))).1 = 0) → ∃ s9, s1 = some s9 ∧ g_Str D u1 s9 (dvN z.A (xs (i + 1))).2) := by
      rcases hp with ⟨r1, u2, ⟨hin, ⟨s9, es, hs⟩, hex⟩, e, hr⟩ | ⟨E1, ⟨hex, hE⟩, hr⟩
      · have hN := hM0.new hK hex
        exact ⟨_, _, hN.put e, hr.trans (eD_0 hin).symm, fun _ => ⟨s9, es, hN.strP hs e⟩⟩
      · have q := ex3 (by decide) (by decide) (by decide) hE hr
        exact ⟨_, s0v, hM0.new hK hex, q.1, fun t => absurd t q.2⟩
    obtain ⟨l3, s1, hM1, hc1, hq1⟩ := hC
    obtain ⟨⟨rf3, hS3⟩, ⟨mf3, en3, td3, st3, E3, hZ3⟩, ho3, hlo3, hmu3⟩ := id hM1
    refine lv_istore (lv' := [(5, .int (r5)), (0, .ref b), (1, .ref x), (2, .ref y), (3, .ref o), (4, .int (nI i))]) hx hb dL_law_460 hl (by decide) rfl (fun ls hl => ?_)
    refine lv_aload_n hx hb dL_law_462 rfl (lv_at hl 3 rfl) ?_
    refine lv_aload_n hx hb dL_law_463 rfl (lv_at hl 1 rfl) ?_
    refine lv_iload hx hb dL_law_464 (lv_at hl 5 rfl) ?_
    refine lv_iconst (v := 1) hx hb dL_law_466 (by decide) ?_
    refine lv_iadd hx hb dL_law_467 ?_
    refine g_topi (y := nI (i + 1)) (nI_add i 1) ?_
    refine va_sld hx hb hX hbl hbA hW.2.2.1 (vp_in_nI (show i + 1 < L by omega) (by omega)) dL_law_468 ?_
    rw [nI_clamp (show i + 1 < 2 ^ 31 by omega)]
    refine g_callq (va_runV (As := [.int ((xs (i + 1)))]) (rest := []) ⟨hx, hb, hml, hown, hts⟩ (mtX3_derive l D u1 H.size y mf3 l3 z.P z.C z.A z.cov z.K z.fq z.ac z.F z.rn z.tt z.cK en3 td3 st3 E3 th hZ3 hvA.1 (xs (i + 1))) (cwV 1 hts (lw_V q2009 q2010 q2011 q47 q2012) rfl rfl rfl (by decide +kernel) ⟨Nat.le_trans (Nat.le_of_ble_eq_true rfl) hRf, Nat.le_trans (Nat.le_of_ble_eq_true rfl) hRl⟩) (g_preV hW hK hE hZ3.1 rfl) rfl rfl hl.1 rfl (lv_room (Nat.le_of_ble_eq_true rfl)) dL_law_469 ⟨?_, ?_⟩) hW (fun r6 u2 H locs hp hW => ?_)
    · (try simp only [headSpec]); omega
    · (try simp only [headSpec]); omega
    have hC : ∃ l4 th2 p6, r6 = some p6 ∧ lMid D u2 l4 x y o (z) (z) th2 n0 d0 s1 v0 f0 ∧ eR3 z.A (xs (i + 1)) th2 ∧ ((¬ (xs (i + 1)) < 0 ∧ (dvN z.A (xs (i + 1))).1 = 0) → (∃ s9, s1 = some s9 ∧ g_Str D u2 s9 (dvN z.A (xs (i + 1))).2) ∧ g_Str D u2 p6 (dvN z.A (xs (i + 1))).2) := by
      obtain ⟨s9, th9, e6, hZ9, hz9, hor⟩ := hp
      rcases hor with ⟨hn, et⟩ | ⟨hn, et, hs⟩
      · exact ⟨_, _, s9, e6, hM1.mod hK ⟨_, _, _, _, _, hZ9⟩ hz9, et.trans (if_pos hn).symm, fun q => absurd hn q.1⟩
      · exact ⟨_, _, s9, e6, hM1.mod hK ⟨_, _, _, _, _, hZ9⟩ hz9, et.trans (if_neg hn).symm, fun q => ⟨(hq1 q).imp (fun s9 h => ⟨h.1, hM1.strM h.2 hz9⟩), hs q.2⟩⟩
    obtain ⟨l4, th2, p6, er6, hMM, hc2, hq2⟩ := hC
    subst er6
    have hag : r5 = th2 ∧ True := ⟨hc1.eq hc2, trivial⟩
    obtain ⟨⟨rf4, hS4⟩, ⟨mf4, en4, td4, st4, E4, hZ4⟩, ho4, hlo4, hmu4⟩ := id hMM
    refine lv_astore (lv' := [(6, .ref p6), (5, .int (r5)), (0, .ref b), (1, .ref x), (2, .ref y), (3, .ref o), (4, .int (nI i))]) hx hb dL_law_472 hl (by decide) rfl (fun ls hl => ?_)
    refine lv_aload_n hx hb dL_law_474 rfl (lv_at hl 4 rfl) ?_
    refine g_calli (va_runV (As := []) (rest := []) ⟨hx, hb, hml, hown, hts⟩ (mtX3_thrown l D u2 H.size y mf4 l4 (z).P (z).C (z).A (z).cov (z).K (z).fq (z).ac (z).F (z).rn (z).tt (z).cK en4 td4 st4 E4 th2 hZ4) (cwV 0 hts (lw_V q1970 q1971 q1972 q47 q1973) rfl rfl rfl (by decide +kernel) ⟨Nat.le_trans (Nat.le_of_ble_eq_true rfl) hRf, Nat.le_trans (Nat.le_of_ble_eq_true rfl) hRl⟩) (g_preV hW hK hE hZ4.1 rfl) rfl rfl hl.1 rfl (lv_room (Nat.le_of_ble_eq_true rfl)) dL_law_475 ⟨?_, ?_⟩) hW (fun r_ u_ H locs hp hW => ?_)
    · (try simp only [headSpec]); omega
    · (try simp only [headSpec]); omega
    obtain ⟨er, rfl⟩ := hp
    rw [er]
    refine lv_iload hx hb dL_law_478 (lv_at hl 1 rfl) ?_
    refine lv_icmp_eq (tgt := 485) hx hb dL_law_480 (by decide) (fun _ => ?_) (fun hz => absurd hag.1.symm hz)
    refine lv_iload hx hb dL_law_485 (lv_at hl 1 rfl) ?_
    refine lv_if_ne (tgt := 504) hx hb dL_law_487 (by decide) (fun hz5 => ?_) (fun hz5 => ?_)
    · refine lv_goto (tgt := 1835) hx hb dL_law_504 (by decide) ?_
      exact kk _ _ _ _ _ H locs ls hMM.lR (by (try simp only [headSpec]); omega) (by (try simp only [headSpec]); omega) hW (lv_sub hl [2, 3, 4, 5, 6] rfl)
    · have h50 : r5 = 0 := by first | exact hz5 | exact Classical.not_not.mp hz5
      have hcd := hc1.zero h50
      obtain ⟨⟨s9, es9, hs9⟩, hp6⟩ := hq2 hcd
      subst es9
      refine lv_aload_n hx hb dL_law_490 rfl (lv_at hl 5 rfl) ?_
      refine g_getN (ci := 9) (v := .ref s9) (C := RX4) (T := TX4) (N := 5) hx hb hts in_X4 hown hK hW ho4 rfl 2 (by decide) (nf_q468 hE) (fun _ h9 => h9) rfl dL_law_491 ?_
      refine lv_aload hx hb dL_law_494 (lv_at hl 0 rfl) ?_
      obtain ⟨v7s9, hr7s9, hb7s9⟩ := hs9.rd hts hK hE hW
      refine g_calli (va_runV (As := [.ref p6]) (rest := []) ⟨hx, hb, hml, hown, hts⟩ (mtJ16_equals l D u2 H.size s9 p6 (dvN z.A (xs (i + 1))).2 (dvN z.A (xs (i + 1))).2 hs9 hp6) (cwV 1 hts (lw_V q2213 q2214 q2215 q63 q2216) rfl rfl rfl (by decide +kernel) ⟨Nat.le_trans (Nat.le_of_ble_eq_true rfl) hRf, Nat.le_trans (Nat.le_of_ble_eq_true rfl) hRl⟩) (g_preVR hW hK hE hr7s9.2.2.2) rfl rfl hl.1 rfl (lv_room (Nat.le_of_ble_eq_true rfl)) dL_law_496 ⟨?_, ?_⟩) hW (fun r_ u_ H locs hp hW => ?_)
      · (try simp only [headSpec]); omega
      · (try simp only [headSpec]); omega
      obtain ⟨er, rfl⟩ := hp
      subst er
      rw [if_pos (rfl : (dvN z.A (xs (i + 1))).2 = (dvN z.A (xs (i + 1))).2)]
      refine lv_if_ne (tgt := 504) hx hb dL_law_499 (by decide) (fun _ => ?_) (fun hz => absurd hz (by decide))
      refine lv_goto (tgt := 1835) hx hb dL_law_504 (by decide) ?_
      exact kk _ _ _ _ _ H locs ls hMM.lR (by (try simp only [headSpec]); omega) (by (try simp only [headSpec]); omega) hW (lv_sub hl [2, 3, 4, 5, 6] rfl)
set_option maxHeartbeats 4000000 in
set_option maxRecDepth 100000 in
/-- the law: keptAt -/
theorem lw_13 {p : Program} {l : Launch} {e : Env} {R : Room} {s : State} {m : MethodId} {args : Array Value} {below : List Frame} {meth : Method} {c : Code} {Q : State → Prop} {D : va_G} {A : Nat → Prop} (hx : p.tables.exec = Jvm.exec) (hb : c.code = cL_law) (hts : ∀ w ∈ lw_all, w.before args s = true) (hown : s.vm.findClass RX0 = some m.cls) (hK : va_K D gCl (gT D) s) (hE : g_Env D A s) (hml : c.maxLocals = 8) (hRf : 11 ≤ R.frames) (hRl : 175 ≤ R.locals) (hl9 : l.stackTraces = false) (b L : Nat) (xs : Nat → Int32) (hX : va_X b L xs s s.heap) (hbl : b < s.heap.size) (hbA : ¬ A b) (x y o i : Nat) (hi : i + 5 ≤ L) (hL : L ≤ 320) (z : yW) (hv : yV z) (hrn : z.rn ≤ 40 * i) (c0 s0 : Nat) (hRc : c0 + (1) ≤ R.cells) (hRs : s0 + (6) ≤ R.slots)
    (kk : ∀ (w2 : g_H) (l2 : Nat → Nat) (th2 : Int32) (cells slots : Nat) (H : Heap) (locs : List Loc) (ls : Array Slot), lR D w2 l2 x y o (z) th2 → cells ≤ c0 + (1) → slots ≤ s0 + (6) → g_W D A s.heap H locs w2 → lv_has ls 8 [(0, .ref b), (1, .ref x), (2, .ref y), (3, .ref o), (4, .int (nI i))] → W p l e R s m args below meth c H locs cells slots Q (F0 m 1835 ls [])) :
    ∀ (k : Nat) (w1 : g_H) (l1 : Nat → Nat) (th : Int32) (cells : Nat) (slots : Nat) (H : Heap) (locs : List Loc) (ls : Array Slot), 0 < k → lR D w1 l1 x y o z th → cells ≤ c0 → slots ≤ s0 → g_W D A s.heap H locs w1 → lv_has ls 8 [(0, .ref b), (1, .ref x), (2, .ref y), (3, .ref o), (4, .int (nI i))] → W p l e R s m args below meth c H locs cells slots Q (F0 m 840 ls []) := by
  intro k
  induction k with
  | zero => intro w1 l1 th cells slots H locs ls hfuel hR hcl hsl hW hl; exact absurd hfuel (by omega)
  | succ k ih =>
    intro w1 l1 th cells slots H locs ls hfuel hR hcl hsl hW hl
    obtain ⟨n0, d0, s0v, v0, f0, hM0⟩ := hR.mid
    obtain ⟨⟨rf, hS⟩, ⟨mf, en, td, st, E, hZ⟩, ho, hlo, hmu⟩ := id hM0
    obtain ⟨hvA, hcv, hKd, hcK, hYI, ⟨hfq, hac, hP16, hC8⟩, hCd, hcp3, hfI, hrn0⟩ := id hv
    have hF16 := hfI.lt hP16
    have hK3 := hYI.q.2.2
    have htt := hYI.2.2.2
    have hdl : (z.K.drop z.fq).length = z.K.length - z.fq := List.length_drop
    refine lv_aload_n hx hb dL_law_840 rfl (lv_at hl 1 rfl) ?_
    refine lv_aload_n hx hb dL_law_841 rfl (lv_at hl 0 rfl) ?_
    refine lv_iload hx hb dL_law_842 (lv_at hl 4 rfl) ?_
    refine lv_iconst (v := 1) hx hb dL_law_844 (by decide) ?_
    refine lv_iadd hx hb dL_law_845 ?_
    refine g_topi (y := nI (i + 1)) (nI_add i 1) ?_
    refine va_sld hx hb hX hbl hbA hW.2.2.1 (vp_in_nI (show i + 1 < L by omega) (by omega)) dL_law_846 ?_
    rw [nI_clamp (show i + 1 < 2 ^ 31 by omega)]
    refine lv_aload_n hx hb dL_law_847 rfl (lv_at hl 3 rfl) ?_
    refine g_calli (vx_runSW (hh := [(0, 9, 12, 150)]) (As := [.ref x, .int ((xs (i + 1))), .ref o]) (rest := []) ⟨hx, hb, hml, hown, hts⟩ (mtX0_keptAt l D w1 H.size hl9 l1 x z.fq z.ac z.rn z.tt z.P z.C z.A z.cov z.K z.F z.cp (hS.sy hfq) (xs (i + 1)) o n0 d0 s0v v0 f0 ho (fun r1 u1 hp => by obtain ⟨-, -, ew⟩ := hp; subst ew; exact ho)) (vx_cwSW 3 hts (lw_SW q1740 q1741 q33 q1742) rfl rfl rfl (by decide +kernel) ⟨Nat.le_trans (Nat.le_of_ble_eq_true rfl) hRf, Nat.le_trans (Nat.le_of_ble_eq_true rfl) hRl⟩) (g_preS hW hK hE) rfl rfl hl.1 rfl (lv_room (Nat.le_of_ble_eq_true rfl)) dL_law_848 ⟨?_, ?_⟩) hW (fun r5 u1 H locs hp hW => ?_)
    · (try simp only [headSpec]); omega
    · (try simp only [headSpec]); omega
    have hC : ∃ l3 s1, lMid D u1 l3 x y o (z) z th n0 d0 s1 v0 f0 ∧ eR1 (¬ (xs (i + 1)) < 0 ∧ (xs (i + 1)) < nI z.K.length) r5 ∧ ((¬ (xs (i + 1)) < 0 ∧ (xs (i + 1)) < nI z.K.length) → ∃ s9, s1 = some s9 ∧ g_Str D u1 s9 (txt (z.K.getD (xs (i + 1)).toNatClampNeg []))) := by
      rcases hp with ⟨r1, u2, ⟨hin, ⟨s9, es, hs⟩, ew⟩, e, hr⟩ | ⟨E1, ⟨-, hni, ew⟩, hr⟩
      · subst ew; exact ⟨l1, _, hM0.put e, Or.inl ⟨hin, hr⟩, fun _ => ⟨s9, es, hM0.strP hs e⟩⟩
      · subst ew; exact ⟨l1, s0v, hM0, Or.inr ⟨hni, hr.2⟩, fun q => absurd q hni⟩
    obtain ⟨l3, s1, hM1, hc1, hq1⟩ := hC
    obtain ⟨⟨rf3, hS3⟩, ⟨mf3, en3, td3, st3, E3, hZ3⟩, ho3, hlo3, hmu3⟩ := id hM1
    refine lv_istore (lv' := [(5, .int (r5)), (0, .ref b), (1, .ref x), (2, .ref y), (3, .ref o), (4, .int (nI i))]) hx hb dL_law_851 hl (by decide) rfl (fun ls hl => ?_)
    refine lv_aload_n hx hb dL_law_853 rfl (lv_at hl 3 rfl) ?_
    refine lv_aload_n hx hb dL_law_854 rfl (lv_at hl 1 rfl) ?_
    refine lv_iload hx hb dL_law_855 (lv_at hl 5 rfl) ?_
    refine lv_iconst (v := 1) hx hb dL_law_857 (by decide) ?_
    refine lv_iadd hx hb dL_law_858 ?_
    refine g_topi (y := nI (i + 1)) (nI_add i 1) ?_
    refine va_sld hx hb hX hbl hbA hW.2.2.1 (vp_in_nI (show i + 1 < L by omega) (by omega)) dL_law_859 ?_
    rw [nI_clamp (show i + 1 < 2 ^ 31 by omega)]
    refine g_callq (va_runV (As := [.int ((xs (i + 1)))]) (rest := []) ⟨hx, hb, hml, hown, hts⟩ (mtX3_keptAt l D u1 H.size y mf3 l3 z.P z.C z.A z.cov z.K z.fq z.ac z.F z.rn z.tt z.cK en3 td3 st3 E3 th hZ3 (xs (i + 1))) (cwV 1 hts (lw_V q2131 q2132 q2133 q47 q2134) rfl rfl rfl (by decide +kernel) ⟨Nat.le_trans (Nat.le_of_ble_eq_true rfl) hRf, Nat.le_trans (Nat.le_of_ble_eq_true rfl) hRl⟩) (g_preV hW hK hE hZ3.1 rfl) rfl rfl hl.1 rfl (lv_room (Nat.le_of_ble_eq_true rfl)) dL_law_860 ⟨?_, ?_⟩) hW (fun r6 u2 H locs hp hW => ?_)
    · (try simp only [headSpec]); omega
    · (try simp only [headSpec]); omega
    have hC : ∃ l4 th2 p6, r6 = some p6 ∧ lMid D u2 l4 x y o (z) (z) th2 n0 d0 s1 v0 f0 ∧ eR1 (¬ (xs (i + 1)) < 0 ∧ (xs (i + 1)) < nI z.K.length) th2 ∧ ((¬ (xs (i + 1)) < 0 ∧ (xs (i + 1)) < nI z.K.length) → (∃ s9, s1 = some s9 ∧ g_Str D u2 s9 (txt (z.K.getD (xs (i + 1)).toNatClampNeg []))) ∧ g_Str D u2 p6 (txt (z.K.getD (xs (i + 1)).toNatClampNeg []))) := by
      obtain ⟨⟨s9, e6, hs⟩, hZ9, hz9⟩ := hp
      by_cases hin : (¬ (xs (i + 1)) < 0 ∧ (xs (i + 1)) < nI z.K.length)
      · rw [if_pos hin] at hZ9; exact ⟨_, 0, s9, e6, hM1.mod hK ⟨_, _, _, _, _, hZ9⟩ hz9, Or.inl ⟨hin, rfl⟩, fun q => ⟨(hq1 q).imp (fun s9 h => ⟨h.1, hM1.strM h.2 hz9⟩), hs q⟩⟩
      · rw [if_neg hin] at hZ9; exact ⟨_, 1, s9, e6, hM1.mod hK ⟨_, _, _, _, _, hZ9⟩ hz9, Or.inr ⟨hin, rfl⟩, fun q => absurd q hin⟩
    obtain ⟨l4, th2, p6, er6, hMM, hc2, hq2⟩ := hC
    subst er6
    have hag : r5 = th2 ∧ True := ⟨hc1.eq hc2, trivial⟩
    obtain ⟨⟨rf4, hS4⟩, ⟨mf4, en4, td4, st4, E4, hZ4⟩, ho4, hlo4, hmu4⟩ := id hMM
    refine lv_astore (lv' := [(6, .ref p6), (5, .int (r5)), (0, .ref b), (1, .ref x), (2, .ref y), (3, .ref o), (4, .int (nI i))]) hx hb dL_law_863 hl (by decide) rfl (fun ls hl => ?_)
    refine lv_aload_n hx hb dL_law_865 rfl (lv_at hl 4 rfl) ?_
    refine g_calli (va_runV (As := []) (rest := []) ⟨hx, hb, hml, hown, hts⟩ (mtX3_thrown l D u2 H.size y mf4 l4 (z).P (z).C (z).A (z).cov (z).K (z).fq (z).ac (z).F (z).rn (z).tt (z).cK en4 td4 st4 E4 th2 hZ4) (cwV 0 hts (lw_V q1970 q1971 q1972 q47 q1973) rfl rfl rfl (by decide +kernel) ⟨Nat.le_trans (Nat.le_of_ble_eq_true rfl) hRf, Nat.le_trans (Nat.le_of_ble_eq_true rfl) hRl⟩) (g_preV hW hK hE hZ4.1 rfl) rfl rfl hl.1 rfl (lv_room (Nat.le_of_ble_eq_true rfl)) dL_law_866 ⟨?_, ?_⟩) hW (fun r_ u_ H locs hp hW => ?_)
    · (try simp only [headSpec]); omega
    · (try simp only [headSpec]); omega
    obtain ⟨er, rfl⟩ := hp
    rw [er]
    refine lv_iload hx hb dL_law_869 (lv_at hl 1 rfl) ?_
    refine lv_icmp_eq (tgt := 876) hx hb dL_law_871 (by decide) (fun _ => ?_) (fun hz => absurd hag.1.symm hz)
    refine lv_iload hx hb dL_law_876 (lv_at hl 1 rfl) ?_
    refine lv_if_ne (tgt := 895) hx hb dL_law_878 (by decide) (fun hz5 => ?_) (fun hz5 => ?_)
    · refine lv_goto (tgt := 1835) hx hb dL_law_895 (by decide) ?_
      exact kk _ _ _ _ _ H locs ls hMM.lR (by (try simp only [headSpec]); omega) (by (try simp only [headSpec]); omega) hW (lv_sub hl [2, 3, 4, 5, 6] rfl)
    · have h50 : r5 = 0 := by first | exact hz5 | exact Classical.not_not.mp hz5
      have hcd := hc1.zero h50
      obtain ⟨⟨s9, es9, hs9⟩, hp6⟩ := hq2 hcd
      subst es9
      refine lv_aload_n hx hb dL_law_881 rfl (lv_at hl 5 rfl) ?_
      refine g_getN (ci := 9) (v := .ref s9) (C := RX4) (T := TX4) (N := 5) hx hb hts in_X4 hown hK hW ho4 rfl 2 (by decide) (nf_q468 hE) (fun _ h9 => h9) rfl dL_law_882 ?_
      refine lv_aload hx hb dL_law_885 (lv_at hl 0 rfl) ?_
      obtain ⟨v7s9, hr7s9, hb7s9⟩ := hs9.rd hts hK hE hW
      refine g_calli (va_runV (As := [.ref p6]) (rest := []) ⟨hx, hb, hml, hown, hts⟩ (mtJ16_equals l D u2 H.size s9 p6 (txt (z.K.getD (xs (i + 1)).toNatClampNeg [])) (txt (z.K.getD (xs (i + 1)).toNatClampNeg [])) hs9 hp6) (cwV 1 hts (lw_V q2213 q2214 q2215 q63 q2216) rfl rfl rfl (by decide +kernel) ⟨Nat.le_trans (Nat.le_of_ble_eq_true rfl) hRf, Nat.le_trans (Nat.le_of_ble_eq_true rfl) hRl⟩) (g_preVR hW hK hE hr7s9.2.2.2) rfl rfl hl.1 rfl (lv_room (Nat.le_of_ble_eq_true rfl)) dL_law_887 ⟨?_, ?_⟩) hW (fun r_ u_ H locs hp hW => ?_)
      · (try simp only [headSpec]); omega
      · (try simp only [headSpec]); omega
      obtain ⟨er, rfl⟩ := hp
      subst er
      rw [if_pos (rfl : (txt (z.K.getD (xs (i + 1)).toNatClampNeg [])) = (txt (z.K.getD (xs (i + 1)).toNatClampNeg [])))]
      refine lv_if_ne (tgt := 895) hx hb dL_law_890 (by decide) (fun _ => ?_) (fun hz => absurd hz (by decide))
      refine lv_goto (tgt := 1835) hx hb dL_law_895 (by decide) ?_
      exact kk _ _ _ _ _ H locs ls hMM.lR (by (try simp only [headSpec]); omega) (by (try simp only [headSpec]); omega) hW (lv_sub hl [2, 3, 4, 5, 6] rfl)
set_option maxHeartbeats 4000000 in
set_option maxRecDepth 100000 in
/-- the law: verdict -/
theorem lw_17 {p : Program} {l : Launch} {e : Env} {R : Room} {s : State} {m : MethodId} {args : Array Value} {below : List Frame} {meth : Method} {c : Code} {Q : State → Prop} {D : va_G} {A : Nat → Prop} (hx : p.tables.exec = Jvm.exec) (hb : c.code = cL_law) (hts : ∀ w ∈ lw_all, w.before args s = true) (hown : s.vm.findClass RX0 = some m.cls) (hK : va_K D gCl (gT D) s) (hE : g_Env D A s) (hml : c.maxLocals = 8) (hRf : 12 ≤ R.frames) (hRl : 235 ≤ R.locals) (hl9 : l.stackTraces = false) (b L : Nat) (xs : Nat → Int32) (hX : va_X b L xs s s.heap) (hbl : b < s.heap.size) (hbA : ¬ A b) (x y o i : Nat) (hi : i + 5 ≤ L) (hL : L ≤ 320) (z : yW) (hv : yV z) (hrn : z.rn ≤ 40 * i) (c0 s0 : Nat) (hRc : c0 + (3 + ((bsC (z.cp 9) (mOut z.P (digs (lTx (xs (i + 1))))).2.2.2) - z.cp 9)) ≤ R.cells) (hRs : s0 + (16 + 2 * ((bsC (z.cp 9) (mOut z.P (digs (lTx (xs (i + 1))))).2.2.2) - z.cp 9)) ≤ R.slots)
    (kk : ∀ (w2 : g_H) (l2 : Nat → Nat) (th2 : Int32) (cells slots : Nat) (H : Heap) (locs : List Loc) (ls : Array Slot), lR D w2 l2 x y o (sRun z (lTx (xs (i + 1)))) th2 → cells ≤ c0 + (3 + ((bsC (z.cp 9) (mOut z.P (digs (lTx (xs (i + 1))))).2.2.2) - z.cp 9)) → slots ≤ s0 + (16 + 2 * ((bsC (z.cp 9) (mOut z.P (digs (lTx (xs (i + 1))))).2.2.2) - z.cp 9)) → g_W D A s.heap H locs w2 → lv_has ls 8 [(0, .ref b), (1, .ref x), (2, .ref y), (3, .ref o), (4, .int (nI i))] → W p l e R s m args below meth c H locs cells slots Q (F0 m 1835 ls [])) :
    ∀ (k : Nat) (w1 : g_H) (l1 : Nat → Nat) (th : Int32) (cells : Nat) (slots : Nat) (H : Heap) (locs : List Loc) (ls : Array Slot), 0 < k → lR D w1 l1 x y o z th → cells ≤ c0 → slots ≤ s0 → g_W D A s.heap H locs w1 → lv_has ls 8 [(0, .ref b), (1, .ref x), (2, .ref y), (3, .ref o), (4, .int (nI i))] → W p l e R s m args below meth c H locs cells slots Q (F0 m 1021 ls []) := by
  intro k
  induction k with
  | zero => intro w1 l1 th cells slots H locs ls hfuel hR hcl hsl hW hl; exact absurd hfuel (by omega)
  | succ k ih =>
    intro w1 l1 th cells slots H locs ls hfuel hR hcl hsl hW hl
    obtain ⟨n0, d0, s0v, v0, f0, hM0⟩ := hR.mid
    obtain ⟨⟨rf, hS⟩, ⟨mf, en, td, st, E, hZ⟩, ho, hlo, hmu⟩ := id hM0
    obtain ⟨hvA, hcv, hKd, hcK, hYI, ⟨hfq, hac, hP16, hC8⟩, hCd, hcp3, hfI, hrn0⟩ := id hv
    have hF16 := hfI.lt hP16
    have hK3 := hYI.q.2.2
    have htt := hYI.2.2.2
    have hdl : (z.K.drop z.fq).length = z.K.length - z.fq := List.length_drop
    refine lv_aload_n hx hb dL_law_1021 rfl (lv_at hl 1 rfl) ?_
    refine lv_aload_n hx hb dL_law_1022 rfl (lv_at hl 0 rfl) ?_
    refine lv_iload hx hb dL_law_1023 (lv_at hl 4 rfl) ?_
    refine lv_iconst (v := 1) hx hb dL_law_1025 (by decide) ?_
    refine lv_iadd hx hb dL_law_1026 ?_
    refine g_topi (y := nI (i + 1)) (nI_add i 1) ?_
    refine va_sld hx hb hX hbl hbA hW.2.2.1 (vp_in_nI (show i + 1 < L by omega) (by omega)) dL_law_1027 ?_
    rw [nI_clamp (show i + 1 < 2 ^ 31 by omega)]
    refine g_callq (va_runS (As := [.int ((xs (i + 1)))]) (rest := [.ref x]) ⟨hx, hb, hml, hown, hts⟩ (mtX0_text l D w1 H.size (xs (i + 1))) (va_cwS 1 hts (lw_S q482 q483 q33 q484) rfl rfl rfl (by decide +kernel) ⟨Nat.le_trans (Nat.le_of_ble_eq_true rfl) hRf, Nat.le_trans (Nat.le_of_ble_eq_true rfl) hRl⟩) (g_preS hW hK hE) rfl rfl hl.1 rfl (lv_room (Nat.le_of_ble_eq_true rfl)) dL_law_1028 ⟨?_, ?_⟩) hW (fun r_ u_ H locs hp hW => ?_)
    · (try simp only [headSpec]); omega
    · (try simp only [headSpec]); omega
    obtain ⟨er, rfl⟩ := hp
    subst er
    refine lv_aload_n hx hb dL_law_1031 rfl (lv_at hl 3 rfl) ?_
    refine g_calli (vx_runSW (hh := [(0, 9, 12, 110)]) (As := [.ref x, .ref (D.2 1000 (fMod (xs (i + 1)) 14)), .ref o]) (rest := []) ⟨hx, hb, hml, hown, hts⟩ (mtX0_verdict l D w1 H.size hl9 l1 x z.ac z.rn z.tt rf z.P z.C z.A z.cov z.K (z.K.drop z.fq) z.F z.cp hS (D.2 1000 (fMod (xs (i + 1)) 14)) (lTx (xs (i + 1))) (lit_str (fMod_lt (by decide))) o n0 d0 s0v v0 f0 ho (fun r1 u1 hp => by obtain ⟨-, -, l9, -, hy9⟩ := hp; exact (l_oC ho hlo hy9).1)) (vx_cwSW 3 hts (lw_SW q1754 q1755 q33 q1756) rfl rfl rfl (by decide +kernel) ⟨Nat.le_trans (Nat.le_of_ble_eq_true rfl) hRf, Nat.le_trans (Nat.le_of_ble_eq_true rfl) hRl⟩) (g_preS hW hK hE) rfl rfl hl.1 rfl (lv_room (Nat.le_of_ble_eq_true rfl)) dL_law_1032 ⟨?_, ?_⟩) hW (fun r5 u1 H locs hp hW => ?_)
    · (try simp only [headSpec]); omega
    · (try simp only [headSpec]); omega
    have hC : ∃ l3 s1, lMid D u1 l3 x y o (sRun z (lTx (xs (i + 1)))) z th n0 d0 s0v s1 f0 ∧ eR1 (isIn (lTx (xs (i + 1)))) r5 ∧ (isIn (lTx (xs (i + 1))) → s1 = some (D.2 1003 (mOut z.P (digs (lTx (xs (i + 1))))).1)) := by
      rcases hp with ⟨r1, u2, ⟨hin, er, l3, hS2, hy⟩, e, hr⟩ | ⟨E1, ⟨-, hni, ew⟩, hr⟩
      · exact ⟨_, _, by rw [show sRun z (lTx (xs (i + 1))) = zCp z (bsC (z.cp 9) (mOut z.P (digs (lTx (xs (i + 1))))).2.2.2) from if_pos hin]; exact (hM0.cls hK (z2 := zCp z (bsC (z.cp 9) (mOut z.P (digs (lTx (xs (i + 1))))).2.2.2)) ⟨rf, hS2⟩ hy).put e, Or.inl ⟨hin, hr⟩, fun _ => er⟩
      · subst ew
        exact ⟨l1, v0, by rw [show sRun z (lTx (xs (i + 1))) = z from if_neg hni]; exact hM0, Or.inr ⟨hni, hr.2⟩, fun q => absurd q hni⟩
    obtain ⟨l3, s1, hM1, hc1, hq1⟩ := hC
    obtain ⟨⟨rf3, hS3⟩, ⟨mf3, en3, td3, st3, E3, hZ3⟩, ho3, hlo3, hmu3⟩ := id hM1
    refine lv_istore (lv' := [(5, .int (r5)), (0, .ref b), (1, .ref x), (2, .ref y), (3, .ref o), (4, .int (nI i))]) hx hb dL_law_1035 hl (by decide) rfl (fun ls hl => ?_)
    refine lv_aload_n hx hb dL_law_1037 rfl (lv_at hl 3 rfl) ?_
    refine lv_aload_n hx hb dL_law_1038 rfl (lv_at hl 1 rfl) ?_
    refine lv_iload hx hb dL_law_1039 (lv_at hl 5 rfl) ?_
    refine lv_iconst (v := 1) hx hb dL_law_1041 (by decide) ?_
    refine lv_iadd hx hb dL_law_1042 ?_
    refine g_topi (y := nI (i + 1)) (nI_add i 1) ?_
    refine va_sld hx hb hX hbl hbA hW.2.2.1 (vp_in_nI (show i + 1 < L by omega) (by omega)) dL_law_1043 ?_
    rw [nI_clamp (show i + 1 < 2 ^ 31 by omega)]
    refine g_callq (va_runS (As := [.int ((xs (i + 1)))]) (rest := [.ref y]) ⟨hx, hb, hml, hown, hts⟩ (mtX0_text l D u1 H.size (xs (i + 1))) (va_cwS 1 hts (lw_S q482 q483 q33 q484) rfl rfl rfl (by decide +kernel) ⟨Nat.le_trans (Nat.le_of_ble_eq_true rfl) hRf, Nat.le_trans (Nat.le_of_ble_eq_true rfl) hRl⟩) (g_preS hW hK hE) rfl rfl hl.1 rfl (lv_room (Nat.le_of_ble_eq_true rfl)) dL_law_1044 ⟨?_, ?_⟩) hW (fun r_ u_ H locs hp hW => ?_)
    · (try simp only [headSpec]); omega
    · (try simp only [headSpec]); omega
    obtain ⟨er, rfl⟩ := hp
    subst er
    refine g_callq (va_runV (As := [.ref (D.2 1000 (fMod (xs (i + 1)) 14))]) (rest := []) ⟨hx, hb, hml, hown, hts⟩ (mtX3_verdict l D u1 H.size y mf3 l3 z.P z.C z.A z.cov z.K z.fq z.ac z.F z.rn z.tt z.cK en3 td3 st3 E3 th hZ3 (D.2 1000 (fMod (xs (i + 1)) 14)) (lTx (xs (i + 1))) (lit_str (fMod_lt (by decide)))) (cwV 1 hts (lw_V q2149 q2150 q2151 q47 q2152) rfl rfl rfl (by decide +kernel) ⟨Nat.le_trans (Nat.le_of_ble_eq_true rfl) hRf, Nat.le_trans (Nat.le_of_ble_eq_true rfl) hRl⟩) (g_preV hW hK hE hZ3.1 rfl) rfl rfl hl.1 rfl (lv_room (Nat.le_of_ble_eq_true rfl)) dL_law_1047 ⟨?_, ?_⟩) hW (fun r6 u2 H locs hp hW => ?_)
    · (try simp only [headSpec]); omega
    · (try simp only [headSpec]); omega
    have hC : ∃ l4 th2 p6, r6 = some p6 ∧ lMid D u2 l4 x y o (sRun z (lTx (xs (i + 1)))) (sRun z (lTx (xs (i + 1)))) th2 n0 d0 s0v s1 f0 ∧ eR1 (isIn (lTx (xs (i + 1)))) th2 ∧ (isIn (lTx (xs (i + 1))) → s1 = some (D.2 1003 (mOut z.P (digs (lTx (xs (i + 1))))).1) ∧ p6 = (D.2 1003 (mOut z.P (digs (lTx (xs (i + 1))))).1)) := by
      obtain ⟨⟨v9, e6, hv9⟩, ⟨en9, td9, st9, E9, hZ9⟩, hz9⟩ := hp
      refine ⟨_, _, v9, e6, hM1.mod hK (z2 := sRun z (lTx (xs (i + 1)))) ⟨mf3, en9, td9, st9, E9, ?_⟩ hz9, thI_e, fun q => ⟨hq1 q, hv9 q⟩⟩
      by_cases q : isIn (lTx (xs (i + 1)))
      · rw [show sRun z (lTx (xs (i + 1))) = zCp z (bsC (z.cp 9) (mOut z.P (digs (lTx (xs (i + 1))))).2.2.2) from if_pos q]; exact hZ9
      · rw [show sRun z (lTx (xs (i + 1))) = z from if_neg q]; exact hZ9
    obtain ⟨l4, th2, p6, er6, hMM, hc2, hq2⟩ := hC
    subst er6
    have hag : r5 = th2 ∧ True := ⟨hc1.eq hc2, trivial⟩
    obtain ⟨⟨rf4, hS4⟩, ⟨mf4, en4, td4, st4, E4, hZ4⟩, ho4, hlo4, hmu4⟩ := id hMM
    refine lv_astore (lv' := [(6, .ref p6), (5, .int (r5)), (0, .ref b), (1, .ref x), (2, .ref y), (3, .ref o), (4, .int (nI i))]) hx hb dL_law_1050 hl (by decide) rfl (fun ls hl => ?_)
    refine lv_aload_n hx hb dL_law_1052 rfl (lv_at hl 4 rfl) ?_
    refine g_calli (va_runV (As := []) (rest := []) ⟨hx, hb, hml, hown, hts⟩ (mtX3_thrown l D u2 H.size y mf4 l4 (sRun z (lTx (xs (i + 1)))).P (sRun z (lTx (xs (i + 1)))).C (sRun z (lTx (xs (i + 1)))).A (sRun z (lTx (xs (i + 1)))).cov (sRun z (lTx (xs (i + 1)))).K (sRun z (lTx (xs (i + 1)))).fq (sRun z (lTx (xs (i + 1)))).ac (sRun z (lTx (xs (i + 1)))).F (sRun z (lTx (xs (i + 1)))).rn (sRun z (lTx (xs (i + 1)))).tt (sRun z (lTx (xs (i + 1)))).cK en4 td4 st4 E4 th2 hZ4) (cwV 0 hts (lw_V q1970 q1971 q1972 q47 q1973) rfl rfl rfl (by decide +kernel) ⟨Nat.le_trans (Nat.le_of_ble_eq_true rfl) hRf, Nat.le_trans (Nat.le_of_ble_eq_true rfl) hRl⟩) (g_preV hW hK hE hZ4.1 rfl) rfl rfl hl.1 rfl (lv_room (Nat.le_of_ble_eq_true rfl)) dL_law_1053 ⟨?_, ?_⟩) hW (fun r_ u_ H locs hp hW => ?_)
    · (try simp only [headSpec]); omega
    · (try simp only [headSpec]); omega
    obtain ⟨er, rfl⟩ := hp
    rw [er]
    refine lv_iload hx hb dL_law_1056 (lv_at hl 1 rfl) ?_
    refine lv_icmp_eq (tgt := 1063) hx hb dL_law_1058 (by decide) (fun _ => ?_) (fun hz => absurd hag.1.symm hz)
    refine lv_iload hx hb dL_law_1063 (lv_at hl 1 rfl) ?_
    refine lv_if_ne (tgt := 1079) hx hb dL_law_1065 (by decide) (fun hz5 => ?_) (fun hz5 => ?_)
    · refine lv_goto (tgt := 1835) hx hb dL_law_1079 (by decide) ?_
      exact kk _ _ _ _ _ H locs ls hMM.lR (by (try simp only [headSpec]); omega) (by (try simp only [headSpec]); omega) hW (lv_sub hl [2, 3, 4, 5, 6] rfl)
    · have h50 : r5 = 0 := by first | exact hz5 | exact Classical.not_not.mp hz5
      have hcd := hc1.zero h50
      obtain ⟨es9, hp6⟩ := hq2 hcd
      subst es9
      subst hp6
      refine lv_aload_n hx hb dL_law_1068 rfl (lv_at hl 5 rfl) ?_
      refine g_getN (ci := 9) (v := .ref (D.2 1003 (mOut z.P (digs (lTx (xs (i + 1))))).1)) (C := RX4) (T := TX4) (N := 5) hx hb hts in_X4 hown hK hW ho4 rfl 3 (by decide) (nf_q469 hE) (fun _ h9 => h9) rfl dL_law_1069 ?_
      refine lv_aload hx hb dL_law_1072 (lv_at hl 0 rfl) ?_
      refine lv_acmp_eq (rx := some (D.2 1003 (mOut z.P (digs (lTx (xs (i + 1))))).1)) (ry := some (D.2 1003 (mOut z.P (digs (lTx (xs (i + 1))))).1)) (tgt := 1079) hx hb dL_law_1074 (by decide) (fun _ => ?_) (fun hd => absurd rfl hd)
      refine lv_goto (tgt := 1835) hx hb dL_law_1079 (by decide) ?_
      exact kk _ _ _ _ _ H locs ls hMM.lR (by (try simp only [headSpec]); omega) (by (try simp only [headSpec]); omega) hW (lv_sub hl [2, 3, 4, 5, 6] rfl)
set_option maxHeartbeats 4000000 in
set_option maxRecDepth 100000 in
/-- the law: changed -/
theorem lw_21 {p : Program} {l : Launch} {e : Env} {R : Room} {s : State} {m : MethodId} {args : Array Value} {below : List Frame} {meth : Method} {c : Code} {Q : State → Prop} {D : va_G} {A : Nat → Prop} (hx : p.tables.exec = Jvm.exec) (hb : c.code = cL_law) (hts : ∀ w ∈ lw_all, w.before args s = true) (hown : s.vm.findClass RX0 = some m.cls) (hK : va_K D gCl (gT D) s) (hE : g_Env D A s) (hml : c.maxLocals = 8) (hRf : 12 ≤ R.frames) (hRl : 265 ≤ R.locals) (hl9 : l.stackTraces = false) (b L : Nat) (xs : Nat → Int32) (hX : va_X b L xs s s.heap) (hbl : b < s.heap.size) (hbA : ¬ A b) (x y o i : Nat) (hi : i + 5 ≤ L) (hL : L ≤ 320) (z : yW) (hv : yV z) (hrn : z.rn ≤ 40 * i) (c0 s0 : Nat) (hRc : c0 + (10 + 8) ≤ R.cells) (hRs : s0 + (70 + 70) ≤ R.slots)
    (kk : ∀ (w2 : g_H) (l2 : Nat → Nat) (th2 : Int32) (cells slots : Nat) (H : Heap) (locs : List Loc) (ls : Array Slot), lR D w2 l2 x y o (z) th2 → cells ≤ c0 + (10 + 8) → slots ≤ s0 + (70 + 70) → g_W D A s.heap H locs w2 → lv_has ls 8 [(0, .ref b), (1, .ref x), (2, .ref y), (3, .ref o), (4, .int (nI i))] → W p l e R s m args below meth c H locs cells slots Q (F0 m 1835 ls [])) :
    ∀ (k : Nat) (w1 : g_H) (l1 : Nat → Nat) (th : Int32) (cells : Nat) (slots : Nat) (H : Heap) (locs : List Loc) (ls : Array Slot), 0 < k → lR D w1 l1 x y o z th → cells ≤ c0 → slots ≤ s0 → g_W D A s.heap H locs w1 → lv_has ls 8 [(0, .ref b), (1, .ref x), (2, .ref y), (3, .ref o), (4, .int (nI i))] → W p l e R s m args below meth c H locs cells slots Q (F0 m 1271 ls []) := by
  intro k
  induction k with
  | zero => intro w1 l1 th cells slots H locs ls hfuel hR hcl hsl hW hl; exact absurd hfuel (by omega)
  | succ k ih =>
    intro w1 l1 th cells slots H locs ls hfuel hR hcl hsl hW hl
    obtain ⟨n0, d0, s0v, v0, f0, hM0⟩ := hR.mid
    obtain ⟨⟨rf, hS⟩, ⟨mf, en, td, st, E, hZ⟩, ho, hlo, hmu⟩ := id hM0
    obtain ⟨hvA, hcv, hKd, hcK, hYI, ⟨hfq, hac, hP16, hC8⟩, hCd, hcp3, hfI, hrn0⟩ := id hv
    have hF16 := hfI.lt hP16
    have hK3 := hYI.q.2.2
    have htt := hYI.2.2.2
    have hdl : (z.K.drop z.fq).length = z.K.length - z.fq := List.length_drop
    refine lv_aload_n hx hb dL_law_1271 rfl (lv_at hl 1 rfl) ?_
    refine lv_aload_n hx hb dL_law_1272 rfl (lv_at hl 0 rfl) ?_
    refine lv_iload hx hb dL_law_1273 (lv_at hl 4 rfl) ?_
    refine lv_iconst (v := 1) hx hb dL_law_1275 (by decide) ?_
    refine lv_iadd hx hb dL_law_1276 ?_
    refine g_topi (y := nI (i + 1)) (nI_add i 1) ?_
    refine va_sld hx hb hX hbl hbA hW.2.2.1 (vp_in_nI (show i + 1 < L by omega) (by omega)) dL_law_1277 ?_
    rw [nI_clamp (show i + 1 < 2 ^ 31 by omega)]
    refine g_callq (va_runS (As := [.int ((xs (i + 1)))]) (rest := [.ref x]) ⟨hx, hb, hml, hown, hts⟩ (mtX0_toChange l D w1 H.size (xs (i + 1))) (va_cwS 1 hts (lw_S q533 q534 q33 q535) rfl rfl rfl (by decide +kernel) ⟨Nat.le_trans (Nat.le_of_ble_eq_true rfl) hRf, Nat.le_trans (Nat.le_of_ble_eq_true rfl) hRl⟩) (g_preS hW hK hE) rfl rfl hl.1 rfl (lv_room (Nat.le_of_ble_eq_true rfl)) dL_law_1278 ⟨?_, ?_⟩) hW (fun r_ u_ H locs hp hW => ?_)
    · (try simp only [headSpec]); omega
    · (try simp only [headSpec]); omega
    obtain ⟨er, rfl⟩ := hp
    subst er
    refine lv_aload_n hx hb dL_law_1281 rfl (lv_at hl 0 rfl) ?_
    refine lv_iload hx hb dL_law_1282 (lv_at hl 4 rfl) ?_
    refine lv_iconst (v := 2) hx hb dL_law_1284 (by decide) ?_
    refine lv_iadd hx hb dL_law_1285 ?_
    refine g_topi (y := nI (i + 2)) (nI_add i 2) ?_
    refine va_sld hx hb hX hbl hbA hW.2.2.1 (vp_in_nI (show i + 2 < L by omega) (by omega)) dL_law_1286 ?_
    rw [nI_clamp (show i + 2 < 2 ^ 31 by omega)]
    refine lv_aload_n hx hb dL_law_1287 rfl (lv_at hl 0 rfl) ?_
    refine lv_iload hx hb dL_law_1288 (lv_at hl 4 rfl) ?_
    refine lv_iconst (v := 3) hx hb dL_law_1290 (by decide) ?_
    refine lv_iadd hx hb dL_law_1291 ?_
    refine g_topi (y := nI (i + 3)) (nI_add i 3) ?_
    refine va_sld hx hb hX hbl hbA hW.2.2.1 (vp_in_nI (show i + 3 < L by omega) (by omega)) dL_law_1292 ?_
    rw [nI_clamp (show i + 3 < 2 ^ 31 by omega)]
    refine lv_aload_n hx hb dL_law_1293 rfl (lv_at hl 0 rfl) ?_
    refine lv_iload hx hb dL_law_1294 (lv_at hl 4 rfl) ?_
    refine lv_iconst (v := 4) hx hb dL_law_1296 (by decide) ?_
    refine lv_iadd hx hb dL_law_1297 ?_
    refine g_topi (y := nI (i + 4)) (nI_add i 4) ?_
    refine va_sld hx hb hX hbl hbA hW.2.2.1 (vp_in_nI (show i + 4 < L by omega) (by omega)) dL_law_1298 ?_
    rw [nI_clamp (show i + 4 < 2 ^ 31 by omega)]
    refine g_callq (va_runS (As := [.int ((xs (i + 4)))]) (rest := [.int ((xs (i + 3))), .int ((xs (i + 2))), .ref (D.2 1004 (fMod (xs (i + 1)) 4)), .ref x]) ⟨hx, hb, hml, hown, hts⟩ (mtX0_text l D w1 H.size (xs (i + 4))) (va_cwS 1 hts (lw_S q482 q483 q33 q484) rfl rfl rfl (by decide +kernel) ⟨Nat.le_trans (Nat.le_of_ble_eq_true rfl) hRf, Nat.le_trans (Nat.le_of_ble_eq_true rfl) hRl⟩) (g_preS hW hK hE) rfl rfl hl.1 rfl (lv_room (Nat.le_of_ble_eq_true rfl)) dL_law_1299 ⟨?_, ?_⟩) hW (fun r_ u_ H locs hp hW => ?_)
    · (try simp only [headSpec]); omega
    · (try simp only [headSpec]); omega
    obtain ⟨er, rfl⟩ := hp
    subst er
    refine lv_aload_n hx hb dL_law_1302 rfl (lv_at hl 3 rfl) ?_
    refine g_calli (vx_runSW (hh := [(0, 14, 17, 110), (0, 14, 21, 112)]) (As := [.ref x, .ref (D.2 1004 (fMod (xs (i + 1)) 4)), .int ((xs (i + 2))), .int ((xs (i + 3))), .ref (D.2 1000 (fMod (xs (i + 4)) 14)), .ref o]) (rest := []) ⟨hx, hb, hml, hown, hts⟩ (mtX0_changed l D w1 H.size hl9 x (fMod (xs (i + 1)) 4) (xs (i + 2)) (xs (i + 3)) (fMod_lt (by decide)) (D.2 1000 (fMod (xs (i + 4)) 14)) (lTx (xs (i + 4))) (lit_str (fMod_lt (by decide))) _ hS.1.1 o n0 d0 s0v v0 f0 ho (fun r1 u1 hp => by obtain ⟨-, s9, -, -, -, hex⟩ := hp; exact hex.at ho (fun z => z))) (vx_cwSW 6 hts (lw_SW q1786 q1787 q33 q1788) rfl rfl rfl (by decide +kernel) ⟨Nat.le_trans (Nat.le_of_ble_eq_true rfl) hRf, Nat.le_trans (Nat.le_of_ble_eq_true rfl) hRl⟩) (g_preS hW hK hE) rfl rfl hl.1 rfl (lv_room (Nat.le_of_ble_eq_true rfl)) dL_law_1303 ⟨?_, ?_⟩) hW (fun r5 u1 H locs hp hW => ?_)
    · (try simp only [headSpec]); omega
    · (try simp only [headSpec]); omega
    have hC : ∃ l3 s1, lMid D u1 l3 x y o (z) z th n0 d0 s1 v0 f0 ∧ eR2 (kEd (xs (i + 2)) (xs (i + 3)) ∧ isIn (lTx (xs (i + 4)))) (eFits (fMod (xs (i + 1)) 4) (xs (i + 2)).toNatClampNeg (xs (i + 3)).toNatClampNeg (digs (lTx (xs (i + 4)))) = true) r5 ∧ (((kEd (xs (i + 2)) (xs (i + 3)) ∧ isIn (lTx (xs (i + 4)))) ∧ eFits (fMod (xs (i + 1)) 4) (xs (i + 2)).toNatClampNeg (xs (i + 3)).toNatClampNeg (digs (lTx (xs (i + 4)))) = true) → ∃ s9, s1 = some s9 ∧ g_Str D u1 s9 (txt (eAct (fMod (xs (i + 1)) 4) (xs (i + 2)).toNatClampNeg (xs (i + 3)).toNatClampNeg (digs (lTx (xs (i + 4))))))) := by
      rcases hp with ⟨r1, u2, ⟨hin, s9, es, -, hs, hex⟩, e, hr⟩ | ⟨E1, ⟨hex, hE⟩, hr⟩
      · have hN := hM0.new hK hex
        exact ⟨_, _, hN.put e, Or.inl ⟨hin, hr⟩, fun _ => ⟨s9, es, hN.strP hs e⟩⟩
      · have q := ex2 (by decide : ("java/lang/IllegalArgumentException" : String) ≠ "java/lang/IllegalStateException") hE hr
        exact ⟨_, s0v, hM0.new hK hex, q.1, fun t => absurd t q.2⟩
    obtain ⟨l3, s1, hM1, hc1, hq1⟩ := hC
    obtain ⟨⟨rf3, hS3⟩, ⟨mf3, en3, td3, st3, E3, hZ3⟩, ho3, hlo3, hmu3⟩ := id hM1
    refine lv_istore (lv' := [(5, .int (r5)), (0, .ref b), (1, .ref x), (2, .ref y), (3, .ref o), (4, .int (nI i))]) hx hb dL_law_1306 hl (by decide) rfl (fun ls hl => ?_)
    refine lv_aload_n hx hb dL_law_1308 rfl (lv_at hl 3 rfl) ?_
    refine lv_aload_n hx hb dL_law_1309 rfl (lv_at hl 1 rfl) ?_
    refine lv_iload hx hb dL_law_1310 (lv_at hl 5 rfl) ?_
    refine lv_iconst (v := 1) hx hb dL_law_1312 (by decide) ?_
    refine lv_iadd hx hb dL_law_1313 ?_
    refine g_topi (y := nI (i + 1)) (nI_add i 1) ?_
    refine va_sld hx hb hX hbl hbA hW.2.2.1 (vp_in_nI (show i + 1 < L by omega) (by omega)) dL_law_1314 ?_
    rw [nI_clamp (show i + 1 < 2 ^ 31 by omega)]
    refine g_callq (va_runS (As := [.int ((xs (i + 1)))]) (rest := [.ref y]) ⟨hx, hb, hml, hown, hts⟩ (mtX0_toChange l D u1 H.size (xs (i + 1))) (va_cwS 1 hts (lw_S q533 q534 q33 q535) rfl rfl rfl (by decide +kernel) ⟨Nat.le_trans (Nat.le_of_ble_eq_true rfl) hRf, Nat.le_trans (Nat.le_of_ble_eq_true rfl) hRl⟩) (g_preS hW hK hE) rfl rfl hl.1 rfl (lv_room (Nat.le_of_ble_eq_true rfl)) dL_law_1315 ⟨?_, ?_⟩) hW (fun r_ u_ H locs hp hW => ?_)
    · (try simp only [headSpec]); omega
    · (try simp only [headSpec]); omega
    obtain ⟨er, rfl⟩ := hp
    subst er
    refine lv_aload_n hx hb dL_law_1318 rfl (lv_at hl 1 rfl) ?_
    refine lv_iload hx hb dL_law_1319 (lv_at hl 5 rfl) ?_
    refine lv_iconst (v := 2) hx hb dL_law_1321 (by decide) ?_
    refine lv_iadd hx hb dL_law_1322 ?_
    refine g_topi (y := nI (i + 2)) (nI_add i 2) ?_
    refine va_sld hx hb hX hbl hbA hW.2.2.1 (vp_in_nI (show i + 2 < L by omega) (by omega)) dL_law_1323 ?_
    rw [nI_clamp (show i + 2 < 2 ^ 31 by omega)]
    refine lv_aload_n hx hb dL_law_1324 rfl (lv_at hl 1 rfl) ?_
    refine lv_iload hx hb dL_law_1325 (lv_at hl 5 rfl) ?_
    refine lv_iconst (v := 3) hx hb dL_law_1327 (by decide) ?_
    refine lv_iadd hx hb dL_law_1328 ?_
    refine g_topi (y := nI (i + 3)) (nI_add i 3) ?_
    refine va_sld hx hb hX hbl hbA hW.2.2.1 (vp_in_nI (show i + 3 < L by omega) (by omega)) dL_law_1329 ?_
    rw [nI_clamp (show i + 3 < 2 ^ 31 by omega)]
    refine lv_aload_n hx hb dL_law_1330 rfl (lv_at hl 1 rfl) ?_
    refine lv_iload hx hb dL_law_1331 (lv_at hl 5 rfl) ?_
    refine lv_iconst (v := 4) hx hb dL_law_1333 (by decide) ?_
    refine lv_iadd hx hb dL_law_1334 ?_
    refine g_topi (y := nI (i + 4)) (nI_add i 4) ?_
    refine va_sld hx hb hX hbl hbA hW.2.2.1 (vp_in_nI (show i + 4 < L by omega) (by omega)) dL_law_1335 ?_
    rw [nI_clamp (show i + 4 < 2 ^ 31 by omega)]
    refine g_callq (va_runS (As := [.int ((xs (i + 4)))]) (rest := [.int ((xs (i + 3))), .int ((xs (i + 2))), .ref (D.2 1004 (fMod (xs (i + 1)) 4)), .ref y]) ⟨hx, hb, hml, hown, hts⟩ (mtX0_text l D u1 H.size (xs (i + 4))) (va_cwS 1 hts (lw_S q482 q483 q33 q484) rfl rfl rfl (by decide +kernel) ⟨Nat.le_trans (Nat.le_of_ble_eq_true rfl) hRf, Nat.le_trans (Nat.le_of_ble_eq_true rfl) hRl⟩) (g_preS hW hK hE) rfl rfl hl.1 rfl (lv_room (Nat.le_of_ble_eq_true rfl)) dL_law_1336 ⟨?_, ?_⟩) hW (fun r_ u_ H locs hp hW => ?_)
    · (try simp only [headSpec]); omega
    · (try simp only [headSpec]); omega
    obtain ⟨er, rfl⟩ := hp
    subst er
    refine g_callq (va_runV (As := [.ref (D.2 1004 (fMod (xs (i + 1)) 4)), .int ((xs (i + 2))), .int ((xs (i + 3))), .ref (D.2 1000 (fMod (xs (i + 4)) 14))]) (rest := []) ⟨hx, hb, hml, hown, hts⟩ (mtX3_changed l D u1 H.size y mf3 l3 z.P z.C z.A z.cov z.K z.fq z.ac z.F z.rn z.tt z.cK en3 td3 st3 E3 th hZ3 (fMod (xs (i + 1)) 4) (xs (i + 2)) (xs (i + 3)) (fMod_lt (by decide)) (D.2 1000 (fMod (xs (i + 4)) 14)) (lTx (xs (i + 4))) (lit_str (fMod_lt (by decide)))) (cwV 4 hts (lw_V q2175 q2176 q2177 q47 q2178) rfl rfl rfl (by decide +kernel) ⟨Nat.le_trans (Nat.le_of_ble_eq_true rfl) hRf, Nat.le_trans (Nat.le_of_ble_eq_true rfl) hRl⟩) (g_preV hW hK hE hZ3.1 rfl) rfl rfl hl.1 rfl (lv_room (Nat.le_of_ble_eq_true rfl)) dL_law_1339 ⟨?_, ?_⟩) hW (fun r6 u2 H locs hp hW => ?_)
    · (try simp only [headSpec]); omega
    · (try simp only [headSpec]); omega
    have hC : ∃ l4 th2 p6, r6 = some p6 ∧ lMid D u2 l4 x y o (z) (z) th2 n0 d0 s1 v0 f0 ∧ eR2 (kEd (xs (i + 2)) (xs (i + 3)) ∧ isIn (lTx (xs (i + 4)))) (eFits (fMod (xs (i + 1)) 4) (xs (i + 2)).toNatClampNeg (xs (i + 3)).toNatClampNeg (digs (lTx (xs (i + 4)))) = true) th2 ∧ (((kEd (xs (i + 2)) (xs (i + 3)) ∧ isIn (lTx (xs (i + 4)))) ∧ eFits (fMod (xs (i + 1)) 4) (xs (i + 2)).toNatClampNeg (xs (i + 3)).toNatClampNeg (digs (lTx (xs (i + 4)))) = true) → (∃ s9, s1 = some s9 ∧ g_Str D u2 s9 (txt (eAct (fMod (xs (i + 1)) 4) (xs (i + 2)).toNatClampNeg (xs (i + 3)).toNatClampNeg (digs (lTx (xs (i + 4))))))) ∧ g_Str D u2 p6 (txt (eAct (fMod (xs (i + 1)) 4) (xs (i + 2)).toNatClampNeg (xs (i + 3)).toNatClampNeg (digs (lTx (xs (i + 4))))))) := by
      obtain ⟨s9, th9, l9, e6, hZ9, hz9, hor⟩ := hp
      rcases hor with ⟨h1, h2, et, hs⟩ | ⟨h1, h2, et⟩ | ⟨h1, et⟩
      · exact ⟨_, _, s9, e6, hM1.mod hK ⟨_, _, _, _, _, hZ9⟩ hz9, Or.inl ⟨⟨h1, h2⟩, et⟩, fun q => ⟨(hq1 q).imp (fun s9 h => ⟨h.1, hM1.strM h.2 hz9⟩), hs⟩⟩
      · exact ⟨_, _, s9, e6, hM1.mod hK ⟨_, _, _, _, _, hZ9⟩ hz9, Or.inr (Or.inr ⟨⟨h1, h2⟩, et⟩), fun q => absurd q.2 h2⟩
      · exact ⟨_, _, s9, e6, hM1.mod hK ⟨_, _, _, _, _, hZ9⟩ hz9, Or.inr (Or.inl ⟨h1, et⟩), fun q => absurd q.1 h1⟩
    obtain ⟨l4, th2, p6, er6, hMM, hc2, hq2⟩ := hC
    subst er6
    have hag : r5 = th2 ∧ True := ⟨hc1.eq hc2, trivial⟩
    obtain ⟨⟨rf4, hS4⟩, ⟨mf4, en4, td4, st4, E4, hZ4⟩, ho4, hlo4, hmu4⟩ := id hMM
    refine lv_astore (lv' := [(6, .ref p6), (5, .int (r5)), (0, .ref b), (1, .ref x), (2, .ref y), (3, .ref o), (4, .int (nI i))]) hx hb dL_law_1342 hl (by decide) rfl (fun ls hl => ?_)
    refine lv_aload_n hx hb dL_law_1344 rfl (lv_at hl 4 rfl) ?_
    refine g_calli (va_runV (As := []) (rest := []) ⟨hx, hb, hml, hown, hts⟩ (mtX3_thrown l D u2 H.size y mf4 l4 (z).P (z).C (z).A (z).cov (z).K (z).fq (z).ac (z).F (z).rn (z).tt (z).cK en4 td4 st4 E4 th2 hZ4) (cwV 0 hts (lw_V q1970 q1971 q1972 q47 q1973) rfl rfl rfl (by decide +kernel) ⟨Nat.le_trans (Nat.le_of_ble_eq_true rfl) hRf, Nat.le_trans (Nat.le_of_ble_eq_true rfl) hRl⟩) (g_preV hW hK hE hZ4.1 rfl) rfl rfl hl.1 rfl (lv_room (Nat.le_of_ble_eq_true rfl)) dL_law_1345 ⟨?_, ?_⟩) hW (fun r_ u_ H locs hp hW => ?_)
    · (try simp only [headSpec]); omega
    · (try simp only [headSpec]); omega
    obtain ⟨er, rfl⟩ := hp
    rw [er]
    refine lv_iload hx hb dL_law_1348 (lv_at hl 1 rfl) ?_
    refine lv_icmp_eq (tgt := 1355) hx hb dL_law_1350 (by decide) (fun _ => ?_) (fun hz => absurd hag.1.symm hz)
    refine lv_iload hx hb dL_law_1355 (lv_at hl 1 rfl) ?_
    refine lv_if_ne (tgt := 1374) hx hb dL_law_1357 (by decide) (fun hz5 => ?_) (fun hz5 => ?_)
    · refine lv_goto (tgt := 1835) hx hb dL_law_1374 (by decide) ?_
      exact kk _ _ _ _ _ H locs ls hMM.lR (by (try simp only [headSpec]); omega) (by (try simp only [headSpec]); omega) hW (lv_sub hl [2, 3, 4, 5, 6] rfl)
    · have h50 : r5 = 0 := by first | exact hz5 | exact Classical.not_not.mp hz5
      have hcd := hc1.zero h50
      obtain ⟨⟨s9, es9, hs9⟩, hp6⟩ := hq2 hcd
      subst es9
      refine lv_aload_n hx hb dL_law_1360 rfl (lv_at hl 5 rfl) ?_
      refine g_getN (ci := 9) (v := .ref s9) (C := RX4) (T := TX4) (N := 5) hx hb hts in_X4 hown hK hW ho4 rfl 2 (by decide) (nf_q468 hE) (fun _ h9 => h9) rfl dL_law_1361 ?_
      refine lv_aload hx hb dL_law_1364 (lv_at hl 0 rfl) ?_
      obtain ⟨v7s9, hr7s9, hb7s9⟩ := hs9.rd hts hK hE hW
      refine g_calli (va_runV (As := [.ref p6]) (rest := []) ⟨hx, hb, hml, hown, hts⟩ (mtJ16_equals l D u2 H.size s9 p6 (txt (eAct (fMod (xs (i + 1)) 4) (xs (i + 2)).toNatClampNeg (xs (i + 3)).toNatClampNeg (digs (lTx (xs (i + 4)))))) (txt (eAct (fMod (xs (i + 1)) 4) (xs (i + 2)).toNatClampNeg (xs (i + 3)).toNatClampNeg (digs (lTx (xs (i + 4)))))) hs9 hp6) (cwV 1 hts (lw_V q2213 q2214 q2215 q63 q2216) rfl rfl rfl (by decide +kernel) ⟨Nat.le_trans (Nat.le_of_ble_eq_true rfl) hRf, Nat.le_trans (Nat.le_of_ble_eq_true rfl) hRl⟩) (g_preVR hW hK hE hr7s9.2.2.2) rfl rfl hl.1 rfl (lv_room (Nat.le_of_ble_eq_true rfl)) dL_law_1366 ⟨?_, ?_⟩) hW (fun r_ u_ H locs hp hW => ?_)
      · (try simp only [headSpec]); omega
      · (try simp only [headSpec]); omega
      obtain ⟨er, rfl⟩ := hp
      subst er
      rw [if_pos (rfl : (txt (eAct (fMod (xs (i + 1)) 4) (xs (i + 2)).toNatClampNeg (xs (i + 3)).toNatClampNeg (digs (lTx (xs (i + 4)))))) = (txt (eAct (fMod (xs (i + 1)) 4) (xs (i + 2)).toNatClampNeg (xs (i + 3)).toNatClampNeg (digs (lTx (xs (i + 4)))))))]
      refine lv_if_ne (tgt := 1374) hx hb dL_law_1369 (by decide) (fun _ => ?_) (fun hz => absurd hz (by decide))
      refine lv_goto (tgt := 1835) hx hb dL_law_1374 (by decide) ?_
      exact kk _ _ _ _ _ H locs ls hMM.lR (by (try simp only [headSpec]); omega) (by (try simp only [headSpec]); omega) hW (lv_sub hl [2, 3, 4, 5, 6] rfl)
set_option maxHeartbeats 4000000 in
set_option maxRecDepth 100000 in
/-- the law: shrunk -/
theorem lw_22 {p : Program} {l : Launch} {e : Env} {R : Room} {s : State} {m : MethodId} {args : Array Value} {below : List Frame} {meth : Method} {c : Code} {Q : State → Prop} {D : va_G} {A : Nat → Prop} (hx : p.tables.exec = Jvm.exec) (hb : c.code = cL_law) (hts : ∀ w ∈ lw_all, w.before args s = true) (hown : s.vm.findClass RX0 = some m.cls) (hK : va_K D gCl (gT D) s) (hE : g_Env D A s) (hml : c.maxLocals = 8) (hRf : 13 ≤ R.frames) (hRl : 307 ≤ R.locals) (hl9 : l.stackTraces = false) (b L : Nat) (xs : Nat → Int32) (hX : va_X b L xs s s.heap) (hbl : b < s.heap.size) (hbA : ¬ A b) (x y o i : Nat) (hi : i + 5 ≤ L) (hL : L ≤ 320) (z : yW) (hv : yV z) (hrn : z.rn ≤ 40 * i) (c0 s0 : Nat) (hRc : c0 + (12 + ((sShr z.P (mCode z.P (digs (lTx (xs (i + 1))))) (sMs (digs (lTx (xs (i + 1)))) + 1) (digs (lTx (xs (i + 1)))) (bsC (z.cp 9) (mOut z.P (digs (lTx (xs (i + 1))))).2.2.2)).2 - z.cp 9) + 4 * shN z.P (lTx (xs (i + 1)))) ≤ R.cells) (hRs : s0 + (74 + 2 * ((sShr z.P (mCode z.P (digs (lTx (xs (i + 1))))) (sMs (digs (lTx (xs (i + 1)))) + 1) (digs (lTx (xs (i + 1)))) (bsC (z.cp 9) (mOut z.P (digs (lTx (xs (i + 1))))).2.2.2)).2 - z.cp 9) + 32 * shN z.P (lTx (xs (i + 1)))) ≤ R.slots)
    (kk : ∀ (w2 : g_H) (l2 : Nat → Nat) (th2 : Int32) (cells slots : Nat) (H : Heap) (locs : List Loc) (ls : Array Slot), lR D w2 l2 x y o (sShk z (lTx (xs (i + 1)))) th2 → cells ≤ c0 + (12 + ((sShr z.P (mCode z.P (digs (lTx (xs (i + 1))))) (sMs (digs (lTx (xs (i + 1)))) + 1) (digs (lTx (xs (i + 1)))) (bsC (z.cp 9) (mOut z.P (digs (lTx (xs (i + 1))))).2.2.2)).2 - z.cp 9) + 4 * shN z.P (lTx (xs (i + 1)))) → slots ≤ s0 + (74 + 2 * ((sShr z.P (mCode z.P (digs (lTx (xs (i + 1))))) (sMs (digs (lTx (xs (i + 1)))) + 1) (digs (lTx (xs (i + 1)))) (bsC (z.cp 9) (mOut z.P (digs (lTx (xs (i + 1))))).2.2.2)).2 - z.cp 9) + 32 * shN z.P (lTx (xs (i + 1)))) → g_W D A s.heap H locs w2 → lv_has ls 8 [(0, .ref b), (1, .ref x), (2, .ref y), (3, .ref o), (4, .int (nI i))] → W p l e R s m args below meth c H locs cells slots Q (F0 m 1835 ls [])) :
    ∀ (k : Nat) (w1 : g_H) (l1 : Nat → Nat) (th : Int32) (cells : Nat) (slots : Nat) (H : Heap) (locs : List Loc) (ls : Array Slot), 0 < k → lR D w1 l1 x y o z th → cells ≤ c0 → slots ≤ s0 → g_W D A s.heap H locs w1 → lv_has ls 8 [(0, .ref b), (1, .ref x), (2, .ref y), (3, .ref o), (4, .int (nI i))] → W p l e R s m args below meth c H locs cells slots Q (F0 m 1377 ls []) := by
  intro k
  induction k with
  | zero => intro w1 l1 th cells slots H locs ls hfuel hR hcl hsl hW hl; exact absurd hfuel (by omega)
  | succ k ih =>
    intro w1 l1 th cells slots H locs ls hfuel hR hcl hsl hW hl
    obtain ⟨n0, d0, s0v, v0, f0, hM0⟩ := hR.mid
    obtain ⟨⟨rf, hS⟩, ⟨mf, en, td, st, E, hZ⟩, ho, hlo, hmu⟩ := id hM0
    obtain ⟨hvA, hcv, hKd, hcK, hYI, ⟨hfq, hac, hP16, hC8⟩, hCd, hcp3, hfI, hrn0⟩ := id hv
    have hF16 := hfI.lt hP16
    have hK3 := hYI.q.2.2
    have htt := hYI.2.2.2
    have hdl : (z.K.drop z.fq).length = z.K.length - z.fq := List.length_drop
    refine lv_aload_n hx hb dL_law_1377 rfl (lv_at hl 1 rfl) ?_
    refine lv_aload_n hx hb dL_law_1378 rfl (lv_at hl 0 rfl) ?_
    refine lv_iload hx hb dL_law_1379 (lv_at hl 4 rfl) ?_
    refine lv_iconst (v := 1) hx hb dL_law_1381 (by decide) ?_
    refine lv_iadd hx hb dL_law_1382 ?_
    refine g_topi (y := nI (i + 1)) (nI_add i 1) ?_
    refine va_sld hx hb hX hbl hbA hW.2.2.1 (vp_in_nI (show i + 1 < L by omega) (by omega)) dL_law_1383 ?_
    rw [nI_clamp (show i + 1 < 2 ^ 31 by omega)]
    refine g_callq (va_runS (As := [.int ((xs (i + 1)))]) (rest := [.ref x]) ⟨hx, hb, hml, hown, hts⟩ (mtX0_text l D w1 H.size (xs (i + 1))) (va_cwS 1 hts (lw_S q482 q483 q33 q484) rfl rfl rfl (by decide +kernel) ⟨Nat.le_trans (Nat.le_of_ble_eq_true rfl) hRf, Nat.le_trans (Nat.le_of_ble_eq_true rfl) hRl⟩) (g_preS hW hK hE) rfl rfl hl.1 rfl (lv_room (Nat.le_of_ble_eq_true rfl)) dL_law_1384 ⟨?_, ?_⟩) hW (fun r_ u_ H locs hp hW => ?_)
    · (try simp only [headSpec]); omega
    · (try simp only [headSpec]); omega
    obtain ⟨er, rfl⟩ := hp
    subst er
    refine lv_aload_n hx hb dL_law_1387 rfl (lv_at hl 3 rfl) ?_
    refine g_calli (vx_runSW (hh := [(0, 9, 12, 110), (0, 9, 15, 112)]) (As := [.ref x, .ref (D.2 1000 (fMod (xs (i + 1)) 14)), .ref o]) (rest := []) ⟨hx, hb, hml, hown, hts⟩ (mtX0_shrunk l D w1 H.size hl9 l1 x z.ac z.rn z.tt rf z.P z.C z.A z.cov z.K (z.K.drop z.fq) z.F z.cp hS (D.2 1000 (fMod (xs (i + 1)) 14)) (lTx (xs (i + 1))) (lit_str (fMod_lt (by decide))) o n0 d0 s0v v0 f0 ho (fun r1 u1 hp => by obtain ⟨-, s9, l9, -, -, -, -, hy9⟩ := hp; exact (l_oC ho hlo hy9).1)) (vx_cwSW 3 hts (lw_SW q1793 q1794 q33 q1795) rfl rfl rfl (by decide +kernel) ⟨Nat.le_trans (Nat.le_of_ble_eq_true rfl) hRf, Nat.le_trans (Nat.le_of_ble_eq_true rfl) hRl⟩) (g_preS hW hK hE) rfl rfl hl.1 rfl (lv_room (Nat.le_of_ble_eq_true rfl)) dL_law_1388 ⟨?_, ?_⟩) hW (fun r5 u1 H locs hp hW => ?_)
    · (try simp only [headSpec]); omega
    · (try simp only [headSpec]); omega
    have hC : ∃ l3 s1, lMid D u1 l3 x y o (sShk z (lTx (xs (i + 1)))) z th n0 d0 s1 v0 f0 ∧ eR2 (isIn (lTx (xs (i + 1)))) ((mOut z.P (digs (lTx (xs (i + 1))))).1 = 1) r5 ∧ ((isIn (lTx (xs (i + 1))) ∧ (mOut z.P (digs (lTx (xs (i + 1))))).1 = 1) → ∃ s9, s1 = some s9 ∧ g_Str D u1 s9 (txt (mShr z.P (mCode z.P (digs (lTx (xs (i + 1))))) (sMs (digs (lTx (xs (i + 1)))) + 1) (digs (lTx (xs (i + 1))))).1)) := by
      rcases hp with ⟨r1, u2, ⟨hin, s9, l3, es, -, hs, hS2, hy⟩, e, hr⟩ | ⟨E1, ⟨hE, hni, ew⟩ | ⟨hE, hin, hno, l3, hS2, hy⟩, hr⟩
      · rw [sShr_1] at hs
        have hN := hM0.cls hK (z2 := zCp (zCp z (bsC (z.cp 9) (mOut z.P (digs (lTx (xs (i + 1))))).2.2.2)) (sShr z.P (mCode z.P (digs (lTx (xs (i + 1))))) (sMs (digs (lTx (xs (i + 1)))) + 1) (digs (lTx (xs (i + 1)))) (bsC (z.cp 9) (mOut z.P (digs (lTx (xs (i + 1))))).2.2.2)).2) ⟨rf, hS2⟩ hy
        exact ⟨_, _, by rw [show sShk z (lTx (xs (i + 1))) = zCp (zCp z (bsC (z.cp 9) (mOut z.P (digs (lTx (xs (i + 1))))).2.2.2)) (sShr z.P (mCode z.P (digs (lTx (xs (i + 1))))) (sMs (digs (lTx (xs (i + 1)))) + 1) (digs (lTx (xs (i + 1)))) (bsC (z.cp 9) (mOut z.P (digs (lTx (xs (i + 1))))).2.2.2)).2 from (if_pos hin.1).trans (if_pos hin.2)]; exact hN.put e, Or.inl ⟨hin, hr⟩, fun _ => ⟨s9, es, hN.strP hs e⟩⟩
      · subst ew
        exact ⟨l1, s0v, by rw [show sShk z (lTx (xs (i + 1))) = z from if_neg hni]; exact hM0, Or.inr (Or.inl ⟨hni, by rcases hr with h | h; exact h.2; exact absurd (hE.symm.trans h.1) (by decide)⟩), fun q => absurd q.1 hni⟩
      · exact ⟨_, s0v, by rw [show sShk z (lTx (xs (i + 1))) = zCp z (bsC (z.cp 9) (mOut z.P (digs (lTx (xs (i + 1))))).2.2.2) from (if_pos hin).trans (if_neg hno)]; exact hM0.cls hK (z2 := zCp z (bsC (z.cp 9) (mOut z.P (digs (lTx (xs (i + 1))))).2.2.2)) ⟨rf, hS2⟩ hy, Or.inr (Or.inr ⟨⟨hin, hno⟩, by rcases hr with h | h; exact absurd (hE.symm.trans h.1) (by decide); exact h.2⟩), fun q => absurd q.2 hno⟩
    obtain ⟨l3, s1, hM1, hc1, hq1⟩ := hC
    obtain ⟨⟨rf3, hS3⟩, ⟨mf3, en3, td3, st3, E3, hZ3⟩, ho3, hlo3, hmu3⟩ := id hM1
    refine lv_istore (lv' := [(5, .int (r5)), (0, .ref b), (1, .ref x), (2, .ref y), (3, .ref o), (4, .int (nI i))]) hx hb dL_law_1391 hl (by decide) rfl (fun ls hl => ?_)
    refine lv_aload_n hx hb dL_law_1393 rfl (lv_at hl 3 rfl) ?_
    refine lv_aload_n hx hb dL_law_1394 rfl (lv_at hl 1 rfl) ?_
    refine lv_iload hx hb dL_law_1395 (lv_at hl 5 rfl) ?_
    refine lv_iconst (v := 1) hx hb dL_law_1397 (by decide) ?_
    refine lv_iadd hx hb dL_law_1398 ?_
    refine g_topi (y := nI (i + 1)) (nI_add i 1) ?_
    refine va_sld hx hb hX hbl hbA hW.2.2.1 (vp_in_nI (show i + 1 < L by omega) (by omega)) dL_law_1399 ?_
    rw [nI_clamp (show i + 1 < 2 ^ 31 by omega)]
    refine g_callq (va_runS (As := [.int ((xs (i + 1)))]) (rest := [.ref y]) ⟨hx, hb, hml, hown, hts⟩ (mtX0_text l D u1 H.size (xs (i + 1))) (va_cwS 1 hts (lw_S q482 q483 q33 q484) rfl rfl rfl (by decide +kernel) ⟨Nat.le_trans (Nat.le_of_ble_eq_true rfl) hRf, Nat.le_trans (Nat.le_of_ble_eq_true rfl) hRl⟩) (g_preS hW hK hE) rfl rfl hl.1 rfl (lv_room (Nat.le_of_ble_eq_true rfl)) dL_law_1400 ⟨?_, ?_⟩) hW (fun r_ u_ H locs hp hW => ?_)
    · (try simp only [headSpec]); omega
    · (try simp only [headSpec]); omega
    obtain ⟨er, rfl⟩ := hp
    subst er
    refine g_callq (va_runV (As := [.ref (D.2 1000 (fMod (xs (i + 1)) 14))]) (rest := []) ⟨hx, hb, hml, hown, hts⟩ (mtX3_shrunk l D u1 H.size y mf3 l3 z.P z.C z.A z.cov z.K z.fq z.ac z.F z.rn z.tt z.cK en3 td3 st3 E3 th hZ3 (D.2 1000 (fMod (xs (i + 1)) 14)) (lTx (xs (i + 1))) (lit_str (fMod_lt (by decide)))) (cwV 1 hts (lw_V q2179 q2180 q2181 q47 q2182) rfl rfl rfl (by decide +kernel) ⟨Nat.le_trans (Nat.le_of_ble_eq_true rfl) hRf, Nat.le_trans (Nat.le_of_ble_eq_true rfl) hRl⟩) (g_preV hW hK hE hZ3.1 rfl) rfl rfl hl.1 rfl (lv_room (Nat.le_of_ble_eq_true rfl)) dL_law_1403 ⟨?_, ?_⟩) hW (fun r6 u2 H locs hp hW => ?_)
    · (try simp only [headSpec]); omega
    · (try simp only [headSpec]); omega
    have hC : ∃ l4 th2 p6, r6 = some p6 ∧ lMid D u2 l4 x y o (sShk z (lTx (xs (i + 1)))) (sShk z (lTx (xs (i + 1)))) th2 n0 d0 s1 v0 f0 ∧ eR2 (isIn (lTx (xs (i + 1)))) ((mOut z.P (digs (lTx (xs (i + 1))))).1 = 1) th2 ∧ ((isIn (lTx (xs (i + 1))) ∧ (mOut z.P (digs (lTx (xs (i + 1))))).1 = 1) → (∃ s9, s1 = some s9 ∧ g_Str D u2 s9 (txt (mShr z.P (mCode z.P (digs (lTx (xs (i + 1))))) (sMs (digs (lTx (xs (i + 1)))) + 1) (digs (lTx (xs (i + 1))))).1)) ∧ g_Str D u2 p6 (txt (mShr z.P (mCode z.P (digs (lTx (xs (i + 1))))) (sMs (digs (lTx (xs (i + 1)))) + 1) (digs (lTx (xs (i + 1))))).1)) := by
      obtain ⟨⟨s9, e6, hs⟩, ⟨en9, td9, st9, E9, hZ9⟩, hz9⟩ := hp
      refine ⟨_, _, s9, e6, hM1.mod hK (z2 := sShk z (lTx (xs (i + 1)))) ⟨mf3, en9, td9, st9, E9, ?_⟩ hz9, thF_e, fun q => ⟨(hq1 q).imp (fun s9 h => ⟨h.1, hM1.strM h.2 hz9⟩), hs ⟨inB_iff.mpr q.1, q.2⟩⟩⟩
      by_cases hin : isIn (lTx (xs (i + 1)))
      · by_cases hno : (mOut z.P (digs (lTx (xs (i + 1))))).1 = 1
        · rw [show sShk z (lTx (xs (i + 1))) = zCp (zCp z (bsC (z.cp 9) (mOut z.P (digs (lTx (xs (i + 1))))).2.2.2)) (sShr z.P (mCode z.P (digs (lTx (xs (i + 1))))) (sMs (digs (lTx (xs (i + 1)))) + 1) (digs (lTx (xs (i + 1)))) (bsC (z.cp 9) (mOut z.P (digs (lTx (xs (i + 1))))).2.2.2)).2 from (if_pos hin).trans (if_pos hno)]; exact hZ9
        · rw [show sShk z (lTx (xs (i + 1))) = zCp z (bsC (z.cp 9) (mOut z.P (digs (lTx (xs (i + 1))))).2.2.2) from (if_pos hin).trans (if_neg hno)]; exact hZ9
      · rw [show sShk z (lTx (xs (i + 1))) = z from if_neg hin]; exact hZ9
    obtain ⟨l4, th2, p6, er6, hMM, hc2, hq2⟩ := hC
    subst er6
    have hag : r5 = th2 ∧ True := ⟨hc1.eq hc2, trivial⟩
    obtain ⟨⟨rf4, hS4⟩, ⟨mf4, en4, td4, st4, E4, hZ4⟩, ho4, hlo4, hmu4⟩ := id hMM
    refine lv_astore (lv' := [(6, .ref p6), (5, .int (r5)), (0, .ref b), (1, .ref x), (2, .ref y), (3, .ref o), (4, .int (nI i))]) hx hb dL_law_1406 hl (by decide) rfl (fun ls hl => ?_)
    refine lv_aload_n hx hb dL_law_1408 rfl (lv_at hl 4 rfl) ?_
    refine g_calli (va_runV (As := []) (rest := []) ⟨hx, hb, hml, hown, hts⟩ (mtX3_thrown l D u2 H.size y mf4 l4 (sShk z (lTx (xs (i + 1)))).P (sShk z (lTx (xs (i + 1)))).C (sShk z (lTx (xs (i + 1)))).A (sShk z (lTx (xs (i + 1)))).cov (sShk z (lTx (xs (i + 1)))).K (sShk z (lTx (xs (i + 1)))).fq (sShk z (lTx (xs (i + 1)))).ac (sShk z (lTx (xs (i + 1)))).F (sShk z (lTx (xs (i + 1)))).rn (sShk z (lTx (xs (i + 1)))).tt (sShk z (lTx (xs (i + 1)))).cK en4 td4 st4 E4 th2 hZ4) (cwV 0 hts (lw_V q1970 q1971 q1972 q47 q1973) rfl rfl rfl (by decide +kernel) ⟨Nat.le_trans (Nat.le_of_ble_eq_true rfl) hRf, Nat.le_trans (Nat.le_of_ble_eq_true rfl) hRl⟩) (g_preV hW hK hE hZ4.1 rfl) rfl rfl hl.1 rfl (lv_room (Nat.le_of_ble_eq_true rfl)) dL_law_1409 ⟨?_, ?_⟩) hW (fun r_ u_ H locs hp hW => ?_)
    · (try simp only [headSpec]); omega
    · (try simp only [headSpec]); omega
    obtain ⟨er, rfl⟩ := hp
    rw [er]
    refine lv_iload hx hb dL_law_1412 (lv_at hl 1 rfl) ?_
    refine lv_icmp_eq (tgt := 1419) hx hb dL_law_1414 (by decide) (fun _ => ?_) (fun hz => absurd hag.1.symm hz)
    refine lv_iload hx hb dL_law_1419 (lv_at hl 1 rfl) ?_
    refine lv_if_ne (tgt := 1438) hx hb dL_law_1421 (by decide) (fun hz5 => ?_) (fun hz5 => ?_)
    · refine lv_goto (tgt := 1835) hx hb dL_law_1438 (by decide) ?_
      exact kk _ _ _ _ _ H locs ls hMM.lR (by (try simp only [headSpec]); omega) (by (try simp only [headSpec]); omega) hW (lv_sub hl [2, 3, 4, 5, 6] rfl)
    · have h50 : r5 = 0 := by first | exact hz5 | exact Classical.not_not.mp hz5
      have hcd := hc1.zero h50
      obtain ⟨⟨s9, es9, hs9⟩, hp6⟩ := hq2 hcd
      subst es9
      refine lv_aload_n hx hb dL_law_1424 rfl (lv_at hl 5 rfl) ?_
      refine g_getN (ci := 9) (v := .ref s9) (C := RX4) (T := TX4) (N := 5) hx hb hts in_X4 hown hK hW ho4 rfl 2 (by decide) (nf_q468 hE) (fun _ h9 => h9) rfl dL_law_1425 ?_
      refine lv_aload hx hb dL_law_1428 (lv_at hl 0 rfl) ?_
      obtain ⟨v7s9, hr7s9, hb7s9⟩ := hs9.rd hts hK hE hW
      refine g_calli (va_runV (As := [.ref p6]) (rest := []) ⟨hx, hb, hml, hown, hts⟩ (mtJ16_equals l D u2 H.size s9 p6 (txt (mShr z.P (mCode z.P (digs (lTx (xs (i + 1))))) (sMs (digs (lTx (xs (i + 1)))) + 1) (digs (lTx (xs (i + 1))))).1) (txt (mShr z.P (mCode z.P (digs (lTx (xs (i + 1))))) (sMs (digs (lTx (xs (i + 1)))) + 1) (digs (lTx (xs (i + 1))))).1) hs9 hp6) (cwV 1 hts (lw_V q2213 q2214 q2215 q63 q2216) rfl rfl rfl (by decide +kernel) ⟨Nat.le_trans (Nat.le_of_ble_eq_true rfl) hRf, Nat.le_trans (Nat.le_of_ble_eq_true rfl) hRl⟩) (g_preVR hW hK hE hr7s9.2.2.2) rfl rfl hl.1 rfl (lv_room (Nat.le_of_ble_eq_true rfl)) dL_law_1430 ⟨?_, ?_⟩) hW (fun r_ u_ H locs hp hW => ?_)
      · (try simp only [headSpec]); omega
      · (try simp only [headSpec]); omega
      obtain ⟨er, rfl⟩ := hp
      subst er
      rw [if_pos (rfl : (txt (mShr z.P (mCode z.P (digs (lTx (xs (i + 1))))) (sMs (digs (lTx (xs (i + 1)))) + 1) (digs (lTx (xs (i + 1))))).1) = (txt (mShr z.P (mCode z.P (digs (lTx (xs (i + 1))))) (sMs (digs (lTx (xs (i + 1)))) + 1) (digs (lTx (xs (i + 1))))).1))]
      refine lv_if_ne (tgt := 1438) hx hb dL_law_1433 (by decide) (fun _ => ?_) (fun hz => absurd hz (by decide))
      refine lv_goto (tgt := 1835) hx hb dL_law_1438 (by decide) ?_
      exact kk _ _ _ _ _ H locs ls hMM.lR (by (try simp only [headSpec]); omega) (by (try simp only [headSpec]); omega) hW (lv_sub hl [2, 3, 4, 5, 6] rfl)
set_option maxHeartbeats 4000000 in
set_option maxRecDepth 100000 in
/-- the law: smallest -/
theorem lw_24 {p : Program} {l : Launch} {e : Env} {R : Room} {s : State} {m : MethodId} {args : Array Value} {below : List Frame} {meth : Method} {c : Code} {Q : State → Prop} {D : va_G} {A : Nat → Prop} (hx : p.tables.exec = Jvm.exec) (hb : c.code = cL_law) (hts : ∀ w ∈ lw_all, w.before args s = true) (hown : s.vm.findClass RX0 = some m.cls) (hK : va_K D gCl (gT D) s) (hE : g_Env D A s) (hml : c.maxLocals = 8) (hRf : 12 ≤ R.frames) (hRl : 261 ≤ R.locals) (hl9 : l.stackTraces = false) (b L : Nat) (xs : Nat → Int32) (hX : va_X b L xs s s.heap) (hbl : b < s.heap.size) (hbA : ¬ A b) (x y o i : Nat) (hi : i + 5 ≤ L) (hL : L ≤ 320) (z : yW) (hv : yV z) (hrn : z.rn ≤ 40 * i) (c0 s0 : Nat) (hRc : c0 + (8 + ((sFind z.P (xs (i + 1)) (octs 0 (xs (i + 2)).toNatClampNeg) (z.cp 9)).2 - z.cp 9) + (4 * ocN (xs (i + 2)) + 4)) ≤ R.cells) (hRs : s0 + (56 + 2 * ((sFind z.P (xs (i + 1)) (octs 0 (xs (i + 2)).toNatClampNeg) (z.cp 9)).2 - z.cp 9) + (27 * ocN (xs (i + 2)) + 27)) ≤ R.slots)
    (kk : ∀ (w2 : g_H) (l2 : Nat → Nat) (th2 : Int32) (cells slots : Nat) (H : Heap) (locs : List Loc) (ls : Array Slot), lR D w2 l2 x y o (sSml z (xs (i + 1)) (xs (i + 2))) th2 → cells ≤ c0 + (8 + ((sFind z.P (xs (i + 1)) (octs 0 (xs (i + 2)).toNatClampNeg) (z.cp 9)).2 - z.cp 9) + (4 * ocN (xs (i + 2)) + 4)) → slots ≤ s0 + (56 + 2 * ((sFind z.P (xs (i + 1)) (octs 0 (xs (i + 2)).toNatClampNeg) (z.cp 9)).2 - z.cp 9) + (27 * ocN (xs (i + 2)) + 27)) → g_W D A s.heap H locs w2 → lv_has ls 8 [(0, .ref b), (1, .ref x), (2, .ref y), (3, .ref o), (4, .int (nI i))] → W p l e R s m args below meth c H locs cells slots Q (F0 m 1835 ls [])) :
    ∀ (k : Nat) (w1 : g_H) (l1 : Nat → Nat) (th : Int32) (cells : Nat) (slots : Nat) (H : Heap) (locs : List Loc) (ls : Array Slot), 0 < k → lR D w1 l1 x y o z th → cells ≤ c0 → slots ≤ s0 → g_W D A s.heap H locs w1 → lv_has ls 8 [(0, .ref b), (1, .ref x), (2, .ref y), (3, .ref o), (4, .int (nI i))] → W p l e R s m args below meth c H locs cells slots Q (F0 m 1504 ls []) := by
  intro k
  induction k with
  | zero => intro w1 l1 th cells slots H locs ls hfuel hR hcl hsl hW hl; exact absurd hfuel (by omega)
  | succ k ih =>
    intro w1 l1 th cells slots H locs ls hfuel hR hcl hsl hW hl
    obtain ⟨n0, d0, s0v, v0, f0, hM0⟩ := hR.mid
    obtain ⟨⟨rf, hS⟩, ⟨mf, en, td, st, E, hZ⟩, ho, hlo, hmu⟩ := id hM0
    obtain ⟨hvA, hcv, hKd, hcK, hYI, ⟨hfq, hac, hP16, hC8⟩, hCd, hcp3, hfI, hrn0⟩ := id hv
    have hF16 := hfI.lt hP16
    have hK3 := hYI.q.2.2
    have htt := hYI.2.2.2
    have hdl : (z.K.drop z.fq).length = z.K.length - z.fq := List.length_drop
    refine lv_aload_n hx hb dL_law_1504 rfl (lv_at hl 1 rfl) ?_
    refine lv_aload_n hx hb dL_law_1505 rfl (lv_at hl 0 rfl) ?_
    refine lv_iload hx hb dL_law_1506 (lv_at hl 4 rfl) ?_
    refine lv_iconst (v := 1) hx hb dL_law_1508 (by decide) ?_
    refine lv_iadd hx hb dL_law_1509 ?_
    refine g_topi (y := nI (i + 1)) (nI_add i 1) ?_
    refine va_sld hx hb hX hbl hbA hW.2.2.1 (vp_in_nI (show i + 1 < L by omega) (by omega)) dL_law_1510 ?_
    rw [nI_clamp (show i + 1 < 2 ^ 31 by omega)]
    refine lv_aload_n hx hb dL_law_1511 rfl (lv_at hl 0 rfl) ?_
    refine lv_iload hx hb dL_law_1512 (lv_at hl 4 rfl) ?_
    refine lv_iconst (v := 2) hx hb dL_law_1514 (by decide) ?_
    refine lv_iadd hx hb dL_law_1515 ?_
    refine g_topi (y := nI (i + 2)) (nI_add i 2) ?_
    refine va_sld hx hb hX hbl hbA hW.2.2.1 (vp_in_nI (show i + 2 < L by omega) (by omega)) dL_law_1516 ?_
    rw [nI_clamp (show i + 2 < 2 ^ 31 by omega)]
    refine lv_aload_n hx hb dL_law_1517 rfl (lv_at hl 3 rfl) ?_
    refine g_calli (vx_runSW (hh := [(0, 10, 13, 110), (0, 10, 17, 130)]) (As := [.ref x, .int ((xs (i + 1))), .int ((xs (i + 2))), .ref o]) (rest := []) ⟨hx, hb, hml, hown, hts⟩ (mtX0_smallest l D w1 H.size hl9 l1 x z.ac z.rn z.tt rf z.P z.C z.A z.cov z.K (z.K.drop z.fq) z.F z.cp hS (xs (i + 1)) (xs (i + 2)) o n0 d0 s0v v0 f0 ho (fun r1 u1 hp => by obtain ⟨-, zs, s9, l9, -, -, -, -, -, hy9⟩ := hp; exact (l_oC ho hlo hy9).1)) (vx_cwSW 4 hts (lw_SW q1807 q1808 q33 q1809) rfl rfl rfl (by decide +kernel) ⟨Nat.le_trans (Nat.le_of_ble_eq_true rfl) hRf, Nat.le_trans (Nat.le_of_ble_eq_true rfl) hRl⟩) (g_preS hW hK hE) rfl rfl hl.1 rfl (lv_room (Nat.le_of_ble_eq_true rfl)) dL_law_1518 ⟨?_, ?_⟩) hW (fun r5 u1 H locs hp hW => ?_)
    · (try simp only [headSpec]); omega
    · (try simp only [headSpec]); omega
    have hC : ∃ l3 s1, lMid D u1 l3 x y o (sSml z (xs (i + 1)) (xs (i + 2))) z th n0 d0 s1 v0 f0 ∧ eR2 (0 ≤ (xs (i + 2)) ∧ (xs (i + 2)) ≤ 3) ((mFind z.P (xs (i + 1)) (octs 0 (xs (i + 2)).toNatClampNeg)) ≠ none) r5 ∧ (((0 ≤ (xs (i + 2)) ∧ (xs (i + 2)) ≤ 3) ∧ (mFind z.P (xs (i + 1)) (octs 0 (xs (i + 2)).toNatClampNeg)) ≠ none) → ∃ s9, s1 = some s9 ∧ g_Str D u1 s9 (txt ((mFind z.P (xs (i + 1)) (octs 0 (xs (i + 2)).toNatClampNeg)).getD []))) := by
      rcases hp with ⟨r1, u2, ⟨hin, zs, s9, l3, ez, es, -, hs, hS2, hy⟩, e, hr⟩ | ⟨E1, ⟨hE, hni, ew⟩ | ⟨hE, hin, ez, l3, hS2, hy⟩, hr⟩
      · rw [sFind_1] at ez
        have hN := hM0.cls hK (z2 := zCp z (sFind z.P (xs (i + 1)) (octs 0 (xs (i + 2)).toNatClampNeg) (z.cp 9)).2) ⟨rf, hS2⟩ hy
        exact ⟨_, _, by rw [show sSml z (xs (i + 1)) (xs (i + 2)) = zCp z (sFind z.P (xs (i + 1)) (octs 0 (xs (i + 2)).toNatClampNeg) (z.cp 9)).2 from if_pos hin]; exact hN.put e, Or.inl ⟨⟨hin, by rw [ez]; exact fun h => by cases h⟩, hr⟩, fun _ => ⟨s9, es, by rw [ez]; exact hN.strP hs e⟩⟩
      · subst ew
        exact ⟨l1, s0v, by rw [show sSml z (xs (i + 1)) (xs (i + 2)) = z from if_neg hni]; exact hM0, Or.inr (Or.inl ⟨hni, by rcases hr with h | h; exact h.2; exact absurd (hE.symm.trans h.1) (by decide)⟩), fun q => absurd q.1 hni⟩
      · rw [sFind_1] at ez
        exact ⟨_, s0v, by rw [show sSml z (xs (i + 1)) (xs (i + 2)) = zCp z (sFind z.P (xs (i + 1)) (octs 0 (xs (i + 2)).toNatClampNeg) (z.cp 9)).2 from if_pos hin]; exact hM0.cls hK (z2 := zCp z (sFind z.P (xs (i + 1)) (octs 0 (xs (i + 2)).toNatClampNeg) (z.cp 9)).2) ⟨rf, hS2⟩ hy, Or.inr (Or.inr ⟨⟨hin, fun h => h ez⟩, by rcases hr with h | h; exact absurd (hE.symm.trans h.1) (by decide); exact h.2⟩), fun q => absurd ez q.2⟩
    obtain ⟨l3, s1, hM1, hc1, hq1⟩ := hC
    obtain ⟨⟨rf3, hS3⟩, ⟨mf3, en3, td3, st3, E3, hZ3⟩, ho3, hlo3, hmu3⟩ := id hM1
    refine lv_istore (lv' := [(5, .int (r5)), (0, .ref b), (1, .ref x), (2, .ref y), (3, .ref o), (4, .int (nI i))]) hx hb dL_law_1521 hl (by decide) rfl (fun ls hl => ?_)
    refine lv_aload_n hx hb dL_law_1523 rfl (lv_at hl 3 rfl) ?_
    refine lv_aload_n hx hb dL_law_1524 rfl (lv_at hl 1 rfl) ?_
    refine lv_iload hx hb dL_law_1525 (lv_at hl 5 rfl) ?_
    refine lv_iconst (v := 1) hx hb dL_law_1527 (by decide) ?_
    refine lv_iadd hx hb dL_law_1528 ?_
    refine g_topi (y := nI (i + 1)) (nI_add i 1) ?_
    refine va_sld hx hb hX hbl hbA hW.2.2.1 (vp_in_nI (show i + 1 < L by omega) (by omega)) dL_law_1529 ?_
    rw [nI_clamp (show i + 1 < 2 ^ 31 by omega)]
    refine lv_aload_n hx hb dL_law_1530 rfl (lv_at hl 1 rfl) ?_
    refine lv_iload hx hb dL_law_1531 (lv_at hl 5 rfl) ?_
    refine lv_iconst (v := 2) hx hb dL_law_1533 (by decide) ?_
    refine lv_iadd hx hb dL_law_1534 ?_
    refine g_topi (y := nI (i + 2)) (nI_add i 2) ?_
    refine va_sld hx hb hX hbl hbA hW.2.2.1 (vp_in_nI (show i + 2 < L by omega) (by omega)) dL_law_1535 ?_
    rw [nI_clamp (show i + 2 < 2 ^ 31 by omega)]
    refine g_callq (va_runV (As := [.int ((xs (i + 1))), .int ((xs (i + 2)))]) (rest := []) ⟨hx, hb, hml, hown, hts⟩ (mtX3_smallest l D u1 H.size y mf3 l3 z.P z.C z.A z.cov z.K z.fq z.ac z.F z.rn z.tt z.cK en3 td3 st3 E3 th hZ3 (xs (i + 1)) (xs (i + 2))) (cwV 2 hts (lw_V q2187 q2188 q2189 q47 q2190) rfl rfl rfl (by decide +kernel) ⟨Nat.le_trans (Nat.le_of_ble_eq_true rfl) hRf, Nat.le_trans (Nat.le_of_ble_eq_true rfl) hRl⟩) (g_preV hW hK hE hZ3.1 rfl) rfl rfl hl.1 rfl (lv_room (Nat.le_of_ble_eq_true rfl)) dL_law_1536 ⟨?_, ?_⟩) hW (fun r6 u2 H locs hp hW => ?_)
    · (try simp only [headSpec]); omega
    · (try simp only [headSpec]); omega
    have hC : ∃ l4 th2 p6, r6 = some p6 ∧ lMid D u2 l4 x y o (sSml z (xs (i + 1)) (xs (i + 2))) (sSml z (xs (i + 1)) (xs (i + 2))) th2 n0 d0 s1 v0 f0 ∧ eR2 (0 ≤ (xs (i + 2)) ∧ (xs (i + 2)) ≤ 3) ((mFind z.P (xs (i + 1)) (octs 0 (xs (i + 2)).toNatClampNeg)) ≠ none) th2 ∧ (((0 ≤ (xs (i + 2)) ∧ (xs (i + 2)) ≤ 3) ∧ (mFind z.P (xs (i + 1)) (octs 0 (xs (i + 2)).toNatClampNeg)) ≠ none) → (∃ s9, s1 = some s9 ∧ g_Str D u2 s9 (txt ((mFind z.P (xs (i + 1)) (octs 0 (xs (i + 2)).toNatClampNeg)).getD []))) ∧ g_Str D u2 p6 (txt ((mFind z.P (xs (i + 1)) (octs 0 (xs (i + 2)).toNatClampNeg)).getD []))) := by
      obtain ⟨s9, th9, e6, ⟨en9, td9, st9, E9, hZ9⟩, hz9, hor⟩ := hp
      rcases hor with ⟨hni, et⟩ | ⟨hin, ez, et⟩ | ⟨hin, zs, ez, et, hs⟩
      · exact ⟨_, _, s9, e6, by rw [show sSml z (xs (i + 1)) (xs (i + 2)) = z from if_neg hni] at hM1 ⊢; exact hM1.mod hK ⟨_, _, _, _, _, hZ9⟩ hz9, Or.inr (Or.inl ⟨hni, et⟩), fun q => absurd q.1 hni⟩
      · exact ⟨_, _, s9, e6, by rw [show sSml z (xs (i + 1)) (xs (i + 2)) = zCp z (sFind z.P (xs (i + 1)) (octs 0 (xs (i + 2)).toNatClampNeg) (z.cp 9)).2 from if_pos hin] at hM1 ⊢; exact hM1.mod hK (z2 := zCp z (sFind z.P (xs (i + 1)) (octs 0 (xs (i + 2)).toNatClampNeg) (z.cp 9)).2) ⟨_, _, _, _, _, hZ9⟩ hz9, Or.inr (Or.inr ⟨⟨hin, fun h => h ez⟩, et⟩), fun q => absurd ez q.2⟩
      · exact ⟨_, _, s9, e6, by rw [show sSml z (xs (i + 1)) (xs (i + 2)) = zCp z (sFind z.P (xs (i + 1)) (octs 0 (xs (i + 2)).toNatClampNeg) (z.cp 9)).2 from if_pos hin] at hM1 ⊢; exact hM1.mod hK (z2 := zCp z (sFind z.P (xs (i + 1)) (octs 0 (xs (i + 2)).toNatClampNeg) (z.cp 9)).2) ⟨_, _, _, _, _, hZ9⟩ hz9, Or.inl ⟨⟨hin, by rw [ez]; exact fun h => by cases h⟩, et⟩, fun q => ⟨(hq1 q).imp (fun s9 h => ⟨h.1, hM1.strM h.2 hz9⟩), by rw [ez]; exact hs⟩⟩
    obtain ⟨l4, th2, p6, er6, hMM, hc2, hq2⟩ := hC
    subst er6
    have hag : r5 = th2 ∧ True := ⟨hc1.eq hc2, trivial⟩
    obtain ⟨⟨rf4, hS4⟩, ⟨mf4, en4, td4, st4, E4, hZ4⟩, ho4, hlo4, hmu4⟩ := id hMM
    refine lv_astore (lv' := [(6, .ref p6), (5, .int (r5)), (0, .ref b), (1, .ref x), (2, .ref y), (3, .ref o), (4, .int (nI i))]) hx hb dL_law_1539 hl (by decide) rfl (fun ls hl => ?_)
    refine lv_aload_n hx hb dL_law_1541 rfl (lv_at hl 4 rfl) ?_
    refine g_calli (va_runV (As := []) (rest := []) ⟨hx, hb, hml, hown, hts⟩ (mtX3_thrown l D u2 H.size y mf4 l4 (sSml z (xs (i + 1)) (xs (i + 2))).P (sSml z (xs (i + 1)) (xs (i + 2))).C (sSml z (xs (i + 1)) (xs (i + 2))).A (sSml z (xs (i + 1)) (xs (i + 2))).cov (sSml z (xs (i + 1)) (xs (i + 2))).K (sSml z (xs (i + 1)) (xs (i + 2))).fq (sSml z (xs (i + 1)) (xs (i + 2))).ac (sSml z (xs (i + 1)) (xs (i + 2))).F (sSml z (xs (i + 1)) (xs (i + 2))).rn (sSml z (xs (i + 1)) (xs (i + 2))).tt (sSml z (xs (i + 1)) (xs (i + 2))).cK en4 td4 st4 E4 th2 hZ4) (cwV 0 hts (lw_V q1970 q1971 q1972 q47 q1973) rfl rfl rfl (by decide +kernel) ⟨Nat.le_trans (Nat.le_of_ble_eq_true rfl) hRf, Nat.le_trans (Nat.le_of_ble_eq_true rfl) hRl⟩) (g_preV hW hK hE hZ4.1 rfl) rfl rfl hl.1 rfl (lv_room (Nat.le_of_ble_eq_true rfl)) dL_law_1542 ⟨?_, ?_⟩) hW (fun r_ u_ H locs hp hW => ?_)
    · (try simp only [headSpec]); omega
    · (try simp only [headSpec]); omega
    obtain ⟨er, rfl⟩ := hp
    rw [er]
    refine lv_iload hx hb dL_law_1545 (lv_at hl 1 rfl) ?_
    refine lv_icmp_eq (tgt := 1552) hx hb dL_law_1547 (by decide) (fun _ => ?_) (fun hz => absurd hag.1.symm hz)
    refine lv_iload hx hb dL_law_1552 (lv_at hl 1 rfl) ?_
    refine lv_if_ne (tgt := 1571) hx hb dL_law_1554 (by decide) (fun hz5 => ?_) (fun hz5 => ?_)
    · refine lv_goto (tgt := 1835) hx hb dL_law_1571 (by decide) ?_
      exact kk _ _ _ _ _ H locs ls hMM.lR (by (try simp only [headSpec]); omega) (by (try simp only [headSpec]); omega) hW (lv_sub hl [2, 3, 4, 5, 6] rfl)
    · have h50 : r5 = 0 := by first | exact hz5 | exact Classical.not_not.mp hz5
      have hcd := hc1.zero h50
      obtain ⟨⟨s9, es9, hs9⟩, hp6⟩ := hq2 hcd
      subst es9
      refine lv_aload_n hx hb dL_law_1557 rfl (lv_at hl 5 rfl) ?_
      refine g_getN (ci := 9) (v := .ref s9) (C := RX4) (T := TX4) (N := 5) hx hb hts in_X4 hown hK hW ho4 rfl 2 (by decide) (nf_q468 hE) (fun _ h9 => h9) rfl dL_law_1558 ?_
      refine lv_aload hx hb dL_law_1561 (lv_at hl 0 rfl) ?_
      obtain ⟨v7s9, hr7s9, hb7s9⟩ := hs9.rd hts hK hE hW
      refine g_calli (va_runV (As := [.ref p6]) (rest := []) ⟨hx, hb, hml, hown, hts⟩ (mtJ16_equals l D u2 H.size s9 p6 (txt ((mFind z.P (xs (i + 1)) (octs 0 (xs (i + 2)).toNatClampNeg)).getD [])) (txt ((mFind z.P (xs (i + 1)) (octs 0 (xs (i + 2)).toNatClampNeg)).getD [])) hs9 hp6) (cwV 1 hts (lw_V q2213 q2214 q2215 q63 q2216) rfl rfl rfl (by decide +kernel) ⟨Nat.le_trans (Nat.le_of_ble_eq_true rfl) hRf, Nat.le_trans (Nat.le_of_ble_eq_true rfl) hRl⟩) (g_preVR hW hK hE hr7s9.2.2.2) rfl rfl hl.1 rfl (lv_room (Nat.le_of_ble_eq_true rfl)) dL_law_1563 ⟨?_, ?_⟩) hW (fun r_ u_ H locs hp hW => ?_)
      · (try simp only [headSpec]); omega
      · (try simp only [headSpec]); omega
      obtain ⟨er, rfl⟩ := hp
      subst er
      rw [if_pos (rfl : (txt ((mFind z.P (xs (i + 1)) (octs 0 (xs (i + 2)).toNatClampNeg)).getD [])) = (txt ((mFind z.P (xs (i + 1)) (octs 0 (xs (i + 2)).toNatClampNeg)).getD [])))]
      refine lv_if_ne (tgt := 1571) hx hb dL_law_1566 (by decide) (fun _ => ?_) (fun hz => absurd hz (by decide))
      refine lv_goto (tgt := 1835) hx hb dL_law_1571 (by decide) ?_
      exact kk _ _ _ _ _ H locs ls hMM.lR (by (try simp only [headSpec]); omega) (by (try simp only [headSpec]); omega) hW (lv_sub hl [2, 3, 4, 5, 6] rfl)
