/-! the law's cases: findings, floats, add *
-/
set_option maxRecDepth 100000
theorem mz_sum {D : va_G} {w : g_H} {y : Nat} {mf lab : Nat → Nat} {P : List mI} {C : List yC} {A9 : Nat → List (List Nat)} {cov : Nat → Bool} {K : List (List Nat)} {fq ac : Nat} {F : List yF} {rn tt cK : Nat} {en td st : Int32} {E : Nat → Bool} {th : Int32} (hZ : g_MZ D w lab y mf P C A9 cov K fq ac F rn tt cK en td st E th) : sSum F ≤ 1000 * F.length := by
  obtain ⟨hy, -, -, -, -, -, -, -, hF0, hb9⟩ := hZ
  obtain ⟨f23, f24, f25, a23, a24, a25, hF16, hf4⟩ := hF0
  exact sSum_le (fun f hf => by obtain ⟨j, hj, e⟩ := List.mem_iff_getElem.mp hf; obtain ⟨-, ⟨z, -, hz⟩, -⟩ := hf4 j hj; rw [List.getD_eq_getElem?_getD, List.getElem?_eq_getElem hj] at hz; rw [← e]; exact hz.1.1)
set_option maxHeartbeats 4000000 in
set_option maxRecDepth 100000 in
/-- the law: findingAt -/
theorem lw_16 {p : Program} {l : Launch} {e : Env} {R : Room} {s : State} {m : MethodId} {args : Array Value} {below : List Frame} {meth : Method} {c : Code} {Q : State → Prop} {D : va_G} {A : Nat → Prop} (hx : p.tables.exec = Jvm.exec) (hb : c.code = cL_law) (hts : ∀ w ∈ lw_all, w.before args s = true) (hown : s.vm.findClass RX0 = some m.cls) (hK : va_K D gCl (gT D) s) (hE : g_Env D A s) (hml : c.maxLocals = 8) (hRf : 11 ≤ R.frames) (hRl : 175 ≤ R.locals) (hl9 : l.stackTraces = false) (b L : Nat) (xs : Nat → Int32) (hX : va_X b L xs s s.heap) (hbl : b < s.heap.size) (hbA : ¬ A b) (x y o i : Nat) (hi : i + 5 ≤ L) (hL : L ≤ 320) (z : yW) (hv : yV z) (hrn : z.rn ≤ 40 * i) (c0 s0 : Nat) (hRc : c0 + (1 + 1) ≤ R.cells) (hRs : s0 + (6 + 6) ≤ R.slots)
    (kk : ∀ (w2 : g_H) (l2 : Nat → Nat) (th2 : Int32) (cells slots : Nat) (H : Heap) (locs : List Loc) (ls : Array Slot), lR D w2 l2 x y o (z) th2 → cells ≤ c0 + (1 + 1) → slots ≤ s0 + (6 + 6) → g_W D A s.heap H locs w2 → lv_has ls 8 [(0, .ref b), (1, .ref x), (2, .ref y), (3, .ref o), (4, .int (nI i))] → W p l e R s m args below meth c H locs cells slots Q (F0 m 1835 ls [])) :
    ∀ (k : Nat) (w1 : g_H) (l1 : Nat → Nat) (th : Int32) (cells : Nat) (slots : Nat) (H : Heap) (locs : List Loc) (ls : Array Slot), 0 < k → lR D w1 l1 x y o z th → cells ≤ c0 → slots ≤ s0 → g_W D A s.heap H locs w1 → lv_has ls 8 [(0, .ref b), (1, .ref x), (2, .ref y), (3, .ref o), (4, .int (nI i))] → W p l e R s m args below meth c H locs cells slots Q (F0 m 924 ls []) := by
  intro k
  induction k with
  | zero => intro w1 l1 th cells slots H locs ls hfuel hR hcl hsl hW hl; exact absurd hfuel (by omega)
  | succ k ih =>
    intro w1 l1 th cells slots H locs ls hfuel hR hcl hsl hW hl
    obtain ⟨n0, d0, s0v, v0, f0, hM0⟩ := hR.mid
    obtain ⟨⟨rf, hS⟩, ⟨mf, en, td, st, E, hZ⟩, ho, hlo, hmu⟩ := id hM0
    obtain ⟨hvA, hcv, hKd, hcK, hYI, ⟨hfq, hac, hP16, hC8⟩, hCd, hcp3, hfI, hrn0⟩ := id hv
    have hF16 := hfI.lt hP16
    have hK3 := hYI.q.2.2
    have htt := hYI.2.2.2
    have hdl : (z.K.drop z.fq).length = z.K.length - z.fq := List.length_drop
    refine lv_aload_n hx hb dL_law_924 rfl (lv_at hl 1 rfl) ?_
    refine lv_aload_n hx hb dL_law_925 rfl (lv_at hl 0 rfl) ?_
    refine lv_iload hx hb dL_law_926 (lv_at hl 4 rfl) ?_
    refine lv_iconst (v := 1) hx hb dL_law_928 (by decide) ?_
    refine lv_iadd hx hb dL_law_929 ?_
    refine g_topi (y := nI (i + 1)) (nI_add i 1) ?_
    refine va_sld hx hb hX hbl hbA hW.2.2.1 (vp_in_nI (show i + 1 < L by omega) (by omega)) dL_law_930 ?_
    rw [nI_clamp (show i + 1 < 2 ^ 31 by omega)]
    refine lv_aload_n hx hb dL_law_931 rfl (lv_at hl 3 rfl) ?_
    refine g_calli (vx_runSW (hh := [(0, 9, 12, 150)]) (As := [.ref x, .int ((xs (i + 1))), .ref o]) (rest := []) ⟨hx, hb, hml, hown, hts⟩ (mtX0_findingAt l D w1 H.size hl9 l1 x z.fq z.ac z.rn z.tt z.P z.C z.A z.cov z.K z.F z.cp (hS.sy hfq) (xs (i + 1)) o n0 d0 s0v v0 f0 ho (fun r1 u1 hp => by obtain ⟨-, -, ew⟩ := hp; subst ew; exact ho)) (vx_cwSW 3 hts (lw_SW q1747 q1748 q33 q1749) rfl rfl rfl (by decide +kernel) ⟨Nat.le_trans (Nat.le_of_ble_eq_true rfl) hRf, Nat.le_trans (Nat.le_of_ble_eq_true rfl) hRl⟩) (g_preS hW hK hE) rfl rfl hl.1 rfl (lv_room (Nat.le_of_ble_eq_true rfl)) dL_law_932 ⟨?_, ?_⟩) hW (fun r5 u1 H locs hp hW => ?_)
    · (try simp only [headSpec]); omega
    · (try simp only [headSpec]); omega
    have hC : ∃ l3 s1, lMid D u1 l3 x y o (z) z th n0 d0 s0v v0 s1 ∧ eR1 (¬ (xs (i + 1)) < 0 ∧ (xs (i + 1)) < nI z.F.length) r5 ∧ ((¬ (xs (i + 1)) < 0 ∧ (xs (i + 1)) < nI z.F.length) → ∃ s9, s1 = some s9 ∧ g_Fins D u1 [s9] [(z.F.getD (xs (i + 1)).toNatClampNeg ([], [], 0))]) := by
      rcases hp with ⟨r1, u2, ⟨hin, ⟨s9, es, hs⟩, ew⟩, e, hr⟩ | ⟨E1, ⟨-, hni, ew⟩, hr⟩
      · subst ew; exact ⟨l1, _, hM0.put e, Or.inl ⟨hin, hr⟩, fun _ => ⟨s9, es, hM0.finP hs e⟩⟩
      · subst ew; exact ⟨l1, f0, hM0, Or.inr ⟨hni, hr.2⟩, fun q => absurd q hni⟩
    obtain ⟨l3, s1, hM1, hc1, hq1⟩ := hC
    obtain ⟨⟨rf3, hS3⟩, ⟨mf3, en3, td3, st3, E3, hZ3⟩, ho3, hlo3, hmu3⟩ := id hM1
    refine lv_istore (lv' := [(5, .int (r5)), (0, .ref b), (1, .ref x), (2, .ref y), (3, .ref o), (4, .int (nI i))]) hx hb dL_law_935 hl (by decide) rfl (fun ls hl => ?_)
    refine lv_aload_n hx hb dL_law_937 rfl (lv_at hl 3 rfl) ?_
    refine lv_aload_n hx hb dL_law_938 rfl (lv_at hl 1 rfl) ?_
    refine lv_iload hx hb dL_law_939 (lv_at hl 5 rfl) ?_
    refine lv_iconst (v := 1) hx hb dL_law_941 (by decide) ?_
    refine lv_iadd hx hb dL_law_942 ?_
    refine g_topi (y := nI (i + 1)) (nI_add i 1) ?_
    refine va_sld hx hb hX hbl hbA hW.2.2.1 (vp_in_nI (show i + 1 < L by omega) (by omega)) dL_law_943 ?_
    rw [nI_clamp (show i + 1 < 2 ^ 31 by omega)]
    refine g_callq (va_runV (As := [.int ((xs (i + 1)))]) (rest := []) ⟨hx, hb, hml, hown, hts⟩ (mtX3_findingAt l D u1 H.size y mf3 l3 z.P z.C z.A z.cov z.K z.fq z.ac z.F z.rn z.tt z.cK en3 td3 st3 E3 th hZ3 (xs (i + 1))) (cwV 1 hts (lw_V q2143 q2144 q2145 q47 q2146) rfl rfl rfl (by decide +kernel) ⟨Nat.le_trans (Nat.le_of_ble_eq_true rfl) hRf, Nat.le_trans (Nat.le_of_ble_eq_true rfl) hRl⟩) (g_preV hW hK hE hZ3.1 rfl) rfl rfl hl.1 rfl (lv_room (Nat.le_of_ble_eq_true rfl)) dL_law_944 ⟨?_, ?_⟩) hW (fun r6 u2 H locs hp hW => ?_)
    · (try simp only [headSpec]); omega
    · (try simp only [headSpec]); omega
    have hC : ∃ l4 th2 p6, r6 = some p6 ∧ lMid D u2 l4 x y o (z) (z) th2 n0 d0 s0v v0 s1 ∧ eR1 (¬ (xs (i + 1)) < 0 ∧ (xs (i + 1)) < nI z.F.length) th2 ∧ ((¬ (xs (i + 1)) < 0 ∧ (xs (i + 1)) < nI z.F.length) → (∃ s9, s1 = some s9 ∧ g_Fins D u2 [s9] [(z.F.getD (xs (i + 1)).toNatClampNeg ([], [], 0))]) ∧ g_Fins D u2 [p6] [(z.F.getD (xs (i + 1)).toNatClampNeg ([], [], 0))]) := by
      obtain ⟨⟨s9, e6, hs⟩, hZ9, hz9⟩ := hp
      by_cases hin : (¬ (xs (i + 1)) < 0 ∧ (xs (i + 1)) < nI z.F.length)
      · rw [if_pos hin] at hZ9; exact ⟨_, 0, s9, e6, hM1.mod hK ⟨_, _, _, _, _, hZ9⟩ hz9, Or.inl ⟨hin, rfl⟩, fun q => ⟨(hq1 q).imp (fun s9 h => ⟨h.1, hM1.finM h.2 hz9⟩), hs q⟩⟩
      · rw [if_neg hin] at hZ9; exact ⟨_, 1, s9, e6, hM1.mod hK ⟨_, _, _, _, _, hZ9⟩ hz9, Or.inr ⟨hin, rfl⟩, fun q => absurd q hin⟩
    obtain ⟨l4, th2, p6, er6, hMM, hc2, hq2⟩ := hC
    subst er6
    have hag : r5 = th2 ∧ True := ⟨hc1.eq hc2, trivial⟩
    obtain ⟨⟨rf4, hS4⟩, ⟨mf4, en4, td4, st4, E4, hZ4⟩, ho4, hlo4, hmu4⟩ := id hMM
    refine lv_astore (lv' := [(6, .ref p6), (5, .int (r5)), (0, .ref b), (1, .ref x), (2, .ref y), (3, .ref o), (4, .int (nI i))]) hx hb dL_law_947 hl (by decide) rfl (fun ls hl => ?_)
    refine lv_aload_n hx hb dL_law_949 rfl (lv_at hl 4 rfl) ?_
    refine g_calli (va_runV (As := []) (rest := []) ⟨hx, hb, hml, hown, hts⟩ (mtX3_thrown l D u2 H.size y mf4 l4 (z).P (z).C (z).A (z).cov (z).K (z).fq (z).ac (z).F (z).rn (z).tt (z).cK en4 td4 st4 E4 th2 hZ4) (cwV 0 hts (lw_V q1970 q1971 q1972 q47 q1973) rfl rfl rfl (by decide +kernel) ⟨Nat.le_trans (Nat.le_of_ble_eq_true rfl) hRf, Nat.le_trans (Nat.le_of_ble_eq_true rfl) hRl⟩) (g_preV hW hK hE hZ4.1 rfl) rfl rfl hl.1 rfl (lv_room (Nat.le_of_ble_eq_true rfl)) dL_law_950 ⟨?_, ?_⟩) hW (fun r_ u_ H locs hp hW => ?_)
    · (try simp only [headSpec]); omega
    · (try simp only [headSpec]); omega
    obtain ⟨er, rfl⟩ := hp
    rw [er]
    refine lv_iload hx hb dL_law_953 (lv_at hl 1 rfl) ?_
    refine lv_icmp_eq (tgt := 960) hx hb dL_law_955 (by decide) (fun _ => ?_) (fun hz => absurd hag.1.symm hz)
    refine lv_iload hx hb dL_law_960 (lv_at hl 1 rfl) ?_
    refine lv_if_ne (tgt := 1018) hx hb dL_law_962 (by decide) (fun hz5 => ?_) (fun hz5 => ?_)
    · refine lv_goto (tgt := 1835) hx hb dL_law_1018 (by decide) ?_
      exact kk _ _ _ _ _ H locs ls hMM.lR (by (try simp only [headSpec]); omega) (by (try simp only [headSpec]); omega) hW (lv_sub hl [2, 3, 4, 5, 6] rfl)
    · have h50 : r5 = 0 := by first | exact hz5 | exact Classical.not_not.mp hz5
      have hcd := hc1.zero h50
      obtain ⟨⟨s9, es9, hf9⟩, hf6⟩ := hq2 hcd
      subst es9
      obtain ⟨a9, b9, g9, ga9, gb9⟩ := hf9.2 0 (by decide : 0 < 1)
      have g9 : g_at u2 s9 (.inr (8, [.ref a9, .ref b9, .int (z.F.getD (xs (i + 1)).toNatClampNeg ([], [], 0)).2.2])) := g9
      have ga9 : g_Str D u2 a9 (z.F.getD (xs (i + 1)).toNatClampNeg ([], [], 0)).1 := ga9
      have gb9 : g_Str D u2 b9 (z.F.getD (xs (i + 1)).toNatClampNeg ([], [], 0)).2.1 := gb9
      obtain ⟨a6, b6, g6, ga6, gb6⟩ := hf6.2 0 (by decide : 0 < 1)
      have g6 : g_at u2 p6 (.inr (8, [.ref a6, .ref b6, .int (z.F.getD (xs (i + 1)).toNatClampNeg ([], [], 0)).2.2])) := g6
      have ga6 : g_Str D u2 a6 (z.F.getD (xs (i + 1)).toNatClampNeg ([], [], 0)).1 := ga6
      have gb6 : g_Str D u2 b6 (z.F.getD (xs (i + 1)).toNatClampNeg ([], [], 0)).2.1 := gb6
      refine lv_aload_n hx hb dL_law_965 rfl (lv_at hl 5 rfl) ?_
      refine g_getN (ci := 9) (v := .ref s9) (C := RX4) (T := TX4) (N := 5) hx hb hts in_X4 hown hK hW ho4 rfl 4 (by decide) (nf_q470 hE) (fun _ h9 => h9) rfl dL_law_966 ?_
      refine g_callq (va_runV (As := []) (rest := []) ⟨hx, hb, hml, hown, hts⟩ (mtX12_input l D u2 H.size s9 a9 b9 (z.F.getD (xs (i + 1)).toNatClampNeg ([], [], 0)).2.2 g9) (cwV 0 hts (lw_V q86 q87 q88 q83 q89) rfl rfl rfl (by decide +kernel) ⟨Nat.le_trans (Nat.le_of_ble_eq_true rfl) hRf, Nat.le_trans (Nat.le_of_ble_eq_true rfl) hRl⟩) (g_preV hW hK hE g9 rfl) rfl rfl hl.1 rfl (lv_room (Nat.le_of_ble_eq_true rfl)) dL_law_969 ⟨?_, ?_⟩) hW (fun r_ u_ H locs hp hW => ?_)
      · (try simp only [headSpec]); omega
      · (try simp only [headSpec]); omega
      obtain ⟨er, rfl⟩ := hp
      subst er
      refine lv_aload hx hb dL_law_972 (lv_at hl 0 rfl) ?_
      refine g_callq (va_runV (As := []) (rest := [.ref a9]) ⟨hx, hb, hml, hown, hts⟩ (mtX12_input l D u2 H.size p6 a6 b6 (z.F.getD (xs (i + 1)).toNatClampNeg ([], [], 0)).2.2 g6) (cwV 0 hts (lw_V q86 q87 q88 q83 q89) rfl rfl rfl (by decide +kernel) ⟨Nat.le_trans (Nat.le_of_ble_eq_true rfl) hRf, Nat.le_trans (Nat.le_of_ble_eq_true rfl) hRl⟩) (g_preV hW hK hE g6 rfl) rfl rfl hl.1 rfl (lv_room (Nat.le_of_ble_eq_true rfl)) dL_law_974 ⟨?_, ?_⟩) hW (fun r_ u_ H locs hp hW => ?_)
      · (try simp only [headSpec]); omega
      · (try simp only [headSpec]); omega
      obtain ⟨er, rfl⟩ := hp
      subst er
      obtain ⟨v7a9, hr7a9, hb7a9⟩ := ga9.rd hts hK hE hW
      refine g_calli (va_runV (As := [.ref a6]) (rest := []) ⟨hx, hb, hml, hown, hts⟩ (mtJ16_equals l D u2 H.size a9 a6 ((z.F.getD (xs (i + 1)).toNatClampNeg ([], [], 0)).1) ((z.F.getD (xs (i + 1)).toNatClampNeg ([], [], 0)).1) ga9 ga6) (cwV 1 hts (lw_V q2213 q2214 q2215 q63 q2216) rfl rfl rfl (by decide +kernel) ⟨Nat.le_trans (Nat.le_of_ble_eq_true rfl) hRf, Nat.le_trans (Nat.le_of_ble_eq_true rfl) hRl⟩) (g_preVR hW hK hE hr7a9.2.2.2) rfl rfl hl.1 rfl (lv_room (Nat.le_of_ble_eq_true rfl)) dL_law_977 ⟨?_, ?_⟩) hW (fun r_ u_ H locs hp hW => ?_)
      · (try simp only [headSpec]); omega
      · (try simp only [headSpec]); omega
      obtain ⟨er, rfl⟩ := hp
      subst er
      rw [if_pos (rfl : ((z.F.getD (xs (i + 1)).toNatClampNeg ([], [], 0)).1) = ((z.F.getD (xs (i + 1)).toNatClampNeg ([], [], 0)).1))]
      refine lv_if_eq (tgt := 1016) hx hb dL_law_980 (by decide) (fun hz => absurd hz (by decide)) (fun _ => ?_)
      refine lv_aload_n hx hb dL_law_983 rfl (lv_at hl 5 rfl) ?_
      refine g_getN (ci := 9) (v := .ref s9) (C := RX4) (T := TX4) (N := 5) hx hb hts in_X4 hown hK hW ho4 rfl 4 (by decide) (nf_q470 hE) (fun _ h9 => h9) rfl dL_law_984 ?_
      refine g_callq (va_runV (As := []) (rest := []) ⟨hx, hb, hml, hown, hts⟩ (mtX12_shrunk l D u2 H.size s9 a9 b9 (z.F.getD (xs (i + 1)).toNatClampNeg ([], [], 0)).2.2 g9) (cwV 0 hts (lw_V q90 q91 q92 q83 q93) rfl rfl rfl (by decide +kernel) ⟨Nat.le_trans (Nat.le_of_ble_eq_true rfl) hRf, Nat.le_trans (Nat.le_of_ble_eq_true rfl) hRl⟩) (g_preV hW hK hE g9 rfl) rfl rfl hl.1 rfl (lv_room (Nat.le_of_ble_eq_true rfl)) dL_law_987 ⟨?_, ?_⟩) hW (fun r_ u_ H locs hp hW => ?_)
      · (try simp only [headSpec]); omega
      · (try simp only [headSpec]); omega
      obtain ⟨er, rfl⟩ := hp
      subst er
      refine lv_aload hx hb dL_law_990 (lv_at hl 0 rfl) ?_
      refine g_callq (va_runV (As := []) (rest := [.ref b9]) ⟨hx, hb, hml, hown, hts⟩ (mtX12_shrunk l D u2 H.size p6 a6 b6 (z.F.getD (xs (i + 1)).toNatClampNeg ([], [], 0)).2.2 g6) (cwV 0 hts (lw_V q90 q91 q92 q83 q93) rfl rfl rfl (by decide +kernel) ⟨Nat.le_trans (Nat.le_of_ble_eq_true rfl) hRf, Nat.le_trans (Nat.le_of_ble_eq_true rfl) hRl⟩) (g_preV hW hK hE g6 rfl) rfl rfl hl.1 rfl (lv_room (Nat.le_of_ble_eq_true rfl)) dL_law_992 ⟨?_, ?_⟩) hW (fun r_ u_ H locs hp hW => ?_)
      · (try simp only [headSpec]); omega
      · (try simp only [headSpec]); omega
      obtain ⟨er, rfl⟩ := hp
      subst er
      obtain ⟨v7b9, hr7b9, hb7b9⟩ := gb9.rd hts hK hE hW
      refine g_calli (va_runV (As := [.ref b6]) (rest := []) ⟨hx, hb, hml, hown, hts⟩ (mtJ16_equals l D u2 H.size b9 b6 ((z.F.getD (xs (i + 1)).toNatClampNeg ([], [], 0)).2.1) ((z.F.getD (xs (i + 1)).toNatClampNeg ([], [], 0)).2.1) gb9 gb6) (cwV 1 hts (lw_V q2213 q2214 q2215 q63 q2216) rfl rfl rfl (by decide +kernel) ⟨Nat.le_trans (Nat.le_of_ble_eq_true rfl) hRf, Nat.le_trans (Nat.le_of_ble_eq_true rfl) hRl⟩) (g_preVR hW hK hE hr7b9.2.2.2) rfl rfl hl.1 rfl (lv_room (Nat.le_of_ble_eq_true rfl)) dL_law_995 ⟨?_, ?_⟩) hW (fun r_ u_ H locs hp hW => ?_)
      · (try simp only [headSpec]); omega
      · (try simp only [headSpec]); omega
      obtain ⟨er, rfl⟩ := hp
      subst er
      rw [if_pos (rfl : ((z.F.getD (xs (i + 1)).toNatClampNeg ([], [], 0)).2.1) = ((z.F.getD (xs (i + 1)).toNatClampNeg ([], [], 0)).2.1))]
      refine lv_if_eq (tgt := 1016) hx hb dL_law_998 (by decide) (fun hz => absurd hz (by decide)) (fun _ => ?_)
      refine lv_aload_n hx hb dL_law_1001 rfl (lv_at hl 5 rfl) ?_
      refine g_getN (ci := 9) (v := .ref s9) (C := RX4) (T := TX4) (N := 5) hx hb hts in_X4 hown hK hW ho4 rfl 4 (by decide) (nf_q470 hE) (fun _ h9 => h9) rfl dL_law_1002 ?_
      refine g_calli (va_runV (As := []) (rest := []) ⟨hx, hb, hml, hown, hts⟩ (mtX12_code l D u2 H.size s9 a9 b9 (z.F.getD (xs (i + 1)).toNatClampNeg ([], [], 0)).2.2 g9) (cwV 0 hts (lw_V q94 q95 q96 q83 q97) rfl rfl rfl (by decide +kernel) ⟨Nat.le_trans (Nat.le_of_ble_eq_true rfl) hRf, Nat.le_trans (Nat.le_of_ble_eq_true rfl) hRl⟩) (g_preV hW hK hE g9 rfl) rfl rfl hl.1 rfl (lv_room (Nat.le_of_ble_eq_true rfl)) dL_law_1005 ⟨?_, ?_⟩) hW (fun r_ u_ H locs hp hW => ?_)
      · (try simp only [headSpec]); omega
      · (try simp only [headSpec]); omega
      obtain ⟨er, rfl⟩ := hp
      subst er
      refine lv_aload hx hb dL_law_1008 (lv_at hl 0 rfl) ?_
      refine g_calli (va_runV (As := []) (rest := [.int (((z.F.getD (xs (i + 1)).toNatClampNeg ([], [], 0)).2.2))]) ⟨hx, hb, hml, hown, hts⟩ (mtX12_code l D u2 H.size p6 a6 b6 (z.F.getD (xs (i + 1)).toNatClampNeg ([], [], 0)).2.2 g6) (cwV 0 hts (lw_V q94 q95 q96 q83 q97) rfl rfl rfl (by decide +kernel) ⟨Nat.le_trans (Nat.le_of_ble_eq_true rfl) hRf, Nat.le_trans (Nat.le_of_ble_eq_true rfl) hRl⟩) (g_preV hW hK hE g6 rfl) rfl rfl hl.1 rfl (lv_room (Nat.le_of_ble_eq_true rfl)) dL_law_1010 ⟨?_, ?_⟩) hW (fun r_ u_ H locs hp hW => ?_)
      · (try simp only [headSpec]); omega
      · (try simp only [headSpec]); omega
      obtain ⟨er, rfl⟩ := hp
      subst er
      refine lv_icmp_eq (tgt := 1018) hx hb dL_law_1013 (by decide) (fun _ => ?_) (fun hz => absurd rfl hz)
      refine lv_goto (tgt := 1835) hx hb dL_law_1018 (by decide) ?_
      exact kk _ _ _ _ _ H locs ls hMM.lR (by (try simp only [headSpec]); omega) (by (try simp only [headSpec]); omega) hW (lv_sub hl [2, 3, 4, 5, 6] rfl)
set_option maxHeartbeats 4000000 in
set_option maxRecDepth 100000 in
/-- the law: keptShare -/
theorem lw_27 {p : Program} {l : Launch} {e : Env} {R : Room} {s : State} {m : MethodId} {args : Array Value} {below : List Frame} {meth : Method} {c : Code} {Q : State → Prop} {D : va_G} {A : Nat → Prop} (hx : p.tables.exec = Jvm.exec) (hb : c.code = cL_law) (hts : ∀ w ∈ lw_all, w.before args s = true) (hown : s.vm.findClass RX0 = some m.cls) (hK : va_K D gCl (gT D) s) (hE : g_Env D A s) (hml : c.maxLocals = 8) (hRf : 11 ≤ R.frames) (hRl : 172 ≤ R.locals) (hl9 : l.stackTraces = false) (b L : Nat) (xs : Nat → Int32) (hX : va_X b L xs s s.heap) (hbl : b < s.heap.size) (hbA : ¬ A b) (x y o i : Nat) (hi : i + 5 ≤ L) (hL : L ≤ 320) (z : yW) (hv : yV z) (hrn : z.rn ≤ 40 * i) (c0 s0 : Nat) (hRc : c0 + (1) ≤ R.cells) (hRs : s0 + (6) ≤ R.slots)
    (kk : ∀ (w2 : g_H) (l2 : Nat → Nat) (th2 : Int32) (cells slots : Nat) (H : Heap) (locs : List Loc) (ls : Array Slot), lR D w2 l2 x y o (z) th2 → cells ≤ c0 + (1) → slots ≤ s0 + (6) → g_W D A s.heap H locs w2 → lv_has ls 8 [(0, .ref b), (1, .ref x), (2, .ref y), (3, .ref o), (4, .int (nI i))] → W p l e R s m args below meth c H locs cells slots Q (F0 m 1835 ls [])) :
    ∀ (k : Nat) (w1 : g_H) (l1 : Nat → Nat) (th : Int32) (cells : Nat) (slots : Nat) (H : Heap) (locs : List Loc) (ls : Array Slot), 0 < k → lR D w1 l1 x y o z th → cells ≤ c0 → slots ≤ s0 → g_W D A s.heap H locs w1 → lv_has ls 8 [(0, .ref b), (1, .ref x), (2, .ref y), (3, .ref o), (4, .int (nI i))] → W p l e R s m args below meth c H locs cells slots Q (F0 m 1706 ls []) := by
  intro k
  induction k with
  | zero => intro w1 l1 th cells slots H locs ls hfuel hR hcl hsl hW hl; exact absurd hfuel (by omega)
  | succ k ih =>
    intro w1 l1 th cells slots H locs ls hfuel hR hcl hsl hW hl
    obtain ⟨n0, d0, s0v, v0, f0, hM0⟩ := hR.mid
    obtain ⟨⟨rf, hS⟩, ⟨mf, en, td, st, E, hZ⟩, ho, hlo, hmu⟩ := id hM0
    obtain ⟨hvA, hcv, hKd, hcK, hYI, ⟨hfq, hac, hP16, hC8⟩, hCd, hcp3, hfI, hrn0⟩ := id hv
    have hF16 := hfI.lt hP16
    have hK3 := hYI.q.2.2
    have htt := hYI.2.2.2
    have hdl : (z.K.drop z.fq).length = z.K.length - z.fq := List.length_drop
    refine lv_aload_n hx hb dL_law_1706 rfl (lv_at hl 1 rfl) ?_
    refine lv_aload_n hx hb dL_law_1707 rfl (lv_at hl 3 rfl) ?_
    refine g_calli (vx_runSW (hh := [(0, 9, 12, 210)]) (As := [.ref x, .ref o]) (rest := []) ⟨hx, hb, hml, hown, hts⟩ (mtX0_keptShare l D w1 H.size hl9 l1 x z.ac z.rn z.tt rf z.P z.C z.A z.cov z.K (z.K.drop z.fq) z.F z.cp hS o n0 d0 s0v v0 f0 ho (fun r1 u1 hp => by obtain ⟨-, -, ew⟩ := hp; subst ew; exact ho)) (vx_cwSW 2 hts (lw_SW q1839 q1840 q33 q1841) rfl rfl rfl (by decide +kernel) ⟨Nat.le_trans (Nat.le_of_ble_eq_true rfl) hRf, Nat.le_trans (Nat.le_of_ble_eq_true rfl) hRl⟩) (g_preS hW hK hE) rfl rfl hl.1 rfl (lv_room (Nat.le_of_ble_eq_true rfl)) dL_law_1708 ⟨?_, ?_⟩) hW (fun r5 u1 H locs hp hW => ?_)
    · (try simp only [headSpec]); omega
    · (try simp only [headSpec]); omega
    have hC : ∃ l3 d1, lMid D u1 l3 x y o z z th n0 d1 s0v v0 f0 ∧ eR1 (z.rn ≠ 0) r5 ∧ (z.rn ≠ 0 → d1 = (FP.f2d (fKS z.K.length z.rn))) := by
      rcases hp with ⟨r1, u2, ⟨hin, er, ew⟩, e, hr⟩ | ⟨E1, ⟨-, hni, ew⟩, hr⟩
      · subst ew; exact ⟨l1, _, hM0.put e, Or.inl ⟨hin, hr⟩, fun _ => by rw [er]⟩
      · subst ew; exact ⟨l1, d0, hM0, Or.inr ⟨fun k => k hni, hr.2⟩, fun q => absurd hni q⟩
    obtain ⟨l3, d1, hM1, hc1, hq1⟩ := hC
    obtain ⟨⟨rf3, hS3⟩, ⟨mf3, en3, td3, st3, E3, hZ3⟩, ho3, hlo3, hmu3⟩ := id hM1
    refine lv_istore (lv' := [(5, .int (r5)), (0, .ref b), (1, .ref x), (2, .ref y), (3, .ref o), (4, .int (nI i))]) hx hb dL_law_1711 hl (by decide) rfl (fun ls hl => ?_)
    refine lv_aload_n hx hb dL_law_1713 rfl (lv_at hl 3 rfl) ?_
    refine g_callf (va_runV (As := []) (rest := []) ⟨hx, hb, hml, hown, hts⟩ (mtX3_keptShare l D u1 H.size y mf3 l3 z.P z.C z.A z.cov z.K z.fq z.ac z.F z.rn z.tt z.cK en3 td3 st3 E3 th hZ3) (cwV 0 hts (lw_V q2205 q2206 q2207 q47 q2208) rfl rfl rfl (by decide +kernel) ⟨Nat.le_trans (Nat.le_of_ble_eq_true rfl) hRf, Nat.le_trans (Nat.le_of_ble_eq_true rfl) hRl⟩) (g_preV hW hK hE hZ3.1 rfl) rfl rfl hl.1 rfl (lv_room (Nat.le_of_ble_eq_true rfl)) dL_law_1714 ⟨?_, ?_⟩) hW (fun r6 u2 H locs hp hW => ?_)
    · (try simp only [headSpec]); omega
    · (try simp only [headSpec]); omega
    have hC : ∃ l4 th2, lMid D u2 l4 x y o z z th2 n0 d1 s0v v0 f0 ∧ eR1 (z.rn ≠ 0) th2 ∧ (z.rn ≠ 0 → r6 = (fKS z.K.length z.rn)) := by
      obtain ⟨th9, hZ9, hz9, hor⟩ := hp
      rcases hor with ⟨h, et⟩ | ⟨h, et, er⟩
      · exact ⟨_, _, hM1.mod hK ⟨_, _, _, _, _, hZ9⟩ hz9, Or.inr ⟨fun k => k h, et⟩, fun q => absurd h q⟩
      · exact ⟨_, _, hM1.mod hK ⟨_, _, _, _, _, hZ9⟩ hz9, Or.inl ⟨h, et⟩, fun _ => er⟩
    obtain ⟨l4, th2, hMM, hc2, hq2⟩ := hC
    have hag : r5 = th2 ∧ True := ⟨hc1.eq hc2, trivial⟩
    refine lv_fstore (lv' := [(6, .float (r6)), (5, .int (r5)), (0, .ref b), (1, .ref x), (2, .ref y), (3, .ref o), (4, .int (nI i))]) hx hb dL_law_1717 hl (by decide) rfl (fun ls hl => ?_)
    obtain ⟨⟨rf4, hS4⟩, ⟨mf4, en4, td4, st4, E4, hZ4⟩, ho4, hlo4, hmu4⟩ := id hMM
    refine lv_aload_n hx hb dL_law_1719 rfl (lv_at hl 4 rfl) ?_
    refine g_calli (va_runV (As := []) (rest := []) ⟨hx, hb, hml, hown, hts⟩ (mtX3_thrown l D u2 H.size y mf4 l4 (z).P (z).C (z).A (z).cov (z).K (z).fq (z).ac (z).F (z).rn (z).tt (z).cK en4 td4 st4 E4 th2 hZ4) (cwV 0 hts (lw_V q1970 q1971 q1972 q47 q1973) rfl rfl rfl (by decide +kernel) ⟨Nat.le_trans (Nat.le_of_ble_eq_true rfl) hRf, Nat.le_trans (Nat.le_of_ble_eq_true rfl) hRl⟩) (g_preV hW hK hE hZ4.1 rfl) rfl rfl hl.1 rfl (lv_room (Nat.le_of_ble_eq_true rfl)) dL_law_1720 ⟨?_, ?_⟩) hW (fun r_ u_ H locs hp hW => ?_)
    · (try simp only [headSpec]); omega
    · (try simp only [headSpec]); omega
    obtain ⟨er, rfl⟩ := hp
    rw [er]
    refine lv_iload hx hb dL_law_1723 (lv_at hl 1 rfl) ?_
    refine lv_icmp_eq (tgt := 1730) hx hb dL_law_1725 (by decide) (fun _ => ?_) (fun hz => absurd hag.1.symm hz)
    refine lv_iload hx hb dL_law_1730 (lv_at hl 1 rfl) ?_
    refine lv_if_ne (tgt := 1768) hx hb dL_law_1732 (by decide) (fun hz5 => ?_) (fun hz5 => ?_)
    · refine lv_goto (tgt := 1835) hx hb dL_law_1768 (by decide) ?_
      exact kk _ _ _ _ _ H locs ls hMM.lR (by (try simp only [headSpec]); omega) (by (try simp only [headSpec]); omega) hW (lv_sub hl [2, 3, 4, 5, 6] rfl)
    · have h50 : r5 = 0 := by first | exact hz5 | exact Classical.not_not.mp hz5
      have hcd := hc1.zero h50
      have ed1 := hq1 hcd
      have er6 := hq2 hcd
      subst ed1
      subst er6
      have hv32 : vf_n32 (fKS z.K.length z.rn) := fl_div32 (by omega) (by omega) (by omega)
      have hv64 : vf_n64 (FP.f2d (fKS z.K.length z.rn)) := fl_f2d hv32
      refine lv_aload_n hx hb dL_law_1735 rfl (lv_at hl 5 rfl) ?_
      refine g_getN (ci := 9) (v := .double ((FP.f2d (fKS z.K.length z.rn)))) (C := RX4) (T := TX4) (N := 5) hx hb hts in_X4 hown hK hW ho4 rfl 1 (by decide) (nf_q467 hE) (fun _ h9 => h9) rfl dL_law_1736 ?_
      refine lv_fload hx hb dL_law_1739 (lv_at hl 0 rfl) ?_
      refine lv_f2d hx hb dL_law_1741 hv64 ?_
      refine lv_dcmp hx hb dL_law_1742 ?_
      rw [fl_cmp64 hv64]
      refine lv_if_eq (tgt := 1768) hx hb dL_law_1743 (by decide) (fun _ => ?_) (fun hz => absurd rfl hz)
      refine lv_goto (tgt := 1835) hx hb dL_law_1768 (by decide) ?_
      exact kk _ _ _ _ _ H locs ls hMM.lR (by (try simp only [headSpec]); omega) (by (try simp only [headSpec]); omega) hW (lv_sub hl [2, 3, 4, 5, 6] rfl)
set_option maxHeartbeats 4000000 in
set_option maxRecDepth 100000 in
/-- the law: meanShrunk -/
theorem lw_28 {p : Program} {l : Launch} {e : Env} {R : Room} {s : State} {m : MethodId} {args : Array Value} {below : List Frame} {meth : Method} {c : Code} {Q : State → Prop} {D : va_G} {A : Nat → Prop} (hx : p.tables.exec = Jvm.exec) (hb : c.code = cL_law) (hts : ∀ w ∈ lw_all, w.before args s = true) (hown : s.vm.findClass RX0 = some m.cls) (hK : va_K D gCl (gT D) s) (hE : g_Env D A s) (hml : c.maxLocals = 8) (hRf : 11 ≤ R.frames) (hRl : 175 ≤ R.locals) (hl9 : l.stackTraces = false) (b L : Nat) (xs : Nat → Int32) (hX : va_X b L xs s s.heap) (hbl : b < s.heap.size) (hbA : ¬ A b) (x y o i : Nat) (hi : i + 5 ≤ L) (hL : L ≤ 320) (z : yW) (hv : yV z) (hrn : z.rn ≤ 40 * i) (c0 s0 : Nat) (hRc : c0 + (2) ≤ R.cells) (hRs : s0 + (10) ≤ R.slots)
    (kk : ∀ (w2 : g_H) (l2 : Nat → Nat) (th2 : Int32) (cells slots : Nat) (H : Heap) (locs : List Loc) (ls : Array Slot), lR D w2 l2 x y o (z) th2 → cells ≤ c0 + (2) → slots ≤ s0 + (10) → g_W D A s.heap H locs w2 → lv_has ls 8 [(0, .ref b), (1, .ref x), (2, .ref y), (3, .ref o), (4, .int (nI i))] → W p l e R s m args below meth c H locs cells slots Q (F0 m 1835 ls [])) :
    ∀ (k : Nat) (w1 : g_H) (l1 : Nat → Nat) (th : Int32) (cells : Nat) (slots : Nat) (H : Heap) (locs : List Loc) (ls : Array Slot), 0 < k → lR D w1 l1 x y o z th → cells ≤ c0 → slots ≤ s0 → g_W D A s.heap H locs w1 → lv_has ls 8 [(0, .ref b), (1, .ref x), (2, .ref y), (3, .ref o), (4, .int (nI i))] → W p l e R s m args below meth c H locs cells slots Q (F0 m 1771 ls []) := by
  intro k
  induction k with
  | zero => intro w1 l1 th cells slots H locs ls hfuel hR hcl hsl hW hl; exact absurd hfuel (by omega)
  | succ k ih =>
    intro w1 l1 th cells slots H locs ls hfuel hR hcl hsl hW hl
    obtain ⟨n0, d0, s0v, v0, f0, hM0⟩ := hR.mid
    obtain ⟨⟨rf, hS⟩, ⟨mf, en, td, st, E, hZ⟩, ho, hlo, hmu⟩ := id hM0
    obtain ⟨hvA, hcv, hKd, hcK, hYI, ⟨hfq, hac, hP16, hC8⟩, hCd, hcp3, hfI, hrn0⟩ := id hv
    have hF16 := hfI.lt hP16
    have hK3 := hYI.q.2.2
    have htt := hYI.2.2.2
    have hdl : (z.K.drop z.fq).length = z.K.length - z.fq := List.length_drop
    refine lv_aload_n hx hb dL_law_1771 rfl (lv_at hl 1 rfl) ?_
    refine lv_aload_n hx hb dL_law_1772 rfl (lv_at hl 3 rfl) ?_
    refine g_calli (vx_runSW (hh := [(0, 8, 11, 210)]) (As := [.ref x, .ref o]) (rest := []) ⟨hx, hb, hml, hown, hts⟩ (mtX0_meanShrunk l D w1 H.size hl9 l1 x z.ac z.rn z.tt rf z.P z.C z.A z.cov z.K (z.K.drop z.fq) z.F z.cp hS o n0 d0 s0v v0 f0 ho (fun r1 u1 hp => by obtain ⟨-, -, hex⟩ := hp; exact hex.at ho (fun z => z))) (vx_cwSW 2 hts (lw_SW q1868 q1869 q33 q1870) rfl rfl rfl (by decide +kernel) ⟨Nat.le_trans (Nat.le_of_ble_eq_true rfl) hRf, Nat.le_trans (Nat.le_of_ble_eq_true rfl) hRl⟩) (g_preS hW hK hE) rfl rfl hl.1 rfl (lv_room (Nat.le_of_ble_eq_true rfl)) dL_law_1773 ⟨?_, ?_⟩) hW (fun r5 u1 H locs hp hW => ?_)
    · (try simp only [headSpec]); omega
    · (try simp only [headSpec]); omega
    have hC : ∃ l3 d1, lMid D u1 l3 x y o z z th n0 d1 s0v v0 f0 ∧ eR1 (z.F.length ≠ 0) r5 ∧ (z.F.length ≠ 0 → d1 = (dMS (sSum z.F) z.F.length)) := by
      rcases hp with ⟨r1, u2, ⟨hin, er, ew⟩, e, hr⟩ | ⟨E1, ⟨-, hni, ew⟩, hr⟩
      · have hN := hM0.new hK ew; exact ⟨_, _, hN.put e, Or.inl ⟨hin, hr⟩, fun _ => er⟩
      · subst ew; exact ⟨l1, d0, hM0, Or.inr ⟨fun k => k hni, hr.2⟩, fun q => absurd hni q⟩
    obtain ⟨l3, d1, hM1, hc1, hq1⟩ := hC
    obtain ⟨⟨rf3, hS3⟩, ⟨mf3, en3, td3, st3, E3, hZ3⟩, ho3, hlo3, hmu3⟩ := id hM1
    refine lv_istore (lv' := [(5, .int (r5)), (0, .ref b), (1, .ref x), (2, .ref y), (3, .ref o), (4, .int (nI i))]) hx hb dL_law_1776 hl (by decide) rfl (fun ls hl => ?_)
    refine lv_aload_n hx hb dL_law_1778 rfl (lv_at hl 3 rfl) ?_
    refine g_calld (va_runV (As := []) (rest := []) ⟨hx, hb, hml, hown, hts⟩ (mtX3_meanShrunk l D u1 H.size y mf3 l3 z.P z.C z.A z.cov z.K z.fq z.ac z.F z.rn z.tt z.cK en3 td3 st3 E3 th hZ3) (cwV 0 hts (lw_V q2209 q2210 q2211 q47 q2212) rfl rfl rfl (by decide +kernel) ⟨Nat.le_trans (Nat.le_of_ble_eq_true rfl) hRf, Nat.le_trans (Nat.le_of_ble_eq_true rfl) hRl⟩) (g_preV hW hK hE hZ3.1 rfl) rfl rfl hl.1 rfl (lv_room (Nat.le_of_ble_eq_true rfl)) dL_law_1779 ⟨?_, ?_⟩) hW (fun r6 u2 H locs hp hW => ?_)
    · (try simp only [headSpec]); omega
    · (try simp only [headSpec]); omega
    have hC : ∃ l4 th2, lMid D u2 l4 x y o z z th2 n0 d1 s0v v0 f0 ∧ eR1 (z.F.length ≠ 0) th2 ∧ (z.F.length ≠ 0 → r6 = (dMS (sSum z.F) z.F.length)) := by
      obtain ⟨th9, hZ9, hz9, hor⟩ := hp
      rcases hor with ⟨h, et⟩ | ⟨h, et, er⟩
      · exact ⟨_, _, hM1.mod hK ⟨_, _, _, _, _, hZ9⟩ hz9, Or.inr ⟨fun k => k h, et⟩, fun q => absurd h q⟩
      · exact ⟨_, _, hM1.mod hK ⟨_, _, _, _, _, hZ9⟩ hz9, Or.inl ⟨h, et⟩, fun _ => er⟩
    obtain ⟨l4, th2, hMM, hc2, hq2⟩ := hC
    have hag : r5 = th2 ∧ True := ⟨hc1.eq hc2, trivial⟩
    refine lv_dstore (lv' := [(6, .double (r6)), (5, .int (r5)), (0, .ref b), (1, .ref x), (2, .ref y), (3, .ref o), (4, .int (nI i))]) hx hb dL_law_1782 hl (by decide) rfl (fun ls hl => ?_)
    obtain ⟨⟨rf4, hS4⟩, ⟨mf4, en4, td4, st4, E4, hZ4⟩, ho4, hlo4, hmu4⟩ := id hMM
    refine lv_aload_n hx hb dL_law_1784 rfl (lv_at hl 4 rfl) ?_
    refine g_calli (va_runV (As := []) (rest := []) ⟨hx, hb, hml, hown, hts⟩ (mtX3_thrown l D u2 H.size y mf4 l4 (z).P (z).C (z).A (z).cov (z).K (z).fq (z).ac (z).F (z).rn (z).tt (z).cK en4 td4 st4 E4 th2 hZ4) (cwV 0 hts (lw_V q1970 q1971 q1972 q47 q1973) rfl rfl rfl (by decide +kernel) ⟨Nat.le_trans (Nat.le_of_ble_eq_true rfl) hRf, Nat.le_trans (Nat.le_of_ble_eq_true rfl) hRl⟩) (g_preV hW hK hE hZ4.1 rfl) rfl rfl hl.1 rfl (lv_room (Nat.le_of_ble_eq_true rfl)) dL_law_1785 ⟨?_, ?_⟩) hW (fun r_ u_ H locs hp hW => ?_)
    · (try simp only [headSpec]); omega
    · (try simp only [headSpec]); omega
    obtain ⟨er, rfl⟩ := hp
    rw [er]
    refine lv_iload hx hb dL_law_1788 (lv_at hl 1 rfl) ?_
    refine lv_icmp_eq (tgt := 1795) hx hb dL_law_1790 (by decide) (fun _ => ?_) (fun hz => absurd hag.1.symm hz)
    refine lv_iload hx hb dL_law_1795 (lv_at hl 1 rfl) ?_
    refine lv_if_ne (tgt := 1832) hx hb dL_law_1797 (by decide) (fun hz5 => ?_) (fun hz5 => ?_)
    · refine lv_goto (tgt := 1835) hx hb dL_law_1832 (by decide) ?_
      exact kk _ _ _ _ _ H locs ls hMM.lR (by (try simp only [headSpec]); omega) (by (try simp only [headSpec]); omega) hW (lv_sub hl [2, 3, 4, 5, 6] rfl)
    · have h50 : r5 = 0 := by first | exact hz5 | exact Classical.not_not.mp hz5
      have hcd := hc1.zero h50
      have ed1 := hq1 hcd
      have er6 := hq2 hcd
      subst ed1
      subst er6
      have hsm := mz_sum hZ4
      have hv64 : vf_n64 (dMS (sSum z.F) z.F.length) := fl_div64 (by omega) (by omega) (by omega)
      refine lv_aload_n hx hb dL_law_1800 rfl (lv_at hl 5 rfl) ?_
      refine g_getN (ci := 9) (v := .double ((dMS (sSum z.F) z.F.length))) (C := RX4) (T := TX4) (N := 5) hx hb hts in_X4 hown hK hW ho4 rfl 1 (by decide) (nf_q467 hE) (fun _ h9 => h9) rfl dL_law_1801 ?_
      refine lv_dload hx hb dL_law_1804 (lv_at hl 0 rfl) ?_
      refine lv_dcmp hx hb dL_law_1806 ?_
      rw [fl_cmp64 hv64]
      refine lv_if_eq (tgt := 1832) hx hb dL_law_1807 (by decide) (fun _ => ?_) (fun hz => absurd rfl hz)
      refine lv_goto (tgt := 1835) hx hb dL_law_1832 (by decide) ?_
      exact kk _ _ _ _ _ H locs ls hMM.lR (by (try simp only [headSpec]); omega) (by (try simp only [headSpec]); omega) hW (lv_sub hl [2, 3, 4, 5, 6] rfl)
set_option maxHeartbeats 4000000 in
set_option maxRecDepth 100000 in
/-- the law: add -/
theorem lw_0 {p : Program} {l : Launch} {e : Env} {R : Room} {s : State} {m : MethodId} {args : Array Value} {below : List Frame} {meth : Method} {c : Code} {Q : State → Prop} {D : va_G} {A : Nat → Prop} (hx : p.tables.exec = Jvm.exec) (hb : c.code = cL_law) (hts : ∀ w ∈ lw_all, w.before args s = true) (hown : s.vm.findClass RX0 = some m.cls) (hK : va_K D gCl (gT D) s) (hE : g_Env D A s) (hml : c.maxLocals = 8) (hRf : 14 ≤ R.frames) (hRl : 349 ≤ R.locals) (hl9 : l.stackTraces = false) (b L : Nat) (xs : Nat → Int32) (hX : va_X b L xs s s.heap) (hbl : b < s.heap.size) (hbA : ¬ A b) (x y o i : Nat) (hi : i + 5 ≤ L) (hL : L ≤ 320) (z : yW) (hv : yV z) (hrn : z.rn ≤ 40 * i) (c0 s0 : Nat) (hRc : c0 + (2 + (2 + g_ac z.P.length (z.cp 2))) ≤ R.cells) (hRs : s0 + (8 + (12 + g_as z.P.length (z.cp 2))) ≤ R.slots)
    (kk : ∀ (w2 : g_H) (l2 : Nat → Nat) (th2 : Int32) (cells slots : Nat) (H : Heap) (locs : List Loc) (ls : Array Slot), lR D w2 l2 x y o (sAdd z (fMod (xs (i + 1)) 9) (xs (i + 2)) (xs (i + 3)) (xs (i + 4))) th2 → cells ≤ c0 + (2 + (2 + g_ac z.P.length (z.cp 2))) → slots ≤ s0 + (8 + (12 + g_as z.P.length (z.cp 2))) → g_W D A s.heap H locs w2 → lv_has ls 8 [(0, .ref b), (1, .ref x), (2, .ref y), (3, .ref o), (4, .int (nI i))] → W p l e R s m args below meth c H locs cells slots Q (F0 m 1835 ls [])) :
    ∀ (k : Nat) (w1 : g_H) (l1 : Nat → Nat) (th : Int32) (cells : Nat) (slots : Nat) (H : Heap) (locs : List Loc) (ls : Array Slot), 0 < k → lR D w1 l1 x y o z th → cells ≤ c0 → slots ≤ s0 → g_W D A s.heap H locs w1 → lv_has ls 8 [(0, .ref b), (1, .ref x), (2, .ref y), (3, .ref o), (4, .int (nI i))] → W p l e R s m args below meth c H locs cells slots Q (F0 m 172 ls []) := by
  intro k
  induction k with
  | zero => intro w1 l1 th cells slots H locs ls hfuel hR hcl hsl hW hl; exact absurd hfuel (by omega)
  | succ k ih =>
    intro w1 l1 th cells slots H locs ls hfuel hR hcl hsl hW hl
    obtain ⟨n0, d0, s0v, v0, f0, hM0⟩ := hR.mid
    obtain ⟨⟨rf, hS⟩, ⟨mf, en, td, st, E, hZ⟩, ho, hlo, hmu⟩ := id hM0
    obtain ⟨hvA, hcv, hKd, hcK, hYI, ⟨hfq, hac, hP16, hC8⟩, hCd, hcp3, hfI, hrn0⟩ := id hv
    have hF16 := hfI.lt hP16
    have hK3 := hYI.q.2.2
    have htt := hYI.2.2.2
    have hdl : (z.K.drop z.fq).length = z.K.length - z.fq := List.length_drop
    refine lv_aload_n hx hb dL_law_172 rfl (lv_at hl 1 rfl) ?_
    have x_1 : g_ex (fun _ => False) w1 w1 := g_ex.rf
    refine g_newo (ci := 7) (C := RX5) (T := TX5) (N := 4) hx hb hts in_X5 tyX5 tyX5_ok hown q98 q99 q49 hK hW rfl [.null, .int 0, .int 0, .int 0] (by decide +kernel) ?_ ?_ dL_law_173 (fun o_2 H hq hW => ?_)
    · (try simp only [headSpec]); omega
    · (try simp only [headSpec]); omega
    have ho_2 := hq
    obtain ⟨w_3, ew_3⟩ : ∃ z__, z__ = g_push w1 o_2 (.inr (7, [.null, .int (0), .int (0), .int (0)])) := ⟨_, rfl⟩
    have hW := g_W.ren hW ew_3 rfl
    have h_4 : g_at w_3 o_2 (.inr (7, [.null, .int (0), .int (0), .int (0)])) := by rw [ew_3]; exact g_at.push_self
    have x_5 : g_ex (fun _ => False) w1 w_3 := by rw [ew_3]; exact x_1.push hq
    refine lv_dup hx hb dL_law_176 rfl ?_
    refine lv_aload_n hx hb dL_law_177 rfl (lv_at hl 0 rfl) ?_
    refine lv_iload hx hb dL_law_178 (lv_at hl 4 rfl) ?_
    refine lv_iconst (v := 1) hx hb dL_law_180 (by decide) ?_
    refine lv_iadd hx hb dL_law_181 ?_
    refine g_topi (y := nI (i + 1)) (nI_add i 1) ?_
    refine va_sld hx hb hX hbl hbA hW.2.2.1 (vp_in_nI (show i + 1 < L by omega) (by omega)) dL_law_182 ?_
    rw [nI_clamp (show i + 1 < 2 ^ 31 by omega)]
    refine g_callq (va_runS (As := [.int ((xs (i + 1)))]) (rest := [.ref o_2, .ref o_2, .ref x]) ⟨hx, hb, hml, hown, hts⟩ (mtX0_toOp l D w_3 H.size (xs (i + 1))) (va_cwS 1 hts (lw_S q503 q504 q33 q505) rfl rfl rfl (by decide +kernel) ⟨Nat.le_trans (Nat.le_of_ble_eq_true rfl) hRf, Nat.le_trans (Nat.le_of_ble_eq_true rfl) hRl⟩) (g_preS hW hK hE) rfl rfl hl.1 rfl (lv_room (Nat.le_of_ble_eq_true rfl)) dL_law_183 ⟨?_, ?_⟩) hW (fun r_ u_ H locs hp hW => ?_)
    · (try simp only [headSpec]); omega
    · (try simp only [headSpec]); omega
    obtain ⟨er, rfl⟩ := hp
    subst er
    refine lv_aload_n hx hb dL_law_186 rfl (lv_at hl 0 rfl) ?_
    refine lv_iload hx hb dL_law_187 (lv_at hl 4 rfl) ?_
    refine lv_iconst (v := 2) hx hb dL_law_189 (by decide) ?_
    refine lv_iadd hx hb dL_law_190 ?_
    refine g_topi (y := nI (i + 2)) (nI_add i 2) ?_
    refine va_sld hx hb hX hbl hbA hW.2.2.1 (vp_in_nI (show i + 2 < L by omega) (by omega)) dL_law_191 ?_
    rw [nI_clamp (show i + 2 < 2 ^ 31 by omega)]
    refine lv_aload_n hx hb dL_law_192 rfl (lv_at hl 0 rfl) ?_
    refine lv_iload hx hb dL_law_193 (lv_at hl 4 rfl) ?_
    refine lv_iconst (v := 3) hx hb dL_law_195 (by decide) ?_
    refine lv_iadd hx hb dL_law_196 ?_
    refine g_topi (y := nI (i + 3)) (nI_add i 3) ?_
    refine va_sld hx hb hX hbl hbA hW.2.2.1 (vp_in_nI (show i + 3 < L by omega) (by omega)) dL_law_197 ?_
    rw [nI_clamp (show i + 3 < 2 ^ 31 by omega)]
    refine lv_aload_n hx hb dL_law_198 rfl (lv_at hl 0 rfl) ?_
    refine lv_iload hx hb dL_law_199 (lv_at hl 4 rfl) ?_
    refine lv_iconst (v := 4) hx hb dL_law_201 (by decide) ?_
    refine lv_iadd hx hb dL_law_202 ?_
    refine g_topi (y := nI (i + 4)) (nI_add i 4) ?_
    refine va_sld hx hb hX hbl hbA hW.2.2.1 (vp_in_nI (show i + 4 < L by omega) (by omega)) dL_law_203 ?_
    rw [nI_clamp (show i + 4 < 2 ^ 31 by omega)]
    refine g_callv (va_runI (As := [.ref (D.2 1002 (fMod (xs (i + 1)) 9)), .int ((xs (i + 2))), .int ((xs (i + 3))), .int ((xs (i + 4)))]) (rest := [.ref o_2, .ref x]) ⟨hx, hb, hml, hown, hts⟩ (mtX5_init l D w_3 H.size o_2 (D.2 1002 (fMod (xs (i + 1)) 9)) (xs (i + 2)) (xs (i + 3)) (xs (i + 4)) h_4) (cwI 4 hts (lw_meth q102) rfl rfl rfl (hts _ q49) (hts _ q100) (hts _ q101) rfl (by decide +kernel) ⟨Nat.le_trans (Nat.le_of_ble_eq_true rfl) hRf, Nat.le_trans (Nat.le_of_ble_eq_true rfl) hRl⟩) (g_preS hW hK hE) rfl rfl hl.1 rfl (lv_room (Nat.le_of_ble_eq_true rfl)) dL_law_204 ⟨?_, ?_⟩) hW (fun u1 H locs hp hW => ?_)
    · (try simp only [headSpec]); omega
    · (try simp only [headSpec]); omega
    obtain ⟨hIa, hxIa⟩ := hp
    have hexa := x_5.trM hxIa (fun z hz hq => absurd (hq ▸ hz) ho_2)
    obtain ⟨lA, hMa⟩ : ∃ lA, lMid D u1 lA x y o z z th n0 d0 s0v v0 f0 := ⟨_, hM0.new hK hexa⟩
    obtain ⟨⟨rfa, hSa⟩, ⟨mfa, ena, tda, sta, Ea, hZa⟩, hoa, hloa, hmua⟩ := id hMa
    refine lv_aload_n hx hb dL_law_207 rfl (lv_at hl 3 rfl) ?_
    refine g_calli (vx_runSW (hh := [(0, 10, 13, 110), (0, 10, 16, 112)]) (As := [.ref x, .ref o_2, .ref o]) (rest := []) ⟨hx, hb, hml, hown, hts⟩ (mtX0_add l D u1 H.size hl9 lA x z.ac z.rn z.tt rfa z.P z.C z.A z.cov z.K (z.K.drop z.fq) z.F z.cp hSa o_2 (fMod (xs (i + 1)) 9) (xs (i + 2)) (xs (i + 3)) (xs (i + 4)) hIa (fMod_lt (by decide)) o n0 d0 s0v v0 f0 hoa (fun r1 u1 hp => by obtain ⟨-, -, l9, -, hy9⟩ := hp; exact (l_oC hoa hloa hy9).1)) (vx_cwSW 3 hts (lw_SW q544 q545 q33 q546) rfl rfl rfl (by decide +kernel) ⟨Nat.le_trans (Nat.le_of_ble_eq_true rfl) hRf, Nat.le_trans (Nat.le_of_ble_eq_true rfl) hRl⟩) (g_preS hW hK hE) rfl rfl hl.1 rfl (lv_room (Nat.le_of_ble_eq_true rfl)) dL_law_208 ⟨?_, ?_⟩) hW (fun r5 u2 H locs hp hW => ?_)
    · (try simp only [headSpec]); omega
    · (try simp only [headSpec]); omega
    have hC : ∃ l3 n1, lMid D u2 l3 x y o (sAdd z (fMod (xs (i + 1)) 9) (xs (i + 2)) (xs (i + 3)) (xs (i + 4))) z th n1 d0 s0v v0 f0 ∧ eR2 (iOk (fMod (xs (i + 1)) 9) (xs (i + 2)) (xs (i + 3)) (xs (i + 4))) (z.P.length < 16 ∧ z.rn = 0) r5 ∧ (iOk (fMod (xs (i + 1)) 9) (xs (i + 2)) (xs (i + 3)) (xs (i + 4)) ∧ z.P.length < 16 ∧ z.rn = 0 → n1 = (nI (z.P.length + 1) : Int32).toInt64) := by
      rcases hp with ⟨r1, u9, ⟨hin, er, l3, hS2, hy⟩, e, hr⟩ | ⟨E1, ⟨hex, hE⟩, hr⟩
      · exact ⟨_, _, by rw [show sAdd z (fMod (xs (i + 1)) 9) (xs (i + 2)) (xs (i + 3)) (xs (i + 4)) = (yW.of (z.P ++ [((fMod (xs (i + 1)) 9), (xs (i + 2)).toNatClampNeg, (xs (i + 3)), (xs (i + 4)).toNatClampNeg)]) z.C z.A z.cov z.K z.fq z.ac z.F z.rn z.tt (cpU z.cp 2 (g_an z.P.length (z.cp 2))) z.cK) from if_pos hin]; exact (hMa.cls hK (z2 := (yW.of (z.P ++ [((fMod (xs (i + 1)) 9), (xs (i + 2)).toNatClampNeg, (xs (i + 3)), (xs (i + 4)).toNatClampNeg)]) z.C z.A z.cov z.K z.fq z.ac z.F z.rn z.tt (cpU z.cp 2 (g_an z.P.length (z.cp 2))) z.cK)) ⟨rfa, hS2⟩ hy).put e, Or.inl ⟨hin, hr⟩, fun _ => by rw [er]⟩
      · have q := ex2 (by decide : ("java/lang/IllegalArgumentException" : String) ≠ "java/lang/IllegalStateException") hE hr
        subst hex
        exact ⟨lA, n0, by rw [show sAdd z (fMod (xs (i + 1)) 9) (xs (i + 2)) (xs (i + 3)) (xs (i + 4)) = z from if_neg q.2]; exact hMa, q.1, fun t => absurd t q.2⟩
    obtain ⟨l3, n1, hM1, hc1, hq1⟩ := hC
    refine lv_istore (lv' := [(5, .int (r5)), (0, .ref b), (1, .ref x), (2, .ref y), (3, .ref o), (4, .int (nI i))]) hx hb dL_law_211 hl (by decide) rfl (fun ls hl => ?_)
    refine lv_aload_n hx hb dL_law_213 rfl (lv_at hl 3 rfl) ?_
    have x_6 : g_ex (fun _ => False) u2 u2 := g_ex.rf
    refine g_newo (ci := 7) (C := RX5) (T := TX5) (N := 4) hx hb hts in_X5 tyX5 tyX5_ok hown q98 q99 q49 hK hW rfl [.null, .int 0, .int 0, .int 0] (by decide +kernel) ?_ ?_ dL_law_214 (fun o_7 H hq hW => ?_)
    · (try simp only [headSpec]); omega
    · (try simp only [headSpec]); omega
    have ho_7 := hq
    obtain ⟨w_8, ew_8⟩ : ∃ z__, z__ = g_push u2 o_7 (.inr (7, [.null, .int (0), .int (0), .int (0)])) := ⟨_, rfl⟩
    have hW := g_W.ren hW ew_8 rfl
    have h_9 : g_at w_8 o_7 (.inr (7, [.null, .int (0), .int (0), .int (0)])) := by rw [ew_8]; exact g_at.push_self
    have x_10 : g_ex (fun _ => False) u2 w_8 := by rw [ew_8]; exact x_6.push hq
    refine lv_dup hx hb dL_law_217 rfl ?_
    refine lv_aload_n hx hb dL_law_218 rfl (lv_at hl 1 rfl) ?_
    refine lv_iload hx hb dL_law_219 (lv_at hl 5 rfl) ?_
    refine lv_iconst (v := 1) hx hb dL_law_221 (by decide) ?_
    refine lv_iadd hx hb dL_law_222 ?_
    refine g_topi (y := nI (i + 1)) (nI_add i 1) ?_
    refine va_sld hx hb hX hbl hbA hW.2.2.1 (vp_in_nI (show i + 1 < L by omega) (by omega)) dL_law_223 ?_
    rw [nI_clamp (show i + 1 < 2 ^ 31 by omega)]
    refine g_callq (va_runS (As := [.int ((xs (i + 1)))]) (rest := [.ref o_7, .ref o_7, .ref y]) ⟨hx, hb, hml, hown, hts⟩ (mtX0_toOp l D w_8 H.size (xs (i + 1))) (va_cwS 1 hts (lw_S q503 q504 q33 q505) rfl rfl rfl (by decide +kernel) ⟨Nat.le_trans (Nat.le_of_ble_eq_true rfl) hRf, Nat.le_trans (Nat.le_of_ble_eq_true rfl) hRl⟩) (g_preS hW hK hE) rfl rfl hl.1 rfl (lv_room (Nat.le_of_ble_eq_true rfl)) dL_law_224 ⟨?_, ?_⟩) hW (fun r_ u_ H locs hp hW => ?_)
    · (try simp only [headSpec]); omega
    · (try simp only [headSpec]); omega
    obtain ⟨er, rfl⟩ := hp
    subst er
    refine lv_aload_n hx hb dL_law_227 rfl (lv_at hl 1 rfl) ?_
    refine lv_iload hx hb dL_law_228 (lv_at hl 5 rfl) ?_
    refine lv_iconst (v := 2) hx hb dL_law_230 (by decide) ?_
    refine lv_iadd hx hb dL_law_231 ?_
    refine g_topi (y := nI (i + 2)) (nI_add i 2) ?_
    refine va_sld hx hb hX hbl hbA hW.2.2.1 (vp_in_nI (show i + 2 < L by omega) (by omega)) dL_law_232 ?_
    rw [nI_clamp (show i + 2 < 2 ^ 31 by omega)]
    refine lv_aload_n hx hb dL_law_233 rfl (lv_at hl 1 rfl) ?_
    refine lv_iload hx hb dL_law_234 (lv_at hl 5 rfl) ?_
    refine lv_iconst (v := 3) hx hb dL_law_236 (by decide) ?_
    refine lv_iadd hx hb dL_law_237 ?_
    refine g_topi (y := nI (i + 3)) (nI_add i 3) ?_
    refine va_sld hx hb hX hbl hbA hW.2.2.1 (vp_in_nI (show i + 3 < L by omega) (by omega)) dL_law_238 ?_
    rw [nI_clamp (show i + 3 < 2 ^ 31 by omega)]
    refine lv_aload_n hx hb dL_law_239 rfl (lv_at hl 1 rfl) ?_
    refine lv_iload hx hb dL_law_240 (lv_at hl 5 rfl) ?_
    refine lv_iconst (v := 4) hx hb dL_law_242 (by decide) ?_
    refine lv_iadd hx hb dL_law_243 ?_
    refine g_topi (y := nI (i + 4)) (nI_add i 4) ?_
    refine va_sld hx hb hX hbl hbA hW.2.2.1 (vp_in_nI (show i + 4 < L by omega) (by omega)) dL_law_244 ?_
    rw [nI_clamp (show i + 4 < 2 ^ 31 by omega)]
    refine g_callv (va_runI (As := [.ref (D.2 1002 (fMod (xs (i + 1)) 9)), .int ((xs (i + 2))), .int ((xs (i + 3))), .int ((xs (i + 4)))]) (rest := [.ref o_7, .ref y]) ⟨hx, hb, hml, hown, hts⟩ (mtX5_init l D w_8 H.size o_7 (D.2 1002 (fMod (xs (i + 1)) 9)) (xs (i + 2)) (xs (i + 3)) (xs (i + 4)) h_9) (cwI 4 hts (lw_meth q102) rfl rfl rfl (hts _ q49) (hts _ q100) (hts _ q101) rfl (by decide +kernel) ⟨Nat.le_trans (Nat.le_of_ble_eq_true rfl) hRf, Nat.le_trans (Nat.le_of_ble_eq_true rfl) hRl⟩) (g_preS hW hK hE) rfl rfl hl.1 rfl (lv_room (Nat.le_of_ble_eq_true rfl)) dL_law_245 ⟨?_, ?_⟩) hW (fun u3 H locs hp hW => ?_)
    · (try simp only [headSpec]); omega
    · (try simp only [headSpec]); omega
    obtain ⟨hIb, hxIb⟩ := hp
    have hexb := x_10.trM hxIb (fun z hz hq => absurd (hq ▸ hz) ho_7)
    obtain ⟨lB, hMb⟩ : ∃ lB, lMid D u3 lB x y o (sAdd z (fMod (xs (i + 1)) 9) (xs (i + 2)) (xs (i + 3)) (xs (i + 4))) z th n1 d0 s0v v0 f0 := ⟨_, hM1.new hK hexb⟩
    obtain ⟨⟨rfb, hSb⟩, ⟨mfb, enb, tdb, stb, Eb, hZb⟩, hob, hlob, hmub⟩ := id hMb
    refine g_calli (va_runV (As := [.ref o_7]) (rest := []) ⟨hx, hb, hml, hown, hts⟩ (mtX3_add l D u3 H.size y mfb lB z.P z.C z.A z.cov z.K z.fq z.ac z.F z.rn z.tt z.cK enb tdb stb Eb th hZb o_7 (fMod (xs (i + 1)) 9) (xs (i + 2)) (xs (i + 3)) (xs (i + 4)) hIb (fMod_lt (by decide))) (cwV 1 hts (lw_V q1974 q1975 q1976 q47 q1977) rfl rfl rfl (by decide +kernel) ⟨Nat.le_trans (Nat.le_of_ble_eq_true rfl) hRf, Nat.le_trans (Nat.le_of_ble_eq_true rfl) hRl⟩) (g_preV hW hK hE hZb.1 rfl) rfl rfl hl.1 rfl (lv_room (Nat.le_of_ble_eq_true rfl)) dL_law_248 ⟨?_, ?_⟩) hW (fun r6 u4 H locs hp hW => ?_)
    · (try simp only [headSpec]); omega
    · (try simp only [headSpec]); omega
    have hC : ∃ l4 th2, lMid D u4 l4 x y o (sAdd z (fMod (xs (i + 1)) 9) (xs (i + 2)) (xs (i + 3)) (xs (i + 4))) (sAdd z (fMod (xs (i + 1)) 9) (xs (i + 2)) (xs (i + 3)) (xs (i + 4))) th2 n1 d0 s0v v0 f0 ∧ eR2 (iOk (fMod (xs (i + 1)) 9) (xs (i + 2)) (xs (i + 3)) (xs (i + 4))) (z.P.length < 16 ∧ z.rn = 0) th2 ∧ (iOk (fMod (xs (i + 1)) 9) (xs (i + 2)) (xs (i + 3)) (xs (i + 4)) ∧ z.P.length < 16 ∧ z.rn = 0 → r6 = nI (z.P.length + 1)) := by
      obtain ⟨P2, th9, hZ9, hz9, hor⟩ := hp
      rcases hor with ⟨hin, e1, e2, e3⟩ | ⟨e3, hn⟩
      · rw [e1, e3] at hZ9
        exact ⟨_, 0, by rw [show sAdd z (fMod (xs (i + 1)) 9) (xs (i + 2)) (xs (i + 3)) (xs (i + 4)) = (yW.of (z.P ++ [((fMod (xs (i + 1)) 9), (xs (i + 2)).toNatClampNeg, (xs (i + 3)), (xs (i + 4)).toNatClampNeg)]) z.C z.A z.cov z.K z.fq z.ac z.F z.rn z.tt (cpU z.cp 2 (g_an z.P.length (z.cp 2))) z.cK) from if_pos hin] at hMb ⊢; exact hMb.mod hK (z2 := (yW.of (z.P ++ [((fMod (xs (i + 1)) 9), (xs (i + 2)).toNatClampNeg, (xs (i + 3)), (xs (i + 4)).toNatClampNeg)]) z.C z.A z.cov z.K z.fq z.ac z.F z.rn z.tt (cpU z.cp 2 (g_an z.P.length (z.cp 2))) z.cK)) ⟨_, _, _, _, _, hZ9⟩ hz9, Or.inl ⟨hin, rfl⟩, fun _ => e2⟩
      · have q := em2 hn
        rw [e3] at hZ9
        exact ⟨_, th9, by rw [show sAdd z (fMod (xs (i + 1)) 9) (xs (i + 2)) (xs (i + 3)) (xs (i + 4)) = z from if_neg q.2] at hMb ⊢; exact hMb.mod hK ⟨_, _, _, _, _, hZ9⟩ hz9, q.1, fun t => absurd t q.2⟩
    obtain ⟨l4, th2, hMM, hc2, hq2⟩ := hC
    have hag : r5 = th2 ∧ True := ⟨hc1.eq hc2, trivial⟩
    obtain ⟨⟨rf4, hS4⟩, ⟨mf4, en4, td4, st4, E4, hZ4⟩, ho4, hlo4, hmu4⟩ := id hMM
    refine lv_istore (lv' := [(6, .int (r6)), (5, .int (r5)), (0, .ref b), (1, .ref x), (2, .ref y), (3, .ref o), (4, .int (nI i))]) hx hb dL_law_251 hl (by decide) rfl (fun ls hl => ?_)
    refine lv_aload_n hx hb dL_law_253 rfl (lv_at hl 4 rfl) ?_
    refine g_calli (va_runV (As := []) (rest := []) ⟨hx, hb, hml, hown, hts⟩ (mtX3_thrown l D u4 H.size y mf4 l4 (sAdd z (fMod (xs (i + 1)) 9) (xs (i + 2)) (xs (i + 3)) (xs (i + 4))).P (sAdd z (fMod (xs (i + 1)) 9) (xs (i + 2)) (xs (i + 3)) (xs (i + 4))).C (sAdd z (fMod (xs (i + 1)) 9) (xs (i + 2)) (xs (i + 3)) (xs (i + 4))).A (sAdd z (fMod (xs (i + 1)) 9) (xs (i + 2)) (xs (i + 3)) (xs (i + 4))).cov (sAdd z (fMod (xs (i + 1)) 9) (xs (i + 2)) (xs (i + 3)) (xs (i + 4))).K (sAdd z (fMod (xs (i + 1)) 9) (xs (i + 2)) (xs (i + 3)) (xs (i + 4))).fq (sAdd z (fMod (xs (i + 1)) 9) (xs (i + 2)) (xs (i + 3)) (xs (i + 4))).ac (sAdd z (fMod (xs (i + 1)) 9) (xs (i + 2)) (xs (i + 3)) (xs (i + 4))).F (sAdd z (fMod (xs (i + 1)) 9) (xs (i + 2)) (xs (i + 3)) (xs (i + 4))).rn (sAdd z (fMod (xs (i + 1)) 9) (xs (i + 2)) (xs (i + 3)) (xs (i + 4))).tt (sAdd z (fMod (xs (i + 1)) 9) (xs (i + 2)) (xs (i + 3)) (xs (i + 4))).cK en4 td4 st4 E4 th2 hZ4) (cwV 0 hts (lw_V q1970 q1971 q1972 q47 q1973) rfl rfl rfl (by decide +kernel) ⟨Nat.le_trans (Nat.le_of_ble_eq_true rfl) hRf, Nat.le_trans (Nat.le_of_ble_eq_true rfl) hRl⟩) (g_preV hW hK hE hZ4.1 rfl) rfl rfl hl.1 rfl (lv_room (Nat.le_of_ble_eq_true rfl)) dL_law_254 ⟨?_, ?_⟩) hW (fun r_ u_ H locs hp hW => ?_)
    · (try simp only [headSpec]); omega
    · (try simp only [headSpec]); omega
    obtain ⟨er, rfl⟩ := hp
    rw [er]
    refine lv_iload hx hb dL_law_257 (lv_at hl 1 rfl) ?_
    refine lv_icmp_eq (tgt := 264) hx hb dL_law_259 (by decide) (fun _ => ?_) (fun hz => absurd hag.1.symm hz)
    refine lv_iload hx hb dL_law_264 (lv_at hl 1 rfl) ?_
    refine lv_if_ne (tgt := 282) hx hb dL_law_266 (by decide) (fun hz5 => ?_) (fun hz5 => ?_)
    · refine lv_goto (tgt := 1835) hx hb dL_law_282 (by decide) ?_
      exact kk _ _ _ _ _ H locs ls hMM.lR (by (try simp only [headSpec]); omega) (by (try simp only [headSpec]); omega) hW (lv_sub hl [2, 3, 4, 5, 6] rfl)
    · have h50 : r5 = 0 := by first | exact hz5 | exact Classical.not_not.mp hz5
      have hcd := hc1.zero h50
      have hn1 : n1 = r6.toInt64 := by rw [hq1 hcd, hq2 hcd]
      refine lv_aload_n hx hb dL_law_269 rfl (lv_at hl 5 rfl) ?_
      refine g_getN (ci := 9) (v := .long (n1)) (C := RX4) (T := TX4) (N := 5) hx hb hts in_X4 hown hK hW ho4 rfl 0 (by decide) (nf_q466 hE) (fun _ h9 => h9) rfl dL_law_270 ?_
      refine lv_iload hx hb dL_law_273 (lv_at hl 0 rfl) ?_
      refine lv_i2l (v := (r6 : Int32).toInt64) hx hb dL_law_275 rfl ?_
      refine W.lcmp hx hb dL_law_276 ?_
      refine g_topi (y := 0) (by rw [hn1]; exact lcmp_self) ?_
      refine lv_if_eq (tgt := 282) hx hb dL_law_277 (by decide) (fun _ => ?_) (fun hz => absurd rfl hz)
      refine lv_goto (tgt := 1835) hx hb dL_law_282 (by decide) ?_
      exact kk _ _ _ _ _ H locs ls hMM.lR (by (try simp only [headSpec]); omega) (by (try simp only [headSpec]); omega) hW (lv_sub hl [2, 3, 4, 5, 6] rfl)
