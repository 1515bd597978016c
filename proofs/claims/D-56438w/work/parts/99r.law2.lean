/-! the law's cases, on *
-/
set_option maxRecDepth 100000
theorem em2 {C1 C2 : Prop} {r : Int32} (h : (¬ C1 ∧ r = 1) ∨ (C1 ∧ ¬ C2 ∧ r = 2)) : eR2 C1 C2 r ∧ ¬ (C1 ∧ C2) := by
  rcases h with ⟨h1, h2⟩ | ⟨h1, h2, h3⟩
  · exact ⟨Or.inr (Or.inl ⟨h1, h2⟩), fun q => h1 q.1⟩
  · exact ⟨Or.inr (Or.inr ⟨⟨h1, h2⟩, h3⟩), fun q => h2 q.2⟩
def eR3 (A : Nat → List (List Nat)) (n r : Int32) : Prop := r = eD A n
theorem eR3.eq {A : Nat → List (List Nat)} {n r t : Int32} (h : eR3 A n r) (k : eR3 A n t) : r = t := h.trans k.symm
theorem eR3.zero {A : Nat → List (List Nat)} {n r : Int32} (h : eR3 A n r) (e : r = 0) : ¬ n < 0 ∧ (dvN A n).1 = 0 := eD_zero (h.symm.trans e)
theorem if_cv {C : Prop} [Decidable C] {b : Bool} (h : C) : (if C ∧ b = true then (1 : Int32) else 0) = if b = true then 1 else 0 := by
  by_cases k : b = true
  · rw [if_pos k, if_pos ⟨h, k⟩]
  · rw [if_neg k, if_neg (fun z => k z.2)]
theorem sAlt_pos {z : yW} {c : Nat} {t : List Nat} (h : (kKind c = 1 ∧ kHas t 1 = true) ∧ (z.A (c - 65)).length < 3) : sAlt z c t = yW.of z.P z.C (fun i => if i = c - 65 then z.A (c - 65) ++ [t] else z.A i) z.cov z.K z.fq z.ac z.F z.rn z.tt (cpU z.cp (5 + (c - 65)) (g_an (z.A (c - 65)).length (z.cp (5 + (c - 65))))) z.cK := by
  unfold sAlt
  rw [if_pos h]
theorem go_z {z : yW} (h : yV z) (n : Nat) : (gGo z.P z.C n z.cov z.K (z.K.drop z.fq) z.ac z.F z.rn z.tt z.cp).2.2.1 = (zGo z n).K.drop (zGo z n).fq := by
  obtain ⟨h1, h2, h3, h4, h5, ⟨h6, h6b, h6c, h6d⟩, h7, h8, h9, h10⟩ := h
  exact (go_pair (b := n) h6c h6d h7 (gMe z.cov (z.K.drop z.fq) z.ac + 1) z.cov z.K z.fq z.ac z.F z.rn z.tt z.cp z.cK 0 0 0 0 0 (zgZ z n) (zgM z n) rfl rfl h5 h2 h3 h4 h6 h6b).1
set_option maxHeartbeats 4000000 in
set_option maxRecDepth 100000 in
/-- the law: addChange -/
theorem lw_1 {p : Program} {l : Launch} {e : Env} {R : Room} {s : State} {m : MethodId} {args : Array Value} {below : List Frame} {meth : Method} {c : Code} {Q : State → Prop} {D : va_G} {A : Nat → Prop} (hx : p.tables.exec = Jvm.exec) (hb : c.code = cL_law) (hts : ∀ w ∈ lw_all, w.before args s = true) (hown : s.vm.findClass RX0 = some m.cls) (hK : va_K D gCl (gT D) s) (hE : g_Env D A s) (hml : c.maxLocals = 8) (hRf : 14 ≤ R.frames) (hRl : 353 ≤ R.locals) (hl9 : l.stackTraces = false) (b L : Nat) (xs : Nat → Int32) (hX : va_X b L xs s s.heap) (hbl : b < s.heap.size) (hbA : ¬ A b) (x y o i : Nat) (hi : i + 5 ≤ L) (hL : L ≤ 320) (z : yW) (hv : yV z) (hrn : z.rn ≤ 40 * i) (c0 s0 : Nat) (hRc : c0 + (3 + g_ac z.C.length (z.cp 3)) ≤ R.cells) (hRs : s0 + (16 + g_as z.C.length (z.cp 3)) ≤ R.slots)
    (kk : ∀ (w2 : g_H) (l2 : Nat → Nat) (th2 : Int32) (cells slots : Nat) (H : Heap) (locs : List Loc) (ls : Array Slot), lR D w2 l2 x y o (sChg z (fMod (xs (i + 1)) 4) (xs (i + 2)) (xs (i + 3))) th2 → cells ≤ c0 + (3 + g_ac z.C.length (z.cp 3)) → slots ≤ s0 + (16 + g_as z.C.length (z.cp 3)) → g_W D A s.heap H locs w2 → lv_has ls 8 [(0, .ref b), (1, .ref x), (2, .ref y), (3, .ref o), (4, .int (nI i))] → W p l e R s m args below meth c H locs cells slots Q (F0 m 1835 ls [])) :
    ∀ (k : Nat) (w1 : g_H) (l1 : Nat → Nat) (th : Int32) (cells : Nat) (slots : Nat) (H : Heap) (locs : List Loc) (ls : Array Slot), 0 < k → lR D w1 l1 x y o z th → cells ≤ c0 → slots ≤ s0 → g_W D A s.heap H locs w1 → lv_has ls 8 [(0, .ref b), (1, .ref x), (2, .ref y), (3, .ref o), (4, .int (nI i))] → W p l e R s m args below meth c H locs cells slots Q (F0 m 285 ls []) := by
  intro k
  induction k with
  | zero => intro w1 l1 th cells slots H locs ls hfuel hR hcl hsl hW hl; exact absurd hfuel (by omega)
  | succ k ih =>
    intro w1 l1 th cells slots H locs ls hfuel hR hcl hsl hW hl
    obtain ⟨n0, d0, s0v, v0, f0, hM0⟩ := hR.mid
    obtain ⟨⟨rf, hS⟩, ⟨mf, en, td, st, E, hZ⟩, ho, hlo, hmu⟩ := id hM0
    obtain ⟨hvA, hcv, hKd, hcK, hYI, ⟨hfq, hac, hP16, hC8⟩, hCd, hcp3, hfI, hrn0⟩ := id hv
    have hF16 := hfI.lt hP16
    have hK3 := hYI.q.2.2
    have htt := hYI.2.2.2
    have hdl : (z.K.drop z.fq).length = z.K.length - z.fq := List.length_drop
    refine lv_aload_n hx hb dL_law_285 rfl (lv_at hl 1 rfl) ?_
    refine lv_aload_n hx hb dL_law_286 rfl (lv_at hl 0 rfl) ?_
    refine lv_iload hx hb dL_law_287 (lv_at hl 4 rfl) ?_
    refine lv_iconst (v := 1) hx hb dL_law_289 (by decide) ?_
    refine lv_iadd hx hb dL_law_290 ?_
    refine g_topi (y := nI (i + 1)) (nI_add i 1) ?_
    refine va_sld hx hb hX hbl hbA hW.2.2.1 (vp_in_nI (show i + 1 < L by omega) (by omega)) dL_law_291 ?_
    rw [nI_clamp (show i + 1 < 2 ^ 31 by omega)]
    refine g_callq (va_runS (As := [.int ((xs (i + 1)))]) (rest := [.ref x]) ⟨hx, hb, hml, hown, hts⟩ (mtX0_toChange l D w1 H.size (xs (i + 1))) (va_cwS 1 hts (lw_S q533 q534 q33 q535) rfl rfl rfl (by decide +kernel) ⟨Nat.le_trans (Nat.le_of_ble_eq_true rfl) hRf, Nat.le_trans (Nat.le_of_ble_eq_true rfl) hRl⟩) (g_preS hW hK hE) rfl rfl hl.1 rfl (lv_room (Nat.le_of_ble_eq_true rfl)) dL_law_292 ⟨?_, ?_⟩) hW (fun r_ u_ H locs hp hW => ?_)
    · (try simp only [headSpec]); omega
    · (try simp only [headSpec]); omega
    obtain ⟨er, rfl⟩ := hp
    subst er
    refine lv_aload_n hx hb dL_law_295 rfl (lv_at hl 0 rfl) ?_
    refine lv_iload hx hb dL_law_296 (lv_at hl 4 rfl) ?_
    refine lv_iconst (v := 2) hx hb dL_law_298 (by decide) ?_
    refine lv_iadd hx hb dL_law_299 ?_
    refine g_topi (y := nI (i + 2)) (nI_add i 2) ?_
    refine va_sld hx hb hX hbl hbA hW.2.2.1 (vp_in_nI (show i + 2 < L by omega) (by omega)) dL_law_300 ?_
    rw [nI_clamp (show i + 2 < 2 ^ 31 by omega)]
    refine lv_aload_n hx hb dL_law_301 rfl (lv_at hl 0 rfl) ?_
    refine lv_iload hx hb dL_law_302 (lv_at hl 4 rfl) ?_
    refine lv_iconst (v := 3) hx hb dL_law_304 (by decide) ?_
    refine lv_iadd hx hb dL_law_305 ?_
    refine g_topi (y := nI (i + 3)) (nI_add i 3) ?_
    refine va_sld hx hb hX hbl hbA hW.2.2.1 (vp_in_nI (show i + 3 < L by omega) (by omega)) dL_law_306 ?_
    rw [nI_clamp (show i + 3 < 2 ^ 31 by omega)]
    refine lv_aload_n hx hb dL_law_307 rfl (lv_at hl 3 rfl) ?_
    refine g_calli (vx_runSW (hh := [(0, 13, 16, 110), (0, 13, 20, 112)]) (As := [.ref x, .ref (D.2 1004 (fMod (xs (i + 1)) 4)), .int ((xs (i + 2))), .int ((xs (i + 3))), .ref o]) (rest := []) ⟨hx, hb, hml, hown, hts⟩ (mtX0_addChange l D w1 H.size hl9 l1 x z.ac z.rn z.tt rf z.P z.C z.A z.cov z.K (z.K.drop z.fq) z.F z.cp hS (fMod (xs (i + 1)) 4) (xs (i + 2)) (xs (i + 3)) (fMod_lt (by decide)) hcp3 o n0 d0 s0v v0 f0 ho (fun r1 u1 hp => by obtain ⟨-, -, l9, -, hy9⟩ := hp; exact (l_oC ho hlo hy9).1)) (vx_cwSW 5 hts (lw_SW q662 q663 q33 q664) rfl rfl rfl (by decide +kernel) ⟨Nat.le_trans (Nat.le_of_ble_eq_true rfl) hRf, Nat.le_trans (Nat.le_of_ble_eq_true rfl) hRl⟩) (g_preS hW hK hE) rfl rfl hl.1 rfl (lv_room (Nat.le_of_ble_eq_true rfl)) dL_law_308 ⟨?_, ?_⟩) hW (fun r5 u1 H locs hp hW => ?_)
    · (try simp only [headSpec]); omega
    · (try simp only [headSpec]); omega
    have hC : ∃ l3 n1, lMid D u1 l3 x y o (sChg z (fMod (xs (i + 1)) 4) (xs (i + 2)) (xs (i + 3))) z th n1 d0 s0v v0 f0 ∧ eR2 (kEd (xs (i + 2)) (xs (i + 3))) (z.C.length < 8) r5 ∧ ((kEd (xs (i + 2)) (xs (i + 3)) ∧ z.C.length < 8) → n1 = (nI (z.C.length + 1) : Int32).toInt64) := by
      rcases hp with ⟨r1, u2, ⟨hin, er, l3, hS2, hy⟩, e, hr⟩ | ⟨E1, ⟨hex, hE⟩, hr⟩
      · exact ⟨_, _, by rw [show sChg z (fMod (xs (i + 1)) 4) (xs (i + 2)) (xs (i + 3)) = (yW.of z.P (z.C ++ [((fMod (xs (i + 1)) 4), (xs (i + 2)).toNatClampNeg, (xs (i + 3)).toNatClampNeg)]) z.A z.cov z.K z.fq z.ac z.F z.rn z.tt (cpU z.cp 3 (g_an z.C.length (z.cp 3))) z.cK) from if_pos hin]; exact (hM0.cls hK (z2 := (yW.of z.P (z.C ++ [((fMod (xs (i + 1)) 4), (xs (i + 2)).toNatClampNeg, (xs (i + 3)).toNatClampNeg)]) z.A z.cov z.K z.fq z.ac z.F z.rn z.tt (cpU z.cp 3 (g_an z.C.length (z.cp 3))) z.cK)) ⟨rf, hS2⟩ hy).put e, Or.inl ⟨hin, hr⟩, fun _ => by rw [er]⟩
      · have q := ex2 (by decide : ("java/lang/IllegalArgumentException" : String) ≠ "java/lang/IllegalStateException") hE hr
        exact ⟨_, n0, by rw [show sChg z (fMod (xs (i + 1)) 4) (xs (i + 2)) (xs (i + 3)) = z from if_neg q.2]; exact hM0.new hK hex, q.1, fun t => absurd t q.2⟩
    obtain ⟨l3, n1, hM1, hc1, hq1⟩ := hC
    obtain ⟨⟨rf3, hS3⟩, ⟨mf3, en3, td3, st3, E3, hZ3⟩, ho3, hlo3, hmu3⟩ := id hM1
    refine lv_istore (lv' := [(5, .int (r5)), (0, .ref b), (1, .ref x), (2, .ref y), (3, .ref o), (4, .int (nI i))]) hx hb dL_law_311 hl (by decide) rfl (fun ls hl => ?_)
    refine lv_aload_n hx hb dL_law_313 rfl (lv_at hl 3 rfl) ?_
    refine lv_aload_n hx hb dL_law_314 rfl (lv_at hl 1 rfl) ?_
    refine lv_iload hx hb dL_law_315 (lv_at hl 5 rfl) ?_
    refine lv_iconst (v := 1) hx hb dL_law_317 (by decide) ?_
    refine lv_iadd hx hb dL_law_318 ?_
    refine g_topi (y := nI (i + 1)) (nI_add i 1) ?_
    refine va_sld hx hb hX hbl hbA hW.2.2.1 (vp_in_nI (show i + 1 < L by omega) (by omega)) dL_law_319 ?_
    rw [nI_clamp (show i + 1 < 2 ^ 31 by omega)]
    refine g_callq (va_runS (As := [.int ((xs (i + 1)))]) (rest := [.ref y]) ⟨hx, hb, hml, hown, hts⟩ (mtX0_toChange l D u1 H.size (xs (i + 1))) (va_cwS 1 hts (lw_S q533 q534 q33 q535) rfl rfl rfl (by decide +kernel) ⟨Nat.le_trans (Nat.le_of_ble_eq_true rfl) hRf, Nat.le_trans (Nat.le_of_ble_eq_true rfl) hRl⟩) (g_preS hW hK hE) rfl rfl hl.1 rfl (lv_room (Nat.le_of_ble_eq_true rfl)) dL_law_320 ⟨?_, ?_⟩) hW (fun r_ u_ H locs hp hW => ?_)
    · (try simp only [headSpec]); omega
    · (try simp only [headSpec]); omega
    obtain ⟨er, rfl⟩ := hp
    subst er
    refine lv_aload_n hx hb dL_law_323 rfl (lv_at hl 1 rfl) ?_
    refine lv_iload hx hb dL_law_324 (lv_at hl 5 rfl) ?_
    refine lv_iconst (v := 2) hx hb dL_law_326 (by decide) ?_
    refine lv_iadd hx hb dL_law_327 ?_
    refine g_topi (y := nI (i + 2)) (nI_add i 2) ?_
    refine va_sld hx hb hX hbl hbA hW.2.2.1 (vp_in_nI (show i + 2 < L by omega) (by omega)) dL_law_328 ?_
    rw [nI_clamp (show i + 2 < 2 ^ 31 by omega)]
    refine lv_aload_n hx hb dL_law_329 rfl (lv_at hl 1 rfl) ?_
    refine lv_iload hx hb dL_law_330 (lv_at hl 5 rfl) ?_
    refine lv_iconst (v := 3) hx hb dL_law_332 (by decide) ?_
    refine lv_iadd hx hb dL_law_333 ?_
    refine g_topi (y := nI (i + 3)) (nI_add i 3) ?_
    refine va_sld hx hb hX hbl hbA hW.2.2.1 (vp_in_nI (show i + 3 < L by omega) (by omega)) dL_law_334 ?_
    rw [nI_clamp (show i + 3 < 2 ^ 31 by omega)]
    refine g_calli (va_runV (As := [.ref (D.2 1004 (fMod (xs (i + 1)) 4)), .int ((xs (i + 2))), .int ((xs (i + 3)))]) (rest := []) ⟨hx, hb, hml, hown, hts⟩ (mtX3_addChange l D u1 H.size y mf3 l3 z.P z.C z.A z.cov z.K z.fq z.ac z.F z.rn z.tt z.cK en3 td3 st3 E3 th hZ3 (fMod (xs (i + 1)) 4) (xs (i + 2)) (xs (i + 3)) (fMod_lt (by decide))) (cwV 3 hts (lw_V q1991 q1992 q1993 q47 q1994) rfl rfl rfl (by decide +kernel) ⟨Nat.le_trans (Nat.le_of_ble_eq_true rfl) hRf, Nat.le_trans (Nat.le_of_ble_eq_true rfl) hRl⟩) (g_preV hW hK hE hZ3.1 rfl) rfl rfl hl.1 rfl (lv_room (Nat.le_of_ble_eq_true rfl)) dL_law_335 ⟨?_, ?_⟩) hW (fun r6 u2 H locs hp hW => ?_)
    · (try simp only [headSpec]); omega
    · (try simp only [headSpec]); omega
    have hC : ∃ l4 th2, lMid D u2 l4 x y o (sChg z (fMod (xs (i + 1)) 4) (xs (i + 2)) (xs (i + 3))) (sChg z (fMod (xs (i + 1)) 4) (xs (i + 2)) (xs (i + 3))) th2 n1 d0 s0v v0 f0 ∧ eR2 (kEd (xs (i + 2)) (xs (i + 3))) (z.C.length < 8) th2 ∧ ((kEd (xs (i + 2)) (xs (i + 3)) ∧ z.C.length < 8) → r6 = nI (z.C.length + 1)) := by
      obtain ⟨C2, th9, hZ9, hz9, hor⟩ := hp
      rcases hor with ⟨hin, e1, e2, e3⟩ | ⟨e3, hn⟩
      · have hin0 := hin
        rw [e1, e3] at hZ9
        exact ⟨_, 0, by rw [show sChg z (fMod (xs (i + 1)) 4) (xs (i + 2)) (xs (i + 3)) = (yW.of z.P (z.C ++ [((fMod (xs (i + 1)) 4), (xs (i + 2)).toNatClampNeg, (xs (i + 3)).toNatClampNeg)]) z.A z.cov z.K z.fq z.ac z.F z.rn z.tt (cpU z.cp 3 (g_an z.C.length (z.cp 3))) z.cK) from if_pos hin] at hM1 ⊢; exact hM1.mod hK (z2 := (yW.of z.P (z.C ++ [((fMod (xs (i + 1)) 4), (xs (i + 2)).toNatClampNeg, (xs (i + 3)).toNatClampNeg)]) z.A z.cov z.K z.fq z.ac z.F z.rn z.tt (cpU z.cp 3 (g_an z.C.length (z.cp 3))) z.cK)) ⟨_, _, _, _, _, hZ9⟩ hz9, Or.inl ⟨hin, rfl⟩, fun _ => e2⟩
      · have q := em2 hn
        rw [e3] at hZ9
        exact ⟨_, th9, by rw [show sChg z (fMod (xs (i + 1)) 4) (xs (i + 2)) (xs (i + 3)) = z from if_neg q.2] at hM1 ⊢; exact hM1.mod hK ⟨_, _, _, _, _, hZ9⟩ hz9, q.1, fun t => absurd t q.2⟩
    obtain ⟨l4, th2, hMM, hc2, hq2⟩ := hC
    have hag : r5 = th2 ∧ True := ⟨hc1.eq hc2, trivial⟩
    obtain ⟨⟨rf4, hS4⟩, ⟨mf4, en4, td4, st4, E4, hZ4⟩, ho4, hlo4, hmu4⟩ := id hMM
    refine lv_istore (lv' := [(6, .int (r6)), (5, .int (r5)), (0, .ref b), (1, .ref x), (2, .ref y), (3, .ref o), (4, .int (nI i))]) hx hb dL_law_338 hl (by decide) rfl (fun ls hl => ?_)
    refine lv_aload_n hx hb dL_law_340 rfl (lv_at hl 4 rfl) ?_
    refine g_calli (va_runV (As := []) (rest := []) ⟨hx, hb, hml, hown, hts⟩ (mtX3_thrown l D u2 H.size y mf4 l4 (sChg z (fMod (xs (i + 1)) 4) (xs (i + 2)) (xs (i + 3))).P (sChg z (fMod (xs (i + 1)) 4) (xs (i + 2)) (xs (i + 3))).C (sChg z (fMod (xs (i + 1)) 4) (xs (i + 2)) (xs (i + 3))).A (sChg z (fMod (xs (i + 1)) 4) (xs (i + 2)) (xs (i + 3))).cov (sChg z (fMod (xs (i + 1)) 4) (xs (i + 2)) (xs (i + 3))).K (sChg z (fMod (xs (i + 1)) 4) (xs (i + 2)) (xs (i + 3))).fq (sChg z (fMod (xs (i + 1)) 4) (xs (i + 2)) (xs (i + 3))).ac (sChg z (fMod (xs (i + 1)) 4) (xs (i + 2)) (xs (i + 3))).F (sChg z (fMod (xs (i + 1)) 4) (xs (i + 2)) (xs (i + 3))).rn (sChg z (fMod (xs (i + 1)) 4) (xs (i + 2)) (xs (i + 3))).tt (sChg z (fMod (xs (i + 1)) 4) (xs (i + 2)) (xs (i + 3))).cK en4 td4 st4 E4 th2 hZ4) (cwV 0 hts (lw_V q1970 q1971 q1972 q47 q1973) rfl rfl rfl (by decide +kernel) ⟨Nat.le_trans (Nat.le_of_ble_eq_true rfl) hRf, Nat.le_trans (Nat.le_of_ble_eq_true rfl) hRl⟩) (g_preV hW hK hE hZ4.1 rfl) rfl rfl hl.1 rfl (lv_room (Nat.le_of_ble_eq_true rfl)) dL_law_341 ⟨?_, ?_⟩) hW (fun r_ u_ H locs hp hW => ?_)
    · (try simp only [headSpec]); omega
    · (try simp only [headSpec]); omega
    obtain ⟨er, rfl⟩ := hp
    rw [er]
    refine lv_iload hx hb dL_law_344 (lv_at hl 1 rfl) ?_
    refine lv_icmp_eq (tgt := 351) hx hb dL_law_346 (by decide) (fun _ => ?_) (fun hz => absurd hag.1.symm hz)
    refine lv_iload hx hb dL_law_351 (lv_at hl 1 rfl) ?_
    refine lv_if_ne (tgt := 369) hx hb dL_law_353 (by decide) (fun hz5 => ?_) (fun hz5 => ?_)
    · refine lv_goto (tgt := 1835) hx hb dL_law_369 (by decide) ?_
      exact kk _ _ _ _ _ H locs ls hMM.lR (by (try simp only [headSpec]); omega) (by (try simp only [headSpec]); omega) hW (lv_sub hl [2, 3, 4, 5, 6] rfl)
    · have h50 : r5 = 0 := by first | exact hz5 | exact Classical.not_not.mp hz5
      have hcd := hc1.zero h50
      have hn1 : n1 = r6.toInt64 := by rw [hq1 hcd, hq2 hcd]
      refine lv_aload_n hx hb dL_law_356 rfl (lv_at hl 5 rfl) ?_
      refine g_getN (ci := 9) (v := .long (n1)) (C := RX4) (T := TX4) (N := 5) hx hb hts in_X4 hown hK hW ho4 rfl 0 (by decide) (nf_q466 hE) (fun _ h9 => h9) rfl dL_law_357 ?_
      refine lv_iload hx hb dL_law_360 (lv_at hl 0 rfl) ?_
      refine lv_i2l (v := (r6 : Int32).toInt64) hx hb dL_law_362 rfl ?_
      refine W.lcmp hx hb dL_law_363 ?_
      refine g_topi (y := 0) (by rw [hn1]; exact lcmp_self) ?_
      refine lv_if_eq (tgt := 369) hx hb dL_law_364 (by decide) (fun _ => ?_) (fun hz => absurd rfl hz)
      refine lv_goto (tgt := 1835) hx hb dL_law_369 (by decide) ?_
      exact kk _ _ _ _ _ H locs ls hMM.lR (by (try simp only [headSpec]); omega) (by (try simp only [headSpec]); omega) hW (lv_sub hl [2, 3, 4, 5, 6] rfl)
set_option maxHeartbeats 4000000 in
set_option maxRecDepth 100000 in
/-- the law: addAlternative -/
theorem lw_2 {p : Program} {l : Launch} {e : Env} {R : Room} {s : State} {m : MethodId} {args : Array Value} {below : List Frame} {meth : Method} {c : Code} {Q : State → Prop} {D : va_G} {A : Nat → Prop} (hx : p.tables.exec = Jvm.exec) (hb : c.code = cL_law) (hts : ∀ w ∈ lw_all, w.before args s = true) (hown : s.vm.findClass RX0 = some m.cls) (hK : va_K D gCl (gT D) s) (hE : g_Env D A s) (hml : c.maxLocals = 8) (hRf : 14 ≤ R.frames) (hRl : 351 ≤ R.locals) (hl9 : l.stackTraces = false) (b L : Nat) (xs : Nat → Int32) (hX : va_X b L xs s s.heap) (hbl : b < s.heap.size) (hbA : ¬ A b) (x y o i : Nat) (hi : i + 5 ≤ L) (hL : L ≤ 320) (z : yW) (hv : yV z) (hrn : z.rn ≤ 40 * i) (c0 s0 : Nat) (hRc : c0 + (2 + g_ac (z.A ((lCh (xs (i + 1))) - 65)).length (z.cp (5 + ((lCh (xs (i + 1))) - 65)))) ≤ R.cells) (hRs : s0 + (12 + g_as (z.A ((lCh (xs (i + 1))) - 65)).length (z.cp (5 + ((lCh (xs (i + 1))) - 65)))) ≤ R.slots)
    (kk : ∀ (w2 : g_H) (l2 : Nat → Nat) (th2 : Int32) (cells slots : Nat) (H : Heap) (locs : List Loc) (ls : Array Slot), lR D w2 l2 x y o (sAlt z (lCh (xs (i + 1))) (lTx (xs (i + 2)))) th2 → cells ≤ c0 + (2 + g_ac (z.A ((lCh (xs (i + 1))) - 65)).length (z.cp (5 + ((lCh (xs (i + 1))) - 65)))) → slots ≤ s0 + (12 + g_as (z.A ((lCh (xs (i + 1))) - 65)).length (z.cp (5 + ((lCh (xs (i + 1))) - 65)))) → g_W D A s.heap H locs w2 → lv_has ls 8 [(0, .ref b), (1, .ref x), (2, .ref y), (3, .ref o), (4, .int (nI i))] → W p l e R s m args below meth c H locs cells slots Q (F0 m 1835 ls [])) :
    ∀ (k : Nat) (w1 : g_H) (l1 : Nat → Nat) (th : Int32) (cells : Nat) (slots : Nat) (H : Heap) (locs : List Loc) (ls : Array Slot), 0 < k → lR D w1 l1 x y o z th → cells ≤ c0 → slots ≤ s0 → g_W D A s.heap H locs w1 → lv_has ls 8 [(0, .ref b), (1, .ref x), (2, .ref y), (3, .ref o), (4, .int (nI i))] → W p l e R s m args below meth c H locs cells slots Q (F0 m 372 ls []) := by
  intro k
  induction k with
  | zero => intro w1 l1 th cells slots H locs ls hfuel hR hcl hsl hW hl; exact absurd hfuel (by omega)
  | succ k ih =>
    intro w1 l1 th cells slots H locs ls hfuel hR hcl hsl hW hl
    obtain ⟨n0, d0, s0v, v0, f0, hM0⟩ := hR.mid
    obtain ⟨⟨rf, hS⟩, ⟨mf, en, td, st, E, hZ⟩, ho, hlo, hmu⟩ := id hM0
    obtain ⟨hvA, hcv, hKd, hcK, hYI, ⟨hfq, hac, hP16, hC8⟩, hCd, hcp3, hfI, hrn0⟩ := id hv
    have hF16 := hfI.lt hP16
    have hK3 := hYI.q.2.2
    have htt := hYI.2.2.2
    have hdl : (z.K.drop z.fq).length = z.K.length - z.fq := List.length_drop
    refine lv_aload_n hx hb dL_law_372 rfl (lv_at hl 1 rfl) ?_
    refine lv_aload_n hx hb dL_law_373 rfl (lv_at hl 0 rfl) ?_
    refine lv_iload hx hb dL_law_374 (lv_at hl 4 rfl) ?_
    refine lv_iconst (v := 1) hx hb dL_law_376 (by decide) ?_
    refine lv_iadd hx hb dL_law_377 ?_
    refine g_topi (y := nI (i + 1)) (nI_add i 1) ?_
    refine va_sld hx hb hX hbl hbA hW.2.2.1 (vp_in_nI (show i + 1 < L by omega) (by omega)) dL_law_378 ?_
    rw [nI_clamp (show i + 1 < 2 ^ 31 by omega)]
    refine lv_i2c (v := nI (lCh (xs (i + 1)))) hx hb dL_law_379 lCh_v ?_
    refine lv_aload_n hx hb dL_law_380 rfl (lv_at hl 0 rfl) ?_
    refine lv_iload hx hb dL_law_381 (lv_at hl 4 rfl) ?_
    refine lv_iconst (v := 2) hx hb dL_law_383 (by decide) ?_
    refine lv_iadd hx hb dL_law_384 ?_
    refine g_topi (y := nI (i + 2)) (nI_add i 2) ?_
    refine va_sld hx hb hX hbl hbA hW.2.2.1 (vp_in_nI (show i + 2 < L by omega) (by omega)) dL_law_385 ?_
    rw [nI_clamp (show i + 2 < 2 ^ 31 by omega)]
    refine g_callq (va_runS (As := [.int ((xs (i + 2)))]) (rest := [.int (nI (lCh (xs (i + 1)))), .ref x]) ⟨hx, hb, hml, hown, hts⟩ (mtX0_text l D w1 H.size (xs (i + 2))) (va_cwS 1 hts (lw_S q482 q483 q33 q484) rfl rfl rfl (by decide +kernel) ⟨Nat.le_trans (Nat.le_of_ble_eq_true rfl) hRf, Nat.le_trans (Nat.le_of_ble_eq_true rfl) hRl⟩) (g_preS hW hK hE) rfl rfl hl.1 rfl (lv_room (Nat.le_of_ble_eq_true rfl)) dL_law_386 ⟨?_, ?_⟩) hW (fun r_ u_ H locs hp hW => ?_)
    · (try simp only [headSpec]); omega
    · (try simp only [headSpec]); omega
    obtain ⟨er, rfl⟩ := hp
    subst er
    refine lv_aload_n hx hb dL_law_389 rfl (lv_at hl 3 rfl) ?_
    refine g_calli (vx_runSW (hh := [(0, 11, 14, 110), (0, 11, 18, 112)]) (As := [.ref x, .int (nI (lCh (xs (i + 1)))), .ref (D.2 1000 (fMod (xs (i + 2)) 14)), .ref o]) (rest := []) ⟨hx, hb, hml, hown, hts⟩ (mtX0_addAlternative l D w1 H.size hl9 l1 x z.ac z.rn z.tt rf z.P z.C z.A z.cov z.K (z.K.drop z.fq) z.F z.cp hS (lCh (xs (i + 1))) (D.2 1000 (fMod (xs (i + 2)) 14)) (lTx (xs (i + 2))) lCh_lt (lit_str (fMod_lt (by decide))) o n0 d0 s0v v0 f0 ho (fun r1 u1 hp => by obtain ⟨-, -, l9, -, hy9⟩ := hp; exact (l_oC ho hlo hy9).1)) (vx_cwSW 4 hts (lw_SW q726 q727 q33 q728) rfl rfl rfl (by decide +kernel) ⟨Nat.le_trans (Nat.le_of_ble_eq_true rfl) hRf, Nat.le_trans (Nat.le_of_ble_eq_true rfl) hRl⟩) (g_preS hW hK hE) rfl rfl hl.1 rfl (lv_room (Nat.le_of_ble_eq_true rfl)) dL_law_390 ⟨?_, ?_⟩) hW (fun r5 u1 H locs hp hW => ?_)
    · (try simp only [headSpec]); omega
    · (try simp only [headSpec]); omega
    have hC : ∃ l3 n1, lMid D u1 l3 x y o (sAlt z (lCh (xs (i + 1))) (lTx (xs (i + 2)))) z th n1 d0 s0v v0 f0 ∧ eR2 ((kKind (lCh (xs (i + 1))) = 1 ∧ kHas (lTx (xs (i + 2))) 1 = true)) ((z.A ((lCh (xs (i + 1))) - 65)).length < 3) r5 ∧ (((kKind (lCh (xs (i + 1))) = 1 ∧ kHas (lTx (xs (i + 2))) 1 = true) ∧ (z.A ((lCh (xs (i + 1))) - 65)).length < 3) → n1 = (nI ((z.A ((lCh (xs (i + 1))) - 65)).length + 1) : Int32).toInt64) := by
      rcases hp with ⟨r1, u2, ⟨hin, er, l3, hS2, hy⟩, e, hr⟩ | ⟨E1, ⟨hex, hE⟩, hr⟩
      · exact ⟨_, _, by rw [show sAlt z (lCh (xs (i + 1))) (lTx (xs (i + 2))) = (yW.of z.P z.C (fun i7 => if i7 = (lCh (xs (i + 1))) - 65 then z.A ((lCh (xs (i + 1))) - 65) ++ [(lTx (xs (i + 2)))] else z.A i7) z.cov z.K z.fq z.ac z.F z.rn z.tt (cpU z.cp (5 + ((lCh (xs (i + 1))) - 65)) (g_an (z.A ((lCh (xs (i + 1))) - 65)).length (z.cp (5 + ((lCh (xs (i + 1))) - 65))))) z.cK) from sAlt_pos hin]; exact (hM0.cls hK (z2 := (yW.of z.P z.C (fun i7 => if i7 = (lCh (xs (i + 1))) - 65 then z.A ((lCh (xs (i + 1))) - 65) ++ [(lTx (xs (i + 2)))] else z.A i7) z.cov z.K z.fq z.ac z.F z.rn z.tt (cpU z.cp (5 + ((lCh (xs (i + 1))) - 65)) (g_an (z.A ((lCh (xs (i + 1))) - 65)).length (z.cp (5 + ((lCh (xs (i + 1))) - 65))))) z.cK)) ⟨rf, hS2⟩ hy).put e, Or.inl ⟨hin, hr⟩, fun _ => by rw [er]⟩
      · have q := ex2 (by decide : ("java/lang/IllegalArgumentException" : String) ≠ "java/lang/IllegalStateException") hE hr
        subst hex
        exact ⟨l1, n0, by rw [show sAlt z (lCh (xs (i + 1))) (lTx (xs (i + 2))) = z from if_neg q.2]; exact hM0, q.1, fun t => absurd t q.2⟩
    obtain ⟨l3, n1, hM1, hc1, hq1⟩ := hC
    obtain ⟨⟨rf3, hS3⟩, ⟨mf3, en3, td3, st3, E3, hZ3⟩, ho3, hlo3, hmu3⟩ := id hM1
    refine lv_istore (lv' := [(5, .int (r5)), (0, .ref b), (1, .ref x), (2, .ref y), (3, .ref o), (4, .int (nI i))]) hx hb dL_law_393 hl (by decide) rfl (fun ls hl => ?_)
    refine lv_aload_n hx hb dL_law_395 rfl (lv_at hl 3 rfl) ?_
    refine lv_aload_n hx hb dL_law_396 rfl (lv_at hl 1 rfl) ?_
    refine lv_iload hx hb dL_law_397 (lv_at hl 5 rfl) ?_
    refine lv_iconst (v := 1) hx hb dL_law_399 (by decide) ?_
    refine lv_iadd hx hb dL_law_400 ?_
    refine g_topi (y := nI (i + 1)) (nI_add i 1) ?_
    refine va_sld hx hb hX hbl hbA hW.2.2.1 (vp_in_nI (show i + 1 < L by omega) (by omega)) dL_law_401 ?_
    rw [nI_clamp (show i + 1 < 2 ^ 31 by omega)]
    refine lv_i2c (v := nI (lCh (xs (i + 1)))) hx hb dL_law_402 lCh_v ?_
    refine lv_aload_n hx hb dL_law_403 rfl (lv_at hl 1 rfl) ?_
    refine lv_iload hx hb dL_law_404 (lv_at hl 5 rfl) ?_
    refine lv_iconst (v := 2) hx hb dL_law_406 (by decide) ?_
    refine lv_iadd hx hb dL_law_407 ?_
    refine g_topi (y := nI (i + 2)) (nI_add i 2) ?_
    refine va_sld hx hb hX hbl hbA hW.2.2.1 (vp_in_nI (show i + 2 < L by omega) (by omega)) dL_law_408 ?_
    rw [nI_clamp (show i + 2 < 2 ^ 31 by omega)]
    refine g_callq (va_runS (As := [.int ((xs (i + 2)))]) (rest := [.int (nI (lCh (xs (i + 1)))), .ref y]) ⟨hx, hb, hml, hown, hts⟩ (mtX0_text l D u1 H.size (xs (i + 2))) (va_cwS 1 hts (lw_S q482 q483 q33 q484) rfl rfl rfl (by decide +kernel) ⟨Nat.le_trans (Nat.le_of_ble_eq_true rfl) hRf, Nat.le_trans (Nat.le_of_ble_eq_true rfl) hRl⟩) (g_preS hW hK hE) rfl rfl hl.1 rfl (lv_room (Nat.le_of_ble_eq_true rfl)) dL_law_409 ⟨?_, ?_⟩) hW (fun r_ u_ H locs hp hW => ?_)
    · (try simp only [headSpec]); omega
    · (try simp only [headSpec]); omega
    obtain ⟨er, rfl⟩ := hp
    subst er
    refine g_calli (va_runV (As := [.int (nI (lCh (xs (i + 1)))), .ref (D.2 1000 (fMod (xs (i + 2)) 14))]) (rest := []) ⟨hx, hb, hml, hown, hts⟩ (mtX3_addAlternative l D u1 H.size y mf3 l3 z.P z.C z.A z.cov z.K z.fq z.ac z.F z.rn z.tt z.cK en3 td3 st3 E3 th hZ3 (lCh (xs (i + 1))) (D.2 1000 (fMod (xs (i + 2)) 14)) (lTx (xs (i + 2))) lCh_lt (lit_str (fMod_lt (by decide)))) (cwV 2 hts (lw_V q1997 q1998 q1999 q47 q2000) rfl rfl rfl (by decide +kernel) ⟨Nat.le_trans (Nat.le_of_ble_eq_true rfl) hRf, Nat.le_trans (Nat.le_of_ble_eq_true rfl) hRl⟩) (g_preV hW hK hE hZ3.1 rfl) rfl rfl hl.1 rfl (lv_room (Nat.le_of_ble_eq_true rfl)) dL_law_412 ⟨?_, ?_⟩) hW (fun r6 u2 H locs hp hW => ?_)
    · (try simp only [headSpec]); omega
    · (try simp only [headSpec]); omega
    have hC : ∃ l4 th2, lMid D u2 l4 x y o (sAlt z (lCh (xs (i + 1))) (lTx (xs (i + 2)))) (sAlt z (lCh (xs (i + 1))) (lTx (xs (i + 2)))) th2 n1 d0 s0v v0 f0 ∧ eR2 ((kKind (lCh (xs (i + 1))) = 1 ∧ kHas (lTx (xs (i + 2))) 1 = true)) ((z.A ((lCh (xs (i + 1))) - 65)).length < 3) th2 ∧ (((kKind (lCh (xs (i + 1))) = 1 ∧ kHas (lTx (xs (i + 2))) 1 = true) ∧ (z.A ((lCh (xs (i + 1))) - 65)).length < 3) → r6 = nI ((z.A ((lCh (xs (i + 1))) - 65)).length + 1)) := by
      obtain ⟨C2, th9, hZ9, hz9, hor⟩ := hp
      rcases hor with ⟨h1, h2, e1, e2, e3⟩ | ⟨e3, hn⟩
      · have hin := And.intro h1 h2
        rw [e1, e3] at hZ9
        exact ⟨_, 0, by rw [show sAlt z (lCh (xs (i + 1))) (lTx (xs (i + 2))) = (yW.of z.P z.C (fun i7 => if i7 = (lCh (xs (i + 1))) - 65 then z.A ((lCh (xs (i + 1))) - 65) ++ [(lTx (xs (i + 2)))] else z.A i7) z.cov z.K z.fq z.ac z.F z.rn z.tt (cpU z.cp (5 + ((lCh (xs (i + 1))) - 65)) (g_an (z.A ((lCh (xs (i + 1))) - 65)).length (z.cp (5 + ((lCh (xs (i + 1))) - 65))))) z.cK) from sAlt_pos hin] at hM1 ⊢; exact hM1.mod hK (z2 := (yW.of z.P z.C (fun i7 => if i7 = (lCh (xs (i + 1))) - 65 then z.A ((lCh (xs (i + 1))) - 65) ++ [(lTx (xs (i + 2)))] else z.A i7) z.cov z.K z.fq z.ac z.F z.rn z.tt (cpU z.cp (5 + ((lCh (xs (i + 1))) - 65)) (g_an (z.A ((lCh (xs (i + 1))) - 65)).length (z.cp (5 + ((lCh (xs (i + 1))) - 65))))) z.cK)) ⟨_, _, _, _, _, hZ9⟩ hz9, Or.inl ⟨hin, rfl⟩, fun _ => e2⟩
      · have q := em2 hn
        rw [e3] at hZ9
        exact ⟨_, th9, by rw [show sAlt z (lCh (xs (i + 1))) (lTx (xs (i + 2))) = z from if_neg q.2] at hM1 ⊢; exact hM1.mod hK ⟨_, _, _, _, _, hZ9⟩ hz9, q.1, fun t => absurd t q.2⟩
    obtain ⟨l4, th2, hMM, hc2, hq2⟩ := hC
    have hag : r5 = th2 ∧ True := ⟨hc1.eq hc2, trivial⟩
    obtain ⟨⟨rf4, hS4⟩, ⟨mf4, en4, td4, st4, E4, hZ4⟩, ho4, hlo4, hmu4⟩ := id hMM
    refine lv_istore (lv' := [(6, .int (r6)), (5, .int (r5)), (0, .ref b), (1, .ref x), (2, .ref y), (3, .ref o), (4, .int (nI i))]) hx hb dL_law_415 hl (by decide) rfl (fun ls hl => ?_)
    refine lv_aload_n hx hb dL_law_417 rfl (lv_at hl 4 rfl) ?_
    refine g_calli (va_runV (As := []) (rest := []) ⟨hx, hb, hml, hown, hts⟩ (mtX3_thrown l D u2 H.size y mf4 l4 (sAlt z (lCh (xs (i + 1))) (lTx (xs (i + 2)))).P (sAlt z (lCh (xs (i + 1))) (lTx (xs (i + 2)))).C (sAlt z (lCh (xs (i + 1))) (lTx (xs (i + 2)))).A (sAlt z (lCh (xs (i + 1))) (lTx (xs (i + 2)))).cov (sAlt z (lCh (xs (i + 1))) (lTx (xs (i + 2)))).K (sAlt z (lCh (xs (i + 1))) (lTx (xs (i + 2)))).fq (sAlt z (lCh (xs (i + 1))) (lTx (xs (i + 2)))).ac (sAlt z (lCh (xs (i + 1))) (lTx (xs (i + 2)))).F (sAlt z (lCh (xs (i + 1))) (lTx (xs (i + 2)))).rn (sAlt z (lCh (xs (i + 1))) (lTx (xs (i + 2)))).tt (sAlt z (lCh (xs (i + 1))) (lTx (xs (i + 2)))).cK en4 td4 st4 E4 th2 hZ4) (cwV 0 hts (lw_V q1970 q1971 q1972 q47 q1973) rfl rfl rfl (by decide +kernel) ⟨Nat.le_trans (Nat.le_of_ble_eq_true rfl) hRf, Nat.le_trans (Nat.le_of_ble_eq_true rfl) hRl⟩) (g_preV hW hK hE hZ4.1 rfl) rfl rfl hl.1 rfl (lv_room (Nat.le_of_ble_eq_true rfl)) dL_law_418 ⟨?_, ?_⟩) hW (fun r_ u_ H locs hp hW => ?_)
    · (try simp only [headSpec]); omega
    · (try simp only [headSpec]); omega
    obtain ⟨er, rfl⟩ := hp
    rw [er]
    refine lv_iload hx hb dL_law_421 (lv_at hl 1 rfl) ?_
    refine lv_icmp_eq (tgt := 428) hx hb dL_law_423 (by decide) (fun _ => ?_) (fun hz => absurd hag.1.symm hz)
    refine lv_iload hx hb dL_law_428 (lv_at hl 1 rfl) ?_
    refine lv_if_ne (tgt := 446) hx hb dL_law_430 (by decide) (fun hz5 => ?_) (fun hz5 => ?_)
    · refine lv_goto (tgt := 1835) hx hb dL_law_446 (by decide) ?_
      exact kk _ _ _ _ _ H locs ls hMM.lR (by (try simp only [headSpec]); omega) (by (try simp only [headSpec]); omega) hW (lv_sub hl [2, 3, 4, 5, 6] rfl)
    · have h50 : r5 = 0 := by first | exact hz5 | exact Classical.not_not.mp hz5
      have hcd := hc1.zero h50
      have hn1 : n1 = r6.toInt64 := by rw [hq1 hcd, hq2 hcd]
      refine lv_aload_n hx hb dL_law_433 rfl (lv_at hl 5 rfl) ?_
      refine g_getN (ci := 9) (v := .long (n1)) (C := RX4) (T := TX4) (N := 5) hx hb hts in_X4 hown hK hW ho4 rfl 0 (by decide) (nf_q466 hE) (fun _ h9 => h9) rfl dL_law_434 ?_
      refine lv_iload hx hb dL_law_437 (lv_at hl 0 rfl) ?_
      refine lv_i2l (v := (r6 : Int32).toInt64) hx hb dL_law_439 rfl ?_
      refine W.lcmp hx hb dL_law_440 ?_
      refine g_topi (y := 0) (by rw [hn1]; exact lcmp_self) ?_
      refine lv_if_eq (tgt := 446) hx hb dL_law_441 (by decide) (fun _ => ?_) (fun hz => absurd rfl hz)
      refine lv_goto (tgt := 1835) hx hb dL_law_446 (by decide) ?_
      exact kk _ _ _ _ _ H locs ls hMM.lR (by (try simp only [headSpec]); omega) (by (try simp only [headSpec]); omega) hW (lv_sub hl [2, 3, 4, 5, 6] rfl)
set_option maxHeartbeats 4000000 in
set_option maxRecDepth 100000 in
/-- the law: takeDerived -/
theorem lw_5 {p : Program} {l : Launch} {e : Env} {R : Room} {s : State} {m : MethodId} {args : Array Value} {below : List Frame} {meth : Method} {c : Code} {Q : State → Prop} {D : va_G} {A : Nat → Prop} (hx : p.tables.exec = Jvm.exec) (hb : c.code = cL_law) (hts : ∀ w ∈ lw_all, w.before args s = true) (hown : s.vm.findClass RX0 = some m.cls) (hK : va_K D gCl (gT D) s) (hE : g_Env D A s) (hml : c.maxLocals = 8) (hRf : 16 ≤ R.frames) (hRl : 595 ≤ R.locals) (hl9 : l.stackTraces = false) (b L : Nat) (xs : Nat → Int32) (hX : va_X b L xs s s.heap) (hbl : b < s.heap.size) (hbA : ¬ A b) (x y o i : Nat) (hi : i + 5 ≤ L) (hL : L ≤ 320) (z : yW) (hv : yV z) (hrn : z.rn ≤ 40 * i) (c0 s0 : Nat) (hRc : c0 + (163 + tkM z.P (digs (dvN z.A (xs (i + 1))).2) z.cov z.K z.F z.cp + (150 + mdC z.P z.A (xs (i + 1)) z.cov z.K.length z.cK z.F)) ≤ R.cells) (hRs : s0 + (24230 + tkS z.P (digs (dvN z.A (xs (i + 1))).2) z.cov z.K z.F z.cp + (24206 + mdS z.P z.A (xs (i + 1)) z.cov z.K.length z.cK z.F)) ≤ R.slots)
    (kk : ∀ (w2 : g_H) (l2 : Nat → Nat) (th2 : Int32) (cells slots : Nat) (H : Heap) (locs : List Loc) (ls : Array Slot), lR D w2 l2 x y o (sDer z (xs (i + 1))) th2 → cells ≤ c0 + (163 + tkM z.P (digs (dvN z.A (xs (i + 1))).2) z.cov z.K z.F z.cp + (150 + mdC z.P z.A (xs (i + 1)) z.cov z.K.length z.cK z.F)) → slots ≤ s0 + (24230 + tkS z.P (digs (dvN z.A (xs (i + 1))).2) z.cov z.K z.F z.cp + (24206 + mdS z.P z.A (xs (i + 1)) z.cov z.K.length z.cK z.F)) → g_W D A s.heap H locs w2 → lv_has ls 8 [(0, .ref b), (1, .ref x), (2, .ref y), (3, .ref o), (4, .int (nI i))] → W p l e R s m args below meth c H locs cells slots Q (F0 m 1835 ls [])) :
    ∀ (k : Nat) (w1 : g_H) (l1 : Nat → Nat) (th : Int32) (cells : Nat) (slots : Nat) (H : Heap) (locs : List Loc) (ls : Array Slot), 0 < k → lR D w1 l1 x y o z th → cells ≤ c0 → slots ≤ s0 → g_W D A s.heap H locs w1 → lv_has ls 8 [(0, .ref b), (1, .ref x), (2, .ref y), (3, .ref o), (4, .int (nI i))] → W p l e R s m args below meth c H locs cells slots Q (F0 m 577 ls []) := by
  intro k
  induction k with
  | zero => intro w1 l1 th cells slots H locs ls hfuel hR hcl hsl hW hl; exact absurd hfuel (by omega)
  | succ k ih =>
    intro w1 l1 th cells slots H locs ls hfuel hR hcl hsl hW hl
    obtain ⟨n0, d0, s0v, v0, f0, hM0⟩ := hR.mid
    obtain ⟨⟨rf, hS⟩, ⟨mf, en, td, st, E, hZ⟩, ho, hlo, hmu⟩ := id hM0
    obtain ⟨hvA, hcv, hKd, hcK, hYI, ⟨hfq, hac, hP16, hC8⟩, hCd, hcp3, hfI, hrn0⟩ := id hv
    have hF16 := hfI.lt hP16
    have hK3 := hYI.q.2.2
    have htt := hYI.2.2.2
    have hdl : (z.K.drop z.fq).length = z.K.length - z.fq := List.length_drop
    refine lv_aload_n hx hb dL_law_577 rfl (lv_at hl 1 rfl) ?_
    refine lv_aload_n hx hb dL_law_578 rfl (lv_at hl 0 rfl) ?_
    refine lv_iload hx hb dL_law_579 (lv_at hl 4 rfl) ?_
    refine lv_iconst (v := 1) hx hb dL_law_581 (by decide) ?_
    refine lv_iadd hx hb dL_law_582 ?_
    refine g_topi (y := nI (i + 1)) (nI_add i 1) ?_
    refine va_sld hx hb hX hbl hbA hW.2.2.1 (vp_in_nI (show i + 1 < L by omega) (by omega)) dL_law_583 ?_
    rw [nI_clamp (show i + 1 < 2 ^ 31 by omega)]
    refine lv_aload_n hx hb dL_law_584 rfl (lv_at hl 3 rfl) ?_
    refine g_calli (vx_runSW (hh := [(0, 17, 20, 110), (0, 17, 23, 130), (0, 17, 26, 132)]) (As := [.ref x, .int ((xs (i + 1))), .ref o]) (rest := []) ⟨hx, hb, hml, hown, hts⟩ (mtX0_takeDerived l D w1 H.size hl9 l1 x z.ac z.rn z.tt rf z.P z.C z.A z.cov z.K (z.K.drop z.fq) z.F z.cp hS hvA.1 (xs (i + 1)) (by omega) (by omega) (by omega) (by omega) (by omega) o n0 d0 s0v v0 f0 ho (fun r1 u1 hp => by obtain ⟨-, -, l9, -, hy9⟩ := hp; exact (l_oC ho hlo hy9).1)) (vx_cwSW 3 hts (lw_SW q1563 q1564 q33 q1565) rfl rfl rfl (by decide +kernel) ⟨Nat.le_trans (Nat.le_of_ble_eq_true rfl) hRf, Nat.le_trans (Nat.le_of_ble_eq_true rfl) hRl⟩) (g_preS hW hK hE) rfl rfl hl.1 rfl (lv_room (Nat.le_of_ble_eq_true rfl)) dL_law_585 ⟨?_, ?_⟩) hW (fun r5 u1 H locs hp hW => ?_)
    · (try simp only [headSpec]); omega
    · (try simp only [headSpec]); omega
    have hC : ∃ l3 n1, lMid D u1 l3 x y o (sDer z (xs (i + 1))) z th n1 d0 s0v v0 f0 ∧ eR3 z.A (xs (i + 1)) r5 ∧ ((¬ (xs (i + 1)) < 0 ∧ (dvN z.A (xs (i + 1))).1 = 0) → n1 = (if (if tkB z.P (digs (dvN z.A (xs (i + 1))).2) z.cov = true then (1 : Int32) else 0) = 0 then 0 else 1)) := by
      rcases hp with ⟨r1, u2, ⟨hin, er, l3, hS2, hy⟩, e, hr⟩ | ⟨E1, ⟨hex, hE⟩, hr⟩
      · rw [tkL_drop hfq, tkF_z] at hS2
        exact ⟨_, _, by rw [show sDer z (xs (i + 1)) = zTake z (digs (dvN z.A (xs (i + 1))).2) from if_pos hin]; exact (hM0.cls hK (z2 := zTake z (digs (dvN z.A (xs (i + 1))).2)) ⟨rf, hS2⟩ hy).put e, hr.trans (eD_0 hin).symm, fun _ => by rw [er]⟩
      · have q := ex3 (by decide) (by decide) (by decide) hE hr
        exact ⟨_, n0, by rw [show sDer z (xs (i + 1)) = z from if_neg q.2]; exact hM0.new hK hex, q.1, fun t => absurd t q.2⟩
    obtain ⟨l3, n1, hM1, hc1, hq1⟩ := hC
    obtain ⟨⟨rf3, hS3⟩, ⟨mf3, en3, td3, st3, E3, hZ3⟩, ho3, hlo3, hmu3⟩ := id hM1
    refine lv_istore (lv' := [(5, .int (r5)), (0, .ref b), (1, .ref x), (2, .ref y), (3, .ref o), (4, .int (nI i))]) hx hb dL_law_588 hl (by decide) rfl (fun ls hl => ?_)
    refine lv_aload_n hx hb dL_law_590 rfl (lv_at hl 3 rfl) ?_
    refine lv_aload_n hx hb dL_law_591 rfl (lv_at hl 1 rfl) ?_
    refine lv_iload hx hb dL_law_592 (lv_at hl 5 rfl) ?_
    refine lv_iconst (v := 1) hx hb dL_law_594 (by decide) ?_
    refine lv_iadd hx hb dL_law_595 ?_
    refine g_topi (y := nI (i + 1)) (nI_add i 1) ?_
    refine va_sld hx hb hX hbl hbA hW.2.2.1 (vp_in_nI (show i + 1 < L by omega) (by omega)) dL_law_596 ?_
    rw [nI_clamp (show i + 1 < 2 ^ 31 by omega)]
    refine g_calli (va_runV (As := [.int ((xs (i + 1)))]) (rest := []) ⟨hx, hb, hml, hown, hts⟩ (mtX3_takeDerived l D u1 H.size y mf3 l3 z.P z.C z.A z.cov z.K z.fq z.ac z.F z.rn z.tt z.cK en3 td3 st3 E3 th hZ3 hvA.1 (xs (i + 1)) hcv (by omega) (by omega) hF16 (by omega) (by omega)) (cwV 1 hts (lw_V q2081 q2082 q2083 q47 q2084) rfl rfl rfl (by decide +kernel) ⟨Nat.le_trans (Nat.le_of_ble_eq_true rfl) hRf, Nat.le_trans (Nat.le_of_ble_eq_true rfl) hRl⟩) (g_preV hW hK hE hZ3.1 rfl) rfl rfl hl.1 rfl (lv_room (Nat.le_of_ble_eq_true rfl)) dL_law_597 ⟨?_, ?_⟩) hW (fun r6 u2 H locs hp hW => ?_)
    · (try simp only [headSpec]); omega
    · (try simp only [headSpec]); omega
    have hC : ∃ l4 th2, lMid D u2 l4 x y o (sDer z (xs (i + 1))) (sDer z (xs (i + 1))) th2 n1 d0 s0v v0 f0 ∧ eR3 z.A (xs (i + 1)) th2 ∧ ((¬ (xs (i + 1)) < 0 ∧ (dvN z.A (xs (i + 1))).1 = 0) → r6 = (if tkB z.P (digs (dvN z.A (xs (i + 1))).2) z.cov = true then 1 else 0)) := by
      obtain ⟨l9, mf9, en9, td9, st9, E9, hz9, ⟨hin, er, hZ9⟩ | ⟨hn, hZ9⟩ | ⟨hn, hd, hZ9⟩⟩ := hp
      · exact ⟨_, 0, by rw [show sDer z (xs (i + 1)) = zTake z (digs (dvN z.A (xs (i + 1))).2) from if_pos hin] at hM1 ⊢; exact hM1.mod hK (z2 := zTake z (digs (dvN z.A (xs (i + 1))).2)) ⟨_, _, _, _, _, hZ9⟩ hz9, (eD_0 hin).symm, fun _ => er⟩
      · have hni : ¬ (¬ (xs (i + 1)) < 0 ∧ (dvN z.A (xs (i + 1))).1 = 0) := fun q => q.1 hn
        exact ⟨_, 1, by rw [show sDer z (xs (i + 1)) = z from if_neg hni] at hM1 ⊢; exact hM1.mod hK ⟨_, _, _, _, _, hZ9⟩ hz9, (if_pos hn).symm, fun q => absurd q hni⟩
      · have hni : ¬ (¬ (xs (i + 1)) < 0 ∧ (dvN z.A (xs (i + 1))).1 = 0) := fun q => hd q.2
        exact ⟨_, _, by rw [show sDer z (xs (i + 1)) = z from if_neg hni] at hM1 ⊢; exact hM1.mod hK ⟨_, _, _, _, _, hZ9⟩ hz9, (if_neg hn).symm, fun q => absurd q hni⟩
    obtain ⟨l4, th2, hMM, hc2, hq2⟩ := hC
    have hag : r5 = th2 ∧ True := ⟨hc1.eq hc2, trivial⟩
    obtain ⟨⟨rf4, hS4⟩, ⟨mf4, en4, td4, st4, E4, hZ4⟩, ho4, hlo4, hmu4⟩ := id hMM
    refine lv_istore (lv' := [(6, .int (r6)), (5, .int (r5)), (0, .ref b), (1, .ref x), (2, .ref y), (3, .ref o), (4, .int (nI i))]) hx hb dL_law_600 hl (by decide) rfl (fun ls hl => ?_)
    refine lv_aload_n hx hb dL_law_602 rfl (lv_at hl 4 rfl) ?_
    refine g_calli (va_runV (As := []) (rest := []) ⟨hx, hb, hml, hown, hts⟩ (mtX3_thrown l D u2 H.size y mf4 l4 (sDer z (xs (i + 1))).P (sDer z (xs (i + 1))).C (sDer z (xs (i + 1))).A (sDer z (xs (i + 1))).cov (sDer z (xs (i + 1))).K (sDer z (xs (i + 1))).fq (sDer z (xs (i + 1))).ac (sDer z (xs (i + 1))).F (sDer z (xs (i + 1))).rn (sDer z (xs (i + 1))).tt (sDer z (xs (i + 1))).cK en4 td4 st4 E4 th2 hZ4) (cwV 0 hts (lw_V q1970 q1971 q1972 q47 q1973) rfl rfl rfl (by decide +kernel) ⟨Nat.le_trans (Nat.le_of_ble_eq_true rfl) hRf, Nat.le_trans (Nat.le_of_ble_eq_true rfl) hRl⟩) (g_preV hW hK hE hZ4.1 rfl) rfl rfl hl.1 rfl (lv_room (Nat.le_of_ble_eq_true rfl)) dL_law_603 ⟨?_, ?_⟩) hW (fun r_ u_ H locs hp hW => ?_)
    · (try simp only [headSpec]); omega
    · (try simp only [headSpec]); omega
    obtain ⟨er, rfl⟩ := hp
    rw [er]
    refine lv_iload hx hb dL_law_606 (lv_at hl 1 rfl) ?_
    refine lv_icmp_eq (tgt := 613) hx hb dL_law_608 (by decide) (fun _ => ?_) (fun hz => absurd hag.1.symm hz)
    refine lv_iload hx hb dL_law_613 (lv_at hl 1 rfl) ?_
    refine lv_if_ne (tgt := 638) hx hb dL_law_615 (by decide) (fun hz5 => ?_) (fun hz5 => ?_)
    · refine lv_goto (tgt := 1835) hx hb dL_law_638 (by decide) ?_
      exact kk _ _ _ _ _ H locs ls hMM.lR (by (try simp only [headSpec]); omega) (by (try simp only [headSpec]); omega) hW (lv_sub hl [2, 3, 4, 5, 6] rfl)
    · have h50 : r5 = 0 := by first | exact hz5 | exact Classical.not_not.mp hz5
      have hcd := hc1.zero h50
      have hn1 : n1 = if r6 = 0 then 0 else 1 := by rw [hq1 hcd, hq2 hcd]
      refine lv_aload_n hx hb dL_law_618 rfl (lv_at hl 5 rfl) ?_
      refine g_getN (ci := 9) (v := .long (n1)) (C := RX4) (T := TX4) (N := 5) hx hb hts in_X4 hown hK hW ho4 rfl 0 (by decide) (nf_q466 hE) (fun _ h9 => h9) rfl dL_law_619 ?_
      refine lv_iload hx hb dL_law_622 (lv_at hl 0 rfl) ?_
      refine lv_if_eq (tgt := 631) hx hb dL_law_624 (by decide) (fun hc6 => ?_) (fun hc6 => ?_)
      · refine lv_lconst (v := 0) hx hb dL_law_631 rfl ?_
        refine W.lcmp hx hb dL_law_632 ?_
        refine g_topi (y := 0) (by rw [hn1, if_pos hc6]; exact lcmp_self) ?_
        refine lv_if_eq (tgt := 638) hx hb dL_law_633 (by decide) (fun _ => ?_) (fun hz => absurd rfl hz)
        refine lv_goto (tgt := 1835) hx hb dL_law_638 (by decide) ?_
        exact kk _ _ _ _ _ H locs ls hMM.lR (by (try simp only [headSpec]); omega) (by (try simp only [headSpec]); omega) hW (lv_sub hl [2, 3, 4, 5, 6] rfl)
      · refine lv_lconst (v := 1) hx hb dL_law_627 rfl ?_
        refine lv_goto (tgt := 632) hx hb dL_law_628 (by decide) ?_
        refine W.lcmp hx hb dL_law_632 ?_
        refine g_topi (y := 0) (by rw [hn1, if_neg hc6]; exact lcmp_self) ?_
        refine lv_if_eq (tgt := 638) hx hb dL_law_633 (by decide) (fun _ => ?_) (fun hz => absurd rfl hz)
        refine lv_goto (tgt := 1835) hx hb dL_law_638 (by decide) ?_
        exact kk _ _ _ _ _ H locs ls hMM.lR (by (try simp only [headSpec]); omega) (by (try simp only [headSpec]); omega) hW (lv_sub hl [2, 3, 4, 5, 6] rfl)
set_option maxHeartbeats 4000000 in
set_option maxRecDepth 100000 in
/-- the law: goOn -/
theorem lw_6 {p : Program} {l : Launch} {e : Env} {R : Room} {s : State} {m : MethodId} {args : Array Value} {below : List Frame} {meth : Method} {c : Code} {Q : State → Prop} {D : va_G} {A : Nat → Prop} (hx : p.tables.exec = Jvm.exec) (hb : c.code = cL_law) (hts : ∀ w ∈ lw_all, w.before args s = true) (hown : s.vm.findClass RX0 = some m.cls) (hK : va_K D gCl (gT D) s) (hE : g_Env D A s) (hml : c.maxLocals = 8) (hRf : 15 ≤ R.frames) (hRl : 374 ≤ R.locals) (hl9 : l.stackTraces = false) (b L : Nat) (xs : Nat → Int32) (hX : va_X b L xs s s.heap) (hbl : b < s.heap.size) (hbA : ¬ A b) (x y o i : Nat) (hi : i + 5 ≤ L) (hL : L ≤ 320) (z : yW) (hv : yV z) (hrn : z.rn ≤ 40 * i) (c0 s0 : Nat) (hRc : c0 + (3 + (gGo z.P z.C (xs (i + 1)).toNatClampNeg z.cov z.K (z.K.drop z.fq) z.ac z.F z.rn z.tt z.cp).2.2.2.2.2.2.2.2.2.1 + (mGo z.P z.C (xs (i + 1)).toNatClampNeg z.cov z.K z.fq z.ac z.F z.cK).2.2.1) ≤ R.cells) (hRs : s0 + (18 + (gGo z.P z.C (xs (i + 1)).toNatClampNeg z.cov z.K (z.K.drop z.fq) z.ac z.F z.rn z.tt z.cp).2.2.2.2.2.2.2.2.2.2 + (mGo z.P z.C (xs (i + 1)).toNatClampNeg z.cov z.K z.fq z.ac z.F z.cK).2.2.2) ≤ R.slots)
    (kk : ∀ (w2 : g_H) (l2 : Nat → Nat) (th2 : Int32) (cells slots : Nat) (H : Heap) (locs : List Loc) (ls : Array Slot), lR D w2 l2 x y o (sGo z (xs (i + 1))) th2 → cells ≤ c0 + (3 + (gGo z.P z.C (xs (i + 1)).toNatClampNeg z.cov z.K (z.K.drop z.fq) z.ac z.F z.rn z.tt z.cp).2.2.2.2.2.2.2.2.2.1 + (mGo z.P z.C (xs (i + 1)).toNatClampNeg z.cov z.K z.fq z.ac z.F z.cK).2.2.1) → slots ≤ s0 + (18 + (gGo z.P z.C (xs (i + 1)).toNatClampNeg z.cov z.K (z.K.drop z.fq) z.ac z.F z.rn z.tt z.cp).2.2.2.2.2.2.2.2.2.2 + (mGo z.P z.C (xs (i + 1)).toNatClampNeg z.cov z.K z.fq z.ac z.F z.cK).2.2.2) → g_W D A s.heap H locs w2 → lv_has ls 8 [(0, .ref b), (1, .ref x), (2, .ref y), (3, .ref o), (4, .int (nI i))] → W p l e R s m args below meth c H locs cells slots Q (F0 m 1835 ls [])) :
    ∀ (k : Nat) (w1 : g_H) (l1 : Nat → Nat) (th : Int32) (cells : Nat) (slots : Nat) (H : Heap) (locs : List Loc) (ls : Array Slot), 0 < k → lR D w1 l1 x y o z th → cells ≤ c0 → slots ≤ s0 → g_W D A s.heap H locs w1 → lv_has ls 8 [(0, .ref b), (1, .ref x), (2, .ref y), (3, .ref o), (4, .int (nI i))] → W p l e R s m args below meth c H locs cells slots Q (F0 m 641 ls []) := by
  intro k
  induction k with
  | zero => intro w1 l1 th cells slots H locs ls hfuel hR hcl hsl hW hl; exact absurd hfuel (by omega)
  | succ k ih =>
    intro w1 l1 th cells slots H locs ls hfuel hR hcl hsl hW hl
    obtain ⟨n0, d0, s0v, v0, f0, hM0⟩ := hR.mid
    obtain ⟨⟨rf, hS⟩, ⟨mf, en, td, st, E, hZ⟩, ho, hlo, hmu⟩ := id hM0
    obtain ⟨hvA, hcv, hKd, hcK, hYI, ⟨hfq, hac, hP16, hC8⟩, hCd, hcp3, hfI, hrn0⟩ := id hv
    have hF16 := hfI.lt hP16
    have hK3 := hYI.q.2.2
    have htt := hYI.2.2.2
    have hdl : (z.K.drop z.fq).length = z.K.length - z.fq := List.length_drop
    refine lv_aload_n hx hb dL_law_641 rfl (lv_at hl 1 rfl) ?_
    refine lv_aload_n hx hb dL_law_642 rfl (lv_at hl 0 rfl) ?_
    refine lv_iload hx hb dL_law_643 (lv_at hl 4 rfl) ?_
    refine lv_iconst (v := 1) hx hb dL_law_645 (by decide) ?_
    refine lv_iadd hx hb dL_law_646 ?_
    refine g_topi (y := nI (i + 1)) (nI_add i 1) ?_
    refine va_sld hx hb hX hbl hbA hW.2.2.1 (vp_in_nI (show i + 1 < L by omega) (by omega)) dL_law_647 ?_
    rw [nI_clamp (show i + 1 < 2 ^ 31 by omega)]
    refine lv_aload_n hx hb dL_law_648 rfl (lv_at hl 3 rfl) ?_
    refine g_calli (vx_runSW (hh := [(0, 10, 13, 110)]) (As := [.ref x, .int ((xs (i + 1))), .ref o]) (rest := []) ⟨hx, hb, hml, hown, hts⟩ (mtX0_goOn l D w1 H.size hl9 l1 x z.ac z.rn z.tt rf z.P z.C z.A z.cov z.K (z.K.drop z.fq) z.F z.cp hS hYI (by omega) (xs (i + 1)) o n0 d0 s0v v0 f0 ho (fun r1 u1 hp => by obtain ⟨-, -, l9, -, hy9⟩ := hp; exact (l_oC ho hlo hy9).1)) (vx_cwSW 3 hts (lw_SW q1571 q1572 q33 q1573) rfl rfl rfl (by decide +kernel) ⟨Nat.le_trans (Nat.le_of_ble_eq_true rfl) hRf, Nat.le_trans (Nat.le_of_ble_eq_true rfl) hRl⟩) (g_preS hW hK hE) rfl rfl hl.1 rfl (lv_room (Nat.le_of_ble_eq_true rfl)) dL_law_649 ⟨?_, ?_⟩) hW (fun r5 u1 H locs hp hW => ?_)
    · (try simp only [headSpec]); omega
    · (try simp only [headSpec]); omega
    have hC : ∃ l3 n1, lMid D u1 l3 x y o (sGo z (xs (i + 1))) z th n1 d0 s0v v0 f0 ∧ eR1 (1 ≤ (xs (i + 1)) ∧ (xs (i + 1)) ≤ 200) r5 ∧ ((1 ≤ (xs (i + 1)) ∧ (xs (i + 1)) ≤ 200) → n1 = (nI (gGo z.P z.C (xs (i + 1)).toNatClampNeg z.cov z.K (z.K.drop z.fq) z.ac z.F z.rn z.tt z.cp).2.2.2.2.2.2.2.2.1 : Int32).toInt64) := by
      rcases hp with ⟨r1, u2, ⟨hin, er, l3, hS2, hy⟩, e, hr⟩ | ⟨E1, ⟨-, hni, ew⟩, hr⟩
      · rw [go_z hv] at hS2
        exact ⟨_, _, by rw [show sGo z (xs (i + 1)) = zGo z (xs (i + 1)).toNatClampNeg from if_pos hin]; exact (hM0.cls hK (z2 := zGo z (xs (i + 1)).toNatClampNeg) ⟨rf, hS2⟩ hy).put e, Or.inl ⟨hin, hr⟩, fun _ => by rw [er]⟩
      · subst ew
        exact ⟨l1, n0, by rw [show sGo z (xs (i + 1)) = z from if_neg hni]; exact hM0, Or.inr ⟨hni, hr.2⟩, fun q => absurd q hni⟩
    obtain ⟨l3, n1, hM1, hc1, hq1⟩ := hC
    obtain ⟨⟨rf3, hS3⟩, ⟨mf3, en3, td3, st3, E3, hZ3⟩, ho3, hlo3, hmu3⟩ := id hM1
    refine lv_istore (lv' := [(5, .int (r5)), (0, .ref b), (1, .ref x), (2, .ref y), (3, .ref o), (4, .int (nI i))]) hx hb dL_law_652 hl (by decide) rfl (fun ls hl => ?_)
    refine lv_aload_n hx hb dL_law_654 rfl (lv_at hl 3 rfl) ?_
    refine lv_aload_n hx hb dL_law_655 rfl (lv_at hl 1 rfl) ?_
    refine lv_iload hx hb dL_law_656 (lv_at hl 5 rfl) ?_
    refine lv_iconst (v := 1) hx hb dL_law_658 (by decide) ?_
    refine lv_iadd hx hb dL_law_659 ?_
    refine g_topi (y := nI (i + 1)) (nI_add i 1) ?_
    refine va_sld hx hb hX hbl hbA hW.2.2.1 (vp_in_nI (show i + 1 < L by omega) (by omega)) dL_law_660 ?_
    rw [nI_clamp (show i + 1 < 2 ^ 31 by omega)]
    refine g_calli (va_runV (As := [.int ((xs (i + 1)))]) (rest := []) ⟨hx, hb, hml, hown, hts⟩ (mtX3_goOn l D u1 H.size y mf3 l3 z.P z.C z.A z.cov z.K z.fq z.ac z.F z.rn z.tt z.cK en3 td3 st3 E3 th hZ3 z.cp hYI hcv hKd hcK (by omega) (xs (i + 1))) (cwV 1 hts (lw_V q2086 q2087 q2088 q47 q2089) rfl rfl rfl (by decide +kernel) ⟨Nat.le_trans (Nat.le_of_ble_eq_true rfl) hRf, Nat.le_trans (Nat.le_of_ble_eq_true rfl) hRl⟩) (g_preV hW hK hE hZ3.1 rfl) rfl rfl hl.1 rfl (lv_room (Nat.le_of_ble_eq_true rfl)) dL_law_661 ⟨?_, ?_⟩) hW (fun r6 u2 H locs hp hW => ?_)
    · (try simp only [headSpec]); omega
    · (try simp only [headSpec]); omega
    have hC : ∃ l4 th2, lMid D u2 l4 x y o (sGo z (xs (i + 1))) (sGo z (xs (i + 1))) th2 n1 d0 s0v v0 f0 ∧ eR1 (1 ≤ (xs (i + 1)) ∧ (xs (i + 1)) ≤ 200) th2 ∧ ((1 ≤ (xs (i + 1)) ∧ (xs (i + 1)) ≤ 200) → r6 = nI (gGo z.P z.C (xs (i + 1)).toNatClampNeg z.cov z.K (z.K.drop z.fq) z.ac z.F z.rn z.tt z.cp).2.2.2.2.2.2.2.2.1) := by
      rcases hp with ⟨hin, er, l9, mf9, en9, td9, st9, E9, hZ9, hz9⟩ | ⟨hni, hZ9, hz9⟩
      · exact ⟨_, 0, by rw [show sGo z (xs (i + 1)) = zGo z (xs (i + 1)).toNatClampNeg from if_pos hin] at hM1 ⊢; exact hM1.mod hK (z2 := zGo z (xs (i + 1)).toNatClampNeg) ⟨_, _, _, _, _, hZ9⟩ hz9, Or.inl ⟨hin, rfl⟩, fun _ => er⟩
      · exact ⟨_, 1, by rw [show sGo z (xs (i + 1)) = z from if_neg hni] at hM1 ⊢; exact hM1.mod hK ⟨_, _, _, _, _, hZ9⟩ hz9, Or.inr ⟨hni, rfl⟩, fun q => absurd q hni⟩
    obtain ⟨l4, th2, hMM, hc2, hq2⟩ := hC
    have hag : r5 = th2 ∧ True := ⟨hc1.eq hc2, trivial⟩
    obtain ⟨⟨rf4, hS4⟩, ⟨mf4, en4, td4, st4, E4, hZ4⟩, ho4, hlo4, hmu4⟩ := id hMM
    refine lv_istore (lv' := [(6, .int (r6)), (5, .int (r5)), (0, .ref b), (1, .ref x), (2, .ref y), (3, .ref o), (4, .int (nI i))]) hx hb dL_law_664 hl (by decide) rfl (fun ls hl => ?_)
    refine lv_aload_n hx hb dL_law_666 rfl (lv_at hl 4 rfl) ?_
    refine g_calli (va_runV (As := []) (rest := []) ⟨hx, hb, hml, hown, hts⟩ (mtX3_thrown l D u2 H.size y mf4 l4 (sGo z (xs (i + 1))).P (sGo z (xs (i + 1))).C (sGo z (xs (i + 1))).A (sGo z (xs (i + 1))).cov (sGo z (xs (i + 1))).K (sGo z (xs (i + 1))).fq (sGo z (xs (i + 1))).ac (sGo z (xs (i + 1))).F (sGo z (xs (i + 1))).rn (sGo z (xs (i + 1))).tt (sGo z (xs (i + 1))).cK en4 td4 st4 E4 th2 hZ4) (cwV 0 hts (lw_V q1970 q1971 q1972 q47 q1973) rfl rfl rfl (by decide +kernel) ⟨Nat.le_trans (Nat.le_of_ble_eq_true rfl) hRf, Nat.le_trans (Nat.le_of_ble_eq_true rfl) hRl⟩) (g_preV hW hK hE hZ4.1 rfl) rfl rfl hl.1 rfl (lv_room (Nat.le_of_ble_eq_true rfl)) dL_law_667 ⟨?_, ?_⟩) hW (fun r_ u_ H locs hp hW => ?_)
    · (try simp only [headSpec]); omega
    · (try simp only [headSpec]); omega
    obtain ⟨er, rfl⟩ := hp
    rw [er]
    refine lv_iload hx hb dL_law_670 (lv_at hl 1 rfl) ?_
    refine lv_icmp_eq (tgt := 677) hx hb dL_law_672 (by decide) (fun _ => ?_) (fun hz => absurd hag.1.symm hz)
    refine lv_iload hx hb dL_law_677 (lv_at hl 1 rfl) ?_
    refine lv_if_ne (tgt := 695) hx hb dL_law_679 (by decide) (fun hz5 => ?_) (fun hz5 => ?_)
    · refine lv_goto (tgt := 1835) hx hb dL_law_695 (by decide) ?_
      exact kk _ _ _ _ _ H locs ls hMM.lR (by (try simp only [headSpec]); omega) (by (try simp only [headSpec]); omega) hW (lv_sub hl [2, 3, 4, 5, 6] rfl)
    · have h50 : r5 = 0 := by first | exact hz5 | exact Classical.not_not.mp hz5
      have hcd := hc1.zero h50
      have hn1 : n1 = r6.toInt64 := by rw [hq1 hcd, hq2 hcd]
      refine lv_aload_n hx hb dL_law_682 rfl (lv_at hl 5 rfl) ?_
      refine g_getN (ci := 9) (v := .long (n1)) (C := RX4) (T := TX4) (N := 5) hx hb hts in_X4 hown hK hW ho4 rfl 0 (by decide) (nf_q466 hE) (fun _ h9 => h9) rfl dL_law_683 ?_
      refine lv_iload hx hb dL_law_686 (lv_at hl 0 rfl) ?_
      refine lv_i2l (v := (r6 : Int32).toInt64) hx hb dL_law_688 rfl ?_
      refine W.lcmp hx hb dL_law_689 ?_
      refine g_topi (y := 0) (by rw [hn1]; exact lcmp_self) ?_
      refine lv_if_eq (tgt := 695) hx hb dL_law_690 (by decide) (fun _ => ?_) (fun hz => absurd rfl hz)
      refine lv_goto (tgt := 1835) hx hb dL_law_695 (by decide) ?_
      exact kk _ _ _ _ _ H locs ls hMM.lR (by (try simp only [headSpec]); omega) (by (try simp only [headSpec]); omega) hW (lv_sub hl [2, 3, 4, 5, 6] rfl)
set_option maxHeartbeats 4000000 in
set_option maxRecDepth 100000 in
/-- the law: reset -/
theorem lw_7 {p : Program} {l : Launch} {e : Env} {R : Room} {s : State} {m : MethodId} {args : Array Value} {below : List Frame} {meth : Method} {c : Code} {Q : State → Prop} {D : va_G} {A : Nat → Prop} (hx : p.tables.exec = Jvm.exec) (hb : c.code = cL_law) (hts : ∀ w ∈ lw_all, w.before args s = true) (hown : s.vm.findClass RX0 = some m.cls) (hK : va_K D gCl (gT D) s) (hE : g_Env D A s) (hml : c.maxLocals = 8) (hRf : 3 ≤ R.frames) (hRl : 56 ≤ R.locals) (hl9 : l.stackTraces = false) (b L : Nat) (xs : Nat → Int32) (hX : va_X b L xs s s.heap) (hbl : b < s.heap.size) (hbA : ¬ A b) (x y o i : Nat) (hi : i + 5 ≤ L) (hL : L ≤ 320) (z : yW) (hv : yV z) (hrn : z.rn ≤ 40 * i) (c0 s0 : Nat) (hRc : c0 + (0) ≤ R.cells) (hRs : s0 + (0) ≤ R.slots)
    (kk : ∀ (w2 : g_H) (l2 : Nat → Nat) (th2 : Int32) (cells slots : Nat) (H : Heap) (locs : List Loc) (ls : Array Slot), lR D w2 l2 x y o (sRes z) th2 → cells ≤ c0 + (0) → slots ≤ s0 + (0) → g_W D A s.heap H locs w2 → lv_has ls 8 [(0, .ref b), (1, .ref x), (2, .ref y), (3, .ref o), (4, .int (nI i))] → W p l e R s m args below meth c H locs cells slots Q (F0 m 1835 ls [])) :
    ∀ (k : Nat) (w1 : g_H) (l1 : Nat → Nat) (th : Int32) (cells : Nat) (slots : Nat) (H : Heap) (locs : List Loc) (ls : Array Slot), 0 < k → lR D w1 l1 x y o z th → cells ≤ c0 → slots ≤ s0 → g_W D A s.heap H locs w1 → lv_has ls 8 [(0, .ref b), (1, .ref x), (2, .ref y), (3, .ref o), (4, .int (nI i))] → W p l e R s m args below meth c H locs cells slots Q (F0 m 698 ls []) := by
  intro k
  induction k with
  | zero => intro w1 l1 th cells slots H locs ls hfuel hR hcl hsl hW hl; exact absurd hfuel (by omega)
  | succ k ih =>
    intro w1 l1 th cells slots H locs ls hfuel hR hcl hsl hW hl
    obtain ⟨n0, d0, s0v, v0, f0, hM0⟩ := hR.mid
    obtain ⟨⟨rf, hS⟩, ⟨mf, en, td, st, E, hZ⟩, ho, hlo, hmu⟩ := id hM0
    obtain ⟨hvA, hcv, hKd, hcK, hYI, ⟨hfq, hac, hP16, hC8⟩, hCd, hcp3, hfI, hrn0⟩ := id hv
    have hF16 := hfI.lt hP16
    have hK3 := hYI.q.2.2
    have htt := hYI.2.2.2
    have hdl : (z.K.drop z.fq).length = z.K.length - z.fq := List.length_drop
    refine lv_aload_n hx hb dL_law_698 rfl (lv_at hl 1 rfl) ?_
    refine g_calli (va_runV (As := []) (rest := []) ⟨hx, hb, hml, hown, hts⟩ (mtX1_reset l D w1 H.size l1 x z.ac z.rn z.tt rf z.P z.C z.A z.cov z.K (z.K.drop z.fq) z.F z.cp hS) (cwV 0 hts (lw_V q388 q389 q390 q34 q391) rfl rfl rfl (by decide +kernel) ⟨Nat.le_trans (Nat.le_of_ble_eq_true rfl) hRf, Nat.le_trans (Nat.le_of_ble_eq_true rfl) hRl⟩) (g_preV hW hK hE hS.1.1 rfl) rfl rfl hl.1 rfl (lv_room (Nat.le_of_ble_eq_true rfl)) dL_law_699 ⟨?_, ?_⟩) hW (fun r5 u1 H locs hp hW => ?_)
    · (try simp only [headSpec]); omega
    · (try simp only [headSpec]); omega
    obtain ⟨er5, l3, hS2, hy⟩ := hp
    have hM1 := hM0.cls hK (z2 := sRes z) ⟨rf, hS2⟩ hy
    obtain ⟨l3b, el3⟩ : ∃ z__, z__ = lrl D u1 l3 := ⟨_, rfl⟩
    rw [← el3] at hM1
    obtain ⟨⟨rf3, hS3⟩, ⟨mf3, en3, td3, st3, E3, hZ3⟩, ho3, hlo3, hmu3⟩ := id hM1
    refine lv_aload_n hx hb dL_law_702 rfl (lv_at hl 2 rfl) ?_
    refine g_calli (va_runV (As := []) (rest := [.int (r5)]) ⟨hx, hb, hml, hown, hts⟩ (mtX3_reset l D u1 H.size y mf3 l3b z.P z.C z.A z.cov z.K z.fq z.ac z.F z.rn z.tt z.cK en3 td3 st3 E3 th hZ3) (cwV 0 hts (lw_V q2103 q2104 q2105 q47 q2106) rfl rfl rfl (by decide +kernel) ⟨Nat.le_trans (Nat.le_of_ble_eq_true rfl) hRf, Nat.le_trans (Nat.le_of_ble_eq_true rfl) hRl⟩) (g_preV hW hK hE hZ3.1 rfl) rfl rfl hl.1 rfl (lv_room (Nat.le_of_ble_eq_true rfl)) dL_law_703 ⟨?_, ?_⟩) hW (fun r6 u2 H locs hp hW => ?_)
    · (try simp only [headSpec]); omega
    · (try simp only [headSpec]); omega
    obtain ⟨er6, hZ9, hz9⟩ := hp
    have hMM := hM1.mod hK (z2 := sRes z) ⟨_, _, _, _, _, hZ9⟩ hz9
    refine lv_icmp_eq (tgt := 1835) hx hb dL_law_706 (by decide) (fun _ => ?_) (fun hz => absurd (er5.trans er6.symm) hz)
    exact kk _ _ _ _ _ H locs ls hMM.lR (by (try simp only [headSpec]); omega) (by (try simp only [headSpec]); omega) hW (lv_sub hl [0, 1, 2, 3, 4] rfl)
set_option maxHeartbeats 4000000 in
set_option maxRecDepth 100000 in
/-- the law: isCovered -/
theorem lw_11 {p : Program} {l : Launch} {e : Env} {R : Room} {s : State} {m : MethodId} {args : Array Value} {below : List Frame} {meth : Method} {c : Code} {Q : State → Prop} {D : va_G} {A : Nat → Prop} (hx : p.tables.exec = Jvm.exec) (hb : c.code = cL_law) (hts : ∀ w ∈ lw_all, w.before args s = true) (hown : s.vm.findClass RX0 = some m.cls) (hK : va_K D gCl (gT D) s) (hE : g_Env D A s) (hml : c.maxLocals = 8) (hRf : 11 ≤ R.frames) (hRl : 177 ≤ R.locals) (hl9 : l.stackTraces = false) (b L : Nat) (xs : Nat → Int32) (hX : va_X b L xs s s.heap) (hbl : b < s.heap.size) (hbA : ¬ A b) (x y o i : Nat) (hi : i + 5 ≤ L) (hL : L ≤ 320) (z : yW) (hv : yV z) (hrn : z.rn ≤ 40 * i) (c0 s0 : Nat) (hRc : c0 + (2) ≤ R.cells) (hRs : s0 + (12) ≤ R.slots)
    (kk : ∀ (w2 : g_H) (l2 : Nat → Nat) (th2 : Int32) (cells slots : Nat) (H : Heap) (locs : List Loc) (ls : Array Slot), lR D w2 l2 x y o (z) th2 → cells ≤ c0 + (2) → slots ≤ s0 + (12) → g_W D A s.heap H locs w2 → lv_has ls 8 [(0, .ref b), (1, .ref x), (2, .ref y), (3, .ref o), (4, .int (nI i))] → W p l e R s m args below meth c H locs cells slots Q (F0 m 1835 ls [])) :
    ∀ (k : Nat) (w1 : g_H) (l1 : Nat → Nat) (th : Int32) (cells : Nat) (slots : Nat) (H : Heap) (locs : List Loc) (ls : Array Slot), 0 < k → lR D w1 l1 x y o z th → cells ≤ c0 → slots ≤ s0 → g_W D A s.heap H locs w1 → lv_has ls 8 [(0, .ref b), (1, .ref x), (2, .ref y), (3, .ref o), (4, .int (nI i))] → W p l e R s m args below meth c H locs cells slots Q (F0 m 751 ls []) := by
  intro k
  induction k with
  | zero => intro w1 l1 th cells slots H locs ls hfuel hR hcl hsl hW hl; exact absurd hfuel (by omega)
  | succ k ih =>
    intro w1 l1 th cells slots H locs ls hfuel hR hcl hsl hW hl
    obtain ⟨n0, d0, s0v, v0, f0, hM0⟩ := hR.mid
    obtain ⟨⟨rf, hS⟩, ⟨mf, en, td, st, E, hZ⟩, ho, hlo, hmu⟩ := id hM0
    obtain ⟨hvA, hcv, hKd, hcK, hYI, ⟨hfq, hac, hP16, hC8⟩, hCd, hcp3, hfI, hrn0⟩ := id hv
    have hF16 := hfI.lt hP16
    have hK3 := hYI.q.2.2
    have htt := hYI.2.2.2
    have hdl : (z.K.drop z.fq).length = z.K.length - z.fq := List.length_drop
    refine lv_aload_n hx hb dL_law_751 rfl (lv_at hl 1 rfl) ?_
    refine lv_aload_n hx hb dL_law_752 rfl (lv_at hl 0 rfl) ?_
    refine lv_iload hx hb dL_law_753 (lv_at hl 4 rfl) ?_
    refine lv_iconst (v := 1) hx hb dL_law_755 (by decide) ?_
    refine lv_iadd hx hb dL_law_756 ?_
    refine g_topi (y := nI (i + 1)) (nI_add i 1) ?_
    refine va_sld hx hb hX hbl hbA hW.2.2.1 (vp_in_nI (show i + 1 < L by omega) (by omega)) dL_law_757 ?_
    rw [nI_clamp (show i + 1 < 2 ^ 31 by omega)]
    refine lv_aload_n hx hb dL_law_758 rfl (lv_at hl 0 rfl) ?_
    refine lv_iload hx hb dL_law_759 (lv_at hl 4 rfl) ?_
    refine lv_iconst (v := 2) hx hb dL_law_761 (by decide) ?_
    refine lv_iadd hx hb dL_law_762 ?_
    refine g_topi (y := nI (i + 2)) (nI_add i 2) ?_
    refine va_sld hx hb hX hbl hbA hW.2.2.1 (vp_in_nI (show i + 2 < L by omega) (by omega)) dL_law_763 ?_
    rw [nI_clamp (show i + 2 < 2 ^ 31 by omega)]
    refine lv_aload_n hx hb dL_law_764 rfl (lv_at hl 3 rfl) ?_
    refine g_calli (vx_runSW (hh := [(0, 18, 21, 150)]) (As := [.ref x, .int ((xs (i + 1))), .int ((xs (i + 2))), .ref o]) (rest := []) ⟨hx, hb, hml, hown, hts⟩ (mtX0_isCovered l D w1 H.size hl9 l1 x z.fq z.ac z.rn z.tt z.P z.C z.A z.cov z.K z.F z.cp (hS.sy hfq) (xs (i + 1)) (xs (i + 2)) o n0 d0 s0v v0 f0 ho (fun r1 u1 hp => by obtain ⟨-, -, ew⟩ := hp; subst ew; exact ho)) (vx_cwSW 4 hts (lw_SW q1705 q1706 q33 q1707) rfl rfl rfl (by decide +kernel) ⟨Nat.le_trans (Nat.le_of_ble_eq_true rfl) hRf, Nat.le_trans (Nat.le_of_ble_eq_true rfl) hRl⟩) (g_preS hW hK hE) rfl rfl hl.1 rfl (lv_room (Nat.le_of_ble_eq_true rfl)) dL_law_765 ⟨?_, ?_⟩) hW (fun r5 u1 H locs hp hW => ?_)
    · (try simp only [headSpec]); omega
    · (try simp only [headSpec]); omega
    have hC : ∃ l3 n1, lMid D u1 l3 x y o (z) z th n1 d0 s0v v0 f0 ∧ eR1 ((¬ (xs (i + 1)) < 0 ∧ (xs (i + 1)) < nI z.P.length) ∧ ¬ (xs (i + 2)) < 0 ∧ (xs (i + 2)) < nI (z.P.length + 1)) r5 ∧ (((¬ (xs (i + 1)) < 0 ∧ (xs (i + 1)) < nI z.P.length) ∧ ¬ (xs (i + 2)) < 0 ∧ (xs (i + 2)) < nI (z.P.length + 1)) → n1 = (if (if z.cov (17 * (xs (i + 1)).toNatClampNeg + (xs (i + 2)).toNatClampNeg) = true then (1 : Int32) else 0) = 0 then 0 else 1)) := by
      rcases hp with ⟨r1, u2, ⟨hin, er, ew⟩, e, hr⟩ | ⟨E1, ⟨-, hni, ew⟩, hr⟩
      · subst ew; exact ⟨l1, _, hM0.put e, Or.inl ⟨hin, hr⟩, fun _ => by rw [er]⟩
      · subst ew; exact ⟨l1, n0, hM0, Or.inr ⟨hni, hr.2⟩, fun q => absurd q hni⟩
    obtain ⟨l3, n1, hM1, hc1, hq1⟩ := hC
    obtain ⟨⟨rf3, hS3⟩, ⟨mf3, en3, td3, st3, E3, hZ3⟩, ho3, hlo3, hmu3⟩ := id hM1
    refine lv_istore (lv' := [(5, .int (r5)), (0, .ref b), (1, .ref x), (2, .ref y), (3, .ref o), (4, .int (nI i))]) hx hb dL_law_768 hl (by decide) rfl (fun ls hl => ?_)
    refine lv_aload_n hx hb dL_law_770 rfl (lv_at hl 3 rfl) ?_
    refine lv_aload_n hx hb dL_law_771 rfl (lv_at hl 1 rfl) ?_
    refine lv_iload hx hb dL_law_772 (lv_at hl 5 rfl) ?_
    refine lv_iconst (v := 1) hx hb dL_law_774 (by decide) ?_
    refine lv_iadd hx hb dL_law_775 ?_
    refine g_topi (y := nI (i + 1)) (nI_add i 1) ?_
    refine va_sld hx hb hX hbl hbA hW.2.2.1 (vp_in_nI (show i + 1 < L by omega) (by omega)) dL_law_776 ?_
    rw [nI_clamp (show i + 1 < 2 ^ 31 by omega)]
    refine lv_aload_n hx hb dL_law_777 rfl (lv_at hl 1 rfl) ?_
    refine lv_iload hx hb dL_law_778 (lv_at hl 5 rfl) ?_
    refine lv_iconst (v := 2) hx hb dL_law_780 (by decide) ?_
    refine lv_iadd hx hb dL_law_781 ?_
    refine g_topi (y := nI (i + 2)) (nI_add i 2) ?_
    refine va_sld hx hb hX hbl hbA hW.2.2.1 (vp_in_nI (show i + 2 < L by omega) (by omega)) dL_law_782 ?_
    rw [nI_clamp (show i + 2 < 2 ^ 31 by omega)]
    refine g_calli (va_runV (As := [.int ((xs (i + 1))), .int ((xs (i + 2)))]) (rest := []) ⟨hx, hb, hml, hown, hts⟩ (mtX3_isCovered l D u1 H.size y mf3 l3 z.P z.C z.A z.cov z.K z.fq z.ac z.F z.rn z.tt z.cK en3 td3 st3 E3 th hZ3 (xs (i + 1)) (xs (i + 2))) (cwV 2 hts (lw_V q2123 q2124 q2125 q47 q2126) rfl rfl rfl (by decide +kernel) ⟨Nat.le_trans (Nat.le_of_ble_eq_true rfl) hRf, Nat.le_trans (Nat.le_of_ble_eq_true rfl) hRl⟩) (g_preV hW hK hE hZ3.1 rfl) rfl rfl hl.1 rfl (lv_room (Nat.le_of_ble_eq_true rfl)) dL_law_783 ⟨?_, ?_⟩) hW (fun r6 u2 H locs hp hW => ?_)
    · (try simp only [headSpec]); omega
    · (try simp only [headSpec]); omega
    have hC : ∃ l4 th2, lMid D u2 l4 x y o (z) (z) th2 n1 d0 s0v v0 f0 ∧ eR1 ((¬ (xs (i + 1)) < 0 ∧ (xs (i + 1)) < nI z.P.length) ∧ ¬ (xs (i + 2)) < 0 ∧ (xs (i + 2)) < nI (z.P.length + 1)) th2 ∧ (((¬ (xs (i + 1)) < 0 ∧ (xs (i + 1)) < nI z.P.length) ∧ ¬ (xs (i + 2)) < 0 ∧ (xs (i + 2)) < nI (z.P.length + 1)) → r6 = (if z.cov (17 * (xs (i + 1)).toNatClampNeg + (xs (i + 2)).toNatClampNeg) = true then 1 else 0)) := by
      obtain ⟨er, hZ9, hz9⟩ := hp
      by_cases hin : (¬ (xs (i + 1)) < 0 ∧ (xs (i + 1)) < nI z.P.length) ∧ ¬ (xs (i + 2)) < 0 ∧ (xs (i + 2)) < nI (z.P.length + 1)
      · rw [if_pos hin] at hZ9; exact ⟨_, 0, hM1.mod hK ⟨_, _, _, _, _, hZ9⟩ hz9, Or.inl ⟨hin, rfl⟩, fun _ => er.trans (if_cv hin)⟩
      · rw [if_neg hin] at hZ9; exact ⟨_, 1, hM1.mod hK ⟨_, _, _, _, _, hZ9⟩ hz9, Or.inr ⟨hin, rfl⟩, fun q => absurd q hin⟩
    obtain ⟨l4, th2, hMM, hc2, hq2⟩ := hC
    have hag : r5 = th2 ∧ True := ⟨hc1.eq hc2, trivial⟩
    obtain ⟨⟨rf4, hS4⟩, ⟨mf4, en4, td4, st4, E4, hZ4⟩, ho4, hlo4, hmu4⟩ := id hMM
    refine lv_istore (lv' := [(6, .int (r6)), (5, .int (r5)), (0, .ref b), (1, .ref x), (2, .ref y), (3, .ref o), (4, .int (nI i))]) hx hb dL_law_786 hl (by decide) rfl (fun ls hl => ?_)
    refine lv_aload_n hx hb dL_law_788 rfl (lv_at hl 4 rfl) ?_
    refine g_calli (va_runV (As := []) (rest := []) ⟨hx, hb, hml, hown, hts⟩ (mtX3_thrown l D u2 H.size y mf4 l4 (z).P (z).C (z).A (z).cov (z).K (z).fq (z).ac (z).F (z).rn (z).tt (z).cK en4 td4 st4 E4 th2 hZ4) (cwV 0 hts (lw_V q1970 q1971 q1972 q47 q1973) rfl rfl rfl (by decide +kernel) ⟨Nat.le_trans (Nat.le_of_ble_eq_true rfl) hRf, Nat.le_trans (Nat.le_of_ble_eq_true rfl) hRl⟩) (g_preV hW hK hE hZ4.1 rfl) rfl rfl hl.1 rfl (lv_room (Nat.le_of_ble_eq_true rfl)) dL_law_789 ⟨?_, ?_⟩) hW (fun r_ u_ H locs hp hW => ?_)
    · (try simp only [headSpec]); omega
    · (try simp only [headSpec]); omega
    obtain ⟨er, rfl⟩ := hp
    rw [er]
    refine lv_iload hx hb dL_law_792 (lv_at hl 1 rfl) ?_
    refine lv_icmp_eq (tgt := 799) hx hb dL_law_794 (by decide) (fun _ => ?_) (fun hz => absurd hag.1.symm hz)
    refine lv_iload hx hb dL_law_799 (lv_at hl 1 rfl) ?_
    refine lv_if_ne (tgt := 824) hx hb dL_law_801 (by decide) (fun hz5 => ?_) (fun hz5 => ?_)
    · refine lv_goto (tgt := 1835) hx hb dL_law_824 (by decide) ?_
      exact kk _ _ _ _ _ H locs ls hMM.lR (by (try simp only [headSpec]); omega) (by (try simp only [headSpec]); omega) hW (lv_sub hl [2, 3, 4, 5, 6] rfl)
    · have h50 : r5 = 0 := by first | exact hz5 | exact Classical.not_not.mp hz5
      have hcd := hc1.zero h50
      have hn1 : n1 = if r6 = 0 then 0 else 1 := by rw [hq1 hcd, hq2 hcd]
      refine lv_aload_n hx hb dL_law_804 rfl (lv_at hl 5 rfl) ?_
      refine g_getN (ci := 9) (v := .long (n1)) (C := RX4) (T := TX4) (N := 5) hx hb hts in_X4 hown hK hW ho4 rfl 0 (by decide) (nf_q466 hE) (fun _ h9 => h9) rfl dL_law_805 ?_
      refine lv_iload hx hb dL_law_808 (lv_at hl 0 rfl) ?_
      refine lv_if_eq (tgt := 817) hx hb dL_law_810 (by decide) (fun hc6 => ?_) (fun hc6 => ?_)
      · refine lv_lconst (v := 0) hx hb dL_law_817 rfl ?_
        refine W.lcmp hx hb dL_law_818 ?_
        refine g_topi (y := 0) (by rw [hn1, if_pos hc6]; exact lcmp_self) ?_
        refine lv_if_eq (tgt := 824) hx hb dL_law_819 (by decide) (fun _ => ?_) (fun hz => absurd rfl hz)
        refine lv_goto (tgt := 1835) hx hb dL_law_824 (by decide) ?_
        exact kk _ _ _ _ _ H locs ls hMM.lR (by (try simp only [headSpec]); omega) (by (try simp only [headSpec]); omega) hW (lv_sub hl [2, 3, 4, 5, 6] rfl)
      · refine lv_lconst (v := 1) hx hb dL_law_813 rfl ?_
        refine lv_goto (tgt := 818) hx hb dL_law_814 (by decide) ?_
        refine W.lcmp hx hb dL_law_818 ?_
        refine g_topi (y := 0) (by rw [hn1, if_neg hc6]; exact lcmp_self) ?_
        refine lv_if_eq (tgt := 824) hx hb dL_law_819 (by decide) (fun _ => ?_) (fun hz => absurd rfl hz)
        refine lv_goto (tgt := 1835) hx hb dL_law_824 (by decide) ?_
        exact kk _ _ _ _ _ H locs ls hMM.lR (by (try simp only [headSpec]); omega) (by (try simp only [headSpec]); omega) hW (lv_sub hl [2, 3, 4, 5, 6] rfl)
