/-! the law's loop *
-/
set_option maxRecDepth 100000
/-- the code of a call -/
def lK (a : Int32) : Nat := (a &&& 31).toBitVec.toNat
theorem lK_eq {a : Int32} : a &&& 31 = nI (lK a) := by
  apply Int32.toBitVec_inj.mp
  show (a &&& 31).toBitVec = BitVec.ofNat 32 ((a &&& 31).toBitVec.toNat)
  exact (BitVec.ofNat_toNat 32 (a &&& 31).toBitVec |>.trans (BitVec.setWidth_eq _)).symm
theorem lK_lt {a : Int32} : lK a < 32 := by
  unfold lK
  rw [Int32.toBitVec_and, BitVec.toNat_and]
  exact Nat.lt_of_le_of_lt Nat.and_le_right (by decide)
theorem l_end {i L : Nat} (hi : i < 1000) (hL : L < 1000) : (nI L - 5 < nI i) ↔ ¬ i + 5 ≤ L := by
  rw [Int32.lt_iff_toInt_lt, show (5 : Int32) = nI 5 from rfl, pk_sub_toInt (by omega) (by decide), nI_toInt (by omega)]
  omega
/-- what a call of the code j makes of the state; what it may cost -/
noncomputable def lNx (xs : Nat → Int32) (i : Nat) (z : yW) : Nat → yW
  | 0 => sAdd z (fMod (xs (i + 1)) 9) (xs (i + 2)) (xs (i + 3)) (xs (i + 4))
  | 1 => sChg z (fMod (xs (i + 1)) 4) (xs (i + 2)) (xs (i + 3))
  | 2 => sAlt z (lCh (xs (i + 1))) (lTx (xs (i + 2)))
  | 3 => z
  | 4 => sTake z (lTx (xs (i + 1)))
  | 5 => sDer z (xs (i + 1))
  | 6 => sGo z (xs (i + 1))
  | 7 => sRes z
  | 8 => z
  | 9 => z
  | 10 => z
  | 11 => z
  | 12 => z
  | 13 => z
  | 14 => z
  | 15 => z
  | 16 => z
  | 17 => sRun z (lTx (xs (i + 1)))
  | 18 => sRun z (lTx (xs (i + 1)))
  | 19 => sRun z (lTx (xs (i + 1)))
  | 20 => sRun z (lTx (xs (i + 1)))
  | 21 => z
  | 22 => sShk z (lTx (xs (i + 1)))
  | 23 => sFr z (lTx (xs (i + 1)))
  | 24 => sSml z (xs (i + 1)) (xs (i + 2))
  | 25 => sCnt z (xs (i + 2))
  | 26 => sCnt z (xs (i + 1))
  | 27 => z
  | 28 => z
  | _ => z
noncomputable def lCc (xs : Nat → Int32) (i : Nat) (z : yW) : Nat → Nat
  | 0 => 2 + (2 + g_ac z.P.length (z.cp 2))
  | 1 => 3 + g_ac z.C.length (z.cp 3)
  | 2 => 2 + g_ac (z.A ((lCh (xs (i + 1))) - 65)).length (z.cp (5 + ((lCh (xs (i + 1))) - 65)))
  | 3 => 161 + 150
  | 4 => 3 + tkM z.P (digs (lTx (xs (i + 1)))) z.cov z.K z.F z.cp + mtC z.P (lTx (xs (i + 1))) z.cov z.K.length z.cK z.F
  | 5 => 163 + tkM z.P (digs (dvN z.A (xs (i + 1))).2) z.cov z.K z.F z.cp + (150 + mdC z.P z.A (xs (i + 1)) z.cov z.K.length z.cK z.F)
  | 6 => 3 + (gGo z.P z.C (xs (i + 1)).toNatClampNeg z.cov z.K (z.K.drop z.fq) z.ac z.F z.rn z.tt z.cp).2.2.2.2.2.2.2.2.2.1 + (mGo z.P z.C (xs (i + 1)).toNatClampNeg z.cov z.K z.fq z.ac z.F z.cK).2.2.1
  | 7 => 0
  | 8 => 0
  | 9 => 0
  | 10 => 0
  | 11 => 2
  | 12 => 0
  | 13 => 1
  | 14 => 0
  | 15 => 0
  | 16 => 1 + 1
  | 17 => 3 + ((bsC (z.cp 9) (mOut z.P (digs (lTx (xs (i + 1))))).2.2.2) - z.cp 9)
  | 18 => 4 + ((bsC (z.cp 9) (mOut z.P (digs (lTx (xs (i + 1))))).2.2.2) - z.cp 9)
  | 19 => 3 + ((bsC (z.cp 9) (mOut z.P (digs (lTx (xs (i + 1))))).2.2.2) - z.cp 9)
  | 20 => 3 + ((bsC (z.cp 9) (mOut z.P (digs (lTx (xs (i + 1))))).2.2.2) - z.cp 9)
  | 21 => 10 + 8
  | 22 => 12 + ((sShr z.P (mCode z.P (digs (lTx (xs (i + 1))))) (sMs (digs (lTx (xs (i + 1)))) + 1) (digs (lTx (xs (i + 1)))) (bsC (z.cp 9) (mOut z.P (digs (lTx (xs (i + 1))))).2.2.2)).2 - z.cp 9) + 4 * shN z.P (lTx (xs (i + 1)))
  | 23 => 6 + (rFold z.P (frC (digs (lTx (xs (i + 1)))) 0) (bsC (z.cp 9) (mOut z.P (digs (lTx (xs (i + 1))))).2.2.2) - z.cp 9) + 4 * frN z.P (lTx (xs (i + 1)))
  | 24 => 8 + ((sFind z.P (xs (i + 1)) (octs 0 (xs (i + 2)).toNatClampNeg) (z.cp 9)).2 - z.cp 9) + (4 * ocN (xs (i + 2)) + 4)
  | 25 => 3 + ((rFold z.P (octs 0 (xs (i + 2)).toNatClampNeg) (z.cp 9)) - z.cp 9) + 4 * ocN (xs (i + 2))
  | 26 => 5 + ((rFold z.P (octs 0 (xs (i + 1)).toNatClampNeg) (z.cp 9)) - z.cp 9) + (rF2 z.P (octs 0 (xs (i + 1)).toNatClampNeg) 1 - 1) + (4 * ocN (xs (i + 1)) + 1)
  | 27 => 1
  | 28 => 2
  | _ => 0
noncomputable def lSs (xs : Nat → Int32) (i : Nat) (z : yW) : Nat → Nat
  | 0 => 8 + (12 + g_as z.P.length (z.cp 2))
  | 1 => 16 + g_as z.C.length (z.cp 3)
  | 2 => 12 + g_as (z.A ((lCh (xs (i + 1))) - 65)).length (z.cp (5 + ((lCh (xs (i + 1))) - 65)))
  | 3 => 24206 + 24206
  | 4 => 16 + tkS z.P (digs (lTx (xs (i + 1)))) z.cov z.K z.F z.cp + mtS z.P (lTx (xs (i + 1))) z.cov z.K.length z.cK z.F
  | 5 => 24230 + tkS z.P (digs (dvN z.A (xs (i + 1))).2) z.cov z.K z.F z.cp + (24206 + mdS z.P z.A (xs (i + 1)) z.cov z.K.length z.cK z.F)
  | 6 => 18 + (gGo z.P z.C (xs (i + 1)).toNatClampNeg z.cov z.K (z.K.drop z.fq) z.ac z.F z.rn z.tt z.cp).2.2.2.2.2.2.2.2.2.2 + (mGo z.P z.C (xs (i + 1)).toNatClampNeg z.cov z.K z.fq z.ac z.F z.cK).2.2.2
  | 7 => 0
  | 8 => 0
  | 9 => 0
  | 10 => 0
  | 11 => 12
  | 12 => 0
  | 13 => 6
  | 14 => 0
  | 15 => 0
  | 16 => 6 + 6
  | 17 => 16 + 2 * ((bsC (z.cp 9) (mOut z.P (digs (lTx (xs (i + 1))))).2.2.2) - z.cp 9)
  | 18 => 22 + 2 * ((bsC (z.cp 9) (mOut z.P (digs (lTx (xs (i + 1))))).2.2.2) - z.cp 9)
  | 19 => 16 + 2 * ((bsC (z.cp 9) (mOut z.P (digs (lTx (xs (i + 1))))).2.2.2) - z.cp 9)
  | 20 => 16 + 2 * ((bsC (z.cp 9) (mOut z.P (digs (lTx (xs (i + 1))))).2.2.2) - z.cp 9)
  | 21 => 70 + 70
  | 22 => 74 + 2 * ((sShr z.P (mCode z.P (digs (lTx (xs (i + 1))))) (sMs (digs (lTx (xs (i + 1)))) + 1) (digs (lTx (xs (i + 1)))) (bsC (z.cp 9) (mOut z.P (digs (lTx (xs (i + 1))))).2.2.2)).2 - z.cp 9) + 32 * shN z.P (lTx (xs (i + 1)))
  | 23 => 32 + 2 * (rFold z.P (frC (digs (lTx (xs (i + 1)))) 0) (bsC (z.cp 9) (mOut z.P (digs (lTx (xs (i + 1))))).2.2.2) - z.cp 9) + 32 * frN z.P (lTx (xs (i + 1)))
  | 24 => 56 + 2 * ((sFind z.P (xs (i + 1)) (octs 0 (xs (i + 2)).toNatClampNeg) (z.cp 9)).2 - z.cp 9) + (27 * ocN (xs (i + 2)) + 27)
  | 25 => 20 + 2 * ((rFold z.P (octs 0 (xs (i + 2)).toNatClampNeg) (z.cp 9)) - z.cp 9) + 27 * ocN (xs (i + 2))
  | 26 => 20 + 2 * ((rFold z.P (octs 0 (xs (i + 1)).toNatClampNeg) (z.cp 9)) - z.cp 9) + 2 * (rF2 z.P (octs 0 (xs (i + 1)).toNatClampNeg) 1 - 1) + (27 * ocN (xs (i + 1)) + 272)
  | 27 => 6
  | 28 => 10
  | _ => 0
/-- what the calls from i on may cost -/
noncomputable def lTc (xs : Nat → Int32) (L : Nat) : Nat → Nat → yW → Nat
  | 0, _, _ => 0
  | k + 1, i, z => if i + 5 ≤ L then lCc xs i z (lK (xs i)) + lTc xs L k (i + 5) (lNx xs i z (lK (xs i))) else 0
noncomputable def lTs (xs : Nat → Int32) (L : Nat) : Nat → Nat → yW → Nat
  | 0, _, _ => 0
  | k + 1, i, z => if i + 5 ≤ L then lSs xs i z (lK (xs i)) + lTs xs L k (i + 5) (lNx xs i z (lK (xs i))) else 0
theorem v_nx {xs : Nat → Int32} {i : Nat} {z : yW} (h : yV z) (j : Nat) : yV (lNx xs i z j) := by
  unfold lNx
  split
  all_goals first | exact h | exact v_add h _ _ _ _ | exact v_chg h (fMod_lt (by decide)) _ _ | exact v_alt h lTx_len | exact v_take h _ | exact v_der h _ | exact v_go h _ | exact v_res h | exact v_run h _ | exact v_shk h _ | exact v_fr h _ | exact v_sml h _ _ | exact v_cnt h _
theorem rn_go {z : yW} (h : yV z) (n : Int32) : (sGo z n).rn ≤ z.rn + 200 := by
  unfold sGo
  split
  · rename_i q
    obtain ⟨h1, h2, h3, h4, h5, ⟨h6, h6b, h6c, h6d⟩, h7, h8, h9, h10⟩ := h
    obtain ⟨r1, r2, r3, r4, r5, r6, r7⟩ := go_pair (b := n.toNatClampNeg) h6c h6d h7 (gMe z.cov (z.K.drop z.fq) z.ac + 1) z.cov z.K z.fq z.ac z.F z.rn z.tt z.cp z.cK 0 0 0 0 0 (zgZ z n.toNatClampNeg) (zgM z n.toNatClampNeg) rfl rfl h5 h2 h3 h4 h6 h6b
    have hn : n.toNatClampNeg ≤ 200 := by
      have := Int32.le_iff_toInt_le.mp q.2
      have e : (200 : Int32).toInt = 200 := rfl
      show n.toInt.toNat ≤ 200
      omega
    have := r7 (Nat.zero_le _)
    show (zgZ z n.toNatClampNeg).2.2.2.2.2.1 ≤ _
    omega
  · omega
theorem rn_sAdd {z : yW} {op : Nat} {rg vl tg : Int32} : (sAdd z op rg vl tg).rn ≤ z.rn + 200 := by
  unfold sAdd
  split
  · show z.rn ≤ z.rn + 200; omega
  · show z.rn ≤ z.rn + 200; omega
theorem rn_sChg {z : yW} {k : Nat} {p9 d9 : Int32} : (sChg z k p9 d9).rn ≤ z.rn + 200 := by
  unfold sChg
  split
  · show z.rn ≤ z.rn + 200; omega
  · show z.rn ≤ z.rn + 200; omega
theorem rn_sAlt {z : yW} {c : Nat} {t : List Nat} : (sAlt z c t).rn ≤ z.rn + 200 := by
  unfold sAlt
  split
  · show z.rn ≤ z.rn + 200; omega
  · show z.rn ≤ z.rn + 200; omega
theorem rn_sTake {z : yW} {t : List Nat} : (sTake z t).rn ≤ z.rn + 200 := by
  unfold sTake
  split
  · show z.rn + 1 ≤ z.rn + 200; omega
  · show z.rn ≤ z.rn + 200; omega
theorem rn_sDer {z : yW} {n : Int32} : (sDer z n).rn ≤ z.rn + 200 := by
  unfold sDer
  split
  · show z.rn + 1 ≤ z.rn + 200; omega
  · show z.rn ≤ z.rn + 200; omega
theorem rn_sRun {z : yW} {t : List Nat} : (sRun z t).rn ≤ z.rn + 200 := by
  unfold sRun
  split
  · show z.rn ≤ z.rn + 200; omega
  · show z.rn ≤ z.rn + 200; omega
theorem rn_sShk {z : yW} {t : List Nat} : (sShk z t).rn ≤ z.rn + 200 := by
  unfold sShk
  split
  · split
    · show z.rn ≤ z.rn + 200; omega
    · show z.rn ≤ z.rn + 200; omega
  · show z.rn ≤ z.rn + 200; omega
theorem rn_sFr {z : yW} {t : List Nat} : (sFr z t).rn ≤ z.rn + 200 := by
  unfold sFr
  split
  · split
    · show z.rn ≤ z.rn + 200; omega
    · show z.rn ≤ z.rn + 200; omega
  · show z.rn ≤ z.rn + 200; omega
theorem rn_sSml {z : yW} {c n : Int32} : (sSml z c n).rn ≤ z.rn + 200 := by
  unfold sSml
  split
  · show z.rn ≤ z.rn + 200; omega
  · show z.rn ≤ z.rn + 200; omega
theorem rn_sCnt {z : yW} {n : Int32} : (sCnt z n).rn ≤ z.rn + 200 := by
  unfold sCnt
  split
  · show z.rn ≤ z.rn + 200; omega
  · show z.rn ≤ z.rn + 200; omega
theorem rn_nx {xs : Nat → Int32} {i : Nat} {z : yW} (h : yV z) (j : Nat) : (lNx xs i z j).rn ≤ z.rn + 200 := by
  unfold lNx
  split
  · exact rn_sAdd
  · exact rn_sChg
  · exact rn_sAlt
  · exact Nat.le_add_right _ _
  · exact rn_sTake
  · exact rn_sDer
  · exact rn_go h _
  · exact Nat.zero_le _
  · exact Nat.le_add_right _ _
  · exact Nat.le_add_right _ _
  · exact Nat.le_add_right _ _
  · exact Nat.le_add_right _ _
  · exact Nat.le_add_right _ _
  · exact Nat.le_add_right _ _
  · exact Nat.le_add_right _ _
  · exact Nat.le_add_right _ _
  · exact Nat.le_add_right _ _
  · exact rn_sRun
  · exact rn_sRun
  · exact rn_sRun
  · exact rn_sRun
  · exact Nat.le_add_right _ _
  · exact rn_sShk
  · exact rn_sFr
  · exact rn_sSml
  · exact rn_sCnt
  · exact rn_sCnt
  · exact Nat.le_add_right _ _
  · exact Nat.le_add_right _ _
  · exact Nat.le_add_right _ _
set_option maxHeartbeats 4000000 in
set_option maxRecDepth 100000 in
/-- the law: its loop -/
theorem lp_law {p : Program} {l : Launch} {e : Env} {R : Room} {s : State} {m : MethodId} {args : Array Value} {below : List Frame} {meth : Method} {c : Code} {Q : State → Prop} {D : va_G} {A : Nat → Prop} (hx : p.tables.exec = Jvm.exec) (hb : c.code = cL_law) (hts : ∀ w ∈ lw_all, w.before args s = true) (hown : s.vm.findClass RX0 = some m.cls) (hK : va_K D gCl (gT D) s) (hE : g_Env D A s) (hml : c.maxLocals = 8) (hRf : 16 ≤ R.frames) (hRl : 595 ≤ R.locals) (hl9 : l.stackTraces = false) (b L : Nat) (xs : Nat → Int32) (hX : va_X b L xs s s.heap) (hbl : b < s.heap.size) (hbA : ¬ A b) (x y o : Nat) (hL : L ≤ 320) (c9 s9 : Nat) (hRc : c9 ≤ R.cells) (hRs : s9 ≤ R.slots)
    (kk : ∀ (w2 : g_H) (cells slots : Nat) (H : Heap) (locs : List Loc) (ls : Array Slot), cells ≤ c9 → slots ≤ s9 → g_W D A s.heap H locs w2 → W p l e R s m args below meth c H locs cells slots Q (F0 m 1841 ls [])) :
    ∀ (k : Nat) (i : Nat) (z : yW) (w1 : g_H) (l1 : Nat → Nat) (th : Int32) (c0 : Nat) (s0 : Nat) (cells : Nat) (slots : Nat) (H : Heap) (locs : List Loc) (ls : Array Slot), L < i + k → i ≤ L → yV z → z.rn ≤ 40 * i → c0 + lTc xs L k i z ≤ c9 → s0 + lTs xs L k i z ≤ s9 → lR D w1 l1 x y o z th → cells ≤ c0 → slots ≤ s0 → g_W D A s.heap H locs w1 → lv_has ls 8 [(0, .ref b), (1, .ref x), (2, .ref y), (3, .ref o), (4, .int (nI i))] → W p l e R s m args below meth c H locs cells slots Q (F0 m 27 ls []) := by
  intro k
  induction k with
  | zero => intro i z w1 l1 th c0 s0 cells slots H locs ls hfuel hiL hv hrn hcs hss hR hcl hsl hW hl; exact absurd hfuel (by omega)
  | succ k ih =>
    intro i z w1 l1 th c0 s0 cells slots H locs ls hfuel hiL hv hrn hcs hss hR hcl hsl hW hl
    refine lv_iload hx hb dL_law_27 (lv_at hl 4 rfl) ?_
    refine lv_aload_n hx hb dL_law_29 rfl (lv_at hl 0 rfl) ?_
    refine va_slen hx hb hX hbl hbA hW.2.2.1 dL_law_30 ?_
    refine lv_iconst (v := 5) hx hb dL_law_31 (by decide) ?_
    refine lv_isub hx hb dL_law_32 ?_
    refine lv_icmp_gt (tgt := 1841) hx hb dL_law_33 (by decide) (fun hc => ?_) (fun hc => ?_)
    · exact kk _ _ _ _ _ _ (by omega) (by omega) hW
    · have hle : i + 5 ≤ L := Classical.not_not.mp (fun h => absurd ((l_end (by omega) (by omega)).mpr h) (by first | exact hc | exact Int32.not_lt.mpr hc))
      rw [lTc, if_pos hle] at hcs
      rw [lTs, if_pos hle] at hss
      refine lv_aload_n hx hb dL_law_36 rfl (lv_at hl 0 rfl) ?_
      refine lv_iload hx hb dL_law_37 (lv_at hl 4 rfl) ?_
      refine va_sld hx hb hX hbl hbA hW.2.2.1 (vp_in_nI (show i < L by omega) (by omega)) dL_law_39 ?_
      rw [nI_clamp (show i < 2 ^ 31 by omega)]
      refine lv_bipush (v := 31) hx hb dL_law_40 (by decide) ?_
      refine lv_iand hx hb dL_law_42 ?_
      refine g_topi (y := nI (lK (xs i))) (lK_eq) ?_
      have hj0 := lK_lt (a := xs i)
      obtain ⟨j, ej⟩ : ∃ z__, z__ = lK (xs i) := ⟨_, rfl⟩
      rw [← ej] at hj0 hcs hss ⊢
      have hj : j = 0 ∨ j = 1 ∨ j = 2 ∨ j = 3 ∨ j = 4 ∨ j = 5 ∨ j = 6 ∨ j = 7 ∨ j = 8 ∨ j = 9 ∨ j = 10 ∨ j = 11 ∨ j = 12 ∨ j = 13 ∨ j = 14 ∨ j = 15 ∨ j = 16 ∨ j = 17 ∨ j = 18 ∨ j = 19 ∨ j = 20 ∨ j = 21 ∨ j = 22 ∨ j = 23 ∨ j = 24 ∨ j = 25 ∨ j = 26 ∨ j = 27 ∨ j = 28 ∨ j = 29 ∨ j = 30 ∨ j = 31 := by omega
      rcases hj with hj | hj | hj | hj | hj | hj | hj | hj | hj | hj | hj | hj | hj | hj | hj | hj | hj | hj | hj | hj | hj | hj | hj | hj | hj | hj | hj | hj | hj | hj | hj | hj
      · subst hj
        refine W.eq (g2 := F0 m 43 ls [.int 0]) rfl ?_
        refine lv_tableIn (tgt := 172) hx hb dL_law_43 (by decide) (by decide) rfl (by decide) ?_
        have hcs : c0 + ((2 + (2 + g_ac z.P.length (z.cp 2))) + lTc xs L k (i + 5) (sAdd z (fMod (xs (i + 1)) 9) (xs (i + 2)) (xs (i + 3)) (xs (i + 4)))) ≤ c9 := hcs
        have hss : s0 + ((8 + (12 + g_as z.P.length (z.cp 2))) + lTs xs L k (i + 5) (sAdd z (fMod (xs (i + 1)) 9) (xs (i + 2)) (xs (i + 3)) (xs (i + 4)))) ≤ s9 := hss
        have hv2 : yV (sAdd z (fMod (xs (i + 1)) 9) (xs (i + 2)) (xs (i + 3)) (xs (i + 4))) := v_nx (xs := xs) (i := i) hv 0
        have hrn2 : yW.rn (sAdd z (fMod (xs (i + 1)) 9) (xs (i + 2)) (xs (i + 3)) (xs (i + 4))) ≤ z.rn + 200 := rn_nx (xs := xs) (i := i) hv 0
        refine lw_0 (D := D) hx hb hts hown hK hE hml (Nat.le_trans (Nat.le_of_ble_eq_true rfl) hRf) (Nat.le_trans (Nat.le_of_ble_eq_true rfl) hRl) hl9 b L xs hX hbl hbA x y o i hle hL z hv hrn c0 s0 (by omega) (by omega) (fun w2 l2 th2 cells slots H locs ls hR hcl hsl hW hl => ?_) 1 w1 l1 th cells slots H locs ls (by decide) hR hcl hsl hW (lv_sub hl [0, 1, 2, 3, 4] rfl)
        refine lv_iinc (v := nI (i + 5)) (lv' := [(4, .int (nI (i + 5))), (0, .ref b), (1, .ref x), (2, .ref y), (3, .ref o)]) hx hb dL_law_1835 hl (k := 4) rfl (nI_add i 5) (by decide) rfl (fun ls hl => ?_)
        refine lv_goto (tgt := 27) hx hb dL_law_1838 (by decide) ?_
        exact ih (i + 5) _ w2 l2 th2 _ _ cells slots H locs ls (by omega) (by omega) hv2 (by omega) (by rw [Nat.add_assoc]; exact hcs) (by rw [Nat.add_assoc]; exact hss) hR hcl hsl hW (lv_sub hl [1, 2, 3, 4, 0] rfl)
      · subst hj
        refine W.eq (g2 := F0 m 43 ls [.int 1]) rfl ?_
        refine lv_tableIn (tgt := 285) hx hb dL_law_43 (by decide) (by decide) rfl (by decide) ?_
        have hcs : c0 + ((3 + g_ac z.C.length (z.cp 3)) + lTc xs L k (i + 5) (sChg z (fMod (xs (i + 1)) 4) (xs (i + 2)) (xs (i + 3)))) ≤ c9 := hcs
        have hss : s0 + ((16 + g_as z.C.length (z.cp 3)) + lTs xs L k (i + 5) (sChg z (fMod (xs (i + 1)) 4) (xs (i + 2)) (xs (i + 3)))) ≤ s9 := hss
        have hv2 : yV (sChg z (fMod (xs (i + 1)) 4) (xs (i + 2)) (xs (i + 3))) := v_nx (xs := xs) (i := i) hv 1
        have hrn2 : yW.rn (sChg z (fMod (xs (i + 1)) 4) (xs (i + 2)) (xs (i + 3))) ≤ z.rn + 200 := rn_nx (xs := xs) (i := i) hv 1
        refine lw_1 (D := D) hx hb hts hown hK hE hml (Nat.le_trans (Nat.le_of_ble_eq_true rfl) hRf) (Nat.le_trans (Nat.le_of_ble_eq_true rfl) hRl) hl9 b L xs hX hbl hbA x y o i hle hL z hv hrn c0 s0 (by omega) (by omega) (fun w2 l2 th2 cells slots H locs ls hR hcl hsl hW hl => ?_) 1 w1 l1 th cells slots H locs ls (by decide) hR hcl hsl hW (lv_sub hl [0, 1, 2, 3, 4] rfl)
        refine lv_iinc (v := nI (i + 5)) (lv' := [(4, .int (nI (i + 5))), (0, .ref b), (1, .ref x), (2, .ref y), (3, .ref o)]) hx hb dL_law_1835 hl (k := 4) rfl (nI_add i 5) (by decide) rfl (fun ls hl => ?_)
        refine lv_goto (tgt := 27) hx hb dL_law_1838 (by decide) ?_
        exact ih (i + 5) _ w2 l2 th2 _ _ cells slots H locs ls (by omega) (by omega) hv2 (by omega) (by rw [Nat.add_assoc]; exact hcs) (by rw [Nat.add_assoc]; exact hss) hR hcl hsl hW (lv_sub hl [1, 2, 3, 4, 0] rfl)
      · subst hj
        refine W.eq (g2 := F0 m 43 ls [.int 2]) rfl ?_
        refine lv_tableIn (tgt := 372) hx hb dL_law_43 (by decide) (by decide) rfl (by decide) ?_
        have hcs : c0 + ((2 + g_ac (z.A ((lCh (xs (i + 1))) - 65)).length (z.cp (5 + ((lCh (xs (i + 1))) - 65)))) + lTc xs L k (i + 5) (sAlt z (lCh (xs (i + 1))) (lTx (xs (i + 2))))) ≤ c9 := hcs
        have hss : s0 + ((12 + g_as (z.A ((lCh (xs (i + 1))) - 65)).length (z.cp (5 + ((lCh (xs (i + 1))) - 65)))) + lTs xs L k (i + 5) (sAlt z (lCh (xs (i + 1))) (lTx (xs (i + 2))))) ≤ s9 := hss
        have hv2 : yV (sAlt z (lCh (xs (i + 1))) (lTx (xs (i + 2)))) := v_nx (xs := xs) (i := i) hv 2
        have hrn2 : yW.rn (sAlt z (lCh (xs (i + 1))) (lTx (xs (i + 2)))) ≤ z.rn + 200 := rn_nx (xs := xs) (i := i) hv 2
        refine lw_2 (D := D) hx hb hts hown hK hE hml (Nat.le_trans (Nat.le_of_ble_eq_true rfl) hRf) (Nat.le_trans (Nat.le_of_ble_eq_true rfl) hRl) hl9 b L xs hX hbl hbA x y o i hle hL z hv hrn c0 s0 (by omega) (by omega) (fun w2 l2 th2 cells slots H locs ls hR hcl hsl hW hl => ?_) 1 w1 l1 th cells slots H locs ls (by decide) hR hcl hsl hW (lv_sub hl [0, 1, 2, 3, 4] rfl)
        refine lv_iinc (v := nI (i + 5)) (lv' := [(4, .int (nI (i + 5))), (0, .ref b), (1, .ref x), (2, .ref y), (3, .ref o)]) hx hb dL_law_1835 hl (k := 4) rfl (nI_add i 5) (by decide) rfl (fun ls hl => ?_)
        refine lv_goto (tgt := 27) hx hb dL_law_1838 (by decide) ?_
        exact ih (i + 5) _ w2 l2 th2 _ _ cells slots H locs ls (by omega) (by omega) hv2 (by omega) (by rw [Nat.add_assoc]; exact hcs) (by rw [Nat.add_assoc]; exact hss) hR hcl hsl hW (lv_sub hl [1, 2, 3, 4, 0] rfl)
      · subst hj
        refine W.eq (g2 := F0 m 43 ls [.int 3]) rfl ?_
        refine lv_tableIn (tgt := 449) hx hb dL_law_43 (by decide) (by decide) rfl (by decide) ?_
        have hcs : c0 + ((161 + 150) + lTc xs L k (i + 5) (z)) ≤ c9 := hcs
        have hss : s0 + ((24206 + 24206) + lTs xs L k (i + 5) (z)) ≤ s9 := hss
        have hv2 : yV (z) := v_nx (xs := xs) (i := i) hv 3
        have hrn2 : yW.rn (z) ≤ z.rn + 200 := rn_nx (xs := xs) (i := i) hv 3
        refine lw_3 (D := D) hx hb hts hown hK hE hml (Nat.le_trans (Nat.le_of_ble_eq_true rfl) hRf) (Nat.le_trans (Nat.le_of_ble_eq_true rfl) hRl) hl9 b L xs hX hbl hbA x y o i hle hL z hv hrn c0 s0 (by omega) (by omega) (fun w2 l2 th2 cells slots H locs ls hR hcl hsl hW hl => ?_) 1 w1 l1 th cells slots H locs ls (by decide) hR hcl hsl hW (lv_sub hl [0, 1, 2, 3, 4] rfl)
        refine lv_iinc (v := nI (i + 5)) (lv' := [(4, .int (nI (i + 5))), (0, .ref b), (1, .ref x), (2, .ref y), (3, .ref o)]) hx hb dL_law_1835 hl (k := 4) rfl (nI_add i 5) (by decide) rfl (fun ls hl => ?_)
        refine lv_goto (tgt := 27) hx hb dL_law_1838 (by decide) ?_
        exact ih (i + 5) _ w2 l2 th2 _ _ cells slots H locs ls (by omega) (by omega) hv2 (by omega) (by rw [Nat.add_assoc]; exact hcs) (by rw [Nat.add_assoc]; exact hss) hR hcl hsl hW (lv_sub hl [1, 2, 3, 4, 0] rfl)
      · subst hj
        refine W.eq (g2 := F0 m 43 ls [.int 4]) rfl ?_
        refine lv_tableIn (tgt := 507) hx hb dL_law_43 (by decide) (by decide) rfl (by decide) ?_
        have hcs : c0 + ((3 + tkM z.P (digs (lTx (xs (i + 1)))) z.cov z.K z.F z.cp + mtC z.P (lTx (xs (i + 1))) z.cov z.K.length z.cK z.F) + lTc xs L k (i + 5) (sTake z (lTx (xs (i + 1))))) ≤ c9 := hcs
        have hss : s0 + ((16 + tkS z.P (digs (lTx (xs (i + 1)))) z.cov z.K z.F z.cp + mtS z.P (lTx (xs (i + 1))) z.cov z.K.length z.cK z.F) + lTs xs L k (i + 5) (sTake z (lTx (xs (i + 1))))) ≤ s9 := hss
        have hv2 : yV (sTake z (lTx (xs (i + 1)))) := v_nx (xs := xs) (i := i) hv 4
        have hrn2 : yW.rn (sTake z (lTx (xs (i + 1)))) ≤ z.rn + 200 := rn_nx (xs := xs) (i := i) hv 4
        refine lw_4 (D := D) hx hb hts hown hK hE hml (Nat.le_trans (Nat.le_of_ble_eq_true rfl) hRf) (Nat.le_trans (Nat.le_of_ble_eq_true rfl) hRl) hl9 b L xs hX hbl hbA x y o i hle hL z hv hrn c0 s0 (by omega) (by omega) (fun w2 l2 th2 cells slots H locs ls hR hcl hsl hW hl => ?_) 1 w1 l1 th cells slots H locs ls (by decide) hR hcl hsl hW (lv_sub hl [0, 1, 2, 3, 4] rfl)
        refine lv_iinc (v := nI (i + 5)) (lv' := [(4, .int (nI (i + 5))), (0, .ref b), (1, .ref x), (2, .ref y), (3, .ref o)]) hx hb dL_law_1835 hl (k := 4) rfl (nI_add i 5) (by decide) rfl (fun ls hl => ?_)
        refine lv_goto (tgt := 27) hx hb dL_law_1838 (by decide) ?_
        exact ih (i + 5) _ w2 l2 th2 _ _ cells slots H locs ls (by omega) (by omega) hv2 (by omega) (by rw [Nat.add_assoc]; exact hcs) (by rw [Nat.add_assoc]; exact hss) hR hcl hsl hW (lv_sub hl [1, 2, 3, 4, 0] rfl)
      · subst hj
        refine W.eq (g2 := F0 m 43 ls [.int 5]) rfl ?_
        refine lv_tableIn (tgt := 577) hx hb dL_law_43 (by decide) (by decide) rfl (by decide) ?_
        have hcs : c0 + ((163 + tkM z.P (digs (dvN z.A (xs (i + 1))).2) z.cov z.K z.F z.cp + (150 + mdC z.P z.A (xs (i + 1)) z.cov z.K.length z.cK z.F)) + lTc xs L k (i + 5) (sDer z (xs (i + 1)))) ≤ c9 := hcs
        have hss : s0 + ((24230 + tkS z.P (digs (dvN z.A (xs (i + 1))).2) z.cov z.K z.F z.cp + (24206 + mdS z.P z.A (xs (i + 1)) z.cov z.K.length z.cK z.F)) + lTs xs L k (i + 5) (sDer z (xs (i + 1)))) ≤ s9 := hss
        have hv2 : yV (sDer z (xs (i + 1))) := v_nx (xs := xs) (i := i) hv 5
        have hrn2 : yW.rn (sDer z (xs (i + 1))) ≤ z.rn + 200 := rn_nx (xs := xs) (i := i) hv 5
        refine lw_5 (D := D) hx hb hts hown hK hE hml (Nat.le_trans (Nat.le_of_ble_eq_true rfl) hRf) (Nat.le_trans (Nat.le_of_ble_eq_true rfl) hRl) hl9 b L xs hX hbl hbA x y o i hle hL z hv hrn c0 s0 (by omega) (by omega) (fun w2 l2 th2 cells slots H locs ls hR hcl hsl hW hl => ?_) 1 w1 l1 th cells slots H locs ls (by decide) hR hcl hsl hW (lv_sub hl [0, 1, 2, 3, 4] rfl)
        refine lv_iinc (v := nI (i + 5)) (lv' := [(4, .int (nI (i + 5))), (0, .ref b), (1, .ref x), (2, .ref y), (3, .ref o)]) hx hb dL_law_1835 hl (k := 4) rfl (nI_add i 5) (by decide) rfl (fun ls hl => ?_)
        refine lv_goto (tgt := 27) hx hb dL_law_1838 (by decide) ?_
        exact ih (i + 5) _ w2 l2 th2 _ _ cells slots H locs ls (by omega) (by omega) hv2 (by omega) (by rw [Nat.add_assoc]; exact hcs) (by rw [Nat.add_assoc]; exact hss) hR hcl hsl hW (lv_sub hl [1, 2, 3, 4, 0] rfl)
      · subst hj
        refine W.eq (g2 := F0 m 43 ls [.int 6]) rfl ?_
        refine lv_tableIn (tgt := 641) hx hb dL_law_43 (by decide) (by decide) rfl (by decide) ?_
        have hcs : c0 + ((3 + (gGo z.P z.C (xs (i + 1)).toNatClampNeg z.cov z.K (z.K.drop z.fq) z.ac z.F z.rn z.tt z.cp).2.2.2.2.2.2.2.2.2.1 + (mGo z.P z.C (xs (i + 1)).toNatClampNeg z.cov z.K z.fq z.ac z.F z.cK).2.2.1) + lTc xs L k (i + 5) (sGo z (xs (i + 1)))) ≤ c9 := hcs
        have hss : s0 + ((18 + (gGo z.P z.C (xs (i + 1)).toNatClampNeg z.cov z.K (z.K.drop z.fq) z.ac z.F z.rn z.tt z.cp).2.2.2.2.2.2.2.2.2.2 + (mGo z.P z.C (xs (i + 1)).toNatClampNeg z.cov z.K z.fq z.ac z.F z.cK).2.2.2) + lTs xs L k (i + 5) (sGo z (xs (i + 1)))) ≤ s9 := hss
        have hv2 : yV (sGo z (xs (i + 1))) := v_nx (xs := xs) (i := i) hv 6
        have hrn2 : yW.rn (sGo z (xs (i + 1))) ≤ z.rn + 200 := rn_nx (xs := xs) (i := i) hv 6
        refine lw_6 (D := D) hx hb hts hown hK hE hml (Nat.le_trans (Nat.le_of_ble_eq_true rfl) hRf) (Nat.le_trans (Nat.le_of_ble_eq_true rfl) hRl) hl9 b L xs hX hbl hbA x y o i hle hL z hv hrn c0 s0 (by omega) (by omega) (fun w2 l2 th2 cells slots H locs ls hR hcl hsl hW hl => ?_) 1 w1 l1 th cells slots H locs ls (by decide) hR hcl hsl hW (lv_sub hl [0, 1, 2, 3, 4] rfl)
        refine lv_iinc (v := nI (i + 5)) (lv' := [(4, .int (nI (i + 5))), (0, .ref b), (1, .ref x), (2, .ref y), (3, .ref o)]) hx hb dL_law_1835 hl (k := 4) rfl (nI_add i 5) (by decide) rfl (fun ls hl => ?_)
        refine lv_goto (tgt := 27) hx hb dL_law_1838 (by decide) ?_
        exact ih (i + 5) _ w2 l2 th2 _ _ cells slots H locs ls (by omega) (by omega) hv2 (by omega) (by rw [Nat.add_assoc]; exact hcs) (by rw [Nat.add_assoc]; exact hss) hR hcl hsl hW (lv_sub hl [1, 2, 3, 4, 0] rfl)
      · subst hj
        refine W.eq (g2 := F0 m 43 ls [.int 7]) rfl ?_
        refine lv_tableIn (tgt := 698) hx hb dL_law_43 (by decide) (by decide) rfl (by decide) ?_
        have hcs : c0 + ((0) + lTc xs L k (i + 5) (sRes z)) ≤ c9 := hcs
        have hss : s0 + ((0) + lTs xs L k (i + 5) (sRes z)) ≤ s9 := hss
        have hv2 : yV (sRes z) := v_nx (xs := xs) (i := i) hv 7
        have hrn2 : yW.rn (sRes z) ≤ z.rn + 200 := rn_nx (xs := xs) (i := i) hv 7
        refine lw_7 (D := D) hx hb hts hown hK hE hml (Nat.le_trans (Nat.le_of_ble_eq_true rfl) hRf) (Nat.le_trans (Nat.le_of_ble_eq_true rfl) hRl) hl9 b L xs hX hbl hbA x y o i hle hL z hv hrn c0 s0 (by omega) (by omega) (fun w2 l2 th2 cells slots H locs ls hR hcl hsl hW hl => ?_) 1 w1 l1 th cells slots H locs ls (by decide) hR hcl hsl hW (lv_sub hl [0, 1, 2, 3, 4] rfl)
        refine lv_iinc (v := nI (i + 5)) (lv' := [(4, .int (nI (i + 5))), (0, .ref b), (1, .ref x), (2, .ref y), (3, .ref o)]) hx hb dL_law_1835 hl (k := 4) rfl (nI_add i 5) (by decide) rfl (fun ls hl => ?_)
        refine lv_goto (tgt := 27) hx hb dL_law_1838 (by decide) ?_
        exact ih (i + 5) _ w2 l2 th2 _ _ cells slots H locs ls (by omega) (by omega) hv2 (by omega) (by rw [Nat.add_assoc]; exact hcs) (by rw [Nat.add_assoc]; exact hss) hR hcl hsl hW (lv_sub hl [1, 2, 3, 4, 0] rfl)
      · subst hj
        refine W.eq (g2 := F0 m 43 ls [.int 8]) rfl ?_
        refine lv_tableIn (tgt := 711) hx hb dL_law_43 (by decide) (by decide) rfl (by decide) ?_
        have hcs : c0 + ((0) + lTc xs L k (i + 5) (z)) ≤ c9 := hcs
        have hss : s0 + ((0) + lTs xs L k (i + 5) (z)) ≤ s9 := hss
        have hv2 : yV (z) := v_nx (xs := xs) (i := i) hv 8
        have hrn2 : yW.rn (z) ≤ z.rn + 200 := rn_nx (xs := xs) (i := i) hv 8
        refine lw_8 (D := D) hx hb hts hown hK hE hml (Nat.le_trans (Nat.le_of_ble_eq_true rfl) hRf) (Nat.le_trans (Nat.le_of_ble_eq_true rfl) hRl) hl9 b L xs hX hbl hbA x y o i hle hL z hv hrn c0 s0 (by omega) (by omega) (fun w2 l2 th2 cells slots H locs ls hR hcl hsl hW hl => ?_) 1 w1 l1 th cells slots H locs ls (by decide) hR hcl hsl hW (lv_sub hl [0, 1, 2, 3, 4] rfl)
        refine lv_iinc (v := nI (i + 5)) (lv' := [(4, .int (nI (i + 5))), (0, .ref b), (1, .ref x), (2, .ref y), (3, .ref o)]) hx hb dL_law_1835 hl (k := 4) rfl (nI_add i 5) (by decide) rfl (fun ls hl => ?_)
        refine lv_goto (tgt := 27) hx hb dL_law_1838 (by decide) ?_
        exact ih (i + 5) _ w2 l2 th2 _ _ cells slots H locs ls (by omega) (by omega) hv2 (by omega) (by rw [Nat.add_assoc]; exact hcs) (by rw [Nat.add_assoc]; exact hss) hR hcl hsl hW (lv_sub hl [1, 2, 3, 4, 0] rfl)
      · subst hj
        refine W.eq (g2 := F0 m 43 ls [.int 9]) rfl ?_
        refine lv_tableIn (tgt := 724) hx hb dL_law_43 (by decide) (by decide) rfl (by decide) ?_
        have hcs : c0 + ((0) + lTc xs L k (i + 5) (z)) ≤ c9 := hcs
        have hss : s0 + ((0) + lTs xs L k (i + 5) (z)) ≤ s9 := hss
        have hv2 : yV (z) := v_nx (xs := xs) (i := i) hv 9
        have hrn2 : yW.rn (z) ≤ z.rn + 200 := rn_nx (xs := xs) (i := i) hv 9
        refine lw_9 (D := D) hx hb hts hown hK hE hml (Nat.le_trans (Nat.le_of_ble_eq_true rfl) hRf) (Nat.le_trans (Nat.le_of_ble_eq_true rfl) hRl) hl9 b L xs hX hbl hbA x y o i hle hL z hv hrn c0 s0 (by omega) (by omega) (fun w2 l2 th2 cells slots H locs ls hR hcl hsl hW hl => ?_) 1 w1 l1 th cells slots H locs ls (by decide) hR hcl hsl hW (lv_sub hl [0, 1, 2, 3, 4] rfl)
        refine lv_iinc (v := nI (i + 5)) (lv' := [(4, .int (nI (i + 5))), (0, .ref b), (1, .ref x), (2, .ref y), (3, .ref o)]) hx hb dL_law_1835 hl (k := 4) rfl (nI_add i 5) (by decide) rfl (fun ls hl => ?_)
        refine lv_goto (tgt := 27) hx hb dL_law_1838 (by decide) ?_
        exact ih (i + 5) _ w2 l2 th2 _ _ cells slots H locs ls (by omega) (by omega) hv2 (by omega) (by rw [Nat.add_assoc]; exact hcs) (by rw [Nat.add_assoc]; exact hss) hR hcl hsl hW (lv_sub hl [1, 2, 3, 4, 0] rfl)
      · subst hj
        refine W.eq (g2 := F0 m 43 ls [.int 10]) rfl ?_
        refine lv_tableIn (tgt := 738) hx hb dL_law_43 (by decide) (by decide) rfl (by decide) ?_
        have hcs : c0 + ((0) + lTc xs L k (i + 5) (z)) ≤ c9 := hcs
        have hss : s0 + ((0) + lTs xs L k (i + 5) (z)) ≤ s9 := hss
        have hv2 : yV (z) := v_nx (xs := xs) (i := i) hv 10
        have hrn2 : yW.rn (z) ≤ z.rn + 200 := rn_nx (xs := xs) (i := i) hv 10
        refine lw_10 (D := D) hx hb hts hown hK hE hml (Nat.le_trans (Nat.le_of_ble_eq_true rfl) hRf) (Nat.le_trans (Nat.le_of_ble_eq_true rfl) hRl) hl9 b L xs hX hbl hbA x y o i hle hL z hv hrn c0 s0 (by omega) (by omega) (fun w2 l2 th2 cells slots H locs ls hR hcl hsl hW hl => ?_) 1 w1 l1 th cells slots H locs ls (by decide) hR hcl hsl hW (lv_sub hl [0, 1, 2, 3, 4] rfl)
        refine lv_iinc (v := nI (i + 5)) (lv' := [(4, .int (nI (i + 5))), (0, .ref b), (1, .ref x), (2, .ref y), (3, .ref o)]) hx hb dL_law_1835 hl (k := 4) rfl (nI_add i 5) (by decide) rfl (fun ls hl => ?_)
        refine lv_goto (tgt := 27) hx hb dL_law_1838 (by decide) ?_
        exact ih (i + 5) _ w2 l2 th2 _ _ cells slots H locs ls (by omega) (by omega) hv2 (by omega) (by rw [Nat.add_assoc]; exact hcs) (by rw [Nat.add_assoc]; exact hss) hR hcl hsl hW (lv_sub hl [1, 2, 3, 4, 0] rfl)
      · subst hj
        refine W.eq (g2 := F0 m 43 ls [.int 11]) rfl ?_
        refine lv_tableIn (tgt := 751) hx hb dL_law_43 (by decide) (by decide) rfl (by decide) ?_
        have hcs : c0 + ((2) + lTc xs L k (i + 5) (z)) ≤ c9 := hcs
        have hss : s0 + ((12) + lTs xs L k (i + 5) (z)) ≤ s9 := hss
        have hv2 : yV (z) := v_nx (xs := xs) (i := i) hv 11
        have hrn2 : yW.rn (z) ≤ z.rn + 200 := rn_nx (xs := xs) (i := i) hv 11
        refine lw_11 (D := D) hx hb hts hown hK hE hml (Nat.le_trans (Nat.le_of_ble_eq_true rfl) hRf) (Nat.le_trans (Nat.le_of_ble_eq_true rfl) hRl) hl9 b L xs hX hbl hbA x y o i hle hL z hv hrn c0 s0 (by omega) (by omega) (fun w2 l2 th2 cells slots H locs ls hR hcl hsl hW hl => ?_) 1 w1 l1 th cells slots H locs ls (by decide) hR hcl hsl hW (lv_sub hl [0, 1, 2, 3, 4] rfl)
        refine lv_iinc (v := nI (i + 5)) (lv' := [(4, .int (nI (i + 5))), (0, .ref b), (1, .ref x), (2, .ref y), (3, .ref o)]) hx hb dL_law_1835 hl (k := 4) rfl (nI_add i 5) (by decide) rfl (fun ls hl => ?_)
        refine lv_goto (tgt := 27) hx hb dL_law_1838 (by decide) ?_
        exact ih (i + 5) _ w2 l2 th2 _ _ cells slots H locs ls (by omega) (by omega) hv2 (by omega) (by rw [Nat.add_assoc]; exact hcs) (by rw [Nat.add_assoc]; exact hss) hR hcl hsl hW (lv_sub hl [1, 2, 3, 4, 0] rfl)
      · subst hj
        refine W.eq (g2 := F0 m 43 ls [.int 12]) rfl ?_
        refine lv_tableIn (tgt := 827) hx hb dL_law_43 (by decide) (by decide) rfl (by decide) ?_
        have hcs : c0 + ((0) + lTc xs L k (i + 5) (z)) ≤ c9 := hcs
        have hss : s0 + ((0) + lTs xs L k (i + 5) (z)) ≤ s9 := hss
        have hv2 : yV (z) := v_nx (xs := xs) (i := i) hv 12
        have hrn2 : yW.rn (z) ≤ z.rn + 200 := rn_nx (xs := xs) (i := i) hv 12
        refine lw_12 (D := D) hx hb hts hown hK hE hml (Nat.le_trans (Nat.le_of_ble_eq_true rfl) hRf) (Nat.le_trans (Nat.le_of_ble_eq_true rfl) hRl) hl9 b L xs hX hbl hbA x y o i hle hL z hv hrn c0 s0 (by omega) (by omega) (fun w2 l2 th2 cells slots H locs ls hR hcl hsl hW hl => ?_) 1 w1 l1 th cells slots H locs ls (by decide) hR hcl hsl hW (lv_sub hl [0, 1, 2, 3, 4] rfl)
        refine lv_iinc (v := nI (i + 5)) (lv' := [(4, .int (nI (i + 5))), (0, .ref b), (1, .ref x), (2, .ref y), (3, .ref o)]) hx hb dL_law_1835 hl (k := 4) rfl (nI_add i 5) (by decide) rfl (fun ls hl => ?_)
        refine lv_goto (tgt := 27) hx hb dL_law_1838 (by decide) ?_
        exact ih (i + 5) _ w2 l2 th2 _ _ cells slots H locs ls (by omega) (by omega) hv2 (by omega) (by rw [Nat.add_assoc]; exact hcs) (by rw [Nat.add_assoc]; exact hss) hR hcl hsl hW (lv_sub hl [1, 2, 3, 4, 0] rfl)
      · subst hj
        refine W.eq (g2 := F0 m 43 ls [.int 13]) rfl ?_
        refine lv_tableIn (tgt := 840) hx hb dL_law_43 (by decide) (by decide) rfl (by decide) ?_
        have hcs : c0 + ((1) + lTc xs L k (i + 5) (z)) ≤ c9 := hcs
        have hss : s0 + ((6) + lTs xs L k (i + 5) (z)) ≤ s9 := hss
        have hv2 : yV (z) := v_nx (xs := xs) (i := i) hv 13
        have hrn2 : yW.rn (z) ≤ z.rn + 200 := rn_nx (xs := xs) (i := i) hv 13
        refine lw_13 (D := D) hx hb hts hown hK hE hml (Nat.le_trans (Nat.le_of_ble_eq_true rfl) hRf) (Nat.le_trans (Nat.le_of_ble_eq_true rfl) hRl) hl9 b L xs hX hbl hbA x y o i hle hL z hv hrn c0 s0 (by omega) (by omega) (fun w2 l2 th2 cells slots H locs ls hR hcl hsl hW hl => ?_) 1 w1 l1 th cells slots H locs ls (by decide) hR hcl hsl hW (lv_sub hl [0, 1, 2, 3, 4] rfl)
        refine lv_iinc (v := nI (i + 5)) (lv' := [(4, .int (nI (i + 5))), (0, .ref b), (1, .ref x), (2, .ref y), (3, .ref o)]) hx hb dL_law_1835 hl (k := 4) rfl (nI_add i 5) (by decide) rfl (fun ls hl => ?_)
        refine lv_goto (tgt := 27) hx hb dL_law_1838 (by decide) ?_
        exact ih (i + 5) _ w2 l2 th2 _ _ cells slots H locs ls (by omega) (by omega) hv2 (by omega) (by rw [Nat.add_assoc]; exact hcs) (by rw [Nat.add_assoc]; exact hss) hR hcl hsl hW (lv_sub hl [1, 2, 3, 4, 0] rfl)
      · subst hj
        refine W.eq (g2 := F0 m 43 ls [.int 14]) rfl ?_
        refine lv_tableIn (tgt := 898) hx hb dL_law_43 (by decide) (by decide) rfl (by decide) ?_
        have hcs : c0 + ((0) + lTc xs L k (i + 5) (z)) ≤ c9 := hcs
        have hss : s0 + ((0) + lTs xs L k (i + 5) (z)) ≤ s9 := hss
        have hv2 : yV (z) := v_nx (xs := xs) (i := i) hv 14
        have hrn2 : yW.rn (z) ≤ z.rn + 200 := rn_nx (xs := xs) (i := i) hv 14
        refine lw_14 (D := D) hx hb hts hown hK hE hml (Nat.le_trans (Nat.le_of_ble_eq_true rfl) hRf) (Nat.le_trans (Nat.le_of_ble_eq_true rfl) hRl) hl9 b L xs hX hbl hbA x y o i hle hL z hv hrn c0 s0 (by omega) (by omega) (fun w2 l2 th2 cells slots H locs ls hR hcl hsl hW hl => ?_) 1 w1 l1 th cells slots H locs ls (by decide) hR hcl hsl hW (lv_sub hl [0, 1, 2, 3, 4] rfl)
        refine lv_iinc (v := nI (i + 5)) (lv' := [(4, .int (nI (i + 5))), (0, .ref b), (1, .ref x), (2, .ref y), (3, .ref o)]) hx hb dL_law_1835 hl (k := 4) rfl (nI_add i 5) (by decide) rfl (fun ls hl => ?_)
        refine lv_goto (tgt := 27) hx hb dL_law_1838 (by decide) ?_
        exact ih (i + 5) _ w2 l2 th2 _ _ cells slots H locs ls (by omega) (by omega) hv2 (by omega) (by rw [Nat.add_assoc]; exact hcs) (by rw [Nat.add_assoc]; exact hss) hR hcl hsl hW (lv_sub hl [1, 2, 3, 4, 0] rfl)
      · subst hj
        refine W.eq (g2 := F0 m 43 ls [.int 15]) rfl ?_
        refine lv_tableIn (tgt := 911) hx hb dL_law_43 (by decide) (by decide) rfl (by decide) ?_
        have hcs : c0 + ((0) + lTc xs L k (i + 5) (z)) ≤ c9 := hcs
        have hss : s0 + ((0) + lTs xs L k (i + 5) (z)) ≤ s9 := hss
        have hv2 : yV (z) := v_nx (xs := xs) (i := i) hv 15
        have hrn2 : yW.rn (z) ≤ z.rn + 200 := rn_nx (xs := xs) (i := i) hv 15
        refine lw_15 (D := D) hx hb hts hown hK hE hml (Nat.le_trans (Nat.le_of_ble_eq_true rfl) hRf) (Nat.le_trans (Nat.le_of_ble_eq_true rfl) hRl) hl9 b L xs hX hbl hbA x y o i hle hL z hv hrn c0 s0 (by omega) (by omega) (fun w2 l2 th2 cells slots H locs ls hR hcl hsl hW hl => ?_) 1 w1 l1 th cells slots H locs ls (by decide) hR hcl hsl hW (lv_sub hl [0, 1, 2, 3, 4] rfl)
        refine lv_iinc (v := nI (i + 5)) (lv' := [(4, .int (nI (i + 5))), (0, .ref b), (1, .ref x), (2, .ref y), (3, .ref o)]) hx hb dL_law_1835 hl (k := 4) rfl (nI_add i 5) (by decide) rfl (fun ls hl => ?_)
        refine lv_goto (tgt := 27) hx hb dL_law_1838 (by decide) ?_
        exact ih (i + 5) _ w2 l2 th2 _ _ cells slots H locs ls (by omega) (by omega) hv2 (by omega) (by rw [Nat.add_assoc]; exact hcs) (by rw [Nat.add_assoc]; exact hss) hR hcl hsl hW (lv_sub hl [1, 2, 3, 4, 0] rfl)
      · subst hj
        refine W.eq (g2 := F0 m 43 ls [.int 16]) rfl ?_
        refine lv_tableIn (tgt := 924) hx hb dL_law_43 (by decide) (by decide) rfl (by decide) ?_
        have hcs : c0 + ((1 + 1) + lTc xs L k (i + 5) (z)) ≤ c9 := hcs
        have hss : s0 + ((6 + 6) + lTs xs L k (i + 5) (z)) ≤ s9 := hss
        have hv2 : yV (z) := v_nx (xs := xs) (i := i) hv 16
        have hrn2 : yW.rn (z) ≤ z.rn + 200 := rn_nx (xs := xs) (i := i) hv 16
        refine lw_16 (D := D) hx hb hts hown hK hE hml (Nat.le_trans (Nat.le_of_ble_eq_true rfl) hRf) (Nat.le_trans (Nat.le_of_ble_eq_true rfl) hRl) hl9 b L xs hX hbl hbA x y o i hle hL z hv hrn c0 s0 (by omega) (by omega) (fun w2 l2 th2 cells slots H locs ls hR hcl hsl hW hl => ?_) 1 w1 l1 th cells slots H locs ls (by decide) hR hcl hsl hW (lv_sub hl [0, 1, 2, 3, 4] rfl)
        refine lv_iinc (v := nI (i + 5)) (lv' := [(4, .int (nI (i + 5))), (0, .ref b), (1, .ref x), (2, .ref y), (3, .ref o)]) hx hb dL_law_1835 hl (k := 4) rfl (nI_add i 5) (by decide) rfl (fun ls hl => ?_)
        refine lv_goto (tgt := 27) hx hb dL_law_1838 (by decide) ?_
        exact ih (i + 5) _ w2 l2 th2 _ _ cells slots H locs ls (by omega) (by omega) hv2 (by omega) (by rw [Nat.add_assoc]; exact hcs) (by rw [Nat.add_assoc]; exact hss) hR hcl hsl hW (lv_sub hl [1, 2, 3, 4, 0] rfl)
      · subst hj
        refine W.eq (g2 := F0 m 43 ls [.int 17]) rfl ?_
        refine lv_tableIn (tgt := 1021) hx hb dL_law_43 (by decide) (by decide) rfl (by decide) ?_
        have hcs : c0 + ((3 + ((bsC (z.cp 9) (mOut z.P (digs (lTx (xs (i + 1))))).2.2.2) - z.cp 9)) + lTc xs L k (i + 5) (sRun z (lTx (xs (i + 1))))) ≤ c9 := hcs
        have hss : s0 + ((16 + 2 * ((bsC (z.cp 9) (mOut z.P (digs (lTx (xs (i + 1))))).2.2.2) - z.cp 9)) + lTs xs L k (i + 5) (sRun z (lTx (xs (i + 1))))) ≤ s9 := hss
        have hv2 : yV (sRun z (lTx (xs (i + 1)))) := v_nx (xs := xs) (i := i) hv 17
        have hrn2 : yW.rn (sRun z (lTx (xs (i + 1)))) ≤ z.rn + 200 := rn_nx (xs := xs) (i := i) hv 17
        refine lw_17 (D := D) hx hb hts hown hK hE hml (Nat.le_trans (Nat.le_of_ble_eq_true rfl) hRf) (Nat.le_trans (Nat.le_of_ble_eq_true rfl) hRl) hl9 b L xs hX hbl hbA x y o i hle hL z hv hrn c0 s0 (by omega) (by omega) (fun w2 l2 th2 cells slots H locs ls hR hcl hsl hW hl => ?_) 1 w1 l1 th cells slots H locs ls (by decide) hR hcl hsl hW (lv_sub hl [0, 1, 2, 3, 4] rfl)
        refine lv_iinc (v := nI (i + 5)) (lv' := [(4, .int (nI (i + 5))), (0, .ref b), (1, .ref x), (2, .ref y), (3, .ref o)]) hx hb dL_law_1835 hl (k := 4) rfl (nI_add i 5) (by decide) rfl (fun ls hl => ?_)
        refine lv_goto (tgt := 27) hx hb dL_law_1838 (by decide) ?_
        exact ih (i + 5) _ w2 l2 th2 _ _ cells slots H locs ls (by omega) (by omega) hv2 (by omega) (by rw [Nat.add_assoc]; exact hcs) (by rw [Nat.add_assoc]; exact hss) hR hcl hsl hW (lv_sub hl [1, 2, 3, 4, 0] rfl)
      · subst hj
        refine W.eq (g2 := F0 m 43 ls [.int 18]) rfl ?_
        refine lv_tableIn (tgt := 1082) hx hb dL_law_43 (by decide) (by decide) rfl (by decide) ?_
        have hcs : c0 + ((4 + ((bsC (z.cp 9) (mOut z.P (digs (lTx (xs (i + 1))))).2.2.2) - z.cp 9)) + lTc xs L k (i + 5) (sRun z (lTx (xs (i + 1))))) ≤ c9 := hcs
        have hss : s0 + ((22 + 2 * ((bsC (z.cp 9) (mOut z.P (digs (lTx (xs (i + 1))))).2.2.2) - z.cp 9)) + lTs xs L k (i + 5) (sRun z (lTx (xs (i + 1))))) ≤ s9 := hss
        have hv2 : yV (sRun z (lTx (xs (i + 1)))) := v_nx (xs := xs) (i := i) hv 18
        have hrn2 : yW.rn (sRun z (lTx (xs (i + 1)))) ≤ z.rn + 200 := rn_nx (xs := xs) (i := i) hv 18
        refine lw_18 (D := D) hx hb hts hown hK hE hml (Nat.le_trans (Nat.le_of_ble_eq_true rfl) hRf) (Nat.le_trans (Nat.le_of_ble_eq_true rfl) hRl) hl9 b L xs hX hbl hbA x y o i hle hL z hv hrn c0 s0 (by omega) (by omega) (fun w2 l2 th2 cells slots H locs ls hR hcl hsl hW hl => ?_) 1 w1 l1 th cells slots H locs ls (by decide) hR hcl hsl hW (lv_sub hl [0, 1, 2, 3, 4] rfl)
        refine lv_iinc (v := nI (i + 5)) (lv' := [(4, .int (nI (i + 5))), (0, .ref b), (1, .ref x), (2, .ref y), (3, .ref o)]) hx hb dL_law_1835 hl (k := 4) rfl (nI_add i 5) (by decide) rfl (fun ls hl => ?_)
        refine lv_goto (tgt := 27) hx hb dL_law_1838 (by decide) ?_
        exact ih (i + 5) _ w2 l2 th2 _ _ cells slots H locs ls (by omega) (by omega) hv2 (by omega) (by rw [Nat.add_assoc]; exact hcs) (by rw [Nat.add_assoc]; exact hss) hR hcl hsl hW (lv_sub hl [1, 2, 3, 4, 0] rfl)
      · subst hj
        refine W.eq (g2 := F0 m 43 ls [.int 19]) rfl ?_
        refine lv_tableIn (tgt := 1145) hx hb dL_law_43 (by decide) (by decide) rfl (by decide) ?_
        have hcs : c0 + ((3 + ((bsC (z.cp 9) (mOut z.P (digs (lTx (xs (i + 1))))).2.2.2) - z.cp 9)) + lTc xs L k (i + 5) (sRun z (lTx (xs (i + 1))))) ≤ c9 := hcs
        have hss : s0 + ((16 + 2 * ((bsC (z.cp 9) (mOut z.P (digs (lTx (xs (i + 1))))).2.2.2) - z.cp 9)) + lTs xs L k (i + 5) (sRun z (lTx (xs (i + 1))))) ≤ s9 := hss
        have hv2 : yV (sRun z (lTx (xs (i + 1)))) := v_nx (xs := xs) (i := i) hv 19
        have hrn2 : yW.rn (sRun z (lTx (xs (i + 1)))) ≤ z.rn + 200 := rn_nx (xs := xs) (i := i) hv 19
        refine lw_19 (D := D) hx hb hts hown hK hE hml (Nat.le_trans (Nat.le_of_ble_eq_true rfl) hRf) (Nat.le_trans (Nat.le_of_ble_eq_true rfl) hRl) hl9 b L xs hX hbl hbA x y o i hle hL z hv hrn c0 s0 (by omega) (by omega) (fun w2 l2 th2 cells slots H locs ls hR hcl hsl hW hl => ?_) 1 w1 l1 th cells slots H locs ls (by decide) hR hcl hsl hW (lv_sub hl [0, 1, 2, 3, 4] rfl)
        refine lv_iinc (v := nI (i + 5)) (lv' := [(4, .int (nI (i + 5))), (0, .ref b), (1, .ref x), (2, .ref y), (3, .ref o)]) hx hb dL_law_1835 hl (k := 4) rfl (nI_add i 5) (by decide) rfl (fun ls hl => ?_)
        refine lv_goto (tgt := 27) hx hb dL_law_1838 (by decide) ?_
        exact ih (i + 5) _ w2 l2 th2 _ _ cells slots H locs ls (by omega) (by omega) hv2 (by omega) (by rw [Nat.add_assoc]; exact hcs) (by rw [Nat.add_assoc]; exact hss) hR hcl hsl hW (lv_sub hl [1, 2, 3, 4, 0] rfl)
      · subst hj
        refine W.eq (g2 := F0 m 43 ls [.int 20]) rfl ?_
        refine lv_tableIn (tgt := 1208) hx hb dL_law_43 (by decide) (by decide) rfl (by decide) ?_
        have hcs : c0 + ((3 + ((bsC (z.cp 9) (mOut z.P (digs (lTx (xs (i + 1))))).2.2.2) - z.cp 9)) + lTc xs L k (i + 5) (sRun z (lTx (xs (i + 1))))) ≤ c9 := hcs
        have hss : s0 + ((16 + 2 * ((bsC (z.cp 9) (mOut z.P (digs (lTx (xs (i + 1))))).2.2.2) - z.cp 9)) + lTs xs L k (i + 5) (sRun z (lTx (xs (i + 1))))) ≤ s9 := hss
        have hv2 : yV (sRun z (lTx (xs (i + 1)))) := v_nx (xs := xs) (i := i) hv 20
        have hrn2 : yW.rn (sRun z (lTx (xs (i + 1)))) ≤ z.rn + 200 := rn_nx (xs := xs) (i := i) hv 20
        refine lw_20 (D := D) hx hb hts hown hK hE hml (Nat.le_trans (Nat.le_of_ble_eq_true rfl) hRf) (Nat.le_trans (Nat.le_of_ble_eq_true rfl) hRl) hl9 b L xs hX hbl hbA x y o i hle hL z hv hrn c0 s0 (by omega) (by omega) (fun w2 l2 th2 cells slots H locs ls hR hcl hsl hW hl => ?_) 1 w1 l1 th cells slots H locs ls (by decide) hR hcl hsl hW (lv_sub hl [0, 1, 2, 3, 4] rfl)
        refine lv_iinc (v := nI (i + 5)) (lv' := [(4, .int (nI (i + 5))), (0, .ref b), (1, .ref x), (2, .ref y), (3, .ref o)]) hx hb dL_law_1835 hl (k := 4) rfl (nI_add i 5) (by decide) rfl (fun ls hl => ?_)
        refine lv_goto (tgt := 27) hx hb dL_law_1838 (by decide) ?_
        exact ih (i + 5) _ w2 l2 th2 _ _ cells slots H locs ls (by omega) (by omega) hv2 (by omega) (by rw [Nat.add_assoc]; exact hcs) (by rw [Nat.add_assoc]; exact hss) hR hcl hsl hW (lv_sub hl [1, 2, 3, 4, 0] rfl)
      · subst hj
        refine W.eq (g2 := F0 m 43 ls [.int 21]) rfl ?_
        refine lv_tableIn (tgt := 1271) hx hb dL_law_43 (by decide) (by decide) rfl (by decide) ?_
        have hcs : c0 + ((10 + 8) + lTc xs L k (i + 5) (z)) ≤ c9 := hcs
        have hss : s0 + ((70 + 70) + lTs xs L k (i + 5) (z)) ≤ s9 := hss
        have hv2 : yV (z) := v_nx (xs := xs) (i := i) hv 21
        have hrn2 : yW.rn (z) ≤ z.rn + 200 := rn_nx (xs := xs) (i := i) hv 21
        refine lw_21 (D := D) hx hb hts hown hK hE hml (Nat.le_trans (Nat.le_of_ble_eq_true rfl) hRf) (Nat.le_trans (Nat.le_of_ble_eq_true rfl) hRl) hl9 b L xs hX hbl hbA x y o i hle hL z hv hrn c0 s0 (by omega) (by omega) (fun w2 l2 th2 cells slots H locs ls hR hcl hsl hW hl => ?_) 1 w1 l1 th cells slots H locs ls (by decide) hR hcl hsl hW (lv_sub hl [0, 1, 2, 3, 4] rfl)
        refine lv_iinc (v := nI (i + 5)) (lv' := [(4, .int (nI (i + 5))), (0, .ref b), (1, .ref x), (2, .ref y), (3, .ref o)]) hx hb dL_law_1835 hl (k := 4) rfl (nI_add i 5) (by decide) rfl (fun ls hl => ?_)
        refine lv_goto (tgt := 27) hx hb dL_law_1838 (by decide) ?_
        exact ih (i + 5) _ w2 l2 th2 _ _ cells slots H locs ls (by omega) (by omega) hv2 (by omega) (by rw [Nat.add_assoc]; exact hcs) (by rw [Nat.add_assoc]; exact hss) hR hcl hsl hW (lv_sub hl [1, 2, 3, 4, 0] rfl)
      · subst hj
        refine W.eq (g2 := F0 m 43 ls [.int 22]) rfl ?_
        refine lv_tableIn (tgt := 1377) hx hb dL_law_43 (by decide) (by decide) rfl (by decide) ?_
        have hcs : c0 + ((12 + ((sShr z.P (mCode z.P (digs (lTx (xs (i + 1))))) (sMs (digs (lTx (xs (i + 1)))) + 1) (digs (lTx (xs (i + 1)))) (bsC (z.cp 9) (mOut z.P (digs (lTx (xs (i + 1))))).2.2.2)).2 - z.cp 9) + 4 * shN z.P (lTx (xs (i + 1)))) + lTc xs L k (i + 5) (sShk z (lTx (xs (i + 1))))) ≤ c9 := hcs
        have hss : s0 + ((74 + 2 * ((sShr z.P (mCode z.P (digs (lTx (xs (i + 1))))) (sMs (digs (lTx (xs (i + 1)))) + 1) (digs (lTx (xs (i + 1)))) (bsC (z.cp 9) (mOut z.P (digs (lTx (xs (i + 1))))).2.2.2)).2 - z.cp 9) + 32 * shN z.P (lTx (xs (i + 1)))) + lTs xs L k (i + 5) (sShk z (lTx (xs (i + 1))))) ≤ s9 := hss
        have hv2 : yV (sShk z (lTx (xs (i + 1)))) := v_nx (xs := xs) (i := i) hv 22
        have hrn2 : yW.rn (sShk z (lTx (xs (i + 1)))) ≤ z.rn + 200 := rn_nx (xs := xs) (i := i) hv 22
        refine lw_22 (D := D) hx hb hts hown hK hE hml (Nat.le_trans (Nat.le_of_ble_eq_true rfl) hRf) (Nat.le_trans (Nat.le_of_ble_eq_true rfl) hRl) hl9 b L xs hX hbl hbA x y o i hle hL z hv hrn c0 s0 (by omega) (by omega) (fun w2 l2 th2 cells slots H locs ls hR hcl hsl hW hl => ?_) 1 w1 l1 th cells slots H locs ls (by decide) hR hcl hsl hW (lv_sub hl [0, 1, 2, 3, 4] rfl)
        refine lv_iinc (v := nI (i + 5)) (lv' := [(4, .int (nI (i + 5))), (0, .ref b), (1, .ref x), (2, .ref y), (3, .ref o)]) hx hb dL_law_1835 hl (k := 4) rfl (nI_add i 5) (by decide) rfl (fun ls hl => ?_)
        refine lv_goto (tgt := 27) hx hb dL_law_1838 (by decide) ?_
        exact ih (i + 5) _ w2 l2 th2 _ _ cells slots H locs ls (by omega) (by omega) hv2 (by omega) (by rw [Nat.add_assoc]; exact hcs) (by rw [Nat.add_assoc]; exact hss) hR hcl hsl hW (lv_sub hl [1, 2, 3, 4, 0] rfl)
      · subst hj
        refine W.eq (g2 := F0 m 43 ls [.int 23]) rfl ?_
        refine lv_tableIn (tgt := 1441) hx hb dL_law_43 (by decide) (by decide) rfl (by decide) ?_
        have hcs : c0 + ((6 + (rFold z.P (frC (digs (lTx (xs (i + 1)))) 0) (bsC (z.cp 9) (mOut z.P (digs (lTx (xs (i + 1))))).2.2.2) - z.cp 9) + 4 * frN z.P (lTx (xs (i + 1)))) + lTc xs L k (i + 5) (sFr z (lTx (xs (i + 1))))) ≤ c9 := hcs
        have hss : s0 + ((32 + 2 * (rFold z.P (frC (digs (lTx (xs (i + 1)))) 0) (bsC (z.cp 9) (mOut z.P (digs (lTx (xs (i + 1))))).2.2.2) - z.cp 9) + 32 * frN z.P (lTx (xs (i + 1)))) + lTs xs L k (i + 5) (sFr z (lTx (xs (i + 1))))) ≤ s9 := hss
        have hv2 : yV (sFr z (lTx (xs (i + 1)))) := v_nx (xs := xs) (i := i) hv 23
        have hrn2 : yW.rn (sFr z (lTx (xs (i + 1)))) ≤ z.rn + 200 := rn_nx (xs := xs) (i := i) hv 23
        refine lw_23 (D := D) hx hb hts hown hK hE hml (Nat.le_trans (Nat.le_of_ble_eq_true rfl) hRf) (Nat.le_trans (Nat.le_of_ble_eq_true rfl) hRl) hl9 b L xs hX hbl hbA x y o i hle hL z hv hrn c0 s0 (by omega) (by omega) (fun w2 l2 th2 cells slots H locs ls hR hcl hsl hW hl => ?_) 1 w1 l1 th cells slots H locs ls (by decide) hR hcl hsl hW (lv_sub hl [0, 1, 2, 3, 4] rfl)
        refine lv_iinc (v := nI (i + 5)) (lv' := [(4, .int (nI (i + 5))), (0, .ref b), (1, .ref x), (2, .ref y), (3, .ref o)]) hx hb dL_law_1835 hl (k := 4) rfl (nI_add i 5) (by decide) rfl (fun ls hl => ?_)
        refine lv_goto (tgt := 27) hx hb dL_law_1838 (by decide) ?_
        exact ih (i + 5) _ w2 l2 th2 _ _ cells slots H locs ls (by omega) (by omega) hv2 (by omega) (by rw [Nat.add_assoc]; exact hcs) (by rw [Nat.add_assoc]; exact hss) hR hcl hsl hW (lv_sub hl [1, 2, 3, 4, 0] rfl)
      · subst hj
        refine W.eq (g2 := F0 m 43 ls [.int 24]) rfl ?_
        refine lv_tableIn (tgt := 1504) hx hb dL_law_43 (by decide) (by decide) rfl (by decide) ?_
        have hcs : c0 + ((8 + ((sFind z.P (xs (i + 1)) (octs 0 (xs (i + 2)).toNatClampNeg) (z.cp 9)).2 - z.cp 9) + (4 * ocN (xs (i + 2)) + 4)) + lTc xs L k (i + 5) (sSml z (xs (i + 1)) (xs (i + 2)))) ≤ c9 := hcs
        have hss : s0 + ((56 + 2 * ((sFind z.P (xs (i + 1)) (octs 0 (xs (i + 2)).toNatClampNeg) (z.cp 9)).2 - z.cp 9) + (27 * ocN (xs (i + 2)) + 27)) + lTs xs L k (i + 5) (sSml z (xs (i + 1)) (xs (i + 2)))) ≤ s9 := hss
        have hv2 : yV (sSml z (xs (i + 1)) (xs (i + 2))) := v_nx (xs := xs) (i := i) hv 24
        have hrn2 : yW.rn (sSml z (xs (i + 1)) (xs (i + 2))) ≤ z.rn + 200 := rn_nx (xs := xs) (i := i) hv 24
        refine lw_24 (D := D) hx hb hts hown hK hE hml (Nat.le_trans (Nat.le_of_ble_eq_true rfl) hRf) (Nat.le_trans (Nat.le_of_ble_eq_true rfl) hRl) hl9 b L xs hX hbl hbA x y o i hle hL z hv hrn c0 s0 (by omega) (by omega) (fun w2 l2 th2 cells slots H locs ls hR hcl hsl hW hl => ?_) 1 w1 l1 th cells slots H locs ls (by decide) hR hcl hsl hW (lv_sub hl [0, 1, 2, 3, 4] rfl)
        refine lv_iinc (v := nI (i + 5)) (lv' := [(4, .int (nI (i + 5))), (0, .ref b), (1, .ref x), (2, .ref y), (3, .ref o)]) hx hb dL_law_1835 hl (k := 4) rfl (nI_add i 5) (by decide) rfl (fun ls hl => ?_)
        refine lv_goto (tgt := 27) hx hb dL_law_1838 (by decide) ?_
        exact ih (i + 5) _ w2 l2 th2 _ _ cells slots H locs ls (by omega) (by omega) hv2 (by omega) (by rw [Nat.add_assoc]; exact hcs) (by rw [Nat.add_assoc]; exact hss) hR hcl hsl hW (lv_sub hl [1, 2, 3, 4, 0] rfl)
      · subst hj
        refine W.eq (g2 := F0 m 43 ls [.int 25]) rfl ?_
        refine lv_tableIn (tgt := 1574) hx hb dL_law_43 (by decide) (by decide) rfl (by decide) ?_
        have hcs : c0 + ((3 + ((rFold z.P (octs 0 (xs (i + 2)).toNatClampNeg) (z.cp 9)) - z.cp 9) + 4 * ocN (xs (i + 2))) + lTc xs L k (i + 5) (sCnt z (xs (i + 2)))) ≤ c9 := hcs
        have hss : s0 + ((20 + 2 * ((rFold z.P (octs 0 (xs (i + 2)).toNatClampNeg) (z.cp 9)) - z.cp 9) + 27 * ocN (xs (i + 2))) + lTs xs L k (i + 5) (sCnt z (xs (i + 2)))) ≤ s9 := hss
        have hv2 : yV (sCnt z (xs (i + 2))) := v_nx (xs := xs) (i := i) hv 25
        have hrn2 : yW.rn (sCnt z (xs (i + 2))) ≤ z.rn + 200 := rn_nx (xs := xs) (i := i) hv 25
        refine lw_25 (D := D) hx hb hts hown hK hE hml (Nat.le_trans (Nat.le_of_ble_eq_true rfl) hRf) (Nat.le_trans (Nat.le_of_ble_eq_true rfl) hRl) hl9 b L xs hX hbl hbA x y o i hle hL z hv hrn c0 s0 (by omega) (by omega) (fun w2 l2 th2 cells slots H locs ls hR hcl hsl hW hl => ?_) 1 w1 l1 th cells slots H locs ls (by decide) hR hcl hsl hW (lv_sub hl [0, 1, 2, 3, 4] rfl)
        refine lv_iinc (v := nI (i + 5)) (lv' := [(4, .int (nI (i + 5))), (0, .ref b), (1, .ref x), (2, .ref y), (3, .ref o)]) hx hb dL_law_1835 hl (k := 4) rfl (nI_add i 5) (by decide) rfl (fun ls hl => ?_)
        refine lv_goto (tgt := 27) hx hb dL_law_1838 (by decide) ?_
        exact ih (i + 5) _ w2 l2 th2 _ _ cells slots H locs ls (by omega) (by omega) hv2 (by omega) (by rw [Nat.add_assoc]; exact hcs) (by rw [Nat.add_assoc]; exact hss) hR hcl hsl hW (lv_sub hl [1, 2, 3, 4, 0] rfl)
      · subst hj
        refine W.eq (g2 := F0 m 43 ls [.int 26]) rfl ?_
        refine lv_tableIn (tgt := 1649) hx hb dL_law_43 (by decide) (by decide) rfl (by decide) ?_
        have hcs : c0 + ((5 + ((rFold z.P (octs 0 (xs (i + 1)).toNatClampNeg) (z.cp 9)) - z.cp 9) + (rF2 z.P (octs 0 (xs (i + 1)).toNatClampNeg) 1 - 1) + (4 * ocN (xs (i + 1)) + 1)) + lTc xs L k (i + 5) (sCnt z (xs (i + 1)))) ≤ c9 := hcs
        have hss : s0 + ((20 + 2 * ((rFold z.P (octs 0 (xs (i + 1)).toNatClampNeg) (z.cp 9)) - z.cp 9) + 2 * (rF2 z.P (octs 0 (xs (i + 1)).toNatClampNeg) 1 - 1) + (27 * ocN (xs (i + 1)) + 272)) + lTs xs L k (i + 5) (sCnt z (xs (i + 1)))) ≤ s9 := hss
        have hv2 : yV (sCnt z (xs (i + 1))) := v_nx (xs := xs) (i := i) hv 26
        have hrn2 : yW.rn (sCnt z (xs (i + 1))) ≤ z.rn + 200 := rn_nx (xs := xs) (i := i) hv 26
        refine lw_26 (D := D) hx hb hts hown hK hE hml (Nat.le_trans (Nat.le_of_ble_eq_true rfl) hRf) (Nat.le_trans (Nat.le_of_ble_eq_true rfl) hRl) hl9 b L xs hX hbl hbA x y o i hle hL z hv hrn c0 s0 (by omega) (by omega) (fun w2 l2 th2 cells slots H locs ls hR hcl hsl hW hl => ?_) 1 w1 l1 th cells slots H locs ls (by decide) hR hcl hsl hW (lv_sub hl [0, 1, 2, 3, 4] rfl)
        refine lv_iinc (v := nI (i + 5)) (lv' := [(4, .int (nI (i + 5))), (0, .ref b), (1, .ref x), (2, .ref y), (3, .ref o)]) hx hb dL_law_1835 hl (k := 4) rfl (nI_add i 5) (by decide) rfl (fun ls hl => ?_)
        refine lv_goto (tgt := 27) hx hb dL_law_1838 (by decide) ?_
        exact ih (i + 5) _ w2 l2 th2 _ _ cells slots H locs ls (by omega) (by omega) hv2 (by omega) (by rw [Nat.add_assoc]; exact hcs) (by rw [Nat.add_assoc]; exact hss) hR hcl hsl hW (lv_sub hl [1, 2, 3, 4, 0] rfl)
      · subst hj
        refine W.eq (g2 := F0 m 43 ls [.int 27]) rfl ?_
        refine lv_tableIn (tgt := 1706) hx hb dL_law_43 (by decide) (by decide) rfl (by decide) ?_
        have hcs : c0 + ((1) + lTc xs L k (i + 5) (z)) ≤ c9 := hcs
        have hss : s0 + ((6) + lTs xs L k (i + 5) (z)) ≤ s9 := hss
        have hv2 : yV (z) := v_nx (xs := xs) (i := i) hv 27
        have hrn2 : yW.rn (z) ≤ z.rn + 200 := rn_nx (xs := xs) (i := i) hv 27
        refine lw_27 (D := D) hx hb hts hown hK hE hml (Nat.le_trans (Nat.le_of_ble_eq_true rfl) hRf) (Nat.le_trans (Nat.le_of_ble_eq_true rfl) hRl) hl9 b L xs hX hbl hbA x y o i hle hL z hv hrn c0 s0 (by omega) (by omega) (fun w2 l2 th2 cells slots H locs ls hR hcl hsl hW hl => ?_) 1 w1 l1 th cells slots H locs ls (by decide) hR hcl hsl hW (lv_sub hl [0, 1, 2, 3, 4] rfl)
        refine lv_iinc (v := nI (i + 5)) (lv' := [(4, .int (nI (i + 5))), (0, .ref b), (1, .ref x), (2, .ref y), (3, .ref o)]) hx hb dL_law_1835 hl (k := 4) rfl (nI_add i 5) (by decide) rfl (fun ls hl => ?_)
        refine lv_goto (tgt := 27) hx hb dL_law_1838 (by decide) ?_
        exact ih (i + 5) _ w2 l2 th2 _ _ cells slots H locs ls (by omega) (by omega) hv2 (by omega) (by rw [Nat.add_assoc]; exact hcs) (by rw [Nat.add_assoc]; exact hss) hR hcl hsl hW (lv_sub hl [1, 2, 3, 4, 0] rfl)
      · subst hj
        refine W.eq (g2 := F0 m 43 ls [.int 28]) rfl ?_
        refine lv_tableIn (tgt := 1771) hx hb dL_law_43 (by decide) (by decide) rfl (by decide) ?_
        have hcs : c0 + ((2) + lTc xs L k (i + 5) (z)) ≤ c9 := hcs
        have hss : s0 + ((10) + lTs xs L k (i + 5) (z)) ≤ s9 := hss
        have hv2 : yV (z) := v_nx (xs := xs) (i := i) hv 28
        have hrn2 : yW.rn (z) ≤ z.rn + 200 := rn_nx (xs := xs) (i := i) hv 28
        refine lw_28 (D := D) hx hb hts hown hK hE hml (Nat.le_trans (Nat.le_of_ble_eq_true rfl) hRf) (Nat.le_trans (Nat.le_of_ble_eq_true rfl) hRl) hl9 b L xs hX hbl hbA x y o i hle hL z hv hrn c0 s0 (by omega) (by omega) (fun w2 l2 th2 cells slots H locs ls hR hcl hsl hW hl => ?_) 1 w1 l1 th cells slots H locs ls (by decide) hR hcl hsl hW (lv_sub hl [0, 1, 2, 3, 4] rfl)
        refine lv_iinc (v := nI (i + 5)) (lv' := [(4, .int (nI (i + 5))), (0, .ref b), (1, .ref x), (2, .ref y), (3, .ref o)]) hx hb dL_law_1835 hl (k := 4) rfl (nI_add i 5) (by decide) rfl (fun ls hl => ?_)
        refine lv_goto (tgt := 27) hx hb dL_law_1838 (by decide) ?_
        exact ih (i + 5) _ w2 l2 th2 _ _ cells slots H locs ls (by omega) (by omega) hv2 (by omega) (by rw [Nat.add_assoc]; exact hcs) (by rw [Nat.add_assoc]; exact hss) hR hcl hsl hW (lv_sub hl [1, 2, 3, 4, 0] rfl)
      · subst hj
        refine W.eq (g2 := F0 m 43 ls [.int 29]) rfl ?_
        refine lv_tableOut (tgt := 1835) hx hb dL_law_43 (by decide) (by decide) ?_
        have hcs : c0 + (0 + lTc xs L k (i + 5) z) ≤ c9 := hcs
        have hss : s0 + (0 + lTs xs L k (i + 5) z) ≤ s9 := hss
        refine lv_iinc (v := nI (i + 5)) (lv' := [(4, .int (nI (i + 5))), (0, .ref b), (1, .ref x), (2, .ref y), (3, .ref o)]) hx hb dL_law_1835 hl (k := 4) rfl (nI_add i 5) (by decide) rfl (fun ls hl => ?_)
        refine lv_goto (tgt := 27) hx hb dL_law_1838 (by decide) ?_
        exact ih (i + 5) z w1 l1 th c0 s0 cells slots H locs ls (by omega) (by omega) hv (by omega) (by omega) (by omega) hR hcl hsl hW (lv_sub hl [1, 2, 3, 4, 0] rfl)
      · subst hj
        refine W.eq (g2 := F0 m 43 ls [.int 30]) rfl ?_
        refine lv_tableOut (tgt := 1835) hx hb dL_law_43 (by decide) (by decide) ?_
        have hcs : c0 + (0 + lTc xs L k (i + 5) z) ≤ c9 := hcs
        have hss : s0 + (0 + lTs xs L k (i + 5) z) ≤ s9 := hss
        refine lv_iinc (v := nI (i + 5)) (lv' := [(4, .int (nI (i + 5))), (0, .ref b), (1, .ref x), (2, .ref y), (3, .ref o)]) hx hb dL_law_1835 hl (k := 4) rfl (nI_add i 5) (by decide) rfl (fun ls hl => ?_)
        refine lv_goto (tgt := 27) hx hb dL_law_1838 (by decide) ?_
        exact ih (i + 5) z w1 l1 th c0 s0 cells slots H locs ls (by omega) (by omega) hv (by omega) (by omega) (by omega) hR hcl hsl hW (lv_sub hl [1, 2, 3, 4, 0] rfl)
      · subst hj
        refine W.eq (g2 := F0 m 43 ls [.int 31]) rfl ?_
        refine lv_tableOut (tgt := 1835) hx hb dL_law_43 (by decide) (by decide) ?_
        have hcs : c0 + (0 + lTc xs L k (i + 5) z) ≤ c9 := hcs
        have hss : s0 + (0 + lTs xs L k (i + 5) z) ≤ s9 := hss
        refine lv_iinc (v := nI (i + 5)) (lv' := [(4, .int (nI (i + 5))), (0, .ref b), (1, .ref x), (2, .ref y), (3, .ref o)]) hx hb dL_law_1835 hl (k := 4) rfl (nI_add i 5) (by decide) rfl (fun ls hl => ?_)
        refine lv_goto (tgt := 27) hx hb dL_law_1838 (by decide) ?_
        exact ih (i + 5) z w1 l1 th c0 s0 cells slots H locs ls (by omega) (by omega) hv (by omega) (by omega) (by omega) hR hcl hsl hW (lv_sub hl [1, 2, 3, 4, 0] rfl)
