/-! floorMod; the law's text, toOp, toVerdict, toChange *
-/
set_option maxRecDepth 100000
/-- the rest that is not negative -/
def fMod (a : Int32) (n : Nat) : Nat := (if a.toInt.tmod n < 0 then a.toInt.tmod n + n else a.toInt.tmod n).toNat
theorem fm_b {a : Int32} {n : Nat} (h0 : 0 < n) : - (n : Int) < a.toInt.tmod n ∧ a.toInt.tmod n < n ∧ (0 ≤ a.toInt → 0 ≤ a.toInt.tmod n) ∧ (a.toInt ≤ 0 → a.toInt.tmod n ≤ 0) := by
  have hn : (0 : Int) < n := by omega
  have h1 : ∀ x : Int, 0 ≤ x → 0 ≤ x.tmod n ∧ x.tmod n < n := fun x hx => ⟨Int.tmod_nonneg _ hx, Int.tmod_lt_of_pos _ hn⟩
  by_cases h : 0 ≤ a.toInt
  · have := h1 _ h
    refine ⟨by omega, this.2, fun _ => this.1, fun z => ?_⟩
    have : a.toInt = 0 := by omega
    rw [this, Int.zero_tmod]; exact Int.le_refl _
  · have h2 := h1 (- a.toInt) (by omega)
    rw [Int.neg_tmod] at h2
    exact ⟨by omega, by omega, fun z => absurd z h, fun _ => by omega⟩
theorem fMod_lt {a : Int32} {n : Nat} (h0 : 0 < n) : fMod a n < n := by
  have := fm_b (a := a) h0
  unfold fMod
  split <;> omega
theorem fm_rem {a : Int32} {n : Nat} (h0 : 0 < n) (h : n < 2 ^ 31) : (a - a / nI n * nI n).toInt = a.toInt.tmod n := by
  have hb := fm_b (a := a) h0
  have ha1 := a.toInt_lt
  have ha2 := a.le_toInt
  have e := Int.mul_tdiv_add_tmod a.toInt n
  have eq9 : (a / nI n).toInt = a.toInt.tdiv n := by
    rw [Int32.toInt_div, nI_toInt h]
    have hq : (a.toInt.tdiv n).natAbs ≤ a.toInt.natAbs := Int.natAbs_tdiv_le_natAbs _ _
    have hq2 : ¬ a.toInt.tdiv n = 2147483648 := fun z => by rw [z] at e; omega
    rw [Int.bmod_eq_of_le (by omega) (by omega)]
  have em : (a / nI n * nI n).toInt = a.toInt.tdiv n * n := by
    rw [Int32.toInt_mul, eq9, nI_toInt h]
    rw [Int.bmod_eq_of_le (by rw [Int.mul_comm]; omega) (by rw [Int.mul_comm]; omega)]
  rw [Int32.toInt_sub, em, Int.bmod_eq_of_le (by rw [Int.mul_comm]; omega) (by rw [Int.mul_comm]; omega), Int.mul_comm]
  omega
theorem fm_xor {a : Int32} {n : Nat} (h : n < 2 ^ 31) : a ^^^ nI n < 0 ↔ a.toInt < 0 := by
  have hn : (nI n).toBitVec.msb = false := by
    rw [BitVec.msb_eq_toInt, Int32.toInt_toBitVec, nI_toInt h]
    exact decide_eq_false (by omega)
  have h1 : ((a ^^^ nI n).toInt < 0) ↔ (a ^^^ nI n).toBitVec.msb = true := by
    rw [BitVec.msb_eq_toInt, Int32.toInt_toBitVec, decide_eq_true_eq]
  have h2 : (a.toInt < 0) ↔ a.toBitVec.msb = true := by
    rw [BitVec.msb_eq_toInt, Int32.toInt_toBitVec, decide_eq_true_eq]
  rw [Int32.lt_iff_toInt_lt, show (0 : Int32).toInt = 0 from rfl, h1, h2, Int32.toBitVec_xor, BitVec.msb_xor, hn, Bool.xor_false]
theorem fm_pos {a : Int32} {n : Nat} (h0 : 0 < n) (h : n < 2 ^ 31) (hp : ¬ a.toInt < 0 ∨ a - a / nI n * nI n = 0) : a - a / nI n * nI n = nI (fMod a n) := by
  have hb := fm_b (a := a) h0
  have hr := fm_rem (a := a) h0 h
  have hz : 0 ≤ a.toInt.tmod n := by
    rcases hp with hp | hp
    · exact hb.2.2.1 (by omega)
    · rw [hp] at hr; rw [← hr]; decide
  apply Int32.toInt_inj.mp
  rw [hr, nI_toInt (by have := fMod_lt (a := a) h0; omega)]
  unfold fMod
  rw [if_neg (by omega)]
  omega
theorem fm_neg {a : Int32} {n : Nat} (h0 : 0 < n) (h : n < 2 ^ 31) (hp : a.toInt < 0) (hq : ¬ a - a / nI n * nI n = 0) : a - a / nI n * nI n + nI n = nI (fMod a n) := by
  have hb := fm_b (a := a) h0
  have hr := fm_rem (a := a) h0 h
  have hz : a.toInt.tmod n < 0 := by
    have h1 := hb.2.2.2 (by omega)
    have h2 : a.toInt.tmod n ≠ 0 := fun z => hq (by apply Int32.toInt_inj.mp; rw [hr, z]; rfl)
    omega
  apply Int32.toInt_inj.mp
  rw [Int32.toInt_add, hr, nI_toInt h, nI_toInt (by have := fMod_lt (a := a) h0; omega), Int.bmod_eq_of_le (by omega) (by omega)]
  unfold fMod
  rw [if_pos hz]
  omega
theorem lit_str {D : va_G} {w : g_H} : ∀ {i : Nat}, i < 14 → g_Str D w (D.2 1000 i) (gTx.getD i [])
  | 0, _ => ⟨⟨by decide, by decide⟩, Or.inr ⟨0, by decide, rfl, rfl⟩⟩
  | 1, _ => ⟨⟨by decide, by decide⟩, Or.inr ⟨1, by decide, rfl, rfl⟩⟩
  | 2, _ => ⟨⟨by decide, by decide⟩, Or.inr ⟨2, by decide, rfl, rfl⟩⟩
  | 3, _ => ⟨⟨by decide, by decide⟩, Or.inr ⟨3, by decide, rfl, rfl⟩⟩
  | 4, _ => ⟨⟨by decide, by decide⟩, Or.inr ⟨4, by decide, rfl, rfl⟩⟩
  | 5, _ => ⟨⟨by decide, by decide⟩, Or.inr ⟨5, by decide, rfl, rfl⟩⟩
  | 6, _ => ⟨⟨by decide, by decide⟩, Or.inr ⟨6, by decide, rfl, rfl⟩⟩
  | 7, _ => ⟨⟨by decide, by decide⟩, Or.inr ⟨7, by decide, rfl, rfl⟩⟩
  | 8, _ => ⟨⟨by decide, by decide⟩, Or.inr ⟨8, by decide, rfl, rfl⟩⟩
  | 9, _ => ⟨⟨by decide, by decide⟩, Or.inr ⟨9, by decide, rfl, rfl⟩⟩
  | 10, _ => ⟨⟨by decide, by decide⟩, Or.inr ⟨10, by decide, rfl, rfl⟩⟩
  | 11, _ => ⟨⟨by decide, by decide⟩, Or.inr ⟨11, by decide, rfl, rfl⟩⟩
  | 12, _ => ⟨⟨by decide, by decide⟩, Or.inr ⟨12, by decide, rfl, rfl⟩⟩
  | 13, _ => ⟨⟨by decide, by decide⟩, Or.inr ⟨13, by decide, rfl, rfl⟩⟩
set_option maxHeartbeats 4000000 in
set_option maxRecDepth 100000 in
/-- Math.floorMod -/
theorem mtJ7_floorMod (l : Launch) (D : va_G) (w : g_H) (sz : Nat) (a : Int32) (n : Nat) (h0 : 0 < n) (h1 : n < 2 ^ 31) : Met l yJ7_floorMod (ws_ yJ7_floorMod cJ7_floorMod 3 (some .int)) ({ frames := 1, cells := 0, slots := 0, locals := 12 }) (g_Pc D [.int (a), .int (nI n)] w sz) (g_Qi D w sz (fun r u => r = nI (fMod a n) ∧ w = u)) (0) (0) (g_A w sz) := by
  refine va_MetF (cc := cJ7_floorMod) (maxL := 3) (ret := (some .int)) (by decide +kernel) rfl ?_
  intro p e s m args below meth c s₁ B hml hv
  obtain ⟨rfl, hI⟩ := hv
  have hx := B.exec
  have hb := B.bytes
  have hr := B.returns
  have hts := atoms_spec (ws := ws_ yJ7_floorMod cJ7_floorMod 3 (some .int)) B.pre
  have hts : ∀ w ∈ lw_all, w.before _ s = true := fun w h => hts w (List.mem_cons_of_mem _ h)
  have hown : s.vm.findClass RJ7 = some m.cls := findClass_of_methodNamed B.named
  have hlocks := B.notSynchronized
  have hsz := hI.1
  subst hsz
  have hW := g_W.start hI
  have hK := g_K hI
  have hE := g_E hI
  have hl := lv_entry ([.int (a), .int (nI n)]) (n := 3) (by exact Nat.le_of_ble_eq_true rfl)
  rw [lg_entry_eq]
  generalize (lg_sl ([.int (a), .int (nI n)]) ++ List.replicate (3 - (lg_sl ([.int (a), .int (nI n)])).length) Slot.unset).toArray = ls at hl ⊢
  have hl : lv_has ls 3 [(0, .int (a)), (1, .int (nI n))] := hl
  refine lv_iload_n hx hb dJ7_floorMod_0 rfl (lv_at hl 0 rfl) ?_
  refine lv_iload_n hx hb dJ7_floorMod_1 rfl (lv_at hl 1 rfl) ?_
  refine lv_irem hx hb dJ7_floorMod_2 (nI_ne0 h0 h1) ?_
  refine lv_istore_n (lv' := [(2, .int (a - a / nI n * nI n)), (0, .int (a)), (1, .int (nI n))]) hx hb dJ7_floorMod_3 rfl hl (by decide) rfl (fun ls hl => ?_)
  refine lv_iload_n hx hb dJ7_floorMod_4 rfl (lv_at hl 1 rfl) ?_
  refine lv_iload_n hx hb dJ7_floorMod_5 rfl (lv_at hl 2 rfl) ?_
  refine lv_ixor hx hb dJ7_floorMod_6 ?_
  refine lv_if_ge (tgt := 18) hx hb dJ7_floorMod_7 (by decide) (fun hc => ?_) (fun hc => ?_)
  · refine lv_iload_n hx hb dJ7_floorMod_18 rfl (lv_at hl 0 rfl) ?_
    exact g_iret (v := a - a / nI n * nI n) hx hb hr hlocks hW (⟨fm_pos h0 h1 (Or.inl (fun z => absurd (fm_xor h1 |>.mpr z) (by first | exact Int32.not_lt.mpr hc | exact hc))), rfl⟩) (by omega) (by omega) dJ7_floorMod_19
  · refine lv_iload_n hx hb dJ7_floorMod_10 rfl (lv_at hl 0 rfl) ?_
    refine lv_if_eq (tgt := 18) hx hb dJ7_floorMod_11 (by decide) (fun hd => ?_) (fun hd => ?_)
    · refine lv_iload_n hx hb dJ7_floorMod_18 rfl (lv_at hl 0 rfl) ?_
      exact g_iret (v := a - a / nI n * nI n) hx hb hr hlocks hW (⟨fm_pos h0 h1 (Or.inr hd), rfl⟩) (by omega) (by omega) dJ7_floorMod_19
    · refine lv_iload_n hx hb dJ7_floorMod_14 rfl (lv_at hl 0 rfl) ?_
      refine lv_iload_n hx hb dJ7_floorMod_15 rfl (lv_at hl 2 rfl) ?_
      refine lv_iadd hx hb dJ7_floorMod_16 ?_
      exact g_iret (v := (a - a / nI n * nI n) + (nI n)) hx hb hr hlocks hW (⟨fm_neg h0 h1 (fm_xor h1 |>.mp (by first | exact hc | exact Int32.not_le.mp hc)) hd, rfl⟩) (by omega) (by omega) dJ7_floorMod_17
set_option maxHeartbeats 4000000 in
set_option maxRecDepth 100000 in
/-- the law: text -/
theorem mtX0_text (l : Launch) (D : va_G) (w : g_H) (sz : Nat) (a : Int32) : Met l yX0_text (ws_ yX0_text cX0_text 1 (some (.object "java/lang/String"))) ({ frames := 2, cells := 0, slots := 0, locals := 34 }) (g_Pc D [.int (a)] w sz) (g_Qq D w sz (fun r u => r = some (D.2 1000 (fMod a 14)) ∧ w = u)) (0) (0) (g_A w sz) := by
  refine Met.ofW (cc := cX0_text) (maxL := 1) (ret := (some (.object "java/lang/String"))) (by decide) rfl ?_
  intro p e s m args below meth c s₁ B hml hv
  obtain ⟨rfl, hI⟩ := hv
  have hx := B.exec
  have hb := B.bytes
  have hr := B.returns
  have hts := atoms_spec (ws := ws_ yX0_text cX0_text 1 (some (.object "java/lang/String"))) B.pre
  have hts : ∀ w ∈ lw_all, w.before _ s = true := fun w h => hts w (List.mem_cons_of_mem _ h)
  have hown : s.vm.findClass RX0 = some m.cls := findClass_of_methodNamed B.named
  have hlocks := B.notSynchronized
  have hsz := hI.1
  subst hsz
  have hW := g_W.start hI
  have hK := g_K hI
  have hE := g_E hI
  have hl := lv_entry ([.int (a)]) (n := 1) (by exact Nat.le_of_ble_eq_true rfl)
  rw [lg_entry_eq]
  generalize (lg_sl ([.int (a)]) ++ List.replicate (1 - (lg_sl ([.int (a)])).length) Slot.unset).toArray = ls at hl ⊢
  have hl : lv_has ls 1 [(0, .int (a))] := hl
  refine lv_iload_n hx hb dX0_text_0 rfl (lv_at hl 0 rfl) ?_
  refine lv_bipush (v := 14) hx hb dX0_text_1 (by decide) ?_
  refine g_calli (va_runS (As := [.int (a), .int (14)]) (rest := []) ⟨hx, hb, hml, hown, hts⟩ (mtJ7_floorMod l D w s.heap.size a 14 (by decide) (by decide)) (va_cwS 2 hts (lw_S q485 q486 q43 q487) rfl rfl rfl (by decide +kernel) ⟨Nat.le_of_ble_eq_true rfl, Nat.le_of_ble_eq_true rfl⟩) (g_preS hW hK hE) rfl rfl hl.1 rfl (lv_room (Nat.le_of_ble_eq_true rfl)) dX0_text_3 ⟨Nat.le_of_ble_eq_true rfl, Nat.le_of_ble_eq_true rfl⟩) hW (fun r_ u_ H locs hp hW => ?_)
  obtain ⟨er, rfl⟩ := hp
  subst er
  have hlt := fMod_lt (a := a) (n := 14) (by decide)
  obtain ⟨j, ej⟩ : ∃ z__, z__ = fMod a 14 := ⟨_, rfl⟩
  rw [← ej] at hlt ⊢
  have hj : j = 0 ∨ j = 1 ∨ j = 2 ∨ j = 3 ∨ j = 4 ∨ j = 5 ∨ j = 6 ∨ j = 7 ∨ j = 8 ∨ j = 9 ∨ j = 10 ∨ j = 11 ∨ j = 12 ∨ j = 13 := by omega
  rcases hj with hj | hj | hj | hj | hj | hj | hj | hj | hj | hj | hj | hj | hj | hj
  · rw [hj]
    refine W.eq (g2 := F0 m 6 ls [.int 0]) rfl ?_
    refine lv_tableIn (tgt := 72) hx hb dX0_text_6 (by decide) (by decide) rfl (by decide) ?_
    refine va_ldcS hx hb hown (rs_0 hE) dX0_text_72 ?_
    exact g_qret (v := some (D.2 1000 0)) hx hb hr (Or.inl ⟨_, rfl⟩) hlocks hW (⟨rfl, rfl⟩) (by omega) (by omega) dX0_text_74
  · rw [hj]
    refine W.eq (g2 := F0 m 6 ls [.int 1]) rfl ?_
    refine lv_tableIn (tgt := 75) hx hb dX0_text_6 (by decide) (by decide) rfl (by decide) ?_
    refine va_ldcS hx hb hown (rs_1 hE) dX0_text_75 ?_
    exact g_qret (v := some (D.2 1000 1)) hx hb hr (Or.inl ⟨_, rfl⟩) hlocks hW (⟨rfl, rfl⟩) (by omega) (by omega) dX0_text_77
  · rw [hj]
    refine W.eq (g2 := F0 m 6 ls [.int 2]) rfl ?_
    refine lv_tableIn (tgt := 78) hx hb dX0_text_6 (by decide) (by decide) rfl (by decide) ?_
    refine va_ldcS hx hb hown (rs_2 hE) dX0_text_78 ?_
    exact g_qret (v := some (D.2 1000 2)) hx hb hr (Or.inl ⟨_, rfl⟩) hlocks hW (⟨rfl, rfl⟩) (by omega) (by omega) dX0_text_80
  · rw [hj]
    refine W.eq (g2 := F0 m 6 ls [.int 3]) rfl ?_
    refine lv_tableIn (tgt := 81) hx hb dX0_text_6 (by decide) (by decide) rfl (by decide) ?_
    refine va_ldcS hx hb hown (rs_3 hE) dX0_text_81 ?_
    exact g_qret (v := some (D.2 1000 3)) hx hb hr (Or.inl ⟨_, rfl⟩) hlocks hW (⟨rfl, rfl⟩) (by omega) (by omega) dX0_text_83
  · rw [hj]
    refine W.eq (g2 := F0 m 6 ls [.int 4]) rfl ?_
    refine lv_tableIn (tgt := 84) hx hb dX0_text_6 (by decide) (by decide) rfl (by decide) ?_
    refine va_ldcS hx hb hown (rs_4 hE) dX0_text_84 ?_
    exact g_qret (v := some (D.2 1000 4)) hx hb hr (Or.inl ⟨_, rfl⟩) hlocks hW (⟨rfl, rfl⟩) (by omega) (by omega) dX0_text_86
  · rw [hj]
    refine W.eq (g2 := F0 m 6 ls [.int 5]) rfl ?_
    refine lv_tableIn (tgt := 87) hx hb dX0_text_6 (by decide) (by decide) rfl (by decide) ?_
    refine va_ldcS hx hb hown (rs_5 hE) dX0_text_87 ?_
    exact g_qret (v := some (D.2 1000 5)) hx hb hr (Or.inl ⟨_, rfl⟩) hlocks hW (⟨rfl, rfl⟩) (by omega) (by omega) dX0_text_89
  · rw [hj]
    refine W.eq (g2 := F0 m 6 ls [.int 6]) rfl ?_
    refine lv_tableIn (tgt := 90) hx hb dX0_text_6 (by decide) (by decide) rfl (by decide) ?_
    refine va_ldcS hx hb hown (rs_6 hE) dX0_text_90 ?_
    exact g_qret (v := some (D.2 1000 6)) hx hb hr (Or.inl ⟨_, rfl⟩) hlocks hW (⟨rfl, rfl⟩) (by omega) (by omega) dX0_text_92
  · rw [hj]
    refine W.eq (g2 := F0 m 6 ls [.int 7]) rfl ?_
    refine lv_tableIn (tgt := 93) hx hb dX0_text_6 (by decide) (by decide) rfl (by decide) ?_
    refine va_ldcS hx hb hown (rs_7 hE) dX0_text_93 ?_
    exact g_qret (v := some (D.2 1000 7)) hx hb hr (Or.inl ⟨_, rfl⟩) hlocks hW (⟨rfl, rfl⟩) (by omega) (by omega) dX0_text_95
  · rw [hj]
    refine W.eq (g2 := F0 m 6 ls [.int 8]) rfl ?_
    refine lv_tableIn (tgt := 96) hx hb dX0_text_6 (by decide) (by decide) rfl (by decide) ?_
    refine va_ldcS hx hb hown (rs_8 hE) dX0_text_96 ?_
    exact g_qret (v := some (D.2 1000 8)) hx hb hr (Or.inl ⟨_, rfl⟩) hlocks hW (⟨rfl, rfl⟩) (by omega) (by omega) dX0_text_98
  · rw [hj]
    refine W.eq (g2 := F0 m 6 ls [.int 9]) rfl ?_
    refine lv_tableIn (tgt := 99) hx hb dX0_text_6 (by decide) (by decide) rfl (by decide) ?_
    refine va_ldcS hx hb hown (rs_9 hE) dX0_text_99 ?_
    exact g_qret (v := some (D.2 1000 9)) hx hb hr (Or.inl ⟨_, rfl⟩) hlocks hW (⟨rfl, rfl⟩) (by omega) (by omega) dX0_text_101
  · rw [hj]
    refine W.eq (g2 := F0 m 6 ls [.int 10]) rfl ?_
    refine lv_tableIn (tgt := 102) hx hb dX0_text_6 (by decide) (by decide) rfl (by decide) ?_
    refine va_ldcS hx hb hown (rs_10 hE) dX0_text_102 ?_
    exact g_qret (v := some (D.2 1000 10)) hx hb hr (Or.inl ⟨_, rfl⟩) hlocks hW (⟨rfl, rfl⟩) (by omega) (by omega) dX0_text_104
  · rw [hj]
    refine W.eq (g2 := F0 m 6 ls [.int 11]) rfl ?_
    refine lv_tableIn (tgt := 105) hx hb dX0_text_6 (by decide) (by decide) rfl (by decide) ?_
    refine va_ldcS hx hb hown (rs_11 hE) dX0_text_105 ?_
    exact g_qret (v := some (D.2 1000 11)) hx hb hr (Or.inl ⟨_, rfl⟩) hlocks hW (⟨rfl, rfl⟩) (by omega) (by omega) dX0_text_107
  · rw [hj]
    refine W.eq (g2 := F0 m 6 ls [.int 12]) rfl ?_
    refine lv_tableIn (tgt := 108) hx hb dX0_text_6 (by decide) (by decide) rfl (by decide) ?_
    refine va_ldcS hx hb hown (rs_12 hE) dX0_text_108 ?_
    exact g_qret (v := some (D.2 1000 12)) hx hb hr (Or.inl ⟨_, rfl⟩) hlocks hW (⟨rfl, rfl⟩) (by omega) (by omega) dX0_text_110
  · rw [hj]
    refine W.eq (g2 := F0 m 6 ls [.int 13]) rfl ?_
    refine lv_tableOut (tgt := 111) hx hb dX0_text_6 (by decide) (by decide) ?_
    refine va_ldcS hx hb hown (rs_13 hE) dX0_text_111 ?_
    exact g_qret (v := some (D.2 1000 13)) hx hb hr (Or.inl ⟨_, rfl⟩) hlocks hW (⟨rfl, rfl⟩) (by omega) (by omega) dX0_text_113
set_option maxHeartbeats 4000000 in
set_option maxRecDepth 100000 in
/-- the law: toOp -/
theorem mtX0_toOp (l : Launch) (D : va_G) (w : g_H) (sz : Nat) (a : Int32) : Met l yX0_toOp (ws_ yX0_toOp cX0_toOp 1 (some (.object "Op"))) ({ frames := 2, cells := 0, slots := 0, locals := 34 }) (g_Pc D [.int (a)] w sz) (g_Qq D w sz (fun r u => r = some (D.2 1002 (fMod a 9)) ∧ w = u)) (0) (0) (g_A w sz) := by
  refine Met.ofW (cc := cX0_toOp) (maxL := 1) (ret := (some (.object "Op"))) (by decide) rfl ?_
  intro p e s m args below meth c s₁ B hml hv
  obtain ⟨rfl, hI⟩ := hv
  have hx := B.exec
  have hb := B.bytes
  have hr := B.returns
  have hts := atoms_spec (ws := ws_ yX0_toOp cX0_toOp 1 (some (.object "Op"))) B.pre
  have hts : ∀ w ∈ lw_all, w.before _ s = true := fun w h => hts w (List.mem_cons_of_mem _ h)
  have hown : s.vm.findClass RX0 = some m.cls := findClass_of_methodNamed B.named
  have hlocks := B.notSynchronized
  have hsz := hI.1
  subst hsz
  have hW := g_W.start hI
  have hK := g_K hI
  have hE := g_E hI
  have hl := lv_entry ([.int (a)]) (n := 1) (by exact Nat.le_of_ble_eq_true rfl)
  rw [lg_entry_eq]
  generalize (lg_sl ([.int (a)]) ++ List.replicate (1 - (lg_sl ([.int (a)])).length) Slot.unset).toArray = ls at hl ⊢
  have hl : lv_has ls 1 [(0, .int (a))] := hl
  refine lv_iload_n hx hb dX0_toOp_0 rfl (lv_at hl 0 rfl) ?_
  refine lv_bipush (v := 9) hx hb dX0_toOp_1 (by decide) ?_
  refine g_calli (va_runS (As := [.int (a), .int (9)]) (rest := []) ⟨hx, hb, hml, hown, hts⟩ (mtJ7_floorMod l D w s.heap.size a 9 (by decide) (by decide)) (va_cwS 2 hts (lw_S q485 q486 q43 q487) rfl rfl rfl (by decide +kernel) ⟨Nat.le_of_ble_eq_true rfl, Nat.le_of_ble_eq_true rfl⟩) (g_preS hW hK hE) rfl rfl hl.1 rfl (lv_room (Nat.le_of_ble_eq_true rfl)) dX0_toOp_3 ⟨Nat.le_of_ble_eq_true rfl, Nat.le_of_ble_eq_true rfl⟩) hW (fun r_ u_ H locs hp hW => ?_)
  obtain ⟨er, rfl⟩ := hp
  subst er
  have hlt := fMod_lt (a := a) (n := 9) (by decide)
  obtain ⟨j, ej⟩ : ∃ z__, z__ = fMod a 9 := ⟨_, rfl⟩
  rw [← ej] at hlt ⊢
  have hj : j = 0 ∨ j = 1 ∨ j = 2 ∨ j = 3 ∨ j = 4 ∨ j = 5 ∨ j = 6 ∨ j = 7 ∨ j = 8 := by omega
  rcases hj with hj | hj | hj | hj | hj | hj | hj | hj | hj
  · rw [hj]
    refine W.eq (g2 := F0 m 6 ls [.int 0]) rfl ?_
    refine lv_tableIn (tgt := 52) hx hb dX0_toOp_6 (by decide) (by decide) rfl (by decide) ?_
    refine va_gets hx hb ((hE.2.2.2.2.2.2.1.1 0 (by decide)).1) hW.2.2.1 hown (hts _ q506) (fun _ h9 => h9) dX0_toOp_52 ?_
    exact g_qret (v := some (D.2 1002 0)) hx hb hr (Or.inl ⟨_, rfl⟩) hlocks hW (⟨rfl, rfl⟩) (by omega) (by omega) dX0_toOp_55
  · rw [hj]
    refine W.eq (g2 := F0 m 6 ls [.int 1]) rfl ?_
    refine lv_tableIn (tgt := 56) hx hb dX0_toOp_6 (by decide) (by decide) rfl (by decide) ?_
    refine va_gets hx hb ((hE.2.2.2.2.2.2.1.1 1 (by decide)).1) hW.2.2.1 hown (hts _ q508) (fun _ h9 => h9) dX0_toOp_56 ?_
    exact g_qret (v := some (D.2 1002 1)) hx hb hr (Or.inl ⟨_, rfl⟩) hlocks hW (⟨rfl, rfl⟩) (by omega) (by omega) dX0_toOp_59
  · rw [hj]
    refine W.eq (g2 := F0 m 6 ls [.int 2]) rfl ?_
    refine lv_tableIn (tgt := 60) hx hb dX0_toOp_6 (by decide) (by decide) rfl (by decide) ?_
    refine va_gets hx hb ((hE.2.2.2.2.2.2.1.1 2 (by decide)).1) hW.2.2.1 hown (hts _ q510) (fun _ h9 => h9) dX0_toOp_60 ?_
    exact g_qret (v := some (D.2 1002 2)) hx hb hr (Or.inl ⟨_, rfl⟩) hlocks hW (⟨rfl, rfl⟩) (by omega) (by omega) dX0_toOp_63
  · rw [hj]
    refine W.eq (g2 := F0 m 6 ls [.int 3]) rfl ?_
    refine lv_tableIn (tgt := 64) hx hb dX0_toOp_6 (by decide) (by decide) rfl (by decide) ?_
    refine va_gets hx hb ((hE.2.2.2.2.2.2.1.1 3 (by decide)).1) hW.2.2.1 hown (hts _ q512) (fun _ h9 => h9) dX0_toOp_64 ?_
    exact g_qret (v := some (D.2 1002 3)) hx hb hr (Or.inl ⟨_, rfl⟩) hlocks hW (⟨rfl, rfl⟩) (by omega) (by omega) dX0_toOp_67
  · rw [hj]
    refine W.eq (g2 := F0 m 6 ls [.int 4]) rfl ?_
    refine lv_tableIn (tgt := 68) hx hb dX0_toOp_6 (by decide) (by decide) rfl (by decide) ?_
    refine va_gets hx hb ((hE.2.2.2.2.2.2.1.1 4 (by decide)).1) hW.2.2.1 hown (hts _ q514) (fun _ h9 => h9) dX0_toOp_68 ?_
    exact g_qret (v := some (D.2 1002 4)) hx hb hr (Or.inl ⟨_, rfl⟩) hlocks hW (⟨rfl, rfl⟩) (by omega) (by omega) dX0_toOp_71
  · rw [hj]
    refine W.eq (g2 := F0 m 6 ls [.int 5]) rfl ?_
    refine lv_tableIn (tgt := 72) hx hb dX0_toOp_6 (by decide) (by decide) rfl (by decide) ?_
    refine va_gets hx hb ((hE.2.2.2.2.2.2.1.1 5 (by decide)).1) hW.2.2.1 hown (hts _ q516) (fun _ h9 => h9) dX0_toOp_72 ?_
    exact g_qret (v := some (D.2 1002 5)) hx hb hr (Or.inl ⟨_, rfl⟩) hlocks hW (⟨rfl, rfl⟩) (by omega) (by omega) dX0_toOp_75
  · rw [hj]
    refine W.eq (g2 := F0 m 6 ls [.int 6]) rfl ?_
    refine lv_tableIn (tgt := 76) hx hb dX0_toOp_6 (by decide) (by decide) rfl (by decide) ?_
    refine va_gets hx hb ((hE.2.2.2.2.2.2.1.1 6 (by decide)).1) hW.2.2.1 hown (hts _ q518) (fun _ h9 => h9) dX0_toOp_76 ?_
    exact g_qret (v := some (D.2 1002 6)) hx hb hr (Or.inl ⟨_, rfl⟩) hlocks hW (⟨rfl, rfl⟩) (by omega) (by omega) dX0_toOp_79
  · rw [hj]
    refine W.eq (g2 := F0 m 6 ls [.int 7]) rfl ?_
    refine lv_tableIn (tgt := 80) hx hb dX0_toOp_6 (by decide) (by decide) rfl (by decide) ?_
    refine va_gets hx hb ((hE.2.2.2.2.2.2.1.1 7 (by decide)).1) hW.2.2.1 hown (hts _ q520) (fun _ h9 => h9) dX0_toOp_80 ?_
    exact g_qret (v := some (D.2 1002 7)) hx hb hr (Or.inl ⟨_, rfl⟩) hlocks hW (⟨rfl, rfl⟩) (by omega) (by omega) dX0_toOp_83
  · rw [hj]
    refine W.eq (g2 := F0 m 6 ls [.int 8]) rfl ?_
    refine lv_tableOut (tgt := 84) hx hb dX0_toOp_6 (by decide) (by decide) ?_
    refine va_gets hx hb ((hE.2.2.2.2.2.2.1.1 8 (by decide)).1) hW.2.2.1 hown (hts _ q522) (fun _ h9 => h9) dX0_toOp_84 ?_
    exact g_qret (v := some (D.2 1002 8)) hx hb hr (Or.inl ⟨_, rfl⟩) hlocks hW (⟨rfl, rfl⟩) (by omega) (by omega) dX0_toOp_87
set_option maxHeartbeats 4000000 in
set_option maxRecDepth 100000 in
/-- the law: toVerdict -/
theorem mtX0_toVerdict (l : Launch) (D : va_G) (w : g_H) (sz : Nat) (a : Int32) : Met l yX0_toVerdict (ws_ yX0_toVerdict cX0_toVerdict 1 (some (.object "Verdict"))) ({ frames := 2, cells := 0, slots := 0, locals := 34 }) (g_Pc D [.int (a)] w sz) (g_Qq D w sz (fun r u => r = some (D.2 1003 (fMod a 3)) ∧ w = u)) (0) (0) (g_A w sz) := by
  refine Met.ofW (cc := cX0_toVerdict) (maxL := 1) (ret := (some (.object "Verdict"))) (by decide) rfl ?_
  intro p e s m args below meth c s₁ B hml hv
  obtain ⟨rfl, hI⟩ := hv
  have hx := B.exec
  have hb := B.bytes
  have hr := B.returns
  have hts := atoms_spec (ws := ws_ yX0_toVerdict cX0_toVerdict 1 (some (.object "Verdict"))) B.pre
  have hts : ∀ w ∈ lw_all, w.before _ s = true := fun w h => hts w (List.mem_cons_of_mem _ h)
  have hown : s.vm.findClass RX0 = some m.cls := findClass_of_methodNamed B.named
  have hlocks := B.notSynchronized
  have hsz := hI.1
  subst hsz
  have hW := g_W.start hI
  have hK := g_K hI
  have hE := g_E hI
  have hl := lv_entry ([.int (a)]) (n := 1) (by exact Nat.le_of_ble_eq_true rfl)
  rw [lg_entry_eq]
  generalize (lg_sl ([.int (a)]) ++ List.replicate (1 - (lg_sl ([.int (a)])).length) Slot.unset).toArray = ls at hl ⊢
  have hl : lv_has ls 1 [(0, .int (a))] := hl
  refine lv_iload_n hx hb dX0_toVerdict_0 rfl (lv_at hl 0 rfl) ?_
  refine lv_iconst (v := 3) hx hb dX0_toVerdict_1 (by decide) ?_
  refine g_calli (va_runS (As := [.int (a), .int (3)]) (rest := []) ⟨hx, hb, hml, hown, hts⟩ (mtJ7_floorMod l D w s.heap.size a 3 (by decide) (by decide)) (va_cwS 2 hts (lw_S q485 q486 q43 q487) rfl rfl rfl (by decide +kernel) ⟨Nat.le_of_ble_eq_true rfl, Nat.le_of_ble_eq_true rfl⟩) (g_preS hW hK hE) rfl rfl hl.1 rfl (lv_room (Nat.le_of_ble_eq_true rfl)) dX0_toVerdict_2 ⟨Nat.le_of_ble_eq_true rfl, Nat.le_of_ble_eq_true rfl⟩) hW (fun r_ u_ H locs hp hW => ?_)
  obtain ⟨er, rfl⟩ := hp
  subst er
  have hlt := fMod_lt (a := a) (n := 3) (by decide)
  obtain ⟨j, ej⟩ : ∃ z__, z__ = fMod a 3 := ⟨_, rfl⟩
  rw [← ej] at hlt ⊢
  have hj : j = 0 ∨ j = 1 ∨ j = 2 := by omega
  rcases hj with hj | hj | hj
  · rw [hj]
    refine W.eq (g2 := F0 m 5 ls [.int 0]) rfl ?_
    refine lv_lookup (off := 27) (tgt := 32) hx hb dX0_toVerdict_5 (by decide) (by decide) (by decide) ?_
    refine va_gets hx hb ((hE.2.2.2.2.2.2.2.1.1 0 (by decide)).1) hW.2.2.1 hown (hts _ q527) (fun _ h9 => h9) dX0_toVerdict_32 ?_
    exact g_qret (v := some (D.2 1003 0)) hx hb hr (Or.inl ⟨_, rfl⟩) hlocks hW (⟨rfl, rfl⟩) (by omega) (by omega) dX0_toVerdict_35
  · rw [hj]
    refine W.eq (g2 := F0 m 5 ls [.int 1]) rfl ?_
    refine lv_lookup (off := 31) (tgt := 36) hx hb dX0_toVerdict_5 (by decide) (by decide) (by decide) ?_
    refine va_gets hx hb ((hE.2.2.2.2.2.2.2.1.1 1 (by decide)).1) hW.2.2.1 hown (hts _ q529) (fun _ h9 => h9) dX0_toVerdict_36 ?_
    exact g_qret (v := some (D.2 1003 1)) hx hb hr (Or.inl ⟨_, rfl⟩) hlocks hW (⟨rfl, rfl⟩) (by omega) (by omega) dX0_toVerdict_39
  · rw [hj]
    refine W.eq (g2 := F0 m 5 ls [.int 2]) rfl ?_
    refine lv_lookup (off := 35) (tgt := 40) hx hb dX0_toVerdict_5 (by decide) (by decide) (by decide) ?_
    refine va_gets hx hb ((hE.2.2.2.2.2.2.2.1.1 2 (by decide)).1) hW.2.2.1 hown (hts _ q531) (fun _ h9 => h9) dX0_toVerdict_40 ?_
    exact g_qret (v := some (D.2 1003 2)) hx hb hr (Or.inl ⟨_, rfl⟩) hlocks hW (⟨rfl, rfl⟩) (by omega) (by omega) dX0_toVerdict_43
set_option maxHeartbeats 4000000 in
set_option maxRecDepth 100000 in
/-- the law: toChange -/
theorem mtX0_toChange (l : Launch) (D : va_G) (w : g_H) (sz : Nat) (a : Int32) : Met l yX0_toChange (ws_ yX0_toChange cX0_toChange 1 (some (.object "Change"))) ({ frames := 2, cells := 0, slots := 0, locals := 34 }) (g_Pc D [.int (a)] w sz) (g_Qq D w sz (fun r u => r = some (D.2 1004 (fMod a 4)) ∧ w = u)) (0) (0) (g_A w sz) := by
  refine Met.ofW (cc := cX0_toChange) (maxL := 1) (ret := (some (.object "Change"))) (by decide) rfl ?_
  intro p e s m args below meth c s₁ B hml hv
  obtain ⟨rfl, hI⟩ := hv
  have hx := B.exec
  have hb := B.bytes
  have hr := B.returns
  have hts := atoms_spec (ws := ws_ yX0_toChange cX0_toChange 1 (some (.object "Change"))) B.pre
  have hts : ∀ w ∈ lw_all, w.before _ s = true := fun w h => hts w (List.mem_cons_of_mem _ h)
  have hown : s.vm.findClass RX0 = some m.cls := findClass_of_methodNamed B.named
  have hlocks := B.notSynchronized
  have hsz := hI.1
  subst hsz
  have hW := g_W.start hI
  have hK := g_K hI
  have hE := g_E hI
  have hl := lv_entry ([.int (a)]) (n := 1) (by exact Nat.le_of_ble_eq_true rfl)
  rw [lg_entry_eq]
  generalize (lg_sl ([.int (a)]) ++ List.replicate (1 - (lg_sl ([.int (a)])).length) Slot.unset).toArray = ls at hl ⊢
  have hl : lv_has ls 1 [(0, .int (a))] := hl
  refine lv_iload_n hx hb dX0_toChange_0 rfl (lv_at hl 0 rfl) ?_
  refine lv_iconst (v := 4) hx hb dX0_toChange_1 (by decide) ?_
  refine g_calli (va_runS (As := [.int (a), .int (4)]) (rest := []) ⟨hx, hb, hml, hown, hts⟩ (mtJ7_floorMod l D w s.heap.size a 4 (by decide) (by decide)) (va_cwS 2 hts (lw_S q485 q486 q43 q487) rfl rfl rfl (by decide +kernel) ⟨Nat.le_of_ble_eq_true rfl, Nat.le_of_ble_eq_true rfl⟩) (g_preS hW hK hE) rfl rfl hl.1 rfl (lv_room (Nat.le_of_ble_eq_true rfl)) dX0_toChange_2 ⟨Nat.le_of_ble_eq_true rfl, Nat.le_of_ble_eq_true rfl⟩) hW (fun r_ u_ H locs hp hW => ?_)
  obtain ⟨er, rfl⟩ := hp
  subst er
  have hlt := fMod_lt (a := a) (n := 4) (by decide)
  obtain ⟨j, ej⟩ : ∃ z__, z__ = fMod a 4 := ⟨_, rfl⟩
  rw [← ej] at hlt ⊢
  have hj : j = 0 ∨ j = 1 ∨ j = 2 ∨ j = 3 := by omega
  rcases hj with hj | hj | hj | hj
  · rw [hj]
    refine W.eq (g2 := F0 m 5 ls [.int 0]) rfl ?_
    refine lv_tableIn (tgt := 32) hx hb dX0_toChange_5 (by decide) (by decide) rfl (by decide) ?_
    refine va_gets hx hb ((hE.2.2.2.2.2.2.2.2.1.1 0 (by decide)).1) hW.2.2.1 hown (hts _ q536) (fun _ h9 => h9) dX0_toChange_32 ?_
    exact g_qret (v := some (D.2 1004 0)) hx hb hr (Or.inl ⟨_, rfl⟩) hlocks hW (⟨rfl, rfl⟩) (by omega) (by omega) dX0_toChange_35
  · rw [hj]
    refine W.eq (g2 := F0 m 5 ls [.int 1]) rfl ?_
    refine lv_tableIn (tgt := 36) hx hb dX0_toChange_5 (by decide) (by decide) rfl (by decide) ?_
    refine va_gets hx hb ((hE.2.2.2.2.2.2.2.2.1.1 1 (by decide)).1) hW.2.2.1 hown (hts _ q538) (fun _ h9 => h9) dX0_toChange_36 ?_
    exact g_qret (v := some (D.2 1004 1)) hx hb hr (Or.inl ⟨_, rfl⟩) hlocks hW (⟨rfl, rfl⟩) (by omega) (by omega) dX0_toChange_39
  · rw [hj]
    refine W.eq (g2 := F0 m 5 ls [.int 2]) rfl ?_
    refine lv_tableIn (tgt := 40) hx hb dX0_toChange_5 (by decide) (by decide) rfl (by decide) ?_
    refine va_gets hx hb ((hE.2.2.2.2.2.2.2.2.1.1 2 (by decide)).1) hW.2.2.1 hown (hts _ q540) (fun _ h9 => h9) dX0_toChange_40 ?_
    exact g_qret (v := some (D.2 1004 2)) hx hb hr (Or.inl ⟨_, rfl⟩) hlocks hW (⟨rfl, rfl⟩) (by omega) (by omega) dX0_toChange_43
  · rw [hj]
    refine W.eq (g2 := F0 m 5 ls [.int 3]) rfl ?_
    refine lv_tableOut (tgt := 44) hx hb dX0_toChange_5 (by decide) (by decide) ?_
    refine va_gets hx hb ((hE.2.2.2.2.2.2.2.2.1.1 3 (by decide)).1) hW.2.2.1 hown (hts _ q542) (fun _ h9 => h9) dX0_toChange_44 ?_
    exact g_qret (v := some (D.2 1004 3)) hx hb hr (Or.inl ⟨_, rfl⟩) hlocks hW (⟨rfl, rfl⟩) (by omega) (by omega) dX0_toChange_47
