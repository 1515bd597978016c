/-! the model: single inputs *
-/
set_option maxRecDepth 100000
theorem isIn_sDg {t : List Nat} (h : isIn t) : sDg (digs t) := digs_ok h.1 h.2
def thI (t : List Nat) : Int32 := if inB t = true then 0 else 1
noncomputable def thF (P : List mI) (t : List Nat) : Int32 := if inB t = true then (if (mOut P (digs t)).1 = 1 then 0 else 2) else 1
/-- the tries of shrunk -/
noncomputable def shN (P : List mI) (t : List Nat) : Nat := if inB t = true ∧ (mOut P (digs t)).1 = 1 then (mShr P (mCode P (digs t)) (sMs (digs t) + 1) (digs t)).2 else 0
set_option maxHeartbeats 4000000 in
set_option maxRecDepth 100000 in
/-- Model.verdictOf -/
theorem mtX3_verdictOf (l : Launch) (D : va_G) (w : g_H) (sz : Nat) (k9 : Nat) (hk9 : k9 < 3) : Met l yX3_verdictOf (ws_ yX3_verdictOf cX3_verdictOf 1 (some (.object "Verdict"))) ({ frames := 1, cells := 0, slots := 0, locals := 12 }) (g_Pc D [.int (nI k9)] w sz) (g_Qq D w sz (fun r u => r = some (D.2 1003 k9) ∧ w = u)) (0) (0) (g_A w sz) := by
  refine Met.ofW (cc := cX3_verdictOf) (maxL := 1) (ret := (some (.object "Verdict"))) (by decide) rfl ?_
  intro p e s m args below meth c s₁ B hml hv
  obtain ⟨rfl, hI⟩ := hv
  have hx := B.exec
  have hb := B.bytes
  have hr := B.returns
  have hts := atoms_spec (ws := ws_ yX3_verdictOf cX3_verdictOf 1 (some (.object "Verdict"))) B.pre
  have hts : ∀ w ∈ lw_all, w.before _ s = true := fun w h => hts w (List.mem_cons_of_mem _ h)
  have hown : s.vm.findClass RX3 = some m.cls := findClass_of_methodNamed B.named
  have hlocks := B.notSynchronized
  have hsz := hI.1
  subst hsz
  have hW := g_W.start hI
  have hK := g_K hI
  have hE := g_E hI
  have hl := lv_entry ([.int (nI k9)]) (n := 1) (by exact Nat.le_of_ble_eq_true rfl)
  rw [lg_entry_eq]
  generalize (lg_sl ([.int (nI k9)]) ++ List.replicate (1 - (lg_sl ([.int (nI k9)])).length) Slot.unset).toArray = ls at hl ⊢
  have hl : lv_has ls 1 [(0, .int (nI k9))] := hl
  refine lv_iload_n hx hb dX3_verdictOf_0 rfl (lv_at hl 0 rfl) ?_
  refine lv_if_ne (tgt := 10) hx hb dX3_verdictOf_1 (by decide) (fun hc => ?_) (fun hc => ?_)
  · have hk0 : k9 ≠ 0 := fun z => hc (by rw [z]; rfl)
    refine lv_iload_n hx hb dX3_verdictOf_10 rfl (lv_at hl 0 rfl) ?_
    refine lv_iconst (v := 1) hx hb dX3_verdictOf_11 (by decide) ?_
    refine lv_icmp_ne (tgt := 21) hx hb dX3_verdictOf_12 (by decide) (fun hd => ?_) (fun hd => ?_)
    · have hk1 : k9 ≠ 1 := fun z => hd (by rw [z]; rfl)
      have e0 : k9 = 2 := by omega
      subst e0
      refine va_gets hx hb ((hE.2.2.2.2.2.2.2.1.1 2 (by decide)).1) hW.2.2.1 hown (hts _ q2158) (fun _ h9 => h9) dX3_verdictOf_21 ?_
      exact g_qret (v := some (D.2 1003 2)) hx hb hr (Or.inl ⟨_, rfl⟩) hlocks hW (⟨rfl, rfl⟩) (by omega) (by omega) dX3_verdictOf_24
    · have e0 : k9 = 1 := nI_inj (b := 1) (by omega) (by decide) (by first | exact hd | exact Classical.not_not.mp hd)
      subst e0
      refine va_gets hx hb ((hE.2.2.2.2.2.2.2.1.1 1 (by decide)).1) hW.2.2.1 hown (hts _ q2157) (fun _ h9 => h9) dX3_verdictOf_15 ?_
      refine lv_goto (tgt := 24) hx hb dX3_verdictOf_18 (by decide) ?_
      exact g_qret (v := some (D.2 1003 1)) hx hb hr (Or.inl ⟨_, rfl⟩) hlocks hW (⟨rfl, rfl⟩) (by omega) (by omega) dX3_verdictOf_24
  · have e0 : k9 = 0 := nI_inj (b := 0) (by omega) (by decide) (by first | exact hc | exact Classical.not_not.mp hc)
    subst e0
    refine va_gets hx hb ((hE.2.2.2.2.2.2.2.1.1 0 (by decide)).1) hW.2.2.1 hown (hts _ q2156) (fun _ h9 => h9) dX3_verdictOf_4 ?_
    refine lv_goto (tgt := 24) hx hb dX3_verdictOf_7 (by decide) ?_
    exact g_qret (v := some (D.2 1003 0)) hx hb hr (Or.inl ⟨_, rfl⟩) hlocks hW (⟨rfl, rfl⟩) (by omega) (by omega) dX3_verdictOf_24
set_option maxHeartbeats 4000000 in
set_option maxRecDepth 100000 in
/-- Model.verdict -/
theorem mtX3_verdict (l : Launch) (D : va_G) (w : g_H) (sz : Nat) (y : Nat) (mf : Nat → Nat) (lab : Nat → Nat) (P : List mI) (C : List yC) (A9 : Nat → List (List Nat)) (cov : Nat → Bool) (K : List (List Nat)) (fq ac : Nat) (F : List yF) (rn tt cK : Nat) (en td st : Int32) (E : Nat → Bool) (th : Int32) (hZ : g_MZ D w lab y mf P C A9 cov K fq ac F rn tt cK en td st E th) (sp : Nat) (t : List Nat) (hst : g_Str D w sp t) : Met l yX3_verdict (ws_ yX3_verdict cX3_verdict 2 (some (.object "Verdict"))) ({ frames := 6, cells := 0, slots := 0, locals := 124 }) (g_Pc D [.ref y, .ref sp] w sz) (g_Qq D w sz (fun r u => (∃ v9, r = some v9 ∧ (isIn t → v9 = D.2 1003 (mOut P (digs t)).1)) ∧ (∃ en2 td2 st2 E2, g_MZ D u lab y mf P C A9 cov K fq ac F rn tt cK en2 td2 st2 E2 (thI t)) ∧ zCh w lab u lab)) (0) (0) (g_A w sz) := by
  refine Met.ofW (cc := cX3_verdict) (maxL := 2) (ret := (some (.object "Verdict"))) (by decide) rfl ?_
  intro p e s m args below meth c s₁ B hml hv
  obtain ⟨rfl, hI⟩ := hv
  have hx := B.exec
  have hb := B.bytes
  have hr := B.returns
  have hts := atoms_spec (ws := ws_ yX3_verdict cX3_verdict 2 (some (.object "Verdict"))) B.pre
  have hts : ∀ w ∈ lw_all, w.before _ s = true := fun w h => hts w (List.mem_cons_of_mem _ h)
  have hown : s.vm.findClass RX3 = some m.cls := findClass_of_methodNamed B.named
  have hlocks := B.notSynchronized
  have hsz := hI.1
  subst hsz
  have hW := g_W.start hI
  have hK := g_K hI
  have hE := g_E hI
  have hl := lv_entry ([.ref y, .ref sp]) (n := 2) (by exact Nat.le_of_ble_eq_true rfl)
  rw [lg_entry_eq]
  generalize (lg_sl ([.ref y, .ref sp]) ++ List.replicate (2 - (lg_sl ([.ref y, .ref sp])).length) Slot.unset).toArray = ls at hl ⊢
  have hl : lv_has ls 2 [(0, .ref y), (1, .ref sp)] := hl
  obtain ⟨hy, ⟨hly, hL⟩, hP, hR, hC0, hA0, hV0, hK0, hF0, hb9⟩ := id hZ
  have x_1 : g_ex (fun q => q = y) w w := g_ex.rf
  refine lv_aload_n hx hb dX3_verdict_0 rfl (lv_at hl 0 rfl) ?_
  refine lv_aload_n hx hb dX3_verdict_1 rfl (lv_at hl 1 rfl) ?_
  refine g_calli (va_runS (As := [.ref sp]) (rest := [.ref y]) ⟨hx, hb, hml, hown, hts⟩ (mtX3_isInput l D w s.heap.size sp t hst) (va_cwS 1 hts (lw_S q2030 q2031 q47 q2032) rfl rfl rfl (by decide +kernel) ⟨Nat.le_of_ble_eq_true rfl, Nat.le_of_ble_eq_true rfl⟩) (g_preS hW hK hE) rfl rfl hl.1 rfl (lv_room (Nat.le_of_ble_eq_true rfl)) dX3_verdict_2 ⟨Nat.le_of_ble_eq_true rfl, Nat.le_of_ble_eq_true rfl⟩) hW (fun r_ u_ H locs hp hW => ?_)
  obtain ⟨er, rfl⟩ := hp
  subst er
  by_cases hq9 : inB t = true
  · rw [if_pos hq9]
    refine lv_if_eq (tgt := 12) hx hb dX3_verdict_5 (by decide) (fun hz => absurd hz (by decide)) (fun _ => ?_)
    have hI : isIn t := inB_iff.mp hq9
    refine lv_iconst (v := 0) hx hb dX3_verdict_8 (by decide) ?_
    refine lv_goto (tgt := 13) hx hb dX3_verdict_9 (by decide) ?_
    refine g_putf (ci := 10) (v := .int (0)) (ty := .int) (C := RX3) (T := TX3) (N := 28) hx hb hts in_X3 tyX3 tyX3_ok nmX3 hown hK hW hy rfl 27 (by decide) q1911 (fun _ h9 => h9) rfl (by decide +kernel) rfl rfl (Nat.le_of_ble_eq_true rfl) dX3_verdict_13 (fun H locs hW => ?_)
    obtain ⟨w_2, ew_2⟩ : ∃ z__, z__ = g_put w y (.inr (10, mO mf (nI P.length) (nI C.length) (en) (td) (st) (nI rn) (lN tt) (nI K.length) (nI fq) (nI ac) (nI F.length) (0))) := ⟨_, rfl⟩
    have hW := g_W.ren hW ew_2 rfl
    have h_3 : g_at w_2 y (.inr (10, mO mf (nI P.length) (nI C.length) (en) (td) (st) (nI rn) (lN tt) (nI K.length) (nI fq) (nI ac) (nI F.length) (0))) := by rw [ew_2]; exact g_at.put_self hy.1
    have x_4 : g_ex (fun q => q = y) w w_2 := by rw [ew_2]; exact x_1.put (fun hz9 => rfl)
    have hZ1 := hZ.obj (rn2 := rn) (tt2 := tt) (fq2 := fq) (ac2 := ac) h_3 x_4 hb9.2.1 hb9.2.2.1 hb9.2.2.2.1 hb9.2.2.2.2
    have hz1 := hZ.zobj x_4
    have hxa := x_4
    have hst1 := (g_mut.obj hy).str hst x_4
    refine lv_aload_n hx hb dX3_verdict_16 rfl (lv_at hl 0 rfl) ?_
    refine g_get (ci := 10) (v := .int (0)) (C := RX3) (T := TX3) (N := 28) hx hb hts in_X3 hown hK hW h_3 rfl 27 (by decide) q1911 (fun _ h9 => h9) rfl dX3_verdict_17 ?_
    refine lv_if_ne (tgt := 28) hx hb dX3_verdict_20 (by decide) (fun hz => absurd rfl hz) (fun _ => ?_)
    refine lv_aload_n hx hb dX3_verdict_23 rfl (lv_at hl 0 rfl) ?_
    refine lv_aload_n hx hb dX3_verdict_24 rfl (lv_at hl 1 rfl) ?_
    refine g_callv (va_runV (As := [.ref sp]) (rest := []) ⟨hx, hb, hml, hown, hts⟩ (mtX3_runs l D w_2 H.size y mf lab hL hly (nI C.length) en td st (nI rn) (lN tt) (nI K.length) (nI fq) (nI ac) (nI F.length) 0 P E h_3 hZ1.2.2.1 hZ1.2.2.2.1 sp t hst1 hI.2) (cwV 1 hts (lw_V q2037 q2039 qs26 q47 q2040) rfl rfl rfl (by decide +kernel) ⟨Nat.le_of_ble_eq_true rfl, Nat.le_of_ble_eq_true rfl⟩) (g_preV hW hK hE h_3 rfl) rfl rfl hl.1 rfl (lv_room (Nat.le_of_ble_eq_true rfl)) dX3_verdict_25 ⟨?_, ?_⟩) hW (fun u1 H locs hp hW => ?_)
    · (try simp only [headSpec]); omega
    · (try simp only [headSpec]); omega
    obtain ⟨hy1, hR1, hx1⟩ := hp
    have hZ2 := hZ1.run hK hy1 hR1 hx1
    have hz2 := hz1.tr (hZ1.zrun hx1)
    have hv3 := mOut_lt (P := P) (xs := digs t)
    have hst5 := mOut_steps (P := P) (xs := digs t)
    refine lv_aload_n hx hb dX3_verdict_28 rfl (lv_at hl 0 rfl) ?_
    refine g_get (ci := 10) (v := .int (0)) (C := RX3) (T := TX3) (N := 28) hx hb hts in_X3 hown hK hW hy1 rfl 27 (by decide) q1911 (fun _ h9 => h9) rfl dX3_verdict_29 ?_
    refine lv_if_ne (tgt := 45) hx hb dX3_verdict_32 (by decide) (fun hz => absurd rfl hz) (fun _ => ?_)
    have eI : thI t = 0 := if_pos (inB_iff.mpr hI)
    have ZP : (∃ en2 td2 st2 E2, g_MZ D u1 lab y mf P C A9 cov K fq ac F rn tt cK en2 td2 st2 E2 (thI t)) ∧ zCh w lab u1 lab := ⟨⟨_, _, _, _, by rw [eI]; exact hZ2⟩, hz2⟩
    refine lv_aload_n hx hb dX3_verdict_35 rfl (lv_at hl 0 rfl) ?_
    refine g_get (ci := 10) (v := .int (nI (mOut P (digs t)).1)) (C := RX3) (T := TX3) (N := 28) hx hb hts in_X3 hown hK hW hy1 rfl 11 (by decide) q1895 (fun _ h9 => h9) rfl dX3_verdict_36 ?_
    refine g_callq (va_runS (As := [.int (nI (mOut P (digs t)).1)]) (rest := []) ⟨hx, hb, hml, hown, hts⟩ (mtX3_verdictOf l D u1 H.size (mOut P (digs t)).1 hv3) (va_cwS 1 hts (lw_S q2153 q2154 q47 q2155) rfl rfl rfl (by decide +kernel) ⟨Nat.le_of_ble_eq_true rfl, Nat.le_of_ble_eq_true rfl⟩) (g_preS hW hK hE) rfl rfl hl.1 rfl (lv_room (Nat.le_of_ble_eq_true rfl)) dX3_verdict_39 ⟨Nat.le_of_ble_eq_true rfl, Nat.le_of_ble_eq_true rfl⟩) hW (fun r_ u_ H locs hp hW => ?_)
    obtain ⟨er, rfl⟩ := hp
    subst er
    refine lv_goto (tgt := 48) hx hb dX3_verdict_42 (by decide) ?_
    exact g_qret (v := some (D.2 1003 (mOut P (digs t)).1)) hx hb hr (Or.inl ⟨_, rfl⟩) hlocks hW (⟨⟨_, rfl, fun _ => rfl⟩, ZP⟩) (by omega) (by omega) dX3_verdict_48
  · rw [if_neg hq9]
    refine lv_if_eq (tgt := 12) hx hb dX3_verdict_5 (by decide) (fun _ => ?_) (fun hz => absurd rfl hz)
    have hI : ¬ isIn t := fun z => hq9 (inB_iff.mpr z)
    refine lv_iconst (v := 1) hx hb dX3_verdict_12 (by decide) ?_
    refine g_putf (ci := 10) (v := .int (1)) (ty := .int) (C := RX3) (T := TX3) (N := 28) hx hb hts in_X3 tyX3 tyX3_ok nmX3 hown hK hW hy rfl 27 (by decide) q1911 (fun _ h9 => h9) rfl (by decide +kernel) rfl rfl (Nat.le_of_ble_eq_true rfl) dX3_verdict_13 (fun H locs hW => ?_)
    obtain ⟨w_5, ew_5⟩ : ∃ z__, z__ = g_put w y (.inr (10, mO mf (nI P.length) (nI C.length) (en) (td) (st) (nI rn) (lN tt) (nI K.length) (nI fq) (nI ac) (nI F.length) (1))) := ⟨_, rfl⟩
    have hW := g_W.ren hW ew_5 rfl
    have h_6 : g_at w_5 y (.inr (10, mO mf (nI P.length) (nI C.length) (en) (td) (st) (nI rn) (lN tt) (nI K.length) (nI fq) (nI ac) (nI F.length) (1))) := by rw [ew_5]; exact g_at.put_self hy.1
    have x_7 : g_ex (fun q => q = y) w w_5 := by rw [ew_5]; exact x_1.put (fun hz9 => rfl)
    have hZ1 := hZ.obj (rn2 := rn) (tt2 := tt) (fq2 := fq) (ac2 := ac) h_6 x_7 hb9.2.1 hb9.2.2.1 hb9.2.2.2.1 hb9.2.2.2.2
    have hz1 := hZ.zobj x_7
    have hxa := x_7
    refine lv_aload_n hx hb dX3_verdict_16 rfl (lv_at hl 0 rfl) ?_
    refine g_get (ci := 10) (v := .int (1)) (C := RX3) (T := TX3) (N := 28) hx hb hts in_X3 hown hK hW h_6 rfl 27 (by decide) q1911 (fun _ h9 => h9) rfl dX3_verdict_17 ?_
    refine lv_if_ne (tgt := 28) hx hb dX3_verdict_20 (by decide) (fun _ => ?_) (fun hz => absurd (by first | exact hz | exact Classical.not_not.mp hz) (by decide))
    refine lv_aload_n hx hb dX3_verdict_28 rfl (lv_at hl 0 rfl) ?_
    refine g_get (ci := 10) (v := .int (1)) (C := RX3) (T := TX3) (N := 28) hx hb hts in_X3 hown hK hW h_6 rfl 27 (by decide) q1911 (fun _ h9 => h9) rfl dX3_verdict_29 ?_
    refine lv_if_ne (tgt := 45) hx hb dX3_verdict_32 (by decide) (fun _ => ?_) (fun hz => absurd (by first | exact hz | exact Classical.not_not.mp hz) (by decide))
    have eI : thI t = 1 := if_neg (fun z => hI (inB_iff.mp z))
    have ZP : (∃ en2 td2 st2 E2, g_MZ D w_5 lab y mf P C A9 cov K fq ac F rn tt cK en2 td2 st2 E2 (thI t)) ∧ zCh w lab w_5 lab := ⟨⟨_, _, _, _, by rw [eI]; exact hZ1⟩, hz1⟩
    refine va_gets hx hb ((hE.2.2.2.2.2.2.2.1.1 0 (by decide)).1) hW.2.2.1 hown (hts _ q2156) (fun _ h9 => h9) dX3_verdict_45 ?_
    exact g_qret (v := some (D.2 1003 0)) hx hb hr (Or.inl ⟨_, rfl⟩) hlocks hW (⟨⟨_, rfl, fun z => absurd z hI⟩, ZP⟩) (by omega) (by omega) dX3_verdict_48
set_option maxHeartbeats 4000000 in
set_option maxRecDepth 100000 in
/-- Model.steps -/
theorem mtX3_steps (l : Launch) (D : va_G) (w : g_H) (sz : Nat) (y : Nat) (mf : Nat → Nat) (lab : Nat → Nat) (P : List mI) (C : List yC) (A9 : Nat → List (List Nat)) (cov : Nat → Bool) (K : List (List Nat)) (fq ac : Nat) (F : List yF) (rn tt cK : Nat) (en td st : Int32) (E : Nat → Bool) (th : Int32) (hZ : g_MZ D w lab y mf P C A9 cov K fq ac F rn tt cK en td st E th) (sp : Nat) (t : List Nat) (hst : g_Str D w sp t) : Met l yX3_steps (ws_ yX3_steps cX3_steps 2 (some .int)) ({ frames := 6, cells := 0, slots := 0, locals := 124 }) (g_Pc D [.ref y, .ref sp] w sz) (g_Qi D w sz (fun r u => (isIn t → r = nI (mOut P (digs t)).2.2.1) ∧ (∃ en2 td2 st2 E2, g_MZ D u lab y mf P C A9 cov K fq ac F rn tt cK en2 td2 st2 E2 (thI t)) ∧ zCh w lab u lab)) (0) (0) (g_A w sz) := by
  refine Met.ofW (cc := cX3_steps) (maxL := 2) (ret := (some .int)) (by decide) rfl ?_
  intro p e s m args below meth c s₁ B hml hv
  obtain ⟨rfl, hI⟩ := hv
  have hx := B.exec
  have hb := B.bytes
  have hr := B.returns
  have hts := atoms_spec (ws := ws_ yX3_steps cX3_steps 2 (some .int)) B.pre
  have hts : ∀ w ∈ lw_all, w.before _ s = true := fun w h => hts w (List.mem_cons_of_mem _ h)
  have hown : s.vm.findClass RX3 = some m.cls := findClass_of_methodNamed B.named
  have hlocks := B.notSynchronized
  have hsz := hI.1
  subst hsz
  have hW := g_W.start hI
  have hK := g_K hI
  have hE := g_E hI
  have hl := lv_entry ([.ref y, .ref sp]) (n := 2) (by exact Nat.le_of_ble_eq_true rfl)
  rw [lg_entry_eq]
  generalize (lg_sl ([.ref y, .ref sp]) ++ List.replicate (2 - (lg_sl ([.ref y, .ref sp])).length) Slot.unset).toArray = ls at hl ⊢
  have hl : lv_has ls 2 [(0, .ref y), (1, .ref sp)] := hl
  obtain ⟨hy, ⟨hly, hL⟩, hP, hR, hC0, hA0, hV0, hK0, hF0, hb9⟩ := id hZ
  have x_1 : g_ex (fun q => q = y) w w := g_ex.rf
  refine lv_aload_n hx hb dX3_steps_0 rfl (lv_at hl 0 rfl) ?_
  refine lv_aload_n hx hb dX3_steps_1 rfl (lv_at hl 1 rfl) ?_
  refine g_calli (va_runS (As := [.ref sp]) (rest := [.ref y]) ⟨hx, hb, hml, hown, hts⟩ (mtX3_isInput l D w s.heap.size sp t hst) (va_cwS 1 hts (lw_S q2030 q2031 q47 q2032) rfl rfl rfl (by decide +kernel) ⟨Nat.le_of_ble_eq_true rfl, Nat.le_of_ble_eq_true rfl⟩) (g_preS hW hK hE) rfl rfl hl.1 rfl (lv_room (Nat.le_of_ble_eq_true rfl)) dX3_steps_2 ⟨Nat.le_of_ble_eq_true rfl, Nat.le_of_ble_eq_true rfl⟩) hW (fun r_ u_ H locs hp hW => ?_)
  obtain ⟨er, rfl⟩ := hp
  subst er
  by_cases hq9 : inB t = true
  · rw [if_pos hq9]
    refine lv_if_eq (tgt := 12) hx hb dX3_steps_5 (by decide) (fun hz => absurd hz (by decide)) (fun _ => ?_)
    have hI : isIn t := inB_iff.mp hq9
    refine lv_iconst (v := 0) hx hb dX3_steps_8 (by decide) ?_
    refine lv_goto (tgt := 13) hx hb dX3_steps_9 (by decide) ?_
    refine g_putf (ci := 10) (v := .int (0)) (ty := .int) (C := RX3) (T := TX3) (N := 28) hx hb hts in_X3 tyX3 tyX3_ok nmX3 hown hK hW hy rfl 27 (by decide) q1911 (fun _ h9 => h9) rfl (by decide +kernel) rfl rfl (Nat.le_of_ble_eq_true rfl) dX3_steps_13 (fun H locs hW => ?_)
    obtain ⟨w_2, ew_2⟩ : ∃ z__, z__ = g_put w y (.inr (10, mO mf (nI P.length) (nI C.length) (en) (td) (st) (nI rn) (lN tt) (nI K.length) (nI fq) (nI ac) (nI F.length) (0))) := ⟨_, rfl⟩
    have hW := g_W.ren hW ew_2 rfl
    have h_3 : g_at w_2 y (.inr (10, mO mf (nI P.length) (nI C.length) (en) (td) (st) (nI rn) (lN tt) (nI K.length) (nI fq) (nI ac) (nI F.length) (0))) := by rw [ew_2]; exact g_at.put_self hy.1
    have x_4 : g_ex (fun q => q = y) w w_2 := by rw [ew_2]; exact x_1.put (fun hz9 => rfl)
    have hZ1 := hZ.obj (rn2 := rn) (tt2 := tt) (fq2 := fq) (ac2 := ac) h_3 x_4 hb9.2.1 hb9.2.2.1 hb9.2.2.2.1 hb9.2.2.2.2
    have hz1 := hZ.zobj x_4
    have hxa := x_4
    have hst1 := (g_mut.obj hy).str hst x_4
    refine lv_aload_n hx hb dX3_steps_16 rfl (lv_at hl 0 rfl) ?_
    refine g_get (ci := 10) (v := .int (0)) (C := RX3) (T := TX3) (N := 28) hx hb hts in_X3 hown hK hW h_3 rfl 27 (by decide) q1911 (fun _ h9 => h9) rfl dX3_steps_17 ?_
    refine lv_if_ne (tgt := 28) hx hb dX3_steps_20 (by decide) (fun hz => absurd rfl hz) (fun _ => ?_)
    refine lv_aload_n hx hb dX3_steps_23 rfl (lv_at hl 0 rfl) ?_
    refine lv_aload_n hx hb dX3_steps_24 rfl (lv_at hl 1 rfl) ?_
    refine g_callv (va_runV (As := [.ref sp]) (rest := []) ⟨hx, hb, hml, hown, hts⟩ (mtX3_runs l D w_2 H.size y mf lab hL hly (nI C.length) en td st (nI rn) (lN tt) (nI K.length) (nI fq) (nI ac) (nI F.length) 0 P E h_3 hZ1.2.2.1 hZ1.2.2.2.1 sp t hst1 hI.2) (cwV 1 hts (lw_V q2037 q2039 qs26 q47 q2040) rfl rfl rfl (by decide +kernel) ⟨Nat.le_of_ble_eq_true rfl, Nat.le_of_ble_eq_true rfl⟩) (g_preV hW hK hE h_3 rfl) rfl rfl hl.1 rfl (lv_room (Nat.le_of_ble_eq_true rfl)) dX3_steps_25 ⟨?_, ?_⟩) hW (fun u1 H locs hp hW => ?_)
    · (try simp only [headSpec]); omega
    · (try simp only [headSpec]); omega
    obtain ⟨hy1, hR1, hx1⟩ := hp
    have hZ2 := hZ1.run hK hy1 hR1 hx1
    have hz2 := hz1.tr (hZ1.zrun hx1)
    have hv3 := mOut_lt (P := P) (xs := digs t)
    have hst5 := mOut_steps (P := P) (xs := digs t)
    refine lv_aload_n hx hb dX3_steps_28 rfl (lv_at hl 0 rfl) ?_
    refine g_get (ci := 10) (v := .int (0)) (C := RX3) (T := TX3) (N := 28) hx hb hts in_X3 hown hK hW hy1 rfl 27 (by decide) q1911 (fun _ h9 => h9) rfl dX3_steps_29 ?_
    refine lv_if_ne (tgt := 42) hx hb dX3_steps_32 (by decide) (fun hz => absurd rfl hz) (fun _ => ?_)
    have eI : thI t = 0 := if_pos (inB_iff.mpr hI)
    have ZP : (∃ en2 td2 st2 E2, g_MZ D u1 lab y mf P C A9 cov K fq ac F rn tt cK en2 td2 st2 E2 (thI t)) ∧ zCh w lab u1 lab := ⟨⟨_, _, _, _, by rw [eI]; exact hZ2⟩, hz2⟩
    refine lv_aload_n hx hb dX3_steps_35 rfl (lv_at hl 0 rfl) ?_
    refine g_get (ci := 10) (v := .int (nI (mOut P (digs t)).2.2.1)) (C := RX3) (T := TX3) (N := 28) hx hb hts in_X3 hown hK hW hy1 rfl 13 (by decide) q1897 (fun _ h9 => h9) rfl dX3_steps_36 ?_
    refine lv_goto (tgt := 43) hx hb dX3_steps_39 (by decide) ?_
    exact g_iret (v := nI (mOut P (digs t)).2.2.1) hx hb hr hlocks hW (⟨fun _ => rfl, ZP⟩) (by omega) (by omega) dX3_steps_43
  · rw [if_neg hq9]
    refine lv_if_eq (tgt := 12) hx hb dX3_steps_5 (by decide) (fun _ => ?_) (fun hz => absurd rfl hz)
    have hI : ¬ isIn t := fun z => hq9 (inB_iff.mpr z)
    refine lv_iconst (v := 1) hx hb dX3_steps_12 (by decide) ?_
    refine g_putf (ci := 10) (v := .int (1)) (ty := .int) (C := RX3) (T := TX3) (N := 28) hx hb hts in_X3 tyX3 tyX3_ok nmX3 hown hK hW hy rfl 27 (by decide) q1911 (fun _ h9 => h9) rfl (by decide +kernel) rfl rfl (Nat.le_of_ble_eq_true rfl) dX3_steps_13 (fun H locs hW => ?_)
    obtain ⟨w_5, ew_5⟩ : ∃ z__, z__ = g_put w y (.inr (10, mO mf (nI P.length) (nI C.length) (en) (td) (st) (nI rn) (lN tt) (nI K.length) (nI fq) (nI ac) (nI F.length) (1))) := ⟨_, rfl⟩
    have hW := g_W.ren hW ew_5 rfl
    have h_6 : g_at w_5 y (.inr (10, mO mf (nI P.length) (nI C.length) (en) (td) (st) (nI rn) (lN tt) (nI K.length) (nI fq) (nI ac) (nI F.length) (1))) := by rw [ew_5]; exact g_at.put_self hy.1
    have x_7 : g_ex (fun q => q = y) w w_5 := by rw [ew_5]; exact x_1.put (fun hz9 => rfl)
    have hZ1 := hZ.obj (rn2 := rn) (tt2 := tt) (fq2 := fq) (ac2 := ac) h_6 x_7 hb9.2.1 hb9.2.2.1 hb9.2.2.2.1 hb9.2.2.2.2
    have hz1 := hZ.zobj x_7
    have hxa := x_7
    refine lv_aload_n hx hb dX3_steps_16 rfl (lv_at hl 0 rfl) ?_
    refine g_get (ci := 10) (v := .int (1)) (C := RX3) (T := TX3) (N := 28) hx hb hts in_X3 hown hK hW h_6 rfl 27 (by decide) q1911 (fun _ h9 => h9) rfl dX3_steps_17 ?_
    refine lv_if_ne (tgt := 28) hx hb dX3_steps_20 (by decide) (fun _ => ?_) (fun hz => absurd (by first | exact hz | exact Classical.not_not.mp hz) (by decide))
    refine lv_aload_n hx hb dX3_steps_28 rfl (lv_at hl 0 rfl) ?_
    refine g_get (ci := 10) (v := .int (1)) (C := RX3) (T := TX3) (N := 28) hx hb hts in_X3 hown hK hW h_6 rfl 27 (by decide) q1911 (fun _ h9 => h9) rfl dX3_steps_29 ?_
    refine lv_if_ne (tgt := 42) hx hb dX3_steps_32 (by decide) (fun _ => ?_) (fun hz => absurd (by first | exact hz | exact Classical.not_not.mp hz) (by decide))
    have eI : thI t = 1 := if_neg (fun z => hI (inB_iff.mp z))
    have ZP : (∃ en2 td2 st2 E2, g_MZ D w_5 lab y mf P C A9 cov K fq ac F rn tt cK en2 td2 st2 E2 (thI t)) ∧ zCh w lab w_5 lab := ⟨⟨_, _, _, _, by rw [eI]; exact hZ1⟩, hz1⟩
    refine lv_iconst (v := (-1)) hx hb dX3_steps_42 (by decide) ?_
    exact g_iret (v := (-1)) hx hb hr hlocks hW (⟨fun z => absurd z hI, ZP⟩) (by omega) (by omega) dX3_steps_43
set_option maxHeartbeats 4000000 in
set_option maxRecDepth 100000 in
/-- Model.edges -/
theorem mtX3_edges (l : Launch) (D : va_G) (w : g_H) (sz : Nat) (y : Nat) (mf : Nat → Nat) (lab : Nat → Nat) (P : List mI) (C : List yC) (A9 : Nat → List (List Nat)) (cov : Nat → Bool) (K : List (List Nat)) (fq ac : Nat) (F : List yF) (rn tt cK : Nat) (en td st : Int32) (E : Nat → Bool) (th : Int32) (hZ : g_MZ D w lab y mf P C A9 cov K fq ac F rn tt cK en td st E th) (sp : Nat) (t : List Nat) (hst : g_Str D w sp t) : Met l yX3_edges (ws_ yX3_edges cX3_edges 2 (some .int)) ({ frames := 6, cells := 0, slots := 0, locals := 124 }) (g_Pc D [.ref y, .ref sp] w sz) (g_Qi D w sz (fun r u => (isIn t → r = nI (fb_ct (bsE (fun _ => false) (mOut P (digs t)).2.2.2) 272)) ∧ (∃ en2 td2 st2 E2, g_MZ D u lab y mf P C A9 cov K fq ac F rn tt cK en2 td2 st2 E2 (thI t)) ∧ zCh w lab u lab)) (0) (0) (g_A w sz) := by
  refine Met.ofW (cc := cX3_edges) (maxL := 2) (ret := (some .int)) (by decide) rfl ?_
  intro p e s m args below meth c s₁ B hml hv
  obtain ⟨rfl, hI⟩ := hv
  have hx := B.exec
  have hb := B.bytes
  have hr := B.returns
  have hts := atoms_spec (ws := ws_ yX3_edges cX3_edges 2 (some .int)) B.pre
  have hts : ∀ w ∈ lw_all, w.before _ s = true := fun w h => hts w (List.mem_cons_of_mem _ h)
  have hown : s.vm.findClass RX3 = some m.cls := findClass_of_methodNamed B.named
  have hlocks := B.notSynchronized
  have hsz := hI.1
  subst hsz
  have hW := g_W.start hI
  have hK := g_K hI
  have hE := g_E hI
  have hl := lv_entry ([.ref y, .ref sp]) (n := 2) (by exact Nat.le_of_ble_eq_true rfl)
  rw [lg_entry_eq]
  generalize (lg_sl ([.ref y, .ref sp]) ++ List.replicate (2 - (lg_sl ([.ref y, .ref sp])).length) Slot.unset).toArray = ls at hl ⊢
  have hl : lv_has ls 2 [(0, .ref y), (1, .ref sp)] := hl
  obtain ⟨hy, ⟨hly, hL⟩, hP, hR, hC0, hA0, hV0, hK0, hF0, hb9⟩ := id hZ
  have x_1 : g_ex (fun q => q = y) w w := g_ex.rf
  refine lv_aload_n hx hb dX3_edges_0 rfl (lv_at hl 0 rfl) ?_
  refine lv_aload_n hx hb dX3_edges_1 rfl (lv_at hl 1 rfl) ?_
  refine g_calli (va_runS (As := [.ref sp]) (rest := [.ref y]) ⟨hx, hb, hml, hown, hts⟩ (mtX3_isInput l D w s.heap.size sp t hst) (va_cwS 1 hts (lw_S q2030 q2031 q47 q2032) rfl rfl rfl (by decide +kernel) ⟨Nat.le_of_ble_eq_true rfl, Nat.le_of_ble_eq_true rfl⟩) (g_preS hW hK hE) rfl rfl hl.1 rfl (lv_room (Nat.le_of_ble_eq_true rfl)) dX3_edges_2 ⟨Nat.le_of_ble_eq_true rfl, Nat.le_of_ble_eq_true rfl⟩) hW (fun r_ u_ H locs hp hW => ?_)
  obtain ⟨er, rfl⟩ := hp
  subst er
  by_cases hq9 : inB t = true
  · rw [if_pos hq9]
    refine lv_if_eq (tgt := 12) hx hb dX3_edges_5 (by decide) (fun hz => absurd hz (by decide)) (fun _ => ?_)
    have hI : isIn t := inB_iff.mp hq9
    refine lv_iconst (v := 0) hx hb dX3_edges_8 (by decide) ?_
    refine lv_goto (tgt := 13) hx hb dX3_edges_9 (by decide) ?_
    refine g_putf (ci := 10) (v := .int (0)) (ty := .int) (C := RX3) (T := TX3) (N := 28) hx hb hts in_X3 tyX3 tyX3_ok nmX3 hown hK hW hy rfl 27 (by decide) q1911 (fun _ h9 => h9) rfl (by decide +kernel) rfl rfl (Nat.le_of_ble_eq_true rfl) dX3_edges_13 (fun H locs hW => ?_)
    obtain ⟨w_2, ew_2⟩ : ∃ z__, z__ = g_put w y (.inr (10, mO mf (nI P.length) (nI C.length) (en) (td) (st) (nI rn) (lN tt) (nI K.length) (nI fq) (nI ac) (nI F.length) (0))) := ⟨_, rfl⟩
    have hW := g_W.ren hW ew_2 rfl
    have h_3 : g_at w_2 y (.inr (10, mO mf (nI P.length) (nI C.length) (en) (td) (st) (nI rn) (lN tt) (nI K.length) (nI fq) (nI ac) (nI F.length) (0))) := by rw [ew_2]; exact g_at.put_self hy.1
    have x_4 : g_ex (fun q => q = y) w w_2 := by rw [ew_2]; exact x_1.put (fun hz9 => rfl)
    have hZ1 := hZ.obj (rn2 := rn) (tt2 := tt) (fq2 := fq) (ac2 := ac) h_3 x_4 hb9.2.1 hb9.2.2.1 hb9.2.2.2.1 hb9.2.2.2.2
    have hz1 := hZ.zobj x_4
    have hxa := x_4
    have hst1 := (g_mut.obj hy).str hst x_4
    refine lv_aload_n hx hb dX3_edges_16 rfl (lv_at hl 0 rfl) ?_
    refine g_get (ci := 10) (v := .int (0)) (C := RX3) (T := TX3) (N := 28) hx hb hts in_X3 hown hK hW h_3 rfl 27 (by decide) q1911 (fun _ h9 => h9) rfl dX3_edges_17 ?_
    refine lv_if_ne (tgt := 28) hx hb dX3_edges_20 (by decide) (fun hz => absurd rfl hz) (fun _ => ?_)
    refine lv_aload_n hx hb dX3_edges_23 rfl (lv_at hl 0 rfl) ?_
    refine lv_aload_n hx hb dX3_edges_24 rfl (lv_at hl 1 rfl) ?_
    refine g_callv (va_runV (As := [.ref sp]) (rest := []) ⟨hx, hb, hml, hown, hts⟩ (mtX3_runs l D w_2 H.size y mf lab hL hly (nI C.length) en td st (nI rn) (lN tt) (nI K.length) (nI fq) (nI ac) (nI F.length) 0 P E h_3 hZ1.2.2.1 hZ1.2.2.2.1 sp t hst1 hI.2) (cwV 1 hts (lw_V q2037 q2039 qs26 q47 q2040) rfl rfl rfl (by decide +kernel) ⟨Nat.le_of_ble_eq_true rfl, Nat.le_of_ble_eq_true rfl⟩) (g_preV hW hK hE h_3 rfl) rfl rfl hl.1 rfl (lv_room (Nat.le_of_ble_eq_true rfl)) dX3_edges_25 ⟨?_, ?_⟩) hW (fun u1 H locs hp hW => ?_)
    · (try simp only [headSpec]); omega
    · (try simp only [headSpec]); omega
    obtain ⟨hy1, hR1, hx1⟩ := hp
    have hZ2 := hZ1.run hK hy1 hR1 hx1
    have hz2 := hz1.tr (hZ1.zrun hx1)
    have hv3 := mOut_lt (P := P) (xs := digs t)
    have hst5 := mOut_steps (P := P) (xs := digs t)
    refine lv_aload_n hx hb dX3_edges_28 rfl (lv_at hl 0 rfl) ?_
    refine g_get (ci := 10) (v := .int (0)) (C := RX3) (T := TX3) (N := 28) hx hb hts in_X3 hown hK hW hy1 rfl 27 (by decide) q1911 (fun _ h9 => h9) rfl dX3_edges_29 ?_
    refine lv_if_ne (tgt := 46) hx hb dX3_edges_32 (by decide) (fun hz => absurd rfl hz) (fun _ => ?_)
    have eI : thI t = 0 := if_pos (inB_iff.mpr hI)
    have ZP : (∃ en2 td2 st2 E2, g_MZ D u1 lab y mf P C A9 cov K fq ac F rn tt cK en2 td2 st2 E2 (thI t)) ∧ zCh w lab u1 lab := ⟨⟨_, _, _, _, by rw [eI]; exact hZ2⟩, hz2⟩
    refine lv_aload_n hx hb dX3_edges_35 rfl (lv_at hl 0 rfl) ?_
    refine lv_aload_n hx hb dX3_edges_36 rfl (lv_at hl 0 rfl) ?_
    refine g_get (ci := 10) (v := .ref (mf 14)) (C := RX3) (T := TX3) (N := 28) hx hb hts in_X3 hown hK hW hy1 rfl 14 (by decide) q1898 (fun _ h9 => h9) rfl dX3_edges_37 ?_
    obtain ⟨fE, g9, a14, e14, a15⟩ := id hR1
    refine g_calli (va_runV (As := [.ref (mf 14)]) (rest := []) ⟨hx, hb, hml, hown, hts⟩ (mtX3_edgeMany l D u1 H.size y (mf 14) 272 (bsE (fun _ => false) (mOut P (digs t)).2.2.2) fE a14 (by decide) (fun e he => e14 e he)) (cwV 1 hts (lw_V q2119 q2121 qs31 q47 q2122) rfl rfl rfl (by decide +kernel) ⟨Nat.le_of_ble_eq_true rfl, Nat.le_of_ble_eq_true rfl⟩) (g_preV hW hK hE hy1 rfl) rfl rfl hl.1 rfl (lv_room (Nat.le_of_ble_eq_true rfl)) dX3_edges_40 ⟨Nat.le_of_ble_eq_true rfl, Nat.le_of_ble_eq_true rfl⟩) hW (fun r_ u_ H locs hp hW => ?_)
    obtain ⟨er, rfl⟩ := hp
    subst er
    refine lv_goto (tgt := 47) hx hb dX3_edges_43 (by decide) ?_
    exact g_iret (v := nI (fb_ct (bsE (fun _ => false) (mOut P (digs t)).2.2.2) 272)) hx hb hr hlocks hW (⟨fun _ => rfl, ZP⟩) (by omega) (by omega) dX3_edges_47
  · rw [if_neg hq9]
    refine lv_if_eq (tgt := 12) hx hb dX3_edges_5 (by decide) (fun _ => ?_) (fun hz => absurd rfl hz)
    have hI : ¬ isIn t := fun z => hq9 (inB_iff.mpr z)
    refine lv_iconst (v := 1) hx hb dX3_edges_12 (by decide) ?_
    refine g_putf (ci := 10) (v := .int (1)) (ty := .int) (C := RX3) (T := TX3) (N := 28) hx hb hts in_X3 tyX3 tyX3_ok nmX3 hown hK hW hy rfl 27 (by decide) q1911 (fun _ h9 => h9) rfl (by decide +kernel) rfl rfl (Nat.le_of_ble_eq_true rfl) dX3_edges_13 (fun H locs hW => ?_)
    obtain ⟨w_5, ew_5⟩ : ∃ z__, z__ = g_put w y (.inr (10, mO mf (nI P.length) (nI C.length) (en) (td) (st) (nI rn) (lN tt) (nI K.length) (nI fq) (nI ac) (nI F.length) (1))) := ⟨_, rfl⟩
    have hW := g_W.ren hW ew_5 rfl
    have h_6 : g_at w_5 y (.inr (10, mO mf (nI P.length) (nI C.length) (en) (td) (st) (nI rn) (lN tt) (nI K.length) (nI fq) (nI ac) (nI F.length) (1))) := by rw [ew_5]; exact g_at.put_self hy.1
    have x_7 : g_ex (fun q => q = y) w w_5 := by rw [ew_5]; exact x_1.put (fun hz9 => rfl)
    have hZ1 := hZ.obj (rn2 := rn) (tt2 := tt) (fq2 := fq) (ac2 := ac) h_6 x_7 hb9.2.1 hb9.2.2.1 hb9.2.2.2.1 hb9.2.2.2.2
    have hz1 := hZ.zobj x_7
    have hxa := x_7
    refine lv_aload_n hx hb dX3_edges_16 rfl (lv_at hl 0 rfl) ?_
    refine g_get (ci := 10) (v := .int (1)) (C := RX3) (T := TX3) (N := 28) hx hb hts in_X3 hown hK hW h_6 rfl 27 (by decide) q1911 (fun _ h9 => h9) rfl dX3_edges_17 ?_
    refine lv_if_ne (tgt := 28) hx hb dX3_edges_20 (by decide) (fun _ => ?_) (fun hz => absurd (by first | exact hz | exact Classical.not_not.mp hz) (by decide))
    refine lv_aload_n hx hb dX3_edges_28 rfl (lv_at hl 0 rfl) ?_
    refine g_get (ci := 10) (v := .int (1)) (C := RX3) (T := TX3) (N := 28) hx hb hts in_X3 hown hK hW h_6 rfl 27 (by decide) q1911 (fun _ h9 => h9) rfl dX3_edges_29 ?_
    refine lv_if_ne (tgt := 46) hx hb dX3_edges_32 (by decide) (fun _ => ?_) (fun hz => absurd (by first | exact hz | exact Classical.not_not.mp hz) (by decide))
    have eI : thI t = 1 := if_neg (fun z => hI (inB_iff.mp z))
    have ZP : (∃ en2 td2 st2 E2, g_MZ D w_5 lab y mf P C A9 cov K fq ac F rn tt cK en2 td2 st2 E2 (thI t)) ∧ zCh w lab w_5 lab := ⟨⟨_, _, _, _, by rw [eI]; exact hZ1⟩, hz1⟩
    refine lv_iconst (v := (-1)) hx hb dX3_edges_46 (by decide) ?_
    exact g_iret (v := (-1)) hx hb hr hlocks hW (⟨fun z => absurd z hI, ZP⟩) (by omega) (by omega) dX3_edges_47
set_option maxHeartbeats 4000000 in
set_option maxRecDepth 100000 in
/-- Model.isFailing -/
theorem mtX3_isFailing (l : Launch) (D : va_G) (w : g_H) (sz : Nat) (y : Nat) (mf : Nat → Nat) (lab : Nat → Nat) (P : List mI) (C : List yC) (A9 : Nat → List (List Nat)) (cov : Nat → Bool) (K : List (List Nat)) (fq ac : Nat) (F : List yF) (rn tt cK : Nat) (en td st : Int32) (E : Nat → Bool) (th : Int32) (hZ : g_MZ D w lab y mf P C A9 cov K fq ac F rn tt cK en td st E th) (sp : Nat) (t : List Nat) (hst : g_Str D w sp t) : Met l yX3_isFailing (ws_ yX3_isFailing cX3_isFailing 2 (some .boolean)) ({ frames := 6, cells := 0, slots := 0, locals := 124 }) (g_Pc D [.ref y, .ref sp] w sz) (g_Qi D w sz (fun r u => r = (if inB t = true ∧ (mOut P (digs t)).1 = 1 then 1 else 0) ∧ (inB t = true ∧ (mOut P (digs t)).1 = 1 → ∃ E2, g_MZ D u lab y mf P C A9 cov K fq ac F rn tt cK (nI (mOut P (digs t)).1) (mCode P (digs t)) (nI (mOut P (digs t)).2.2.1) E2 0) ∧ g_ex (fun q => q = y ∨ q = mf 14 ∨ q = mf 15) w u ∧ (∃ en2 td2 st2 E2, g_MZ D u lab y mf P C A9 cov K fq ac F rn tt cK en2 td2 st2 E2 (thF P t)) ∧ zCh w lab u lab)) (0) (0) (g_A w sz) := by
  refine Met.ofW (cc := cX3_isFailing) (maxL := 2) (ret := (some .boolean)) (by decide) rfl ?_
  intro p e s m args below meth c s₁ B hml hv
  obtain ⟨rfl, hI⟩ := hv
  have hx := B.exec
  have hb := B.bytes
  have hr := B.returns
  have hts := atoms_spec (ws := ws_ yX3_isFailing cX3_isFailing 2 (some .boolean)) B.pre
  have hts : ∀ w ∈ lw_all, w.before _ s = true := fun w h => hts w (List.mem_cons_of_mem _ h)
  have hown : s.vm.findClass RX3 = some m.cls := findClass_of_methodNamed B.named
  have hlocks := B.notSynchronized
  have hsz := hI.1
  subst hsz
  have hW := g_W.start hI
  have hK := g_K hI
  have hE := g_E hI
  have hl := lv_entry ([.ref y, .ref sp]) (n := 2) (by exact Nat.le_of_ble_eq_true rfl)
  rw [lg_entry_eq]
  generalize (lg_sl ([.ref y, .ref sp]) ++ List.replicate (2 - (lg_sl ([.ref y, .ref sp])).length) Slot.unset).toArray = ls at hl ⊢
  have hl : lv_has ls 2 [(0, .ref y), (1, .ref sp)] := hl
  obtain ⟨hy, ⟨hly, hL⟩, hP, hR, hC0, hA0, hV0, hK0, hF0, hb9⟩ := id hZ
  have x_1 : g_ex (fun q => q = y) w w := g_ex.rf
  refine lv_aload_n hx hb dX3_isFailing_0 rfl (lv_at hl 0 rfl) ?_
  refine lv_aload_n hx hb dX3_isFailing_1 rfl (lv_at hl 1 rfl) ?_
  refine g_calli (va_runS (As := [.ref sp]) (rest := [.ref y]) ⟨hx, hb, hml, hown, hts⟩ (mtX3_isInput l D w s.heap.size sp t hst) (va_cwS 1 hts (lw_S q2030 q2031 q47 q2032) rfl rfl rfl (by decide +kernel) ⟨Nat.le_of_ble_eq_true rfl, Nat.le_of_ble_eq_true rfl⟩) (g_preS hW hK hE) rfl rfl hl.1 rfl (lv_room (Nat.le_of_ble_eq_true rfl)) dX3_isFailing_2 ⟨Nat.le_of_ble_eq_true rfl, Nat.le_of_ble_eq_true rfl⟩) hW (fun r_ u_ H locs hp hW => ?_)
  obtain ⟨er, rfl⟩ := hp
  subst er
  by_cases hq9 : inB t = true
  · rw [if_pos hq9]
    refine lv_if_eq (tgt := 12) hx hb dX3_isFailing_5 (by decide) (fun hz => absurd hz (by decide)) (fun _ => ?_)
    have hI : isIn t := inB_iff.mp hq9
    refine lv_iconst (v := 0) hx hb dX3_isFailing_8 (by decide) ?_
    refine lv_goto (tgt := 13) hx hb dX3_isFailing_9 (by decide) ?_
    refine g_putf (ci := 10) (v := .int (0)) (ty := .int) (C := RX3) (T := TX3) (N := 28) hx hb hts in_X3 tyX3 tyX3_ok nmX3 hown hK hW hy rfl 27 (by decide) q1911 (fun _ h9 => h9) rfl (by decide +kernel) rfl rfl (Nat.le_of_ble_eq_true rfl) dX3_isFailing_13 (fun H locs hW => ?_)
    obtain ⟨w_2, ew_2⟩ : ∃ z__, z__ = g_put w y (.inr (10, mO mf (nI P.length) (nI C.length) (en) (td) (st) (nI rn) (lN tt) (nI K.length) (nI fq) (nI ac) (nI F.length) (0))) := ⟨_, rfl⟩
    have hW := g_W.ren hW ew_2 rfl
    have h_3 : g_at w_2 y (.inr (10, mO mf (nI P.length) (nI C.length) (en) (td) (st) (nI rn) (lN tt) (nI K.length) (nI fq) (nI ac) (nI F.length) (0))) := by rw [ew_2]; exact g_at.put_self hy.1
    have x_4 : g_ex (fun q => q = y) w w_2 := by rw [ew_2]; exact x_1.put (fun hz9 => rfl)
    have hZ1 := hZ.obj (rn2 := rn) (tt2 := tt) (fq2 := fq) (ac2 := ac) h_3 x_4 hb9.2.1 hb9.2.2.1 hb9.2.2.2.1 hb9.2.2.2.2
    have hz1 := hZ.zobj x_4
    have hxa := x_4
    have hst1 := (g_mut.obj hy).str hst x_4
    refine lv_aload_n hx hb dX3_isFailing_16 rfl (lv_at hl 0 rfl) ?_
    refine g_get (ci := 10) (v := .int (0)) (C := RX3) (T := TX3) (N := 28) hx hb hts in_X3 hown hK hW h_3 rfl 27 (by decide) q1911 (fun _ h9 => h9) rfl dX3_isFailing_17 ?_
    refine lv_if_ne (tgt := 45) hx hb dX3_isFailing_20 (by decide) (fun hz => absurd rfl hz) (fun _ => ?_)
    refine lv_aload_n hx hb dX3_isFailing_23 rfl (lv_at hl 0 rfl) ?_
    refine lv_aload_n hx hb dX3_isFailing_24 rfl (lv_at hl 1 rfl) ?_
    refine g_callv (va_runV (As := [.ref sp]) (rest := []) ⟨hx, hb, hml, hown, hts⟩ (mtX3_runs l D w_2 H.size y mf lab hL hly (nI C.length) en td st (nI rn) (lN tt) (nI K.length) (nI fq) (nI ac) (nI F.length) 0 P E h_3 hZ1.2.2.1 hZ1.2.2.2.1 sp t hst1 hI.2) (cwV 1 hts (lw_V q2037 q2039 qs26 q47 q2040) rfl rfl rfl (by decide +kernel) ⟨Nat.le_of_ble_eq_true rfl, Nat.le_of_ble_eq_true rfl⟩) (g_preV hW hK hE h_3 rfl) rfl rfl hl.1 rfl (lv_room (Nat.le_of_ble_eq_true rfl)) dX3_isFailing_25 ⟨?_, ?_⟩) hW (fun u1 H locs hp hW => ?_)
    · (try simp only [headSpec]); omega
    · (try simp only [headSpec]); omega
    obtain ⟨hy1, hR1, hx1⟩ := hp
    have hZ2 := hZ1.run hK hy1 hR1 hx1
    have hz2 := hz1.tr (hZ1.zrun hx1)
    have hv3 := mOut_lt (P := P) (xs := digs t)
    have hst5 := mOut_steps (P := P) (xs := digs t)
    refine lv_aload_n hx hb dX3_isFailing_28 rfl (lv_at hl 0 rfl) ?_
    refine lv_aload_n hx hb dX3_isFailing_29 rfl (lv_at hl 0 rfl) ?_
    refine g_get (ci := 10) (v := .int (nI (mOut P (digs t)).1)) (C := RX3) (T := TX3) (N := 28) hx hb hts in_X3 hown hK hW hy1 rfl 11 (by decide) q1895 (fun _ h9 => h9) rfl dX3_isFailing_30 ?_
    refine lv_iconst (v := 1) hx hb dX3_isFailing_33 (by decide) ?_
    refine lv_icmp_ne (tgt := 41) hx hb dX3_isFailing_34 (by decide) (fun hc => ?_) (fun hc => ?_)
    all_goals have hb := hb
    · have hv1 : (mOut P (digs t)).1 ≠ 1 := fun z => hc (by rw [z]; rfl)
      have x_5 : g_ex (fun q => q = y) u1 u1 := g_ex.rf
      refine lv_iconst (v := 2) hx hb dX3_isFailing_41 (by decide) ?_
      refine g_putf (ci := 10) (v := .int (2)) (ty := .int) (C := RX3) (T := TX3) (N := 28) hx hb hts in_X3 tyX3 tyX3_ok nmX3 hown hK hW hy1 rfl 27 (by decide) q1911 (fun _ h9 => h9) rfl (by decide +kernel) rfl rfl (Nat.le_of_ble_eq_true rfl) dX3_isFailing_42 (fun H locs hW => ?_)
      obtain ⟨w_6, ew_6⟩ : ∃ z__, z__ = g_put u1 y (.inr (10, mO mf (nI P.length) (nI C.length) (nI (mOut P (digs t)).1) (mTo P (digs t)) (nI (mOut P (digs t)).2.2.1) (nI rn) (lN tt) (nI K.length) (nI fq) (nI ac) (nI F.length) (2))) := ⟨_, rfl⟩
      have hW := g_W.ren hW ew_6 rfl
      have h_7 : g_at w_6 y (.inr (10, mO mf (nI P.length) (nI C.length) (nI (mOut P (digs t)).1) (mTo P (digs t)) (nI (mOut P (digs t)).2.2.1) (nI rn) (lN tt) (nI K.length) (nI fq) (nI ac) (nI F.length) (2))) := by rw [ew_6]; exact g_at.put_self hy1.1
      have x_8 : g_ex (fun q => q = y) u1 w_6 := by rw [ew_6]; exact x_5.put (fun hz9 => rfl)
      have hZ3 := hZ2.obj (rn2 := rn) (tt2 := tt) (fq2 := fq) (ac2 := ac) h_7 x_8 hb9.2.1 hb9.2.2.1 hb9.2.2.2.1 hb9.2.2.2.2
      have hz3 := hz2.tr (hZ2.zobj x_8)
      have hxb := ((hxa.mono (fun _ _ z => Or.inl z)).tr hx1).tr (x_8.mono (N := fun q => q = y ∨ q = mf 14 ∨ q = mf 15) (fun _ _ z => Or.inl z))
      refine lv_aload_n hx hb dX3_isFailing_45 rfl (lv_at hl 0 rfl) ?_
      refine g_get (ci := 10) (v := .int (2)) (C := RX3) (T := TX3) (N := 28) hx hb hts in_X3 hown hK hW h_7 rfl 27 (by decide) q1911 (fun _ h9 => h9) rfl dX3_isFailing_46 ?_
      refine lv_if_ne (tgt := 56) hx hb dX3_isFailing_49 (by decide) (fun _ => ?_) (fun hz => absurd (by first | exact hz | exact Classical.not_not.mp hz) (by decide))
      refine lv_iconst (v := 0) hx hb dX3_isFailing_56 (by decide) ?_
      have eT : (thF P t) = (2 : Int32) := by unfold thF; rw [if_pos (inB_iff.mpr hI), if_neg hv1]
      exact g_zret (v := 0) hx hb hr hlocks (by rfl) hW (⟨(if_neg (fun z => hv1 z.2)).symm, fun z => absurd z.2 hv1, hxb, ⟨_, _, _, _, by rw [eT]; exact hZ3⟩, hz3⟩) (by omega) (by omega) dX3_isFailing_57
    · have hv1 : (mOut P (digs t)).1 = 1 := nI_inj (b := 1) (by omega) (by decide) (by first | exact hc | exact Classical.not_not.mp hc)
      have x_9 : g_ex (fun q => q = y) u1 u1 := g_ex.rf
      refine lv_iconst (v := 0) hx hb dX3_isFailing_37 (by decide) ?_
      refine lv_goto (tgt := 42) hx hb dX3_isFailing_38 (by decide) ?_
      refine g_putf (ci := 10) (v := .int (0)) (ty := .int) (C := RX3) (T := TX3) (N := 28) hx hb hts in_X3 tyX3 tyX3_ok nmX3 hown hK hW hy1 rfl 27 (by decide) q1911 (fun _ h9 => h9) rfl (by decide +kernel) rfl rfl (Nat.le_of_ble_eq_true rfl) dX3_isFailing_42 (fun H locs hW => ?_)
      obtain ⟨w_10, ew_10⟩ : ∃ z__, z__ = g_put u1 y (.inr (10, mO mf (nI P.length) (nI C.length) (nI (mOut P (digs t)).1) (mTo P (digs t)) (nI (mOut P (digs t)).2.2.1) (nI rn) (lN tt) (nI K.length) (nI fq) (nI ac) (nI F.length) (0))) := ⟨_, rfl⟩
      have hW := g_W.ren hW ew_10 rfl
      have h_11 : g_at w_10 y (.inr (10, mO mf (nI P.length) (nI C.length) (nI (mOut P (digs t)).1) (mTo P (digs t)) (nI (mOut P (digs t)).2.2.1) (nI rn) (lN tt) (nI K.length) (nI fq) (nI ac) (nI F.length) (0))) := by rw [ew_10]; exact g_at.put_self hy1.1
      have x_12 : g_ex (fun q => q = y) u1 w_10 := by rw [ew_10]; exact x_9.put (fun hz9 => rfl)
      have hZ3 := hZ2.obj (rn2 := rn) (tt2 := tt) (fq2 := fq) (ac2 := ac) h_11 x_12 hb9.2.1 hb9.2.2.1 hb9.2.2.2.1 hb9.2.2.2.2
      have hz3 := hz2.tr (hZ2.zobj x_12)
      have hxb := ((hxa.mono (fun _ _ z => Or.inl z)).tr hx1).tr (x_12.mono (N := fun q => q = y ∨ q = mf 14 ∨ q = mf 15) (fun _ _ z => Or.inl z))
      refine lv_aload_n hx hb dX3_isFailing_45 rfl (lv_at hl 0 rfl) ?_
      refine g_get (ci := 10) (v := .int (0)) (C := RX3) (T := TX3) (N := 28) hx hb hts in_X3 hown hK hW h_11 rfl 27 (by decide) q1911 (fun _ h9 => h9) rfl dX3_isFailing_46 ?_
      refine lv_if_ne (tgt := 56) hx hb dX3_isFailing_49 (by decide) (fun hz => absurd rfl hz) (fun _ => ?_)
      refine lv_iconst (v := 1) hx hb dX3_isFailing_52 (by decide) ?_
      refine lv_goto (tgt := 57) hx hb dX3_isFailing_53 (by decide) ?_
      have eT : (thF P t) = (0 : Int32) := by unfold thF; rw [if_pos (inB_iff.mpr hI), if_pos hv1]
      exact g_zret (v := 1) hx hb hr hlocks (by rfl) hW (⟨(if_pos ⟨inB_iff.mpr hI, hv1⟩).symm, fun _ => ⟨_, by rw [← mTo_c hv1]; exact hZ3⟩, hxb, ⟨_, _, _, _, by rw [eT]; exact hZ3⟩, hz3⟩) (by omega) (by omega) dX3_isFailing_57
  · rw [if_neg hq9]
    refine lv_if_eq (tgt := 12) hx hb dX3_isFailing_5 (by decide) (fun _ => ?_) (fun hz => absurd rfl hz)
    have hI : ¬ isIn t := fun z => hq9 (inB_iff.mpr z)
    refine lv_iconst (v := 1) hx hb dX3_isFailing_12 (by decide) ?_
    refine g_putf (ci := 10) (v := .int (1)) (ty := .int) (C := RX3) (T := TX3) (N := 28) hx hb hts in_X3 tyX3 tyX3_ok nmX3 hown hK hW hy rfl 27 (by decide) q1911 (fun _ h9 => h9) rfl (by decide +kernel) rfl rfl (Nat.le_of_ble_eq_true rfl) dX3_isFailing_13 (fun H locs hW => ?_)
    obtain ⟨w_13, ew_13⟩ : ∃ z__, z__ = g_put w y (.inr (10, mO mf (nI P.length) (nI C.length) (en) (td) (st) (nI rn) (lN tt) (nI K.length) (nI fq) (nI ac) (nI F.length) (1))) := ⟨_, rfl⟩
    have hW := g_W.ren hW ew_13 rfl
    have h_14 : g_at w_13 y (.inr (10, mO mf (nI P.length) (nI C.length) (en) (td) (st) (nI rn) (lN tt) (nI K.length) (nI fq) (nI ac) (nI F.length) (1))) := by rw [ew_13]; exact g_at.put_self hy.1
    have x_15 : g_ex (fun q => q = y) w w_13 := by rw [ew_13]; exact x_1.put (fun hz9 => rfl)
    have hZ1 := hZ.obj (rn2 := rn) (tt2 := tt) (fq2 := fq) (ac2 := ac) h_14 x_15 hb9.2.1 hb9.2.2.1 hb9.2.2.2.1 hb9.2.2.2.2
    have hz1 := hZ.zobj x_15
    have hxa := x_15
    refine lv_aload_n hx hb dX3_isFailing_16 rfl (lv_at hl 0 rfl) ?_
    refine g_get (ci := 10) (v := .int (1)) (C := RX3) (T := TX3) (N := 28) hx hb hts in_X3 hown hK hW h_14 rfl 27 (by decide) q1911 (fun _ h9 => h9) rfl dX3_isFailing_17 ?_
    refine lv_if_ne (tgt := 45) hx hb dX3_isFailing_20 (by decide) (fun _ => ?_) (fun hz => absurd (by first | exact hz | exact Classical.not_not.mp hz) (by decide))
    refine lv_aload_n hx hb dX3_isFailing_45 rfl (lv_at hl 0 rfl) ?_
    refine g_get (ci := 10) (v := .int (1)) (C := RX3) (T := TX3) (N := 28) hx hb hts in_X3 hown hK hW h_14 rfl 27 (by decide) q1911 (fun _ h9 => h9) rfl dX3_isFailing_46 ?_
    refine lv_if_ne (tgt := 56) hx hb dX3_isFailing_49 (by decide) (fun _ => ?_) (fun hz => absurd (by first | exact hz | exact Classical.not_not.mp hz) (by decide))
    refine lv_iconst (v := 0) hx hb dX3_isFailing_56 (by decide) ?_
    have eT : (thF P t) = (1 : Int32) := if_neg (fun z => hI (inB_iff.mp z))
    exact g_zret (v := 0) hx hb hr hlocks (by rfl) hW (⟨(if_neg (fun z => hI (inB_iff.mp z.1))).symm, fun z => absurd (inB_iff.mp z.1) hI, hxa.mono (fun _ _ z => Or.inl z), ⟨_, _, _, _, by rw [eT]; exact hZ1⟩, hz1⟩) (by omega) (by omega) dX3_isFailing_57
set_option maxHeartbeats 4000000 in
set_option maxRecDepth 100000 in
/-- Model.code -/
theorem mtX3_code (l : Launch) (D : va_G) (w : g_H) (sz : Nat) (y : Nat) (mf : Nat → Nat) (lab : Nat → Nat) (P : List mI) (C : List yC) (A9 : Nat → List (List Nat)) (cov : Nat → Bool) (K : List (List Nat)) (fq ac : Nat) (F : List yF) (rn tt cK : Nat) (en td st : Int32) (E : Nat → Bool) (th : Int32) (hZ : g_MZ D w lab y mf P C A9 cov K fq ac F rn tt cK en td st E th) (sp : Nat) (t : List Nat) (hst : g_Str D w sp t) : Met l yX3_code (ws_ yX3_code cX3_code 2 (some .int)) ({ frames := 7, cells := 0, slots := 0, locals := 145 }) (g_Pc D [.ref y, .ref sp] w sz) (g_Qi D w sz (fun r u => (inB t = true ∧ (mOut P (digs t)).1 = 1 → r = mCode P (digs t)) ∧ (∃ en2 td2 st2 E2, g_MZ D u lab y mf P C A9 cov K fq ac F rn tt cK en2 td2 st2 E2 (thF P t)) ∧ zCh w lab u lab)) (0) (0) (g_A w sz) := by
  refine Met.ofW (cc := cX3_code) (maxL := 2) (ret := (some .int)) (by decide) rfl ?_
  intro p e s m args below meth c s₁ B hml hv
  obtain ⟨rfl, hI⟩ := hv
  have hx := B.exec
  have hb := B.bytes
  have hr := B.returns
  have hts := atoms_spec (ws := ws_ yX3_code cX3_code 2 (some .int)) B.pre
  have hts : ∀ w ∈ lw_all, w.before _ s = true := fun w h => hts w (List.mem_cons_of_mem _ h)
  have hown : s.vm.findClass RX3 = some m.cls := findClass_of_methodNamed B.named
  have hlocks := B.notSynchronized
  have hsz := hI.1
  subst hsz
  have hW := g_W.start hI
  have hK := g_K hI
  have hE := g_E hI
  have hl := lv_entry ([.ref y, .ref sp]) (n := 2) (by exact Nat.le_of_ble_eq_true rfl)
  rw [lg_entry_eq]
  generalize (lg_sl ([.ref y, .ref sp]) ++ List.replicate (2 - (lg_sl ([.ref y, .ref sp])).length) Slot.unset).toArray = ls at hl ⊢
  have hl : lv_has ls 2 [(0, .ref y), (1, .ref sp)] := hl
  obtain ⟨hy, ⟨hly, hL⟩, hP, hR, hC0, hA0, hV0, hK0, hF0, hb9⟩ := id hZ
  refine lv_aload_n hx hb dX3_code_0 rfl (lv_at hl 0 rfl) ?_
  refine lv_aload_n hx hb dX3_code_1 rfl (lv_at hl 1 rfl) ?_
  refine g_calli (va_runV (As := [.ref sp]) (rest := []) ⟨hx, hb, hml, hown, hts⟩ (mtX3_isFailing l D w s.heap.size y mf lab P C A9 cov K fq ac F rn tt cK en td st E th hZ sp t hst) (cwV 1 hts (lw_V q2163 q2165 qs32 q47 q2166) rfl rfl rfl (by decide +kernel) ⟨Nat.le_of_ble_eq_true rfl, Nat.le_of_ble_eq_true rfl⟩) (g_preV hW hK hE hy rfl) rfl rfl hl.1 rfl (lv_room (Nat.le_of_ble_eq_true rfl)) dX3_code_2 ⟨?_, ?_⟩) hW (fun r_ u1 H locs hp hW => ?_)
  · (try simp only [headSpec]); omega
  · (try simp only [headSpec]); omega
  obtain ⟨er, hf9, hx9, hZP⟩ := hp
  subst er
  by_cases hq9 : inB t = true ∧ (mOut P (digs t)).1 = 1
  · rw [if_pos hq9]
    refine lv_if_eq (tgt := 15) hx hb dX3_code_5 (by decide) (fun hz => absurd hz (by decide)) (fun _ => ?_)
    obtain ⟨E3, hZ3⟩ := hf9 hq9
    refine lv_aload_n hx hb dX3_code_8 rfl (lv_at hl 0 rfl) ?_
    refine g_get (ci := 10) (v := .int ((mCode P (digs t)))) (C := RX3) (T := TX3) (N := 28) hx hb hts in_X3 hown hK hW hZ3.1 rfl 12 (by decide) q1896 (fun _ h9 => h9) rfl dX3_code_9 ?_
    refine lv_goto (tgt := 16) hx hb dX3_code_12 (by decide) ?_
    exact g_iret (v := (mCode P (digs t))) hx hb hr hlocks hW (⟨fun _ => rfl, hZP⟩) (by omega) (by omega) dX3_code_16
  · rw [if_neg hq9]
    refine lv_if_eq (tgt := 15) hx hb dX3_code_5 (by decide) (fun _ => ?_) (fun hz => absurd rfl hz)
    refine lv_iconst (v := (-1)) hx hb dX3_code_15 (by decide) ?_
    exact g_iret (v := (-1)) hx hb hr hlocks hW (⟨fun z => absurd z hq9, hZP⟩) (by omega) (by omega) dX3_code_16
set_option maxHeartbeats 4000000 in
set_option maxRecDepth 100000 in
/-- Model.shrunk -/
theorem mtX3_shrunk (l : Launch) (D : va_G) (w : g_H) (sz : Nat) (y : Nat) (mf : Nat → Nat) (lab : Nat → Nat) (P : List mI) (C : List yC) (A9 : Nat → List (List Nat)) (cov : Nat → Bool) (K : List (List Nat)) (fq ac : Nat) (F : List yF) (rn tt cK : Nat) (en td st : Int32) (E : Nat → Bool) (th : Int32) (hZ : g_MZ D w lab y mf P C A9 cov K fq ac F rn tt cK en td st E th) (sp : Nat) (t : List Nat) (hst : g_Str D w sp t) : Met l yX3_shrunk (ws_ yX3_shrunk cX3_shrunk 2 (some (.object "java/lang/String"))) ({ frames := 10, cells := 4 * shN P t, slots := 32 * shN P t, locals := 264 }) (g_Pc D [.ref y, .ref sp] w sz) (g_Qq D w sz (fun r u => (∃ s9, r = some s9 ∧ (inB t = true ∧ (mOut P (digs t)).1 = 1 → g_Str D u s9 (txt (mShr P (mCode P (digs t)) (sMs (digs t) + 1) (digs t)).1))) ∧ (∃ en2 td2 st2 E2, g_MZ D u lab y mf P C A9 cov K fq ac F rn tt cK en2 td2 st2 E2 (thF P t)) ∧ zCh w lab u lab)) (4 * shN P t) (32 * shN P t) (g_A w sz) := by
  refine Met.ofW (cc := cX3_shrunk) (maxL := 2) (ret := (some (.object "java/lang/String"))) (by decide) rfl ?_
  intro p e s m args below meth c s₁ B hml hv
  obtain ⟨rfl, hI⟩ := hv
  have hx := B.exec
  have hb := B.bytes
  have hr := B.returns
  have hts := atoms_spec (ws := ws_ yX3_shrunk cX3_shrunk 2 (some (.object "java/lang/String"))) B.pre
  have hts : ∀ w ∈ lw_all, w.before _ s = true := fun w h => hts w (List.mem_cons_of_mem _ h)
  have hown : s.vm.findClass RX3 = some m.cls := findClass_of_methodNamed B.named
  have hlocks := B.notSynchronized
  have hsz := hI.1
  subst hsz
  have hW := g_W.start hI
  have hK := g_K hI
  have hE := g_E hI
  have hl := lv_entry ([.ref y, .ref sp]) (n := 2) (by exact Nat.le_of_ble_eq_true rfl)
  rw [lg_entry_eq]
  generalize (lg_sl ([.ref y, .ref sp]) ++ List.replicate (2 - (lg_sl ([.ref y, .ref sp])).length) Slot.unset).toArray = ls at hl ⊢
  have hl : lv_has ls 2 [(0, .ref y), (1, .ref sp)] := hl
  obtain ⟨hy, ⟨hly, hL⟩, hP, hR, hC0, hA0, hV0, hK0, hF0, hb9⟩ := id hZ
  refine lv_aload_n hx hb dX3_shrunk_0 rfl (lv_at hl 0 rfl) ?_
  refine lv_aload_n hx hb dX3_shrunk_1 rfl (lv_at hl 1 rfl) ?_
  refine g_calli (va_runV (As := [.ref sp]) (rest := []) ⟨hx, hb, hml, hown, hts⟩ (mtX3_isFailing l D w s.heap.size y mf lab P C A9 cov K fq ac F rn tt cK en td st E th hZ sp t hst) (cwV 1 hts (lw_V q2163 q2165 qs32 q47 q2166) rfl rfl rfl (by decide +kernel) ⟨Nat.le_of_ble_eq_true rfl, Nat.le_of_ble_eq_true rfl⟩) (g_preV hW hK hE hy rfl) rfl rfl hl.1 rfl (lv_room (Nat.le_of_ble_eq_true rfl)) dX3_shrunk_2 ⟨?_, ?_⟩) hW (fun r_ u1 H locs hp hW => ?_)
  · (try simp only [headSpec]); omega
  · (try simp only [headSpec]); omega
  obtain ⟨er, hf9, hx9, hZP⟩ := hp
  subst er
  by_cases hq9 : inB t = true ∧ (mOut P (digs t)).1 = 1
  · rw [if_pos hq9]
    refine lv_if_eq (tgt := 20) hx hb dX3_shrunk_5 (by decide) (fun hz => absurd hz (by decide)) (fun _ => ?_)
    obtain ⟨E3, hZ3⟩ := hf9 hq9
    have hI := inB_iff.mp hq9.1
    have eT : (thF P t) = (0 : Int32) := by unfold thF; rw [if_pos hq9.1, if_pos hq9.2]
    refine lv_aload_n hx hb dX3_shrunk_8 rfl (lv_at hl 0 rfl) ?_
    refine lv_aload_n hx hb dX3_shrunk_9 rfl (lv_at hl 1 rfl) ?_
    refine lv_aload_n hx hb dX3_shrunk_10 rfl (lv_at hl 0 rfl) ?_
    refine g_get (ci := 10) (v := .int ((mCode P (digs t)))) (C := RX3) (T := TX3) (N := 28) hx hb hts in_X3 hown hK hW hZ3.1 rfl 12 (by decide) q1896 (fun _ h9 => h9) rfl dX3_shrunk_11 ?_
    obtain ⟨f14, g15, r14, rE14, r15⟩ := id hR
    have hstu := str_no hst hy r14 r15 (g_neA hK (i := 2) (j := 1) rfl rfl (fun z => by cases z)) (g_neA hK (i := 0) (j := 1) rfl rfl (fun z => by cases z)) hx9
    have eN : shN P t = (mShr P (mCode P (digs t)) (sMs (digs t) + 1) (digs t)).2 := if_pos hq9
    have hst3 : g_Str D u1 sp (txt (digs t)) := by rw [txt_digs hI.2]; exact hstu
    refine g_callq (va_runV (As := [.ref sp, .int ((mCode P (digs t)))]) (rest := []) ⟨hx, hb, hml, hown, hts⟩ (mtX3_shrinks l D u1 H.size y mf lab hL hly (nI C.length) (nI rn) (lN tt) (nI K.length) (nI fq) (nI ac) (nI F.length) 0 P _ _ _ E3 hZ3.1 hZ3.2.2.1 hZ3.2.2.2.1 sp (digs t) hst3 (isIn_sDg hI) (mCode P (digs t))) (cwV 2 hts (lw_V q2061 q2063 qs29 q47 q2064) rfl rfl rfl (by decide +kernel) ⟨Nat.le_of_ble_eq_true rfl, Nat.le_of_ble_eq_true rfl⟩) (g_preV hW hK hE hZ3.1 rfl) rfl rfl hl.1 rfl (lv_room (Nat.le_of_ble_eq_true rfl)) dX3_shrunk_14 ⟨?_, ?_⟩) hW (fun r_ u2 H locs hp hW => ?_)
    · (try simp only [headSpec]); omega
    · (try simp only [headSpec]); omega
    obtain ⟨⟨s9, er, hs9⟩, ⟨en4, td4, st4, E4, hy4, hR4⟩, hx4⟩ := hp
    subst er
    refine lv_goto (tgt := 22) hx hb dX3_shrunk_17 (by decide) ?_
    have hZ4 := hZ3.run hK hy4 hR4 hx4
    exact g_qret (v := some s9) hx hb hr (Or.inl ⟨_, rfl⟩) hlocks hW (⟨⟨s9, rfl, fun _ => hs9⟩, ⟨_, _, _, _, by rw [eT]; exact hZ4⟩, hZP.2.tr (hZ3.zrun hx4)⟩) (by omega) (by omega) dX3_shrunk_22
  · rw [if_neg hq9]
    refine lv_if_eq (tgt := 20) hx hb dX3_shrunk_5 (by decide) (fun _ => ?_) (fun hz => absurd rfl hz)
    refine va_ldcS hx hb hown (rs_16 hE) dX3_shrunk_20 ?_
    exact g_qret (v := some (D.2 1000 0)) hx hb hr (Or.inl ⟨_, rfl⟩) hlocks hW (⟨⟨_, rfl, fun z => absurd z hq9⟩, hZP⟩) (by omega) (by omega) dX3_shrunk_22
