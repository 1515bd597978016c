/-! the model: take, takeDerived *
-/
set_option maxRecDepth 100000
noncomputable def mkC (P : List mI) (xs : List Nat) (cov : Nat → Bool) (n cK : Nat) (F : List yF) : Nat := z1 (tkB P xs cov) n cK + 4 * zTk P xs F
noncomputable def mkS (P : List mI) (xs : List Nat) (cov : Nat → Bool) (n cK : Nat) (F : List yF) : Nat := z2 (tkB P xs cov) n cK + 32 * zTk P xs F
noncomputable def mtC (P : List mI) (t : List Nat) (cov : Nat → Bool) (n cK : Nat) (F : List yF) : Nat := if inB t = true then mkC P (digs t) cov n cK F else 0
noncomputable def mtS (P : List mI) (t : List Nat) (cov : Nat → Bool) (n cK : Nat) (F : List yF) : Nat := if inB t = true then mkS P (digs t) cov n cK F else 0
noncomputable def mdC (P : List mI) (A : Nat → List (List Nat)) (n9 : Int32) (cov : Nat → Bool) (n cK : Nat) (F : List yF) : Nat := if ¬ n9 < 0 ∧ (dvN A n9).1 = 0 then mkC P (digs (dvN A n9).2) cov n cK F else 0
noncomputable def mdS (P : List mI) (A : Nat → List (List Nat)) (n9 : Int32) (cov : Nat → Bool) (n cK : Nat) (F : List yF) : Nat := if ¬ n9 < 0 ∧ (dvN A n9).1 = 0 then mkS P (digs (dvN A n9).2) cov n cK F else 0
set_option maxHeartbeats 4000000 in
set_option maxRecDepth 100000 in
/-- Model.take -/
theorem mtX3_take (l : Launch) (D : va_G) (w : g_H) (sz : Nat) (y : Nat) (mf : Nat → Nat) (lab : Nat → Nat) (P : List mI) (C : List yC) (A9 : Nat → List (List Nat)) (cov : Nat → Bool) (K : List (List Nat)) (fq ac : Nat) (F : List yF) (rn tt cK : Nat) (en td st : Int32) (E : Nat → Bool) (th : Int32) (hZ : g_MZ D w lab y mf P C A9 cov K fq ac F rn tt cK en td st E th) (sp : Nat) (t : List Nat) (hst : g_Str D w sp t) (hcv : eOk cov) (hK9 : K.length + 1 < 500) (hcK : cK < 1000) (hF15 : F.length < 16) (hrn : rn + 1 < 100000) (htt : tt + 65 < 100000000) : Met l yX3_take (ws_ yX3_take cX3_take 2 (some .boolean)) ({ frames := 12, cells := mtC P t cov K.length cK F, slots := mtS P t cov K.length cK F, locals := 312 }) (g_Pc D [.ref y, .ref sp] w sz) (g_Qi D w sz (fun r u => ∃ lab2 mf2 en2 td2 st2 E2, zCh w lab u lab2 ∧ ((isIn t ∧ r = (if tkB P (digs t) cov = true then 1 else 0) ∧ g_MZ D u lab2 y mf2 P C A9 (cvO cov (mOut P (digs t)).2.2.2) (tkL (tkB P (digs t) cov) K (digs t)) fq ac (zFk P (digs t) F) (rn + 1) (tt + (mOut P (digs t)).2.2.1) (zC (tkB P (digs t) cov) K.length cK) en2 td2 st2 E2 0) ∨ (¬ isIn t ∧ g_MZ D u lab2 y mf2 P C A9 cov K fq ac F rn tt cK en2 td2 st2 E2 1)))) (mtC P t cov K.length cK F) (mtS P t cov K.length cK F) (g_A w sz) := by
  refine Met.ofW (cc := cX3_take) (maxL := 2) (ret := (some .boolean)) (by decide) rfl ?_
  intro p e s m args below meth c s₁ B hml hv
  obtain ⟨rfl, hI⟩ := hv
  have hx := B.exec
  have hb := B.bytes
  have hr := B.returns
  have hts := atoms_spec (ws := ws_ yX3_take cX3_take 2 (some .boolean)) B.pre
  have hts : ∀ w ∈ lw_all, w.before _ s = true := fun w h => hts w (List.mem_cons_of_mem _ h)
  have hown : s.vm.findClass RX3 = some m.cls := findClass_of_methodNamed B.named
  have hlocks := B.notSynchronized
  have hsz := hI.1
  subst hsz
  have hW := g_W.start hI
  have hK := g_K hI
  have hE := g_E hI
  have hl := lv_entry ([.ref y, .ref sp]) (n := 2) (by exact Nat.le_of_ble_eq_true rfl)
  rw [lg_entry_eq]
  generalize (lg_sl ([.ref y, .ref sp]) ++ List.replicate (2 - (lg_sl ([.ref y, .ref sp])).length) Slot.unset).toArray = ls at hl ⊢
  have hl : lv_has ls 2 [(0, .ref y), (1, .ref sp)] := hl
  obtain ⟨hy, ⟨hly, hL⟩, hP, hR, hC0, hA0, hV0, hK0, hF0, hb9⟩ := id hZ
  have x_1 : g_ex (fun q => q = y) w w := g_ex.rf
  refine lv_aload_n hx hb dX3_take_0 rfl (lv_at hl 0 rfl) ?_
  refine lv_aload_n hx hb dX3_take_1 rfl (lv_at hl 1 rfl) ?_
  refine g_calli (va_runS (As := [.ref sp]) (rest := [.ref y]) ⟨hx, hb, hml, hown, hts⟩ (mtX3_isInput l D w s.heap.size sp t hst) (va_cwS 1 hts (lw_S q2030 q2031 q47 q2032) rfl rfl rfl (by decide +kernel) ⟨Nat.le_of_ble_eq_true rfl, Nat.le_of_ble_eq_true rfl⟩) (g_preS hW hK hE) rfl rfl hl.1 rfl (lv_room (Nat.le_of_ble_eq_true rfl)) dX3_take_2 ⟨Nat.le_of_ble_eq_true rfl, Nat.le_of_ble_eq_true rfl⟩) hW (fun r_ u_ H locs hp hW => ?_)
  obtain ⟨er, rfl⟩ := hp
  subst er
  by_cases hq9 : inB t = true
  · rw [if_pos hq9]
    refine lv_if_eq (tgt := 12) hx hb dX3_take_5 (by decide) (fun hz => absurd hz (by decide)) (fun _ => ?_)
    have hI : isIn t := inB_iff.mp hq9
    refine lv_iconst (v := 0) hx hb dX3_take_8 (by decide) ?_
    refine lv_goto (tgt := 13) hx hb dX3_take_9 (by decide) ?_
    refine g_putf (ci := 10) (v := .int (0)) (ty := .int) (C := RX3) (T := TX3) (N := 28) hx hb hts in_X3 tyX3 tyX3_ok nmX3 hown hK hW hy rfl 27 (by decide) q1911 (fun _ h9 => h9) rfl (by decide +kernel) rfl rfl (Nat.le_of_ble_eq_true rfl) dX3_take_13 (fun H locs hW => ?_)
    obtain ⟨w_2, ew_2⟩ : ∃ z__, z__ = g_put w y (.inr (10, mO mf (nI P.length) (nI C.length) (en) (td) (st) (nI rn) (lN tt) (nI K.length) (nI fq) (nI ac) (nI F.length) (0))) := ⟨_, rfl⟩
    have hW := g_W.ren hW ew_2 rfl
    have h_3 : g_at w_2 y (.inr (10, mO mf (nI P.length) (nI C.length) (en) (td) (st) (nI rn) (lN tt) (nI K.length) (nI fq) (nI ac) (nI F.length) (0))) := by rw [ew_2]; exact g_at.put_self hy.1
    have x_4 : g_ex (fun q => q = y) w w_2 := by rw [ew_2]; exact x_1.put (fun hz9 => rfl)
    have hZ1 := hZ.obj (rn2 := rn) (tt2 := tt) (fq2 := fq) (ac2 := ac) h_3 x_4 hb9.2.1 hb9.2.2.1 hb9.2.2.2.1 hb9.2.2.2.2
    have hz1 := hZ.zobj x_4
    have hxa := x_4
    have hst1 := (g_mut.obj hy).str hst x_4
    refine lv_aload_n hx hb dX3_take_16 rfl (lv_at hl 0 rfl) ?_
    refine g_get (ci := 10) (v := .int (0)) (C := RX3) (T := TX3) (N := 28) hx hb hts in_X3 hown hK hW h_3 rfl 27 (by decide) q1911 (fun _ h9 => h9) rfl dX3_take_17 ?_
    refine lv_if_ne (tgt := 35) hx hb dX3_take_20 (by decide) (fun hz => absurd rfl hz) (fun _ => ?_)
    have eC : mtC P t cov K.length cK F = mkC P (digs t) cov K.length cK F := if_pos (inB_iff.mpr hI)
    have eS : mtS P t cov K.length cK F = mkS P (digs t) cov K.length cK F := if_pos (inB_iff.mpr hI)
    have hst2 := hst1
    rw [← txt_digs hI.2] at hst2
    refine lv_aload_n hx hb dX3_take_23 rfl (lv_at hl 0 rfl) ?_
    refine lv_aload_n hx hb dX3_take_24 rfl (lv_at hl 1 rfl) ?_
    unfold mkC at eC
    unfold mkS at eS
    refine g_calli (va_runV (As := [.ref sp]) (rest := []) ⟨hx, hb, hml, hown, hts⟩ (mtX3_takes l D w_2 H.size y mf lab P C A9 cov K fq ac F rn tt cK _ _ _ _ 0 hZ1 sp (digs t) hst2 (isIn_sDg hI) hcv hK9 hcK (fun _ _ => hF15) hrn htt) (cwV 1 hts (lw_V q2033 q2035 qs25 q47 q2036) rfl rfl rfl (by decide +kernel) ⟨Nat.le_of_ble_eq_true rfl, Nat.le_of_ble_eq_true rfl⟩) (g_preV hW hK hE hZ1.1 rfl) rfl rfl hl.1 rfl (lv_room (Nat.le_of_ble_eq_true rfl)) dX3_take_25 ⟨?_, ?_⟩) hW (fun r_ u9 H locs hp hW => ?_)
    · (try simp only [headSpec]); omega
    · (try simp only [headSpec]); omega
    obtain ⟨er, lab2, mf2, en2, td2, st2, E2, hZ9, hz9⟩ := hp
    subst er
    obtain ⟨B9, eB⟩ : ∃ z__, z__ = tkB P (digs t) cov := ⟨_, rfl⟩
    rw [← eB] at hZ9 eC eS ⊢
    cases B9
    · refine W.eq (g2 := F0 m 28 ls [.int (0)]) rfl ?_
      have hq9 : ¬ (false = true) := by decide
      refine lv_if_eq (tgt := 35) hx hb dX3_take_28 (by decide) (fun _ => ?_) (fun hz => absurd rfl hz)
      refine lv_iconst (v := 0) hx hb dX3_take_35 (by decide) ?_
      exact g_zret (v := 0) hx hb hr hlocks (by rfl) hW (⟨lab2, mf2, en2, td2, st2, E2, hz1.tr hz9, Or.inl ⟨hI, (if_neg hq9).symm, hZ9⟩⟩) (by omega) (by omega) dX3_take_36
    · refine W.eq (g2 := F0 m 28 ls [.int (1)]) rfl ?_
      have hq9 : true = true := rfl
      refine lv_if_eq (tgt := 35) hx hb dX3_take_28 (by decide) (fun hz => absurd hz (by decide)) (fun _ => ?_)
      refine lv_iconst (v := 1) hx hb dX3_take_31 (by decide) ?_
      refine lv_goto (tgt := 36) hx hb dX3_take_32 (by decide) ?_
      exact g_zret (v := 1) hx hb hr hlocks (by rfl) hW (⟨lab2, mf2, en2, td2, st2, E2, hz1.tr hz9, Or.inl ⟨hI, (if_pos hq9).symm, hZ9⟩⟩) (by omega) (by omega) dX3_take_36
  · rw [if_neg hq9]
    refine lv_if_eq (tgt := 12) hx hb dX3_take_5 (by decide) (fun _ => ?_) (fun hz => absurd rfl hz)
    have hI : ¬ isIn t := fun z => hq9 (inB_iff.mpr z)
    refine lv_iconst (v := 1) hx hb dX3_take_12 (by decide) ?_
    refine g_putf (ci := 10) (v := .int (1)) (ty := .int) (C := RX3) (T := TX3) (N := 28) hx hb hts in_X3 tyX3 tyX3_ok nmX3 hown hK hW hy rfl 27 (by decide) q1911 (fun _ h9 => h9) rfl (by decide +kernel) rfl rfl (Nat.le_of_ble_eq_true rfl) dX3_take_13 (fun H locs hW => ?_)
    obtain ⟨w_5, ew_5⟩ : ∃ z__, z__ = g_put w y (.inr (10, mO mf (nI P.length) (nI C.length) (en) (td) (st) (nI rn) (lN tt) (nI K.length) (nI fq) (nI ac) (nI F.length) (1))) := ⟨_, rfl⟩
    have hW := g_W.ren hW ew_5 rfl
    have h_6 : g_at w_5 y (.inr (10, mO mf (nI P.length) (nI C.length) (en) (td) (st) (nI rn) (lN tt) (nI K.length) (nI fq) (nI ac) (nI F.length) (1))) := by rw [ew_5]; exact g_at.put_self hy.1
    have x_7 : g_ex (fun q => q = y) w w_5 := by rw [ew_5]; exact x_1.put (fun hz9 => rfl)
    have hZ1 := hZ.obj (rn2 := rn) (tt2 := tt) (fq2 := fq) (ac2 := ac) h_6 x_7 hb9.2.1 hb9.2.2.1 hb9.2.2.2.1 hb9.2.2.2.2
    have hz1 := hZ.zobj x_7
    have hxa := x_7
    refine lv_aload_n hx hb dX3_take_16 rfl (lv_at hl 0 rfl) ?_
    refine g_get (ci := 10) (v := .int (1)) (C := RX3) (T := TX3) (N := 28) hx hb hts in_X3 hown hK hW h_6 rfl 27 (by decide) q1911 (fun _ h9 => h9) rfl dX3_take_17 ?_
    refine lv_if_ne (tgt := 35) hx hb dX3_take_20 (by decide) (fun _ => ?_) (fun hz => absurd (by first | exact hz | exact Classical.not_not.mp hz) (by decide))
    refine lv_iconst (v := 0) hx hb dX3_take_35 (by decide) ?_
    exact g_zret (v := 0) hx hb hr hlocks (by rfl) hW (⟨lab, mf, en, td, st, E, hz1, Or.inr ⟨hI, hZ1⟩⟩) (by omega) (by omega) dX3_take_36
set_option maxHeartbeats 4000000 in
set_option maxRecDepth 100000 in
/-- Model.takeDerived -/
theorem mtX3_takeDerived (l : Launch) (D : va_G) (w : g_H) (sz : Nat) (y : Nat) (mf : Nat → Nat) (lab : Nat → Nat) (P : List mI) (C : List yC) (A9 : Nat → List (List Nat)) (cov : Nat → Bool) (K : List (List Nat)) (fq ac : Nat) (F : List yF) (rn tt cK : Nat) (en td st : Int32) (E : Nat → Bool) (th : Int32) (hZ : g_MZ D w lab y mf P C A9 cov K fq ac F rn tt cK en td st E th) (hA : aOk A9) (n9 : Int32) (hcv : eOk cov) (hK9 : K.length + 1 < 500) (hcK : cK < 1000) (hF15 : F.length < 16) (hrn : rn + 1 < 100000) (htt : tt + 65 < 100000000) : Met l yX3_takeDerived (ws_ yX3_takeDerived cX3_takeDerived 3 (some .boolean)) ({ frames := 14, cells := 150 + mdC P A9 n9 cov K.length cK F, slots := 24206 + mdS P A9 n9 cov K.length cK F, locals := 551 }) (g_Pc D [.ref y, .int (n9)] w sz) (g_Qi D w sz (fun r u => ∃ lab2 mf2 en2 td2 st2 E2, zCh w lab u lab2 ∧ (((¬ n9 < 0 ∧ (dvN A9 n9).1 = 0) ∧ r = (if tkB P (digs (dvN A9 n9).2) cov = true then 1 else 0) ∧ g_MZ D u lab2 y mf2 P C A9 (cvO cov (mOut P (digs (dvN A9 n9).2)).2.2.2) (tkL (tkB P (digs (dvN A9 n9).2) cov) K (digs (dvN A9 n9).2)) fq ac (zFk P (digs (dvN A9 n9).2) F) (rn + 1) (tt + (mOut P (digs (dvN A9 n9).2)).2.2.1) (zC (tkB P (digs (dvN A9 n9).2) cov) K.length cK) en2 td2 st2 E2 0) ∨ (n9 < 0 ∧ g_MZ D u lab2 y mf2 P C A9 cov K fq ac F rn tt cK en2 td2 st2 E2 1) ∨ (¬ n9 < 0 ∧ (dvN A9 n9).1 ≠ 0 ∧ g_MZ D u lab2 y mf2 P C A9 cov K fq ac F rn tt cK en2 td2 st2 E2 (nI (dvN A9 n9).1))))) (150 + mdC P A9 n9 cov K.length cK F) (24206 + mdS P A9 n9 cov K.length cK F) (g_A w sz) := by
  refine Met.ofW (cc := cX3_takeDerived) (maxL := 3) (ret := (some .boolean)) (by decide) rfl ?_
  intro p e s m args below meth c s₁ B hml hv
  obtain ⟨rfl, hI⟩ := hv
  have hx := B.exec
  have hb := B.bytes
  have hr := B.returns
  have hts := atoms_spec (ws := ws_ yX3_takeDerived cX3_takeDerived 3 (some .boolean)) B.pre
  have hts : ∀ w ∈ lw_all, w.before _ s = true := fun w h => hts w (List.mem_cons_of_mem _ h)
  have hown : s.vm.findClass RX3 = some m.cls := findClass_of_methodNamed B.named
  have hlocks := B.notSynchronized
  have hsz := hI.1
  subst hsz
  have hW := g_W.start hI
  have hK := g_K hI
  have hE := g_E hI
  have hl := lv_entry ([.ref y, .int (n9)]) (n := 3) (by exact Nat.le_of_ble_eq_true rfl)
  rw [lg_entry_eq]
  generalize (lg_sl ([.ref y, .int (n9)]) ++ List.replicate (3 - (lg_sl ([.ref y, .int (n9)])).length) Slot.unset).toArray = ls at hl ⊢
  have hl : lv_has ls 3 [(0, .ref y), (1, .int (n9))] := hl
  obtain ⟨hy, ⟨hly, hL⟩, hP, hR, hC0, hA0, hV0, hK0, hF0, hb9⟩ := id hZ
  refine lv_aload_n hx hb dX3_takeDerived_0 rfl (lv_at hl 0 rfl) ?_
  refine lv_iload_n hx hb dX3_takeDerived_1 rfl (lv_at hl 1 rfl) ?_
  refine g_callq (va_runV (As := [.int (n9)]) (rest := []) ⟨hx, hb, hml, hown, hts⟩ (mtX3_derive l D w s.heap.size y mf lab P C A9 cov K fq ac F rn tt cK en td st E th hZ hA n9) (cwV 1 hts (lw_V q2085 q2010 q2011 q47 q2012) rfl rfl rfl (by decide +kernel) ⟨Nat.le_of_ble_eq_true rfl, Nat.le_of_ble_eq_true rfl⟩) (g_preV hW hK hE hy rfl) rfl rfl hl.1 rfl (lv_room (Nat.le_of_ble_eq_true rfl)) dX3_takeDerived_2 ⟨?_, ?_⟩) hW (fun r_ u1 H locs hp hW => ?_)
  · (try simp only [headSpec]); omega
  · (try simp only [headSpec]); omega
  obtain ⟨s9, th2, er, hZ1, hz1, hcs⟩ := hp
  subst er
  refine lv_astore_n (lv' := [(2, .ref s9), (0, .ref y), (1, .int (n9))]) hx hb dX3_takeDerived_5 rfl hl (by decide) rfl (fun ls hl => ?_)
  refine lv_aload_n hx hb dX3_takeDerived_6 rfl (lv_at hl 1 rfl) ?_
  refine g_get (ci := 10) (v := .int (th2)) (C := RX3) (T := TX3) (N := 28) hx hb hts in_X3 hown hK hW hZ1.1 rfl 27 (by decide) q1911 (fun _ h9 => h9) rfl dX3_takeDerived_7 ?_
  have hdl := dv_val (A := A9) 12 n9.toNatClampNeg [65] 0
  rw [show dv A9 12 n9.toNatClampNeg [65] 0 = dvN A9 n9 from rfl] at hdl
  rcases hcs with ⟨hn, e2⟩ | ⟨hn, e2, hs⟩
  · subst e2
    refine lv_if_ne (tgt := 25) hx hb dX3_takeDerived_10 (by decide) (fun _ => ?_) (fun hz => absurd (by first | exact hz | exact Classical.not_not.mp hz) (by decide))
    refine lv_iconst (v := 0) hx hb dX3_takeDerived_25 (by decide) ?_
    exact g_zret (v := 0) hx hb hr hlocks (by rfl) hW (⟨lab, mf, en, td, st, E, hz1, Or.inr (Or.inl ⟨hn, hZ1⟩)⟩) (by omega) (by omega) dX3_takeDerived_26
  · subst e2
    by_cases hd0 : (dvN A9 n9).1 = 0
    · have hst9 := hs hd0
      have hI := dvN_in hA hd0
      rw [hd0] at hZ1
      rw [← txt_digs hI.2] at hst9
      have eC : mdC P A9 n9 cov K.length cK F = mkC P (digs (dvN A9 n9).2) cov K.length cK F := if_pos ⟨hn, hd0⟩
      have eS : mdS P A9 n9 cov K.length cK F = mkS P (digs (dvN A9 n9).2) cov K.length cK F := if_pos ⟨hn, hd0⟩
      refine lv_if_ne (tgt := 25) hx hb dX3_takeDerived_10 (by decide) (fun hz => absurd (by rw [hd0]; rfl) hz) (fun _ => ?_)
      refine lv_aload_n hx hb dX3_takeDerived_13 rfl (lv_at hl 1 rfl) ?_
      refine lv_aload_n hx hb dX3_takeDerived_14 rfl (lv_at hl 0 rfl) ?_
      unfold mkC at eC
      unfold mkS at eS
      refine g_calli (va_runV (As := [.ref s9]) (rest := []) ⟨hx, hb, hml, hown, hts⟩ (mtX3_takes l D u1 H.size y mf lab P C A9 cov K fq ac F rn tt cK _ _ _ _ 0 hZ1 s9 (digs (dvN A9 n9).2) hst9 (isIn_sDg hI) hcv hK9 hcK (fun _ _ => hF15) hrn htt) (cwV 1 hts (lw_V q2033 q2035 qs25 q47 q2036) rfl rfl rfl (by decide +kernel) ⟨Nat.le_of_ble_eq_true rfl, Nat.le_of_ble_eq_true rfl⟩) (g_preV hW hK hE hZ1.1 rfl) rfl rfl hl.1 rfl (lv_room (Nat.le_of_ble_eq_true rfl)) dX3_takeDerived_15 ⟨?_, ?_⟩) hW (fun r_ u9 H locs hp hW => ?_)
      · (try simp only [headSpec]); omega
      · (try simp only [headSpec]); omega
      obtain ⟨er, lab2, mf2, en2, td2, st2, E2, hZ9, hz9⟩ := hp
      subst er
      obtain ⟨B9, eB⟩ : ∃ z__, z__ = tkB P (digs (dvN A9 n9).2) cov := ⟨_, rfl⟩
      rw [← eB] at hZ9 eC eS ⊢
      cases B9
      · refine W.eq (g2 := F0 m 18 ls [.int (0)]) rfl ?_
        have hq9 : ¬ (false = true) := by decide
        refine lv_if_eq (tgt := 25) hx hb dX3_takeDerived_18 (by decide) (fun _ => ?_) (fun hz => absurd rfl hz)
        refine lv_iconst (v := 0) hx hb dX3_takeDerived_25 (by decide) ?_
        exact g_zret (v := 0) hx hb hr hlocks (by rfl) hW (⟨lab2, mf2, en2, td2, st2, E2, hz1.tr hz9, Or.inl ⟨⟨hn, hd0⟩, (if_neg hq9).symm, hZ9⟩⟩) (by omega) (by omega) dX3_takeDerived_26
      · refine W.eq (g2 := F0 m 18 ls [.int (1)]) rfl ?_
        have hq9 : true = true := rfl
        refine lv_if_eq (tgt := 25) hx hb dX3_takeDerived_18 (by decide) (fun hz => absurd hz (by decide)) (fun _ => ?_)
        refine lv_iconst (v := 1) hx hb dX3_takeDerived_21 (by decide) ?_
        refine lv_goto (tgt := 26) hx hb dX3_takeDerived_22 (by decide) ?_
        exact g_zret (v := 1) hx hb hr hlocks (by rfl) hW (⟨lab2, mf2, en2, td2, st2, E2, hz1.tr hz9, Or.inl ⟨⟨hn, hd0⟩, (if_pos hq9).symm, hZ9⟩⟩) (by omega) (by omega) dX3_takeDerived_26
    · refine lv_if_ne (tgt := 25) hx hb dX3_takeDerived_10 (by decide) (fun _ => ?_) (fun hz => absurd (by first | exact hz | exact Classical.not_not.mp hz) (nI_ne0 (by omega) (by omega)))
      refine lv_iconst (v := 0) hx hb dX3_takeDerived_25 (by decide) ?_
      exact g_zret (v := 0) hx hb hr hlocks (by rfl) hW (⟨lab, mf, en, td, st, E, hz1, Or.inr (Or.inr ⟨hn, hd0, hZ1⟩)⟩) (by omega) (by omega) dX3_takeDerived_26
