/-! the model: what is asked of it *
-/
set_option maxRecDepth 100000
theorem i2l_le {a b : Int32} : a.toInt64 ≤ b.toInt64 ↔ a ≤ b := by rw [Int64.le_iff_toInt_le, Int32.le_iff_toInt_le, Int32.toInt_toInt64, Int32.toInt_toInt64]
theorem i2l_0 {b : Int32} : (0 : Int64) ≤ b.toInt64 ↔ ¬ b < 0 := by rw [show (0 : Int64) = (0 : Int32).toInt64 from rfl, i2l_le, Int32.not_lt]
theorem nI_ple {a : Int32} {n : Nat} (h : n < 2 ^ 30) : a ≤ nI n - 1 ↔ a < nI n := by
  rw [Int32.le_iff_toInt_le, Int32.lt_iff_toInt_lt, show (1 : Int32) = nI 1 from rfl, pk_sub_toInt h (by decide), nI_toInt (by omega)]
  omega
theorem nI_sle {a : Int32} {n : Nat} (h : n < 2 ^ 30) : a ≤ nI n ↔ a < nI (n + 1) := by
  rw [Int32.le_iff_toInt_le, Int32.lt_iff_toInt_lt, nI_toInt (by omega), nI_toInt (by omega)]
  omega
/-- an index of n -/
abbrev ixO (i : Int32) (n : Nat) : Prop := ¬ i < 0 ∧ i < nI n
theorem ixO_l {i : Int32} {n : Nat} (h : n < 2 ^ 30) : ((0 : Int64) ≤ i.toInt64 ∧ i.toInt64 ≤ (nI n - 1).toInt64) ↔ ixO i n := by unfold ixO; rw [i2l_0, i2l_le, nI_ple h]
theorem ixO_s {i : Int32} {n : Nat} (h : n < 2 ^ 30) : ((0 : Int64) ≤ i.toInt64 ∧ i.toInt64 ≤ (nI n).toInt64) ↔ ixO i (n + 1) := by unfold ixO; rw [i2l_0, i2l_le, nI_sle h]
theorem ixO_n {i : Int32} {n : Nat} (h : n < 2 ^ 30) (k : ixO i n) : ∃ j, i = nI j ∧ j < n ∧ i.toNatClampNeg = j := by
  obtain ⟨j, hj, rfl⟩ := nI_of k.1
  exact ⟨j, rfl, (nI_ltI hj (by omega)).mp k.2, nI_clamp hj⟩
theorem s0_str {D : va_G} {w : g_H} : g_Str D w (D.2 1000 0) [] := ⟨⟨by decide, by decide⟩, Or.inr ⟨0, by decide, rfl, rfl⟩⟩
set_option maxHeartbeats 4000000 in
set_option maxRecDepth 100000 in
/-- Model.thrown -/
theorem mtX3_thrown (l : Launch) (D : va_G) (w : g_H) (sz : Nat) (y : Nat) (mf : Nat → Nat) (lab : Nat → Nat) (P : List mI) (C : List yC) (A9 : Nat → List (List Nat)) (cov : Nat → Bool) (K : List (List Nat)) (fq ac : Nat) (F : List yF) (rn tt cK : Nat) (en td st : Int32) (E : Nat → Bool) (th : Int32) (hZ : g_MZ D w lab y mf P C A9 cov K fq ac F rn tt cK en td st E th) : Met l yX3_thrown (ws_ yX3_thrown cX3_thrown 1 (some .int)) ({ frames := 1, cells := 0, slots := 0, locals := 12 }) (g_Pc D [.ref y] w sz) (g_Qi D w sz (fun r u => r = th ∧ w = u)) (0) (0) (g_A w sz) := by
  refine Met.ofW (cc := cX3_thrown) (maxL := 1) (ret := (some .int)) (by decide) rfl ?_
  intro p e s m args below meth c s₁ B hml hv
  obtain ⟨rfl, hI⟩ := hv
  have hx := B.exec
  have hb := B.bytes
  have hr := B.returns
  have hts := atoms_spec (ws := ws_ yX3_thrown cX3_thrown 1 (some .int)) B.pre
  have hts : ∀ w ∈ lw_all, w.before _ s = true := fun w h => hts w (List.mem_cons_of_mem _ h)
  have hown : s.vm.findClass RX3 = some m.cls := findClass_of_methodNamed B.named
  have hlocks := B.notSynchronized
  have hsz := hI.1
  subst hsz
  have hW := g_W.start hI
  have hK := g_K hI
  have hE := g_E hI
  have hl := lv_entry ([.ref y]) (n := 1) (by exact Nat.le_of_ble_eq_true rfl)
  rw [lg_entry_eq]
  generalize (lg_sl ([.ref y]) ++ List.replicate (1 - (lg_sl ([.ref y])).length) Slot.unset).toArray = ls at hl ⊢
  have hl : lv_has ls 1 [(0, .ref y)] := hl
  obtain ⟨hy, ⟨hly, hL⟩, hP, hR, hC0, hA0, hV0, hK0, hF0, hb9⟩ := id hZ
  refine lv_aload_n hx hb dX3_thrown_0 rfl (lv_at hl 0 rfl) ?_
  refine g_get (ci := 10) (v := .int (th)) (C := RX3) (T := TX3) (N := 28) hx hb hts in_X3 hown hK hW hy rfl 27 (by decide) q1911 (fun _ h9 => h9) rfl dX3_thrown_1 ?_
  exact g_iret (v := th) hx hb hr hlocks hW (⟨rfl, rfl⟩) (by omega) (by omega) dX3_thrown_4
set_option maxHeartbeats 4000000 in
set_option maxRecDepth 100000 in
/-- Model.runs_2 -/
theorem mtX3_runs_2 (l : Launch) (D : va_G) (w : g_H) (sz : Nat) (y : Nat) (mf : Nat → Nat) (lab : Nat → Nat) (P : List mI) (C : List yC) (A9 : Nat → List (List Nat)) (cov : Nat → Bool) (K : List (List Nat)) (fq ac : Nat) (F : List yF) (rn tt cK : Nat) (en td st : Int32) (E : Nat → Bool) (th : Int32) (hZ : g_MZ D w lab y mf P C A9 cov K fq ac F rn tt cK en td st E th) : Met l yX3_runs_2 (ws_ yX3_runs_2 cX3_runs_2 1 (some .int)) ({ frames := 1, cells := 0, slots := 0, locals := 12 }) (g_Pc D [.ref y] w sz) (g_Qi D w sz (fun r u => r = nI rn ∧ g_MZ D u lab y mf P C A9 cov K fq ac F rn tt cK en td st E 0 ∧ zCh w lab u lab)) (0) (0) (g_A w sz) := by
  refine Met.ofW (cc := cX3_runs_2) (maxL := 1) (ret := (some .int)) (by decide) rfl ?_
  intro p e s m args below meth c s₁ B hml hv
  obtain ⟨rfl, hI⟩ := hv
  have hx := B.exec
  have hb := B.bytes
  have hr := B.returns
  have hts := atoms_spec (ws := ws_ yX3_runs_2 cX3_runs_2 1 (some .int)) B.pre
  have hts : ∀ w ∈ lw_all, w.before _ s = true := fun w h => hts w (List.mem_cons_of_mem _ h)
  have hown : s.vm.findClass RX3 = some m.cls := findClass_of_methodNamed B.named
  have hlocks := B.notSynchronized
  have hsz := hI.1
  subst hsz
  have hW := g_W.start hI
  have hK := g_K hI
  have hE := g_E hI
  have hl := lv_entry ([.ref y]) (n := 1) (by exact Nat.le_of_ble_eq_true rfl)
  rw [lg_entry_eq]
  generalize (lg_sl ([.ref y]) ++ List.replicate (1 - (lg_sl ([.ref y])).length) Slot.unset).toArray = ls at hl ⊢
  have hl : lv_has ls 1 [(0, .ref y)] := hl
  obtain ⟨hy, ⟨hly, hL⟩, hP, hR, hC0, hA0, hV0, hK0, hF0, hb9⟩ := id hZ
  have x_1 : g_ex (fun q => q = y) w w := g_ex.rf
  refine lv_aload_n hx hb dX3_runs_2_0 rfl (lv_at hl 0 rfl) ?_
  refine lv_iconst (v := 0) hx hb dX3_runs_2_1 (by decide) ?_
  refine g_putf (ci := 10) (v := .int (0)) (ty := .int) (C := RX3) (T := TX3) (N := 28) hx hb hts in_X3 tyX3 tyX3_ok nmX3 hown hK hW hy rfl 27 (by decide) q1911 (fun _ h9 => h9) rfl (by decide +kernel) rfl rfl (Nat.le_of_ble_eq_true rfl) dX3_runs_2_2 (fun H locs hW => ?_)
  obtain ⟨w_2, ew_2⟩ : ∃ z__, z__ = g_put w y (.inr (10, mO mf (nI P.length) (nI C.length) (en) (td) (st) (nI rn) (lN tt) (nI K.length) (nI fq) (nI ac) (nI F.length) (0))) := ⟨_, rfl⟩
  have hW := g_W.ren hW ew_2 rfl
  have h_3 : g_at w_2 y (.inr (10, mO mf (nI P.length) (nI C.length) (en) (td) (st) (nI rn) (lN tt) (nI K.length) (nI fq) (nI ac) (nI F.length) (0))) := by rw [ew_2]; exact g_at.put_self hy.1
  have x_4 : g_ex (fun q => q = y) w w_2 := by rw [ew_2]; exact x_1.put (fun hz9 => rfl)
  have hZ1 := hZ.obj (rn2 := rn) (tt2 := tt) (fq2 := fq) (ac2 := ac) h_3 x_4 hb9.2.1 hb9.2.2.1 hb9.2.2.2.1 hb9.2.2.2.2
  have hz1 := hZ.zobj x_4
  refine lv_aload_n hx hb dX3_runs_2_5 rfl (lv_at hl 0 rfl) ?_
  refine g_get (ci := 10) (v := .int (nI rn)) (C := RX3) (T := TX3) (N := 28) hx hb hts in_X3 hown hK hW h_3 rfl 16 (by decide) q1900 (fun _ h9 => h9) rfl dX3_runs_2_6 ?_
  exact g_iret (v := nI rn) hx hb hr hlocks hW (⟨rfl, hZ1, hz1⟩) (by omega) (by omega) dX3_runs_2_9
set_option maxHeartbeats 4000000 in
set_option maxRecDepth 100000 in
/-- Model.totalSteps -/
theorem mtX3_totalSteps (l : Launch) (D : va_G) (w : g_H) (sz : Nat) (y : Nat) (mf : Nat → Nat) (lab : Nat → Nat) (P : List mI) (C : List yC) (A9 : Nat → List (List Nat)) (cov : Nat → Bool) (K : List (List Nat)) (fq ac : Nat) (F : List yF) (rn tt cK : Nat) (en td st : Int32) (E : Nat → Bool) (th : Int32) (hZ : g_MZ D w lab y mf P C A9 cov K fq ac F rn tt cK en td st E th) : Met l yX3_totalSteps (ws_ yX3_totalSteps cX3_totalSteps 1 (some .long)) ({ frames := 1, cells := 0, slots := 0, locals := 12 }) (g_Pc D [.ref y] w sz) (g_Ql D w sz (fun r u => r = lN tt ∧ g_MZ D u lab y mf P C A9 cov K fq ac F rn tt cK en td st E 0 ∧ zCh w lab u lab)) (0) (0) (g_A w sz) := by
  refine Met.ofW (cc := cX3_totalSteps) (maxL := 1) (ret := (some .long)) (by decide) rfl ?_
  intro p e s m args below meth c s₁ B hml hv
  obtain ⟨rfl, hI⟩ := hv
  have hx := B.exec
  have hb := B.bytes
  have hr := B.returns
  have hts := atoms_spec (ws := ws_ yX3_totalSteps cX3_totalSteps 1 (some .long)) B.pre
  have hts : ∀ w ∈ lw_all, w.before _ s = true := fun w h => hts w (List.mem_cons_of_mem _ h)
  have hown : s.vm.findClass RX3 = some m.cls := findClass_of_methodNamed B.named
  have hlocks := B.notSynchronized
  have hsz := hI.1
  subst hsz
  have hW := g_W.start hI
  have hK := g_K hI
  have hE := g_E hI
  have hl := lv_entry ([.ref y]) (n := 1) (by exact Nat.le_of_ble_eq_true rfl)
  rw [lg_entry_eq]
  generalize (lg_sl ([.ref y]) ++ List.replicate (1 - (lg_sl ([.ref y])).length) Slot.unset).toArray = ls at hl ⊢
  have hl : lv_has ls 1 [(0, .ref y)] := hl
  obtain ⟨hy, ⟨hly, hL⟩, hP, hR, hC0, hA0, hV0, hK0, hF0, hb9⟩ := id hZ
  have x_1 : g_ex (fun q => q = y) w w := g_ex.rf
  refine lv_aload_n hx hb dX3_totalSteps_0 rfl (lv_at hl 0 rfl) ?_
  refine lv_iconst (v := 0) hx hb dX3_totalSteps_1 (by decide) ?_
  refine g_putf (ci := 10) (v := .int (0)) (ty := .int) (C := RX3) (T := TX3) (N := 28) hx hb hts in_X3 tyX3 tyX3_ok nmX3 hown hK hW hy rfl 27 (by decide) q1911 (fun _ h9 => h9) rfl (by decide +kernel) rfl rfl (Nat.le_of_ble_eq_true rfl) dX3_totalSteps_2 (fun H locs hW => ?_)
  obtain ⟨w_2, ew_2⟩ : ∃ z__, z__ = g_put w y (.inr (10, mO mf (nI P.length) (nI C.length) (en) (td) (st) (nI rn) (lN tt) (nI K.length) (nI fq) (nI ac) (nI F.length) (0))) := ⟨_, rfl⟩
  have hW := g_W.ren hW ew_2 rfl
  have h_3 : g_at w_2 y (.inr (10, mO mf (nI P.length) (nI C.length) (en) (td) (st) (nI rn) (lN tt) (nI K.length) (nI fq) (nI ac) (nI F.length) (0))) := by rw [ew_2]; exact g_at.put_self hy.1
  have x_4 : g_ex (fun q => q = y) w w_2 := by rw [ew_2]; exact x_1.put (fun hz9 => rfl)
  have hZ1 := hZ.obj (rn2 := rn) (tt2 := tt) (fq2 := fq) (ac2 := ac) h_3 x_4 hb9.2.1 hb9.2.2.1 hb9.2.2.2.1 hb9.2.2.2.2
  have hz1 := hZ.zobj x_4
  refine lv_aload_n hx hb dX3_totalSteps_5 rfl (lv_at hl 0 rfl) ?_
  refine g_get (ci := 10) (v := .long (lN tt)) (C := RX3) (T := TX3) (N := 28) hx hb hts in_X3 hown hK hW h_3 rfl 17 (by decide) q1901 (fun _ h9 => h9) rfl dX3_totalSteps_6 ?_
  exact g_lret (v := lN tt) hx hb hr hlocks hW (⟨rfl, hZ1, hz1⟩) (by omega) (by omega) dX3_totalSteps_9
set_option maxHeartbeats 4000000 in
set_option maxRecDepth 100000 in
/-- Model.kept -/
theorem mtX3_kept (l : Launch) (D : va_G) (w : g_H) (sz : Nat) (y : Nat) (mf : Nat → Nat) (lab : Nat → Nat) (P : List mI) (C : List yC) (A9 : Nat → List (List Nat)) (cov : Nat → Bool) (K : List (List Nat)) (fq ac : Nat) (F : List yF) (rn tt cK : Nat) (en td st : Int32) (E : Nat → Bool) (th : Int32) (hZ : g_MZ D w lab y mf P C A9 cov K fq ac F rn tt cK en td st E th) : Met l yX3_kept (ws_ yX3_kept cX3_kept 1 (some .int)) ({ frames := 1, cells := 0, slots := 0, locals := 12 }) (g_Pc D [.ref y] w sz) (g_Qi D w sz (fun r u => r = nI K.length ∧ g_MZ D u lab y mf P C A9 cov K fq ac F rn tt cK en td st E 0 ∧ zCh w lab u lab)) (0) (0) (g_A w sz) := by
  refine Met.ofW (cc := cX3_kept) (maxL := 1) (ret := (some .int)) (by decide) rfl ?_
  intro p e s m args below meth c s₁ B hml hv
  obtain ⟨rfl, hI⟩ := hv
  have hx := B.exec
  have hb := B.bytes
  have hr := B.returns
  have hts := atoms_spec (ws := ws_ yX3_kept cX3_kept 1 (some .int)) B.pre
  have hts : ∀ w ∈ lw_all, w.before _ s = true := fun w h => hts w (List.mem_cons_of_mem _ h)
  have hown : s.vm.findClass RX3 = some m.cls := findClass_of_methodNamed B.named
  have hlocks := B.notSynchronized
  have hsz := hI.1
  subst hsz
  have hW := g_W.start hI
  have hK := g_K hI
  have hE := g_E hI
  have hl := lv_entry ([.ref y]) (n := 1) (by exact Nat.le_of_ble_eq_true rfl)
  rw [lg_entry_eq]
  generalize (lg_sl ([.ref y]) ++ List.replicate (1 - (lg_sl ([.ref y])).length) Slot.unset).toArray = ls at hl ⊢
  have hl : lv_has ls 1 [(0, .ref y)] := hl
  obtain ⟨hy, ⟨hly, hL⟩, hP, hR, hC0, hA0, hV0, hK0, hF0, hb9⟩ := id hZ
  have x_1 : g_ex (fun q => q = y) w w := g_ex.rf
  refine lv_aload_n hx hb dX3_kept_0 rfl (lv_at hl 0 rfl) ?_
  refine lv_iconst (v := 0) hx hb dX3_kept_1 (by decide) ?_
  refine g_putf (ci := 10) (v := .int (0)) (ty := .int) (C := RX3) (T := TX3) (N := 28) hx hb hts in_X3 tyX3 tyX3_ok nmX3 hown hK hW hy rfl 27 (by decide) q1911 (fun _ h9 => h9) rfl (by decide +kernel) rfl rfl (Nat.le_of_ble_eq_true rfl) dX3_kept_2 (fun H locs hW => ?_)
  obtain ⟨w_2, ew_2⟩ : ∃ z__, z__ = g_put w y (.inr (10, mO mf (nI P.length) (nI C.length) (en) (td) (st) (nI rn) (lN tt) (nI K.length) (nI fq) (nI ac) (nI F.length) (0))) := ⟨_, rfl⟩
  have hW := g_W.ren hW ew_2 rfl
  have h_3 : g_at w_2 y (.inr (10, mO mf (nI P.length) (nI C.length) (en) (td) (st) (nI rn) (lN tt) (nI K.length) (nI fq) (nI ac) (nI F.length) (0))) := by rw [ew_2]; exact g_at.put_self hy.1
  have x_4 : g_ex (fun q => q = y) w w_2 := by rw [ew_2]; exact x_1.put (fun hz9 => rfl)
  have hZ1 := hZ.obj (rn2 := rn) (tt2 := tt) (fq2 := fq) (ac2 := ac) h_3 x_4 hb9.2.1 hb9.2.2.1 hb9.2.2.2.1 hb9.2.2.2.2
  have hz1 := hZ.zobj x_4
  refine lv_aload_n hx hb dX3_kept_5 rfl (lv_at hl 0 rfl) ?_
  refine g_get (ci := 10) (v := .int (nI K.length)) (C := RX3) (T := TX3) (N := 28) hx hb hts in_X3 hown hK hW h_3 rfl 20 (by decide) q1904 (fun _ h9 => h9) rfl dX3_kept_6 ?_
  exact g_iret (v := nI K.length) hx hb hr hlocks hW (⟨rfl, hZ1, hz1⟩) (by omega) (by omega) dX3_kept_9
set_option maxHeartbeats 4000000 in
set_option maxRecDepth 100000 in
/-- Model.findings -/
theorem mtX3_findings (l : Launch) (D : va_G) (w : g_H) (sz : Nat) (y : Nat) (mf : Nat → Nat) (lab : Nat → Nat) (P : List mI) (C : List yC) (A9 : Nat → List (List Nat)) (cov : Nat → Bool) (K : List (List Nat)) (fq ac : Nat) (F : List yF) (rn tt cK : Nat) (en td st : Int32) (E : Nat → Bool) (th : Int32) (hZ : g_MZ D w lab y mf P C A9 cov K fq ac F rn tt cK en td st E th) : Met l yX3_findings (ws_ yX3_findings cX3_findings 1 (some .int)) ({ frames := 1, cells := 0, slots := 0, locals := 12 }) (g_Pc D [.ref y] w sz) (g_Qi D w sz (fun r u => r = nI F.length ∧ g_MZ D u lab y mf P C A9 cov K fq ac F rn tt cK en td st E 0 ∧ zCh w lab u lab)) (0) (0) (g_A w sz) := by
  refine Met.ofW (cc := cX3_findings) (maxL := 1) (ret := (some .int)) (by decide) rfl ?_
  intro p e s m args below meth c s₁ B hml hv
  obtain ⟨rfl, hI⟩ := hv
  have hx := B.exec
  have hb := B.bytes
  have hr := B.returns
  have hts := atoms_spec (ws := ws_ yX3_findings cX3_findings 1 (some .int)) B.pre
  have hts : ∀ w ∈ lw_all, w.before _ s = true := fun w h => hts w (List.mem_cons_of_mem _ h)
  have hown : s.vm.findClass RX3 = some m.cls := findClass_of_methodNamed B.named
  have hlocks := B.notSynchronized
  have hsz := hI.1
  subst hsz
  have hW := g_W.start hI
  have hK := g_K hI
  have hE := g_E hI
  have hl := lv_entry ([.ref y]) (n := 1) (by exact Nat.le_of_ble_eq_true rfl)
  rw [lg_entry_eq]
  generalize (lg_sl ([.ref y]) ++ List.replicate (1 - (lg_sl ([.ref y])).length) Slot.unset).toArray = ls at hl ⊢
  have hl : lv_has ls 1 [(0, .ref y)] := hl
  obtain ⟨hy, ⟨hly, hL⟩, hP, hR, hC0, hA0, hV0, hK0, hF0, hb9⟩ := id hZ
  have x_1 : g_ex (fun q => q = y) w w := g_ex.rf
  refine lv_aload_n hx hb dX3_findings_0 rfl (lv_at hl 0 rfl) ?_
  refine lv_iconst (v := 0) hx hb dX3_findings_1 (by decide) ?_
  refine g_putf (ci := 10) (v := .int (0)) (ty := .int) (C := RX3) (T := TX3) (N := 28) hx hb hts in_X3 tyX3 tyX3_ok nmX3 hown hK hW hy rfl 27 (by decide) q1911 (fun _ h9 => h9) rfl (by decide +kernel) rfl rfl (Nat.le_of_ble_eq_true rfl) dX3_findings_2 (fun H locs hW => ?_)
  obtain ⟨w_2, ew_2⟩ : ∃ z__, z__ = g_put w y (.inr (10, mO mf (nI P.length) (nI C.length) (en) (td) (st) (nI rn) (lN tt) (nI K.length) (nI fq) (nI ac) (nI F.length) (0))) := ⟨_, rfl⟩
  have hW := g_W.ren hW ew_2 rfl
  have h_3 : g_at w_2 y (.inr (10, mO mf (nI P.length) (nI C.length) (en) (td) (st) (nI rn) (lN tt) (nI K.length) (nI fq) (nI ac) (nI F.length) (0))) := by rw [ew_2]; exact g_at.put_self hy.1
  have x_4 : g_ex (fun q => q = y) w w_2 := by rw [ew_2]; exact x_1.put (fun hz9 => rfl)
  have hZ1 := hZ.obj (rn2 := rn) (tt2 := tt) (fq2 := fq) (ac2 := ac) h_3 x_4 hb9.2.1 hb9.2.2.1 hb9.2.2.2.1 hb9.2.2.2.2
  have hz1 := hZ.zobj x_4
  refine lv_aload_n hx hb dX3_findings_5 rfl (lv_at hl 0 rfl) ?_
  refine g_get (ci := 10) (v := .int (nI F.length)) (C := RX3) (T := TX3) (N := 28) hx hb hts in_X3 hown hK hW h_3 rfl 26 (by decide) q1910 (fun _ h9 => h9) rfl dX3_findings_6 ?_
  exact g_iret (v := nI F.length) hx hb hr hlocks hW (⟨rfl, hZ1, hz1⟩) (by omega) (by omega) dX3_findings_9
set_option maxHeartbeats 4000000 in
set_option maxRecDepth 100000 in
/-- Model.queued -/
theorem mtX3_queued (l : Launch) (D : va_G) (w : g_H) (sz : Nat) (y : Nat) (mf : Nat → Nat) (lab : Nat → Nat) (P : List mI) (C : List yC) (A9 : Nat → List (List Nat)) (cov : Nat → Bool) (K : List (List Nat)) (fq ac : Nat) (F : List yF) (rn tt cK : Nat) (en td st : Int32) (E : Nat → Bool) (th : Int32) (hZ : g_MZ D w lab y mf P C A9 cov K fq ac F rn tt cK en td st E th) : Met l yX3_queued (ws_ yX3_queued cX3_queued 1 (some .int)) ({ frames := 1, cells := 0, slots := 0, locals := 12 }) (g_Pc D [.ref y] w sz) (g_Qi D w sz (fun r u => r = nI (K.length - fq) ∧ g_MZ D u lab y mf P C A9 cov K fq ac F rn tt cK en td st E 0 ∧ zCh w lab u lab)) (0) (0) (g_A w sz) := by
  refine Met.ofW (cc := cX3_queued) (maxL := 1) (ret := (some .int)) (by decide) rfl ?_
  intro p e s m args below meth c s₁ B hml hv
  obtain ⟨rfl, hI⟩ := hv
  have hx := B.exec
  have hb := B.bytes
  have hr := B.returns
  have hts := atoms_spec (ws := ws_ yX3_queued cX3_queued 1 (some .int)) B.pre
  have hts : ∀ w ∈ lw_all, w.before _ s = true := fun w h => hts w (List.mem_cons_of_mem _ h)
  have hown : s.vm.findClass RX3 = some m.cls := findClass_of_methodNamed B.named
  have hlocks := B.notSynchronized
  have hsz := hI.1
  subst hsz
  have hW := g_W.start hI
  have hK := g_K hI
  have hE := g_E hI
  have hl := lv_entry ([.ref y]) (n := 1) (by exact Nat.le_of_ble_eq_true rfl)
  rw [lg_entry_eq]
  generalize (lg_sl ([.ref y]) ++ List.replicate (1 - (lg_sl ([.ref y])).length) Slot.unset).toArray = ls at hl ⊢
  have hl : lv_has ls 1 [(0, .ref y)] := hl
  obtain ⟨hy, ⟨hly, hL⟩, hP, hR, hC0, hA0, hV0, hK0, hF0, hb9⟩ := id hZ
  have x_1 : g_ex (fun q => q = y) w w := g_ex.rf
  refine lv_aload_n hx hb dX3_queued_0 rfl (lv_at hl 0 rfl) ?_
  refine lv_iconst (v := 0) hx hb dX3_queued_1 (by decide) ?_
  refine g_putf (ci := 10) (v := .int (0)) (ty := .int) (C := RX3) (T := TX3) (N := 28) hx hb hts in_X3 tyX3 tyX3_ok nmX3 hown hK hW hy rfl 27 (by decide) q1911 (fun _ h9 => h9) rfl (by decide +kernel) rfl rfl (Nat.le_of_ble_eq_true rfl) dX3_queued_2 (fun H locs hW => ?_)
  obtain ⟨w_2, ew_2⟩ : ∃ z__, z__ = g_put w y (.inr (10, mO mf (nI P.length) (nI C.length) (en) (td) (st) (nI rn) (lN tt) (nI K.length) (nI fq) (nI ac) (nI F.length) (0))) := ⟨_, rfl⟩
  have hW := g_W.ren hW ew_2 rfl
  have h_3 : g_at w_2 y (.inr (10, mO mf (nI P.length) (nI C.length) (en) (td) (st) (nI rn) (lN tt) (nI K.length) (nI fq) (nI ac) (nI F.length) (0))) := by rw [ew_2]; exact g_at.put_self hy.1
  have x_4 : g_ex (fun q => q = y) w w_2 := by rw [ew_2]; exact x_1.put (fun hz9 => rfl)
  have hZ1 := hZ.obj (rn2 := rn) (tt2 := tt) (fq2 := fq) (ac2 := ac) h_3 x_4 hb9.2.1 hb9.2.2.1 hb9.2.2.2.1 hb9.2.2.2.2
  have hz1 := hZ.zobj x_4
  refine lv_aload_n hx hb dX3_queued_5 rfl (lv_at hl 0 rfl) ?_
  refine g_get (ci := 10) (v := .int (nI K.length)) (C := RX3) (T := TX3) (N := 28) hx hb hts in_X3 hown hK hW h_3 rfl 20 (by decide) q1904 (fun _ h9 => h9) rfl dX3_queued_6 ?_
  refine lv_aload_n hx hb dX3_queued_9 rfl (lv_at hl 0 rfl) ?_
  refine g_get (ci := 10) (v := .int (nI fq)) (C := RX3) (T := TX3) (N := 28) hx hb hts in_X3 hown hK hW h_3 rfl 21 (by decide) q1905 (fun _ h9 => h9) rfl dX3_queued_10 ?_
  refine lv_isub hx hb dX3_queued_13 ?_
  refine g_topi (y := nI (K.length - fq)) (pk_sub hb9.2.2.2.1) ?_
  exact g_iret (v := nI (K.length - fq)) hx hb hr hlocks hW (⟨rfl, hZ1, hz1⟩) (by omega) (by omega) dX3_queued_14
set_option maxHeartbeats 4000000 in
set_option maxRecDepth 100000 in
/-- Model.covered -/
theorem mtX3_covered (l : Launch) (D : va_G) (w : g_H) (sz : Nat) (y : Nat) (mf : Nat → Nat) (lab : Nat → Nat) (P : List mI) (C : List yC) (A9 : Nat → List (List Nat)) (cov : Nat → Bool) (K : List (List Nat)) (fq ac : Nat) (F : List yF) (rn tt cK : Nat) (en td st : Int32) (E : Nat → Bool) (th : Int32) (hZ : g_MZ D w lab y mf P C A9 cov K fq ac F rn tt cK en td st E th) : Met l yX3_covered (ws_ yX3_covered cX3_covered 1 (some .int)) ({ frames := 2, cells := 0, slots := 0, locals := 35 }) (g_Pc D [.ref y] w sz) (g_Qi D w sz (fun r u => r = nI (fb_ct cov 272) ∧ g_MZ D u lab y mf P C A9 cov K fq ac F rn tt cK en td st E 0 ∧ zCh w lab u lab)) (0) (0) (g_A w sz) := by
  refine Met.ofW (cc := cX3_covered) (maxL := 1) (ret := (some .int)) (by decide) rfl ?_
  intro p e s m args below meth c s₁ B hml hv
  obtain ⟨rfl, hI⟩ := hv
  have hx := B.exec
  have hb := B.bytes
  have hr := B.returns
  have hts := atoms_spec (ws := ws_ yX3_covered cX3_covered 1 (some .int)) B.pre
  have hts : ∀ w ∈ lw_all, w.before _ s = true := fun w h => hts w (List.mem_cons_of_mem _ h)
  have hown : s.vm.findClass RX3 = some m.cls := findClass_of_methodNamed B.named
  have hlocks := B.notSynchronized
  have hsz := hI.1
  subst hsz
  have hW := g_W.start hI
  have hK := g_K hI
  have hE := g_E hI
  have hl := lv_entry ([.ref y]) (n := 1) (by exact Nat.le_of_ble_eq_true rfl)
  rw [lg_entry_eq]
  generalize (lg_sl ([.ref y]) ++ List.replicate (1 - (lg_sl ([.ref y])).length) Slot.unset).toArray = ls at hl ⊢
  have hl : lv_has ls 1 [(0, .ref y)] := hl
  obtain ⟨hy, ⟨hly, hL⟩, hP, hR, hC0, hA0, hV0, hK0, hF0, hb9⟩ := id hZ
  have x_1 : g_ex (fun q => q = y) w w := g_ex.rf
  refine lv_aload_n hx hb dX3_covered_0 rfl (lv_at hl 0 rfl) ?_
  refine lv_iconst (v := 0) hx hb dX3_covered_1 (by decide) ?_
  refine g_putf (ci := 10) (v := .int (0)) (ty := .int) (C := RX3) (T := TX3) (N := 28) hx hb hts in_X3 tyX3 tyX3_ok nmX3 hown hK hW hy rfl 27 (by decide) q1911 (fun _ h9 => h9) rfl (by decide +kernel) rfl rfl (Nat.le_of_ble_eq_true rfl) dX3_covered_2 (fun H locs hW => ?_)
  obtain ⟨w_2, ew_2⟩ : ∃ z__, z__ = g_put w y (.inr (10, mO mf (nI P.length) (nI C.length) (en) (td) (st) (nI rn) (lN tt) (nI K.length) (nI fq) (nI ac) (nI F.length) (0))) := ⟨_, rfl⟩
  have hW := g_W.ren hW ew_2 rfl
  have h_3 : g_at w_2 y (.inr (10, mO mf (nI P.length) (nI C.length) (en) (td) (st) (nI rn) (lN tt) (nI K.length) (nI fq) (nI ac) (nI F.length) (0))) := by rw [ew_2]; exact g_at.put_self hy.1
  have x_4 : g_ex (fun q => q = y) w w_2 := by rw [ew_2]; exact x_1.put (fun hz9 => rfl)
  have hZ1 := hZ.obj (rn2 := rn) (tt2 := tt) (fq2 := fq) (ac2 := ac) h_3 x_4 hb9.2.1 hb9.2.2.1 hb9.2.2.2.1 hb9.2.2.2.2
  have hz1 := hZ.zobj x_4
  refine lv_aload_n hx hb dX3_covered_5 rfl (lv_at hl 0 rfl) ?_
  refine lv_aload_n hx hb dX3_covered_6 rfl (lv_at hl 0 rfl) ?_
  refine g_get (ci := 10) (v := .ref (mf 18)) (C := RX3) (T := TX3) (N := 28) hx hb hts in_X3 hown hK hW h_3 rfl 18 (by decide) q1902 (fun _ h9 => h9) rfl dX3_covered_7 ?_
  obtain ⟨f18, a18, e18⟩ := id hZ1.2.2.2.2.2.2.1
  refine g_calli (va_runV (As := [.ref (mf 18)]) (rest := []) ⟨hx, hb, hml, hown, hts⟩ (mtX3_edgeMany l D w_2 H.size y (mf 18) 272 cov f18 a18 (by decide) (fun e he => e18 e he)) (cwV 1 hts (lw_V q2119 q2121 qs31 q47 q2122) rfl rfl rfl (by decide +kernel) ⟨Nat.le_of_ble_eq_true rfl, Nat.le_of_ble_eq_true rfl⟩) (g_preV hW hK hE h_3 rfl) rfl rfl hl.1 rfl (lv_room (Nat.le_of_ble_eq_true rfl)) dX3_covered_10 ⟨Nat.le_of_ble_eq_true rfl, Nat.le_of_ble_eq_true rfl⟩) hW (fun r_ u_ H locs hp hW => ?_)
  obtain ⟨er, rfl⟩ := hp
  subst er
  exact g_iret (v := nI (fb_ct cov 272)) hx hb hr hlocks hW (⟨rfl, hZ1, hz1⟩) (by omega) (by omega) dX3_covered_13
set_option maxHeartbeats 4000000 in
set_option maxRecDepth 100000 in
/-- Model.keptAt -/
theorem mtX3_keptAt (l : Launch) (D : va_G) (w : g_H) (sz : Nat) (y : Nat) (mf : Nat → Nat) (lab : Nat → Nat) (P : List mI) (C : List yC) (A9 : Nat → List (List Nat)) (cov : Nat → Bool) (K : List (List Nat)) (fq ac : Nat) (F : List yF) (rn tt cK : Nat) (en td st : Int32) (E : Nat → Bool) (th : Int32) (hZ : g_MZ D w lab y mf P C A9 cov K fq ac F rn tt cK en td st E th) (i9 : Int32) : Met l yX3_keptAt (ws_ yX3_keptAt cX3_keptAt 2 (some (.object "java/lang/String"))) ({ frames := 2, cells := 0, slots := 0, locals := 37 }) (g_Pc D [.ref y, .int (i9)] w sz) (g_Qq D w sz (fun r u => (∃ s9, r = some s9 ∧ (ixO i9 K.length → g_Str D u s9 (txt (K.getD i9.toNatClampNeg [])))) ∧ g_MZ D u lab y mf P C A9 cov K fq ac F rn tt cK en td st E (if ixO i9 K.length then 0 else 1) ∧ zCh w lab u lab)) (0) (0) (g_A w sz) := by
  refine Met.ofW (cc := cX3_keptAt) (maxL := 2) (ret := (some (.object "java/lang/String"))) (by decide) rfl ?_
  intro p e s m args below meth c s₁ B hml hv
  obtain ⟨rfl, hI⟩ := hv
  have hx := B.exec
  have hb := B.bytes
  have hr := B.returns
  have hts := atoms_spec (ws := ws_ yX3_keptAt cX3_keptAt 2 (some (.object "java/lang/String"))) B.pre
  have hts : ∀ w ∈ lw_all, w.before _ s = true := fun w h => hts w (List.mem_cons_of_mem _ h)
  have hown : s.vm.findClass RX3 = some m.cls := findClass_of_methodNamed B.named
  have hlocks := B.notSynchronized
  have hsz := hI.1
  subst hsz
  have hW := g_W.start hI
  have hK := g_K hI
  have hE := g_E hI
  have hl := lv_entry ([.ref y, .int (i9)]) (n := 2) (by exact Nat.le_of_ble_eq_true rfl)
  rw [lg_entry_eq]
  generalize (lg_sl ([.ref y, .int (i9)]) ++ List.replicate (2 - (lg_sl ([.ref y, .int (i9)])).length) Slot.unset).toArray = ls at hl ⊢
  have hl : lv_has ls 2 [(0, .ref y), (1, .int (i9))] := hl
  obtain ⟨hy, ⟨hly, hL⟩, hP, hR, hC0, hA0, hV0, hK0, hF0, hb9⟩ := id hZ
  have x_1 : g_ex (fun q => q = y) w w := g_ex.rf
  refine lv_aload_n hx hb dX3_keptAt_0 rfl (lv_at hl 0 rfl) ?_
  refine lv_iload_n hx hb dX3_keptAt_1 rfl (lv_at hl 1 rfl) ?_
  refine lv_i2l (v := (i9 : Int32).toInt64) hx hb dX3_keptAt_2 rfl ?_
  refine lv_lconst (v := 0) hx hb dX3_keptAt_3 rfl ?_
  refine lv_aload_n hx hb dX3_keptAt_4 rfl (lv_at hl 0 rfl) ?_
  refine g_get (ci := 10) (v := .int (nI K.length)) (C := RX3) (T := TX3) (N := 28) hx hb hts in_X3 hown hK hW hy rfl 20 (by decide) q1904 (fun _ h9 => h9) rfl dX3_keptAt_5 ?_
  refine lv_iconst (v := 1) hx hb dX3_keptAt_8 (by decide) ?_
  refine lv_isub hx hb dX3_keptAt_9 ?_
  refine lv_i2l (v := ((nI K.length) - (1) : Int32).toInt64) hx hb dX3_keptAt_10 rfl ?_
  have hin := ixO_l (i := i9) (n := K.length) (by omega)
  refine g_calli (va_runS (As := [.long ((i9 : Int32).toInt64), .long (0), .long (((nI K.length) - (1) : Int32).toInt64)]) (rest := [.ref y]) ⟨hx, hb, hml, hown, hts⟩ (mtX3_in l D w s.heap.size ((i9 : Int32).toInt64) (0) (((nI K.length) - (1) : Int32).toInt64)) (va_cwS 3 hts (lw_S q1980 q1981 q47 q1982) rfl rfl rfl (by decide +kernel) ⟨Nat.le_of_ble_eq_true rfl, Nat.le_of_ble_eq_true rfl⟩) (g_preS hW hK hE) rfl rfl hl.1 rfl (lv_room (Nat.le_of_ble_eq_true rfl)) dX3_keptAt_11 ⟨Nat.le_of_ble_eq_true rfl, Nat.le_of_ble_eq_true rfl⟩) hW (fun r_ u_ H locs hp hW => ?_)
  obtain ⟨er, rfl⟩ := hp
  subst er
  by_cases hq9 : 0 ≤ i9.toInt64 ∧ i9.toInt64 ≤ (nI K.length - 1).toInt64
  · rw [if_pos hq9]
    refine lv_if_eq (tgt := 21) hx hb dX3_keptAt_14 (by decide) (fun hz => absurd hz (by decide)) (fun _ => ?_)
    have hc : ixO i9 K.length := hin.mp hq9
    refine lv_iconst (v := 0) hx hb dX3_keptAt_17 (by decide) ?_
    refine lv_goto (tgt := 22) hx hb dX3_keptAt_18 (by decide) ?_
    refine g_putf (ci := 10) (v := .int (0)) (ty := .int) (C := RX3) (T := TX3) (N := 28) hx hb hts in_X3 tyX3 tyX3_ok nmX3 hown hK hW hy rfl 27 (by decide) q1911 (fun _ h9 => h9) rfl (by decide +kernel) rfl rfl (Nat.le_of_ble_eq_true rfl) dX3_keptAt_22 (fun H locs hW => ?_)
    obtain ⟨w_2, ew_2⟩ : ∃ z__, z__ = g_put w y (.inr (10, mO mf (nI P.length) (nI C.length) (en) (td) (st) (nI rn) (lN tt) (nI K.length) (nI fq) (nI ac) (nI F.length) (0))) := ⟨_, rfl⟩
    have hW := g_W.ren hW ew_2 rfl
    have h_3 : g_at w_2 y (.inr (10, mO mf (nI P.length) (nI C.length) (en) (td) (st) (nI rn) (lN tt) (nI K.length) (nI fq) (nI ac) (nI F.length) (0))) := by rw [ew_2]; exact g_at.put_self hy.1
    have x_4 : g_ex (fun q => q = y) w w_2 := by rw [ew_2]; exact x_1.put (fun hz9 => rfl)
    have hZ1 := hZ.obj (rn2 := rn) (tt2 := tt) (fq2 := fq) (ac2 := ac) h_3 x_4 hb9.2.1 hb9.2.2.1 hb9.2.2.2.1 hb9.2.2.2.2
    have hz1 := hZ.zobj x_4
    refine lv_aload_n hx hb dX3_keptAt_25 rfl (lv_at hl 0 rfl) ?_
    refine g_get (ci := 10) (v := .int (0)) (C := RX3) (T := TX3) (N := 28) hx hb hts in_X3 hown hK hW h_3 rfl 27 (by decide) q1911 (fun _ h9 => h9) rfl dX3_keptAt_26 ?_
    refine lv_if_ne (tgt := 41) hx hb dX3_keptAt_29 (by decide) (fun hz => absurd rfl hz) (fun _ => ?_)
    obtain ⟨j, hj, hjl, ej⟩ := ixO_n (by omega) hc
    subst hj
    obtain ⟨f19, a19, hk1, hk2, hk3, hk4⟩ := id hZ1.2.2.2.2.2.2.2.1
    obtain ⟨t9, e1, e2⟩ := hk4 j hjl
    refine lv_aload_n hx hb dX3_keptAt_32 rfl (lv_at hl 0 rfl) ?_
    refine g_get (ci := 10) (v := .ref (mf 19)) (C := RX3) (T := TX3) (N := 28) hx hb hts in_X3 hown hK hW h_3 rfl 19 (by decide) q1903 (fun _ h9 => h9) rfl dX3_keptAt_33 ?_
    refine lv_iload_n hx hb dX3_keptAt_36 rfl (lv_at hl 1 rfl) ?_
    refine g_aldSt (n := cK) (i := j) (y := t9) hx hb hK hW a19 (by omega) (by omega) e1 dX3_keptAt_37 ?_
    refine lv_goto (tgt := 43) hx hb dX3_keptAt_38 (by decide) ?_
    exact g_qret (v := some t9) hx hb hr (Or.inl ⟨_, rfl⟩) hlocks hW (⟨⟨t9, rfl, fun _ => by rw [ej]; exact e2⟩, by rw [if_pos hc]; exact hZ1, hz1⟩) (by omega) (by omega) dX3_keptAt_43
  · rw [if_neg hq9]
    refine lv_if_eq (tgt := 21) hx hb dX3_keptAt_14 (by decide) (fun _ => ?_) (fun hz => absurd rfl hz)
    have hc : ¬ (ixO i9 K.length) := fun z => hq9 (hin.mpr z)
    refine lv_iconst (v := 1) hx hb dX3_keptAt_21 (by decide) ?_
    refine g_putf (ci := 10) (v := .int (1)) (ty := .int) (C := RX3) (T := TX3) (N := 28) hx hb hts in_X3 tyX3 tyX3_ok nmX3 hown hK hW hy rfl 27 (by decide) q1911 (fun _ h9 => h9) rfl (by decide +kernel) rfl rfl (Nat.le_of_ble_eq_true rfl) dX3_keptAt_22 (fun H locs hW => ?_)
    obtain ⟨w_5, ew_5⟩ : ∃ z__, z__ = g_put w y (.inr (10, mO mf (nI P.length) (nI C.length) (en) (td) (st) (nI rn) (lN tt) (nI K.length) (nI fq) (nI ac) (nI F.length) (1))) := ⟨_, rfl⟩
    have hW := g_W.ren hW ew_5 rfl
    have h_6 : g_at w_5 y (.inr (10, mO mf (nI P.length) (nI C.length) (en) (td) (st) (nI rn) (lN tt) (nI K.length) (nI fq) (nI ac) (nI F.length) (1))) := by rw [ew_5]; exact g_at.put_self hy.1
    have x_7 : g_ex (fun q => q = y) w w_5 := by rw [ew_5]; exact x_1.put (fun hz9 => rfl)
    have hZ1 := hZ.obj (rn2 := rn) (tt2 := tt) (fq2 := fq) (ac2 := ac) h_6 x_7 hb9.2.1 hb9.2.2.1 hb9.2.2.2.1 hb9.2.2.2.2
    have hz1 := hZ.zobj x_7
    refine lv_aload_n hx hb dX3_keptAt_25 rfl (lv_at hl 0 rfl) ?_
    refine g_get (ci := 10) (v := .int (1)) (C := RX3) (T := TX3) (N := 28) hx hb hts in_X3 hown hK hW h_6 rfl 27 (by decide) q1911 (fun _ h9 => h9) rfl dX3_keptAt_26 ?_
    refine lv_if_ne (tgt := 41) hx hb dX3_keptAt_29 (by decide) (fun _ => ?_) (fun hz => absurd (by first | exact hz | exact Classical.not_not.mp hz) (by decide))
    refine va_ldcS hx hb hown (rs_16 hE) dX3_keptAt_41 ?_
    exact g_qret (v := some (D.2 1000 0)) hx hb hr (Or.inl ⟨_, rfl⟩) hlocks hW (⟨⟨_, rfl, fun z => absurd z hc⟩, by rw [if_neg hc]; exact hZ1, hz1⟩) (by omega) (by omega) dX3_keptAt_43
set_option maxHeartbeats 4000000 in
set_option maxRecDepth 100000 in
/-- Model.findingAt -/
theorem mtX3_findingAt (l : Launch) (D : va_G) (w : g_H) (sz : Nat) (y : Nat) (mf : Nat → Nat) (lab : Nat → Nat) (P : List mI) (C : List yC) (A9 : Nat → List (List Nat)) (cov : Nat → Bool) (K : List (List Nat)) (fq ac : Nat) (F : List yF) (rn tt cK : Nat) (en td st : Int32) (E : Nat → Bool) (th : Int32) (hZ : g_MZ D w lab y mf P C A9 cov K fq ac F rn tt cK en td st E th) (i9 : Int32) : Met l yX3_findingAt (ws_ yX3_findingAt cX3_findingAt 2 (some (.object "Finding"))) ({ frames := 2, cells := 1, slots := 6, locals := 37 }) (g_Pc D [.ref y, .int (i9)] w sz) (g_Qq D w sz (fun r u => (∃ q9, r = some q9 ∧ (ixO i9 F.length → g_Fins D u [q9] [F.getD i9.toNatClampNeg ([], [], 0)])) ∧ g_MZ D u lab y mf P C A9 cov K fq ac F rn tt cK en td st E (if ixO i9 F.length then 0 else 1) ∧ zCh w lab u lab)) (1) (6) (g_A w sz) := by
  refine Met.ofW (cc := cX3_findingAt) (maxL := 2) (ret := (some (.object "Finding"))) (by decide) rfl ?_
  intro p e s m args below meth c s₁ B hml hv
  obtain ⟨rfl, hI⟩ := hv
  have hx := B.exec
  have hb := B.bytes
  have hr := B.returns
  have hts := atoms_spec (ws := ws_ yX3_findingAt cX3_findingAt 2 (some (.object "Finding"))) B.pre
  have hts : ∀ w ∈ lw_all, w.before _ s = true := fun w h => hts w (List.mem_cons_of_mem _ h)
  have hown : s.vm.findClass RX3 = some m.cls := findClass_of_methodNamed B.named
  have hlocks := B.notSynchronized
  have hsz := hI.1
  subst hsz
  have hW := g_W.start hI
  have hK := g_K hI
  have hE := g_E hI
  have hl := lv_entry ([.ref y, .int (i9)]) (n := 2) (by exact Nat.le_of_ble_eq_true rfl)
  rw [lg_entry_eq]
  generalize (lg_sl ([.ref y, .int (i9)]) ++ List.replicate (2 - (lg_sl ([.ref y, .int (i9)])).length) Slot.unset).toArray = ls at hl ⊢
  have hl : lv_has ls 2 [(0, .ref y), (1, .int (i9))] := hl
  obtain ⟨hy, ⟨hly, hL⟩, hP, hR, hC0, hA0, hV0, hK0, hF0, hb9⟩ := id hZ
  have x_1 : g_ex (fun q => q = y) w w := g_ex.rf
  have hfl : F.length ≤ 16 := by obtain ⟨_, _, _, _, _, _, h, _⟩ := hF0; exact h
  refine lv_aload_n hx hb dX3_findingAt_0 rfl (lv_at hl 0 rfl) ?_
  refine lv_iload_n hx hb dX3_findingAt_1 rfl (lv_at hl 1 rfl) ?_
  refine lv_i2l (v := (i9 : Int32).toInt64) hx hb dX3_findingAt_2 rfl ?_
  refine lv_lconst (v := 0) hx hb dX3_findingAt_3 rfl ?_
  refine lv_aload_n hx hb dX3_findingAt_4 rfl (lv_at hl 0 rfl) ?_
  refine g_get (ci := 10) (v := .int (nI F.length)) (C := RX3) (T := TX3) (N := 28) hx hb hts in_X3 hown hK hW hy rfl 26 (by decide) q1910 (fun _ h9 => h9) rfl dX3_findingAt_5 ?_
  refine lv_iconst (v := 1) hx hb dX3_findingAt_8 (by decide) ?_
  refine lv_isub hx hb dX3_findingAt_9 ?_
  refine lv_i2l (v := ((nI F.length) - (1) : Int32).toInt64) hx hb dX3_findingAt_10 rfl ?_
  have hin := ixO_l (i := i9) (n := F.length) (by omega)
  refine g_calli (va_runS (As := [.long ((i9 : Int32).toInt64), .long (0), .long (((nI F.length) - (1) : Int32).toInt64)]) (rest := [.ref y]) ⟨hx, hb, hml, hown, hts⟩ (mtX3_in l D w s.heap.size ((i9 : Int32).toInt64) (0) (((nI F.length) - (1) : Int32).toInt64)) (va_cwS 3 hts (lw_S q1980 q1981 q47 q1982) rfl rfl rfl (by decide +kernel) ⟨Nat.le_of_ble_eq_true rfl, Nat.le_of_ble_eq_true rfl⟩) (g_preS hW hK hE) rfl rfl hl.1 rfl (lv_room (Nat.le_of_ble_eq_true rfl)) dX3_findingAt_11 ⟨Nat.le_of_ble_eq_true rfl, Nat.le_of_ble_eq_true rfl⟩) hW (fun r_ u_ H locs hp hW => ?_)
  obtain ⟨er, rfl⟩ := hp
  subst er
  by_cases hq9 : 0 ≤ i9.toInt64 ∧ i9.toInt64 ≤ (nI F.length - 1).toInt64
  · rw [if_pos hq9]
    refine lv_if_eq (tgt := 21) hx hb dX3_findingAt_14 (by decide) (fun hz => absurd hz (by decide)) (fun _ => ?_)
    have hc : ixO i9 F.length := hin.mp hq9
    refine lv_iconst (v := 0) hx hb dX3_findingAt_17 (by decide) ?_
    refine lv_goto (tgt := 22) hx hb dX3_findingAt_18 (by decide) ?_
    refine g_putf (ci := 10) (v := .int (0)) (ty := .int) (C := RX3) (T := TX3) (N := 28) hx hb hts in_X3 tyX3 tyX3_ok nmX3 hown hK hW hy rfl 27 (by decide) q1911 (fun _ h9 => h9) rfl (by decide +kernel) rfl rfl (Nat.le_of_ble_eq_true rfl) dX3_findingAt_22 (fun H locs hW => ?_)
    obtain ⟨w_2, ew_2⟩ : ∃ z__, z__ = g_put w y (.inr (10, mO mf (nI P.length) (nI C.length) (en) (td) (st) (nI rn) (lN tt) (nI K.length) (nI fq) (nI ac) (nI F.length) (0))) := ⟨_, rfl⟩
    have hW := g_W.ren hW ew_2 rfl
    have h_3 : g_at w_2 y (.inr (10, mO mf (nI P.length) (nI C.length) (en) (td) (st) (nI rn) (lN tt) (nI K.length) (nI fq) (nI ac) (nI F.length) (0))) := by rw [ew_2]; exact g_at.put_self hy.1
    have x_4 : g_ex (fun q => q = y) w w_2 := by rw [ew_2]; exact x_1.put (fun hz9 => rfl)
    have hZ1 := hZ.obj (rn2 := rn) (tt2 := tt) (fq2 := fq) (ac2 := ac) h_3 x_4 hb9.2.1 hb9.2.2.1 hb9.2.2.2.1 hb9.2.2.2.2
    have hz1 := hZ.zobj x_4
    refine lv_aload_n hx hb dX3_findingAt_25 rfl (lv_at hl 0 rfl) ?_
    refine g_get (ci := 10) (v := .int (0)) (C := RX3) (T := TX3) (N := 28) hx hb hts in_X3 hown hK hW h_3 rfl 27 (by decide) q1911 (fun _ h9 => h9) rfl dX3_findingAt_26 ?_
    refine lv_if_ne (tgt := 60) hx hb dX3_findingAt_29 (by decide) (fun hz => absurd rfl hz) (fun _ => ?_)
    obtain ⟨j, hj, hjl, ej⟩ := ixO_n (by omega) hc
    subst hj
    have hlo := hZ1.mem
    have x_5 : g_ex (fun _ => False) w_2 w_2 := g_ex.rf
    refine g_newo (ci := 8) (C := RX12) (T := TX12) (N := 3) hx hb hts in_X12 tyX12 tyX12_ok hown q2147 q1527 q83 hK hW rfl [.null, .null, .int (0)] (by decide +kernel) ?_ ?_ dX3_findingAt_32 (fun o_6 H hq hW => ?_)
    · show _ ≤ 1; omega
    · show _ ≤ 6; omega
    have ho_6 := hq
    obtain ⟨w_7, ew_7⟩ : ∃ z__, z__ = g_push w_2 o_6 (.inr (8, [.null, .null, .int (0)])) := ⟨_, rfl⟩
    have hW := g_W.ren hW ew_7 rfl
    have h_8 : g_at w_7 y (.inr (10, mO mf (nI P.length) (nI C.length) (en) (td) (st) (nI rn) (lN tt) (nI K.length) (nI fq) (nI ac) (nI F.length) (0))) := by rw [ew_7]; exact h_3.push hq
    have h_9 : g_at w_7 o_6 (.inr (8, [.null, .null, .int (0)])) := by rw [ew_7]; exact g_at.push_self
    have x_10 : g_ex (fun _ => False) w_2 w_7 := by rw [ew_7]; exact x_5.push hq
    have hZ2 := hZ1.keep (lab' := lb lab w_2 0) x_10 (g_mut.non) lb_in (fun _ _ z => z.elim)
    obtain ⟨f23, f24, f25, c23, c24, c25, -, hf4⟩ := id hZ1.2.2.2.2.2.2.2.2.1
    have a23 := x_10.at c23 (fun z => z)
    have a24 := x_10.at c24 (fun z => z)
    have a25 := x_10.at c25 (fun z => z)
    obtain ⟨⟨s1, e1, e2⟩, ⟨s2, e3, e4⟩, e5⟩ := hf4 j hjl
    refine lv_dup hx hb dX3_findingAt_35 rfl ?_
    refine lv_aload_n hx hb dX3_findingAt_36 rfl (lv_at hl 0 rfl) ?_
    refine g_get (ci := 10) (v := .ref (mf 23)) (C := RX3) (T := TX3) (N := 28) hx hb hts in_X3 hown hK hW h_8 rfl 23 (by decide) q1907 (fun _ h9 => h9) rfl dX3_findingAt_37 ?_
    refine lv_iload_n hx hb dX3_findingAt_40 rfl (lv_at hl 1 rfl) ?_
    refine g_aldSt (n := 16) (i := j) (y := s1) hx hb hK hW a23 (by omega) (by omega) e1 dX3_findingAt_41 ?_
    refine lv_aload_n hx hb dX3_findingAt_42 rfl (lv_at hl 0 rfl) ?_
    refine g_get (ci := 10) (v := .ref (mf 24)) (C := RX3) (T := TX3) (N := 28) hx hb hts in_X3 hown hK hW h_8 rfl 24 (by decide) q1908 (fun _ h9 => h9) rfl dX3_findingAt_43 ?_
    refine lv_iload_n hx hb dX3_findingAt_46 rfl (lv_at hl 1 rfl) ?_
    refine g_aldSt (n := 16) (i := j) (y := s2) hx hb hK hW a24 (by omega) (by omega) e3 dX3_findingAt_47 ?_
    refine lv_aload_n hx hb dX3_findingAt_48 rfl (lv_at hl 0 rfl) ?_
    refine g_get (ci := 10) (v := .ref (mf 25)) (C := RX3) (T := TX3) (N := 28) hx hb hts in_X3 hown hK hW h_8 rfl 25 (by decide) q1909 (fun _ h9 => h9) rfl dX3_findingAt_49 ?_
    refine lv_iload_n hx hb dX3_findingAt_52 rfl (lv_at hl 1 rfl) ?_
    refine g_iald (i := j) hx hb hK hW a25 (by omega) (by omega) dX3_findingAt_53 ?_
    refine g_callv (va_runI (As := [.ref s1, .ref s2, .int (f25 (j))]) (rest := [.ref o_6]) ⟨hx, hb, hml, hown, hts⟩ (mtX12_init l D w_7 H.size o_6 s1 s2 (f25 j) h_9) (cwI 3 hts (lw_meth q1551) rfl rfl rfl (hts _ q83) (hts _ q2148) (hts _ q1550) rfl (by decide +kernel) ⟨Nat.le_of_ble_eq_true rfl, Nat.le_of_ble_eq_true rfl⟩) (g_preS hW hK hE) rfl rfl hl.1 rfl (lv_room (Nat.le_of_ble_eq_true rfl)) dX3_findingAt_54 ⟨?_, ?_⟩) hW (fun u5 H locs hp hW => ?_)
    · (try simp only [headSpec]); omega
    · (try simp only [headSpec]); omega
    obtain ⟨hq5, hx5⟩ := hp
    have hx6 : g_ex (fun _ => False) w_2 u5 := x_10.trM hx5 (fun z hz hM => ho_6 (by rw [← hM]; exact hz))
    have hZ3 := hZ1.keep (lab' := lab) hx6 g_mut.non (fun _ _ => rfl) (fun _ _ z => z.elim)
    refine lv_goto (tgt := 72) hx hb dX3_findingAt_57 (by decide) ?_
    exact g_qret (v := some o_6) hx hb hr (Or.inl ⟨_, rfl⟩) hlocks hW (⟨⟨o_6, rfl, fun _ => ⟨rfl, fun z hz => by
      have ez : z = 0 := by simp at hz; exact hz
      subst ez; rw [ej]; exact ⟨s1, s2, by rw [e5] at hq5; exact hq5, g_mut.non.str e2 hx6, g_mut.non.str e4 hx6⟩⟩⟩, by rw [if_pos hc]; exact hZ3, hz1.tr (zCh.of hx6 (fun _ _ z => z.elim))⟩) (by omega) (by omega) dX3_findingAt_72
  · rw [if_neg hq9]
    refine lv_if_eq (tgt := 21) hx hb dX3_findingAt_14 (by decide) (fun _ => ?_) (fun hz => absurd rfl hz)
    have hc : ¬ (ixO i9 F.length) := fun z => hq9 (hin.mpr z)
    refine lv_iconst (v := 1) hx hb dX3_findingAt_21 (by decide) ?_
    refine g_putf (ci := 10) (v := .int (1)) (ty := .int) (C := RX3) (T := TX3) (N := 28) hx hb hts in_X3 tyX3 tyX3_ok nmX3 hown hK hW hy rfl 27 (by decide) q1911 (fun _ h9 => h9) rfl (by decide +kernel) rfl rfl (Nat.le_of_ble_eq_true rfl) dX3_findingAt_22 (fun H locs hW => ?_)
    obtain ⟨w_11, ew_11⟩ : ∃ z__, z__ = g_put w y (.inr (10, mO mf (nI P.length) (nI C.length) (en) (td) (st) (nI rn) (lN tt) (nI K.length) (nI fq) (nI ac) (nI F.length) (1))) := ⟨_, rfl⟩
    have hW := g_W.ren hW ew_11 rfl
    have h_12 : g_at w_11 y (.inr (10, mO mf (nI P.length) (nI C.length) (en) (td) (st) (nI rn) (lN tt) (nI K.length) (nI fq) (nI ac) (nI F.length) (1))) := by rw [ew_11]; exact g_at.put_self hy.1
    have x_13 : g_ex (fun q => q = y) w w_11 := by rw [ew_11]; exact x_1.put (fun hz9 => rfl)
    have hZ1 := hZ.obj (rn2 := rn) (tt2 := tt) (fq2 := fq) (ac2 := ac) h_12 x_13 hb9.2.1 hb9.2.2.1 hb9.2.2.2.1 hb9.2.2.2.2
    have hz1 := hZ.zobj x_13
    refine lv_aload_n hx hb dX3_findingAt_25 rfl (lv_at hl 0 rfl) ?_
    refine g_get (ci := 10) (v := .int (1)) (C := RX3) (T := TX3) (N := 28) hx hb hts in_X3 hown hK hW h_12 rfl 27 (by decide) q1911 (fun _ h9 => h9) rfl dX3_findingAt_26 ?_
    refine lv_if_ne (tgt := 60) hx hb dX3_findingAt_29 (by decide) (fun _ => ?_) (fun hz => absurd (by first | exact hz | exact Classical.not_not.mp hz) (by decide))
    have hlo := hZ1.mem
    have x_14 : g_ex (fun _ => False) w_11 w_11 := g_ex.rf
    refine g_newo (ci := 8) (C := RX12) (T := TX12) (N := 3) hx hb hts in_X12 tyX12 tyX12_ok hown q2147 q1527 q83 hK hW rfl [.null, .null, .int (0)] (by decide +kernel) ?_ ?_ dX3_findingAt_60 (fun o_15 H hq hW => ?_)
    · show _ ≤ 1; omega
    · show _ ≤ 6; omega
    have ho_15 := hq
    obtain ⟨w_16, ew_16⟩ : ∃ z__, z__ = g_push w_11 o_15 (.inr (8, [.null, .null, .int (0)])) := ⟨_, rfl⟩
    have hW := g_W.ren hW ew_16 rfl
    have h_17 : g_at w_16 y (.inr (10, mO mf (nI P.length) (nI C.length) (en) (td) (st) (nI rn) (lN tt) (nI K.length) (nI fq) (nI ac) (nI F.length) (1))) := by rw [ew_16]; exact h_12.push hq
    have h_18 : g_at w_16 o_15 (.inr (8, [.null, .null, .int (0)])) := by rw [ew_16]; exact g_at.push_self
    have x_19 : g_ex (fun _ => False) w_11 w_16 := by rw [ew_16]; exact x_14.push hq
    have hZ2 := hZ1.keep (lab' := lb lab w_11 0) x_19 (g_mut.non) lb_in (fun _ _ z => z.elim)
    refine lv_dup hx hb dX3_findingAt_63 rfl ?_
    refine va_ldcS hx hb hown (rs_16 hE) dX3_findingAt_64 ?_
    refine va_ldcS hx hb hown (rs_16 hE) dX3_findingAt_66 ?_
    refine lv_iconst (v := 0) hx hb dX3_findingAt_68 (by decide) ?_
    refine g_callv (va_runI (As := [.ref (D.2 1000 0), .ref (D.2 1000 0), .int (0)]) (rest := [.ref o_15]) ⟨hx, hb, hml, hown, hts⟩ (mtX12_init l D w_16 H.size o_15 (D.2 1000 0) (D.2 1000 0) 0 h_18) (cwI 3 hts (lw_meth q1551) rfl rfl rfl (hts _ q83) (hts _ q2148) (hts _ q1550) rfl (by decide +kernel) ⟨Nat.le_of_ble_eq_true rfl, Nat.le_of_ble_eq_true rfl⟩) (g_preS hW hK hE) rfl rfl hl.1 rfl (lv_room (Nat.le_of_ble_eq_true rfl)) dX3_findingAt_69 ⟨?_, ?_⟩) hW (fun u5 H locs hp hW => ?_)
    · (try simp only [headSpec]); omega
    · (try simp only [headSpec]); omega
    obtain ⟨hq5, hx5⟩ := hp
    have hx6 : g_ex (fun _ => False) w_11 u5 := x_19.trM hx5 (fun z hz hM => ho_15 (by rw [← hM]; exact hz))
    have hZ3 := hZ1.keep (lab' := lab) hx6 g_mut.non (fun _ _ => rfl) (fun _ _ z => z.elim)
    exact g_qret (v := some o_15) hx hb hr (Or.inl ⟨_, rfl⟩) hlocks hW (⟨⟨o_15, rfl, fun z => absurd z hc⟩, by rw [if_neg hc]; exact hZ3, hz1.tr (zCh.of hx6 (fun _ _ z => z.elim))⟩) (by omega) (by omega) dX3_findingAt_72
set_option maxHeartbeats 4000000 in
set_option maxRecDepth 100000 in
/-- Model.isCovered -/
theorem mtX3_isCovered (l : Launch) (D : va_G) (w : g_H) (sz : Nat) (y : Nat) (mf : Nat → Nat) (lab : Nat → Nat) (P : List mI) (C : List yC) (A9 : Nat → List (List Nat)) (cov : Nat → Bool) (K : List (List Nat)) (fq ac : Nat) (F : List yF) (rn tt cK : Nat) (en td st : Int32) (E : Nat → Bool) (th : Int32) (hZ : g_MZ D w lab y mf P C A9 cov K fq ac F rn tt cK en td st E th) (i9 j9 : Int32) : Met l yX3_isCovered (ws_ yX3_isCovered cX3_isCovered 3 (some .boolean)) ({ frames := 2, cells := 0, slots := 0, locals := 37 }) (g_Pc D [.ref y, .int (i9), .int (j9)] w sz) (g_Qi D w sz (fun r u => r = (if (ixO i9 P.length ∧ ixO j9 (P.length + 1)) ∧ cov (17 * i9.toNatClampNeg + j9.toNatClampNeg) = true then 1 else 0) ∧ g_MZ D u lab y mf P C A9 cov K fq ac F rn tt cK en td st E (if ixO i9 P.length ∧ ixO j9 (P.length + 1) then 0 else 1) ∧ zCh w lab u lab)) (0) (0) (g_A w sz) := by
  refine Met.ofW (cc := cX3_isCovered) (maxL := 3) (ret := (some .boolean)) (by decide) rfl ?_
  intro p e s m args below meth c s₁ B hml hv
  obtain ⟨rfl, hI⟩ := hv
  have hx := B.exec
  have hb := B.bytes
  have hr := B.returns
  have hts := atoms_spec (ws := ws_ yX3_isCovered cX3_isCovered 3 (some .boolean)) B.pre
  have hts : ∀ w ∈ lw_all, w.before _ s = true := fun w h => hts w (List.mem_cons_of_mem _ h)
  have hown : s.vm.findClass RX3 = some m.cls := findClass_of_methodNamed B.named
  have hlocks := B.notSynchronized
  have hsz := hI.1
  subst hsz
  have hW := g_W.start hI
  have hK := g_K hI
  have hE := g_E hI
  have hl := lv_entry ([.ref y, .int (i9), .int (j9)]) (n := 3) (by exact Nat.le_of_ble_eq_true rfl)
  rw [lg_entry_eq]
  generalize (lg_sl ([.ref y, .int (i9), .int (j9)]) ++ List.replicate (3 - (lg_sl ([.ref y, .int (i9), .int (j9)])).length) Slot.unset).toArray = ls at hl ⊢
  have hl : lv_has ls 3 [(0, .ref y), (1, .int (i9)), (2, .int (j9))] := hl
  obtain ⟨hy, ⟨hly, hL⟩, hP, hR, hC0, hA0, hV0, hK0, hF0, hb9⟩ := id hZ
  have x_1 : g_ex (fun q => q = y) w w := g_ex.rf
  have hPl : P.length ≤ 16 := by obtain ⟨_, _, _, _, _, _, _, _, h, _⟩ := hP; exact h
  refine lv_aload_n hx hb dX3_isCovered_0 rfl (lv_at hl 0 rfl) ?_
  refine lv_iload_n hx hb dX3_isCovered_1 rfl (lv_at hl 1 rfl) ?_
  refine lv_i2l (v := (i9 : Int32).toInt64) hx hb dX3_isCovered_2 rfl ?_
  refine lv_lconst (v := 0) hx hb dX3_isCovered_3 rfl ?_
  refine lv_aload_n hx hb dX3_isCovered_4 rfl (lv_at hl 0 rfl) ?_
  refine g_get (ci := 10) (v := .int (nI P.length)) (C := RX3) (T := TX3) (N := 28) hx hb hts in_X3 hown hK hW hy rfl 4 (by decide) q1888 (fun _ h9 => h9) rfl dX3_isCovered_5 ?_
  refine lv_iconst (v := 1) hx hb dX3_isCovered_8 (by decide) ?_
  refine lv_isub hx hb dX3_isCovered_9 ?_
  refine lv_i2l (v := ((nI P.length) - (1) : Int32).toInt64) hx hb dX3_isCovered_10 rfl ?_
  have hin := ixO_l (i := i9) (n := P.length) (by omega)
  have hjn := ixO_s (i := j9) (n := P.length) (by omega)
  refine g_calli (va_runS (As := [.long ((i9 : Int32).toInt64), .long (0), .long (((nI P.length) - (1) : Int32).toInt64)]) (rest := [.ref y]) ⟨hx, hb, hml, hown, hts⟩ (mtX3_in l D w s.heap.size ((i9 : Int32).toInt64) (0) (((nI P.length) - (1) : Int32).toInt64)) (va_cwS 3 hts (lw_S q1980 q1981 q47 q1982) rfl rfl rfl (by decide +kernel) ⟨Nat.le_of_ble_eq_true rfl, Nat.le_of_ble_eq_true rfl⟩) (g_preS hW hK hE) rfl rfl hl.1 rfl (lv_room (Nat.le_of_ble_eq_true rfl)) dX3_isCovered_11 ⟨Nat.le_of_ble_eq_true rfl, Nat.le_of_ble_eq_true rfl⟩) hW (fun r_ u_ H locs hp hW => ?_)
  obtain ⟨er, rfl⟩ := hp
  subst er
  by_cases hq9 : 0 ≤ i9.toInt64 ∧ i9.toInt64 ≤ (nI P.length - 1).toInt64
  · rw [if_pos hq9]
    refine lv_if_eq (tgt := 35) hx hb dX3_isCovered_14 (by decide) (fun hz => absurd hz (by decide)) (fun _ => ?_)
    have hi9 := hin.mp hq9
    clear hq9
    refine lv_iload_n hx hb dX3_isCovered_17 rfl (lv_at hl 2 rfl) ?_
    refine lv_i2l (v := (j9 : Int32).toInt64) hx hb dX3_isCovered_18 rfl ?_
    refine lv_lconst (v := 0) hx hb dX3_isCovered_19 rfl ?_
    refine lv_aload_n hx hb dX3_isCovered_20 rfl (lv_at hl 0 rfl) ?_
    refine g_get (ci := 10) (v := .int (nI P.length)) (C := RX3) (T := TX3) (N := 28) hx hb hts in_X3 hown hK hW hy rfl 4 (by decide) q1888 (fun _ h9 => h9) rfl dX3_isCovered_21 ?_
    refine lv_i2l (v := (nI P.length : Int32).toInt64) hx hb dX3_isCovered_24 rfl ?_
    refine g_calli (va_runS (As := [.long ((j9 : Int32).toInt64), .long (0), .long ((nI P.length : Int32).toInt64)]) (rest := [.ref y]) ⟨hx, hb, hml, hown, hts⟩ (mtX3_in l D w H.size ((j9 : Int32).toInt64) (0) ((nI P.length : Int32).toInt64)) (va_cwS 3 hts (lw_S q1980 q1981 q47 q1982) rfl rfl rfl (by decide +kernel) ⟨Nat.le_of_ble_eq_true rfl, Nat.le_of_ble_eq_true rfl⟩) (g_preS hW hK hE) rfl rfl hl.1 rfl (lv_room (Nat.le_of_ble_eq_true rfl)) dX3_isCovered_25 ⟨Nat.le_of_ble_eq_true rfl, Nat.le_of_ble_eq_true rfl⟩) hW (fun r_ u_ H locs hp hW => ?_)
    obtain ⟨er, rfl⟩ := hp
    subst er
    by_cases hq9 : 0 ≤ j9.toInt64 ∧ j9.toInt64 ≤ (nI P.length).toInt64
    · rw [if_pos hq9]
      refine lv_if_eq (tgt := 35) hx hb dX3_isCovered_28 (by decide) (fun hz => absurd hz (by decide)) (fun _ => ?_)
      have hj9 := hjn.mp hq9
      have hc : ixO i9 P.length ∧ ixO j9 (P.length + 1) := ⟨hi9, hj9⟩
      refine lv_iconst (v := 0) hx hb dX3_isCovered_31 (by decide) ?_
      refine lv_goto (tgt := 36) hx hb dX3_isCovered_32 (by decide) ?_
      refine g_putf (ci := 10) (v := .int (0)) (ty := .int) (C := RX3) (T := TX3) (N := 28) hx hb hts in_X3 tyX3 tyX3_ok nmX3 hown hK hW hy rfl 27 (by decide) q1911 (fun _ h9 => h9) rfl (by decide +kernel) rfl rfl (Nat.le_of_ble_eq_true rfl) dX3_isCovered_36 (fun H locs hW => ?_)
      obtain ⟨w_2, ew_2⟩ : ∃ z__, z__ = g_put w y (.inr (10, mO mf (nI P.length) (nI C.length) (en) (td) (st) (nI rn) (lN tt) (nI K.length) (nI fq) (nI ac) (nI F.length) (0))) := ⟨_, rfl⟩
      have hW := g_W.ren hW ew_2 rfl
      have h_3 : g_at w_2 y (.inr (10, mO mf (nI P.length) (nI C.length) (en) (td) (st) (nI rn) (lN tt) (nI K.length) (nI fq) (nI ac) (nI F.length) (0))) := by rw [ew_2]; exact g_at.put_self hy.1
      have x_4 : g_ex (fun q => q = y) w w_2 := by rw [ew_2]; exact x_1.put (fun hz9 => rfl)
      have hZ1 := hZ.obj (rn2 := rn) (tt2 := tt) (fq2 := fq) (ac2 := ac) h_3 x_4 hb9.2.1 hb9.2.2.1 hb9.2.2.2.1 hb9.2.2.2.2
      have hz1 := hZ.zobj x_4
      refine lv_aload_n hx hb dX3_isCovered_39 rfl (lv_at hl 0 rfl) ?_
      refine g_get (ci := 10) (v := .int (0)) (C := RX3) (T := TX3) (N := 28) hx hb hts in_X3 hown hK hW h_3 rfl 27 (by decide) q1911 (fun _ h9 => h9) rfl dX3_isCovered_40 ?_
      refine lv_if_ne (tgt := 64) hx hb dX3_isCovered_43 (by decide) (fun hz => absurd rfl hz) (fun _ => ?_)
      obtain ⟨i, hi, hil, ei⟩ := ixO_n (by omega) hi9
      subst hi
      obtain ⟨j, hj, hjl, ej⟩ := ixO_n (by omega) hj9
      subst hj
      rw [ei, ej]
      obtain ⟨f18, a18, e18⟩ := id hZ1.2.2.2.2.2.2.1
      refine lv_aload_n hx hb dX3_isCovered_46 rfl (lv_at hl 0 rfl) ?_
      refine g_get (ci := 10) (v := .ref (mf 18)) (C := RX3) (T := TX3) (N := 28) hx hb hts in_X3 hown hK hW h_3 rfl 18 (by decide) q1902 (fun _ h9 => h9) rfl dX3_isCovered_47 ?_
      refine lv_bipush (v := 17) hx hb dX3_isCovered_50 (by decide) ?_
      refine lv_iload_n hx hb dX3_isCovered_52 rfl (lv_at hl 1 rfl) ?_
      refine lv_imul hx hb dX3_isCovered_53 ?_
      refine lv_iload_n hx hb dX3_isCovered_54 rfl (lv_at hl 2 rfl) ?_
      refine lv_iadd hx hb dX3_isCovered_55 ?_
      refine g_topi (y := nI (17 * i + j)) (by rw [show ((17 : Int32) * nI i) = nI (17 * i) from (Int32.ofNat_mul 17 i).symm, nI_add]) ?_
      refine g_zald (n := 272) (i := nI (17 * i + j)) hx hb hK hW a18 (vp_in_nI (by omega) (by decide)) dX3_isCovered_56 ?_
      rw [nI_clamp (by omega), e18 (17 * i + j) (by omega)]
      by_cases hq9 : cov (17 * i + j) = true
      · rw [if_pos hq9]
        refine lv_if_eq (tgt := 64) hx hb dX3_isCovered_57 (by decide) (fun hz => absurd hz (by decide)) (fun _ => ?_)
        refine lv_iconst (v := 1) hx hb dX3_isCovered_60 (by decide) ?_
        refine lv_goto (tgt := 65) hx hb dX3_isCovered_61 (by decide) ?_
        exact g_zret (v := 1) hx hb hr hlocks (by rfl) hW (⟨by rw [if_pos ⟨hc, hq9⟩], by rw [if_pos hc]; exact hZ1, hz1⟩) (by omega) (by omega) dX3_isCovered_65
      · rw [if_neg hq9]
        refine lv_if_eq (tgt := 64) hx hb dX3_isCovered_57 (by decide) (fun _ => ?_) (fun hz => absurd rfl hz)
        refine lv_iconst (v := 0) hx hb dX3_isCovered_64 (by decide) ?_
        exact g_zret (v := 0) hx hb hr hlocks (by rfl) hW (⟨by rw [if_neg (fun z => hq9 z.2)], by rw [if_pos hc]; exact hZ1, hz1⟩) (by omega) (by omega) dX3_isCovered_65
    · rw [if_neg hq9]
      refine lv_if_eq (tgt := 35) hx hb dX3_isCovered_28 (by decide) (fun _ => ?_) (fun hz => absurd rfl hz)
      have hc : ¬ (ixO i9 P.length ∧ ixO j9 (P.length + 1)) := fun z => hq9 (hjn.mpr z.2)
      refine lv_iconst (v := 1) hx hb dX3_isCovered_35 (by decide) ?_
      refine g_putf (ci := 10) (v := .int (1)) (ty := .int) (C := RX3) (T := TX3) (N := 28) hx hb hts in_X3 tyX3 tyX3_ok nmX3 hown hK hW hy rfl 27 (by decide) q1911 (fun _ h9 => h9) rfl (by decide +kernel) rfl rfl (Nat.le_of_ble_eq_true rfl) dX3_isCovered_36 (fun H locs hW => ?_)
      obtain ⟨w_5, ew_5⟩ : ∃ z__, z__ = g_put w y (.inr (10, mO mf (nI P.length) (nI C.length) (en) (td) (st) (nI rn) (lN tt) (nI K.length) (nI fq) (nI ac) (nI F.length) (1))) := ⟨_, rfl⟩
      have hW := g_W.ren hW ew_5 rfl
      have h_6 : g_at w_5 y (.inr (10, mO mf (nI P.length) (nI C.length) (en) (td) (st) (nI rn) (lN tt) (nI K.length) (nI fq) (nI ac) (nI F.length) (1))) := by rw [ew_5]; exact g_at.put_self hy.1
      have x_7 : g_ex (fun q => q = y) w w_5 := by rw [ew_5]; exact x_1.put (fun hz9 => rfl)
      have hZ1 := hZ.obj (rn2 := rn) (tt2 := tt) (fq2 := fq) (ac2 := ac) h_6 x_7 hb9.2.1 hb9.2.2.1 hb9.2.2.2.1 hb9.2.2.2.2
      have hz1 := hZ.zobj x_7
      refine lv_aload_n hx hb dX3_isCovered_39 rfl (lv_at hl 0 rfl) ?_
      refine g_get (ci := 10) (v := .int (1)) (C := RX3) (T := TX3) (N := 28) hx hb hts in_X3 hown hK hW h_6 rfl 27 (by decide) q1911 (fun _ h9 => h9) rfl dX3_isCovered_40 ?_
      refine lv_if_ne (tgt := 64) hx hb dX3_isCovered_43 (by decide) (fun _ => ?_) (fun hz => absurd (by first | exact hz | exact Classical.not_not.mp hz) (by decide))
      refine lv_iconst (v := 0) hx hb dX3_isCovered_64 (by decide) ?_
      exact g_zret (v := 0) hx hb hr hlocks (by rfl) hW (⟨by rw [if_neg (fun z => hc z.1)], by rw [if_neg hc]; exact hZ1, hz1⟩) (by omega) (by omega) dX3_isCovered_65
  · rw [if_neg hq9]
    refine lv_if_eq (tgt := 35) hx hb dX3_isCovered_14 (by decide) (fun _ => ?_) (fun hz => absurd rfl hz)
    have hc : ¬ (ixO i9 P.length ∧ ixO j9 (P.length + 1)) := fun z => hq9 (hin.mpr z.1)
    refine lv_iconst (v := 1) hx hb dX3_isCovered_35 (by decide) ?_
    refine g_putf (ci := 10) (v := .int (1)) (ty := .int) (C := RX3) (T := TX3) (N := 28) hx hb hts in_X3 tyX3 tyX3_ok nmX3 hown hK hW hy rfl 27 (by decide) q1911 (fun _ h9 => h9) rfl (by decide +kernel) rfl rfl (Nat.le_of_ble_eq_true rfl) dX3_isCovered_36 (fun H locs hW => ?_)
    obtain ⟨w_8, ew_8⟩ : ∃ z__, z__ = g_put w y (.inr (10, mO mf (nI P.length) (nI C.length) (en) (td) (st) (nI rn) (lN tt) (nI K.length) (nI fq) (nI ac) (nI F.length) (1))) := ⟨_, rfl⟩
    have hW := g_W.ren hW ew_8 rfl
    have h_9 : g_at w_8 y (.inr (10, mO mf (nI P.length) (nI C.length) (en) (td) (st) (nI rn) (lN tt) (nI K.length) (nI fq) (nI ac) (nI F.length) (1))) := by rw [ew_8]; exact g_at.put_self hy.1
    have x_10 : g_ex (fun q => q = y) w w_8 := by rw [ew_8]; exact x_1.put (fun hz9 => rfl)
    have hZ1 := hZ.obj (rn2 := rn) (tt2 := tt) (fq2 := fq) (ac2 := ac) h_9 x_10 hb9.2.1 hb9.2.2.1 hb9.2.2.2.1 hb9.2.2.2.2
    have hz1 := hZ.zobj x_10
    refine lv_aload_n hx hb dX3_isCovered_39 rfl (lv_at hl 0 rfl) ?_
    refine g_get (ci := 10) (v := .int (1)) (C := RX3) (T := TX3) (N := 28) hx hb hts in_X3 hown hK hW h_9 rfl 27 (by decide) q1911 (fun _ h9 => h9) rfl dX3_isCovered_40 ?_
    refine lv_if_ne (tgt := 64) hx hb dX3_isCovered_43 (by decide) (fun _ => ?_) (fun hz => absurd (by first | exact hz | exact Classical.not_not.mp hz) (by decide))
    refine lv_iconst (v := 0) hx hb dX3_isCovered_64 (by decide) ?_
    exact g_zret (v := 0) hx hb hr hlocks (by rfl) hW (⟨by rw [if_neg (fun z => hc z.1)], by rw [if_neg hc]; exact hZ1, hz1⟩) (by omega) (by omega) dX3_isCovered_65
