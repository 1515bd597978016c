/-! ShrinkYard: what is asked of it *
-/
set_option maxRecDepth 100000
theorem ct_320 {E : Nat → Bool} {n : Nat} (hn : n ≤ 5) (h : ∀ x, 64 * n ≤ x → E x = false) : fb_ct E (64 * n) = fb_ct E 320 := by
  have e : 320 = 64 * n + (320 - 64 * n) := by omega
  rw [e, fb_ct_split]
  have : fb_ct (fun k => E (64 * n + k)) (320 - 64 * n) = 0 := fb_ct_zero.mpr (fun k _ => h _ (by omega))
  rw [this]
  rfl
set_option maxHeartbeats 4000000 in
set_option maxRecDepth 100000 in
/-- ShrinkYard.runs -/
theorem mtX1_runs (l : Launch) (D : va_G) (w : g_H) (sz : Nat) (lab : Nat → Nat) (x fq ac rn tt : Nat) (P : List mI) (C : List yC) (A : Nat → List (List Nat)) (cov : Nat → Bool) (K : List (List Nat)) (F : List (List Nat × List Nat × Int32)) (cp : Nat → Nat) (hS : g_SY D w lab x P C A cov K fq ac F rn tt cp) : Met l yX1_runs (ws_ yX1_runs cX1_runs 1 (some .int)) ({ frames := 1, cells := 0, slots := 0, locals := 12 }) (g_Pc D [.ref x] w sz) (g_Qi D w sz (fun r u => r = nI rn ∧ w = u)) (0) (0) (g_A w sz) := by
  refine Met.ofW (cc := cX1_runs) (maxL := 1) (ret := (some .int)) (by decide) rfl ?_
  intro p e s m args below meth c s₁ B hml hv
  obtain ⟨rfl, hI⟩ := hv
  have hx := B.exec
  have hb := B.bytes
  have hr := B.returns
  have hts := atoms_spec (ws := ws_ yX1_runs cX1_runs 1 (some .int)) B.pre
  have hts : ∀ w ∈ lw_all, w.before _ s = true := fun w h => hts w (List.mem_cons_of_mem _ h)
  have hown : s.vm.findClass RX1 = some m.cls := findClass_of_methodNamed B.named
  have hlocks := B.notSynchronized
  have hsz := hI.1
  subst hsz
  have hW := g_W.start hI
  have hK := g_K hI
  have hE := g_E hI
  have hl := lv_entry ([.ref x]) (n := 1) (by exact Nat.le_of_ble_eq_true rfl)
  rw [lg_entry_eq]
  generalize (lg_sl ([.ref x]) ++ List.replicate (1 - (lg_sl ([.ref x])).length) Slot.unset).toArray = ls at hl ⊢
  have hl : lv_has ls 1 [(0, .ref x)] := hl
  obtain ⟨pg, ch, al, m9, cv, kp, qu, fi, ps, chs, als, ks, qs, fs, ys, ⟨h1, h1l⟩, ⟨h2, h2a, h2b, h2c⟩, ⟨h3, h3a, h3b, h3c⟩, ⟨h4, h4a, h4b⟩, h5, h6, ⟨h7, h7a, h7b⟩, ⟨h8, h8a, h8b⟩, ⟨h9, h9a⟩, hbd⟩ := id hS
  refine lv_aload_n hx hb dX1_runs_0 rfl (lv_at hl 0 rfl) ?_
  refine g_get (ci := 0) (v := .int (nI rn)) (C := RX1) (T := TX1) (N := 11) hx hb hts in_X1 hown hK hW h1 rfl 8 (by decide) q362 (fun _ h9 => h9) rfl dX1_runs_1 ?_
  exact g_iret (v := nI rn) hx hb hr hlocks hW (⟨rfl, rfl⟩) (by omega) (by omega) dX1_runs_4
set_option maxHeartbeats 4000000 in
set_option maxRecDepth 100000 in
/-- ShrinkYard.totalSteps -/
theorem mtX1_totalSteps (l : Launch) (D : va_G) (w : g_H) (sz : Nat) (lab : Nat → Nat) (x fq ac rn tt : Nat) (P : List mI) (C : List yC) (A : Nat → List (List Nat)) (cov : Nat → Bool) (K : List (List Nat)) (F : List (List Nat × List Nat × Int32)) (cp : Nat → Nat) (hS : g_SY D w lab x P C A cov K fq ac F rn tt cp) : Met l yX1_totalSteps (ws_ yX1_totalSteps cX1_totalSteps 1 (some .long)) ({ frames := 1, cells := 0, slots := 0, locals := 12 }) (g_Pc D [.ref x] w sz) (g_Ql D w sz (fun r u => r = lN tt ∧ w = u)) (0) (0) (g_A w sz) := by
  refine Met.ofW (cc := cX1_totalSteps) (maxL := 1) (ret := (some .long)) (by decide) rfl ?_
  intro p e s m args below meth c s₁ B hml hv
  obtain ⟨rfl, hI⟩ := hv
  have hx := B.exec
  have hb := B.bytes
  have hr := B.returns
  have hts := atoms_spec (ws := ws_ yX1_totalSteps cX1_totalSteps 1 (some .long)) B.pre
  have hts : ∀ w ∈ lw_all, w.before _ s = true := fun w h => hts w (List.mem_cons_of_mem _ h)
  have hown : s.vm.findClass RX1 = some m.cls := findClass_of_methodNamed B.named
  have hlocks := B.notSynchronized
  have hsz := hI.1
  subst hsz
  have hW := g_W.start hI
  have hK := g_K hI
  have hE := g_E hI
  have hl := lv_entry ([.ref x]) (n := 1) (by exact Nat.le_of_ble_eq_true rfl)
  rw [lg_entry_eq]
  generalize (lg_sl ([.ref x]) ++ List.replicate (1 - (lg_sl ([.ref x])).length) Slot.unset).toArray = ls at hl ⊢
  have hl : lv_has ls 1 [(0, .ref x)] := hl
  obtain ⟨pg, ch, al, m9, cv, kp, qu, fi, ps, chs, als, ks, qs, fs, ys, ⟨h1, h1l⟩, ⟨h2, h2a, h2b, h2c⟩, ⟨h3, h3a, h3b, h3c⟩, ⟨h4, h4a, h4b⟩, h5, h6, ⟨h7, h7a, h7b⟩, ⟨h8, h8a, h8b⟩, ⟨h9, h9a⟩, hbd⟩ := id hS
  refine lv_aload_n hx hb dX1_totalSteps_0 rfl (lv_at hl 0 rfl) ?_
  refine g_get (ci := 0) (v := .long (lN tt)) (C := RX1) (T := TX1) (N := 11) hx hb hts in_X1 hown hK hW h1 rfl 9 (by decide) q363 (fun _ h9 => h9) rfl dX1_totalSteps_1 ?_
  exact g_lret (v := lN tt) hx hb hr hlocks hW (⟨rfl, rfl⟩) (by omega) (by omega) dX1_totalSteps_4
set_option maxHeartbeats 4000000 in
set_option maxRecDepth 100000 in
/-- ShrinkYard.kept -/
theorem mtX1_kept (l : Launch) (D : va_G) (w : g_H) (sz : Nat) (lab : Nat → Nat) (x fq ac rn tt : Nat) (P : List mI) (C : List yC) (A : Nat → List (List Nat)) (cov : Nat → Bool) (K : List (List Nat)) (F : List (List Nat × List Nat × Int32)) (cp : Nat → Nat) (hS : g_SY D w lab x P C A cov K fq ac F rn tt cp) : Met l yX1_kept (ws_ yX1_kept cX1_kept 1 (some .int)) ({ frames := 2, cells := 0, slots := 0, locals := 32 }) (g_Pc D [.ref x] w sz) (g_Qi D w sz (fun r u => r = nI K.length ∧ w = u)) (0) (0) (g_A w sz) := by
  refine Met.ofW (cc := cX1_kept) (maxL := 1) (ret := (some .int)) (by decide) rfl ?_
  intro p e s m args below meth c s₁ B hml hv
  obtain ⟨rfl, hI⟩ := hv
  have hx := B.exec
  have hb := B.bytes
  have hr := B.returns
  have hts := atoms_spec (ws := ws_ yX1_kept cX1_kept 1 (some .int)) B.pre
  have hts : ∀ w ∈ lw_all, w.before _ s = true := fun w h => hts w (List.mem_cons_of_mem _ h)
  have hown : s.vm.findClass RX1 = some m.cls := findClass_of_methodNamed B.named
  have hlocks := B.notSynchronized
  have hsz := hI.1
  subst hsz
  have hW := g_W.start hI
  have hK := g_K hI
  have hE := g_E hI
  have hl := lv_entry ([.ref x]) (n := 1) (by exact Nat.le_of_ble_eq_true rfl)
  rw [lg_entry_eq]
  generalize (lg_sl ([.ref x]) ++ List.replicate (1 - (lg_sl ([.ref x])).length) Slot.unset).toArray = ls at hl ⊢
  have hl : lv_has ls 1 [(0, .ref x)] := hl
  obtain ⟨pg, ch, al, m9, cv, kp, qu, fi, ps, chs, als, ks, qs, fs, ys, ⟨h1, h1l⟩, ⟨h2, h2a, h2b, h2c⟩, ⟨h3, h3a, h3b, h3c⟩, ⟨h4, h4a, h4b⟩, h5, h6, ⟨h7, h7a, h7b⟩, ⟨h8, h8a, h8b⟩, ⟨h9, h9a⟩, hbd⟩ := id hS
  refine lv_aload_n hx hb dX1_kept_0 rfl (lv_at hl 0 rfl) ?_
  refine g_get (ci := 0) (v := .ref kp) (C := RX1) (T := TX1) (N := 11) hx hb hts in_X1 hown hK hW h1 rfl 5 (by decide) q359 (fun _ h9 => h9) rfl dX1_kept_1 ?_
  obtain ⟨ar9, hal9, -⟩ := id h7
  obtain ⟨mo9, hat9, -⟩ := id hal9
  refine g_callFi (va_runF (cC := D.1 11) (hK.1 11 _ rfl).2 (As := []) (rest := []) ⟨hx, hb, hml, hown, hts⟩ (mtJ2_size l D w s.heap.size kp ar9 (cp 11) ks hal9) (va_cwF 0 hts (lw_app (lw_in _ [438, 441, 443, 37] (by decide +kernel) (by decide +kernel)) (lw_meth q445)) rfl rfl rfl (fw_24 hE) (by decide +kernel) ⟨Nat.le_of_ble_eq_true rfl, Nat.le_of_ble_eq_true rfl⟩) (g_preV hW hK hE hat9 rfl) rfl rfl hl.1 rfl (lv_room (Nat.le_of_ble_eq_true rfl)) dX1_kept_4 ⟨Nat.le_of_ble_eq_true rfl, Nat.le_of_ble_eq_true rfl⟩) hW (fun r_ u_ H locs hp hW => ?_)
  obtain ⟨er, rfl⟩ := hp
  subst er
  have en : ks.length = K.length := h7a.1.trans (List.length_map ..)
  rw [en]
  exact g_iret (v := nI K.length) hx hb hr hlocks hW (⟨rfl, rfl⟩) (by omega) (by omega) dX1_kept_9
set_option maxHeartbeats 4000000 in
set_option maxRecDepth 100000 in
/-- ShrinkYard.findings -/
theorem mtX1_findings (l : Launch) (D : va_G) (w : g_H) (sz : Nat) (lab : Nat → Nat) (x fq ac rn tt : Nat) (P : List mI) (C : List yC) (A : Nat → List (List Nat)) (cov : Nat → Bool) (K : List (List Nat)) (F : List (List Nat × List Nat × Int32)) (cp : Nat → Nat) (hS : g_SY D w lab x P C A cov K fq ac F rn tt cp) : Met l yX1_findings (ws_ yX1_findings cX1_findings 1 (some .int)) ({ frames := 2, cells := 0, slots := 0, locals := 32 }) (g_Pc D [.ref x] w sz) (g_Qi D w sz (fun r u => r = nI F.length ∧ w = u)) (0) (0) (g_A w sz) := by
  refine Met.ofW (cc := cX1_findings) (maxL := 1) (ret := (some .int)) (by decide) rfl ?_
  intro p e s m args below meth c s₁ B hml hv
  obtain ⟨rfl, hI⟩ := hv
  have hx := B.exec
  have hb := B.bytes
  have hr := B.returns
  have hts := atoms_spec (ws := ws_ yX1_findings cX1_findings 1 (some .int)) B.pre
  have hts : ∀ w ∈ lw_all, w.before _ s = true := fun w h => hts w (List.mem_cons_of_mem _ h)
  have hown : s.vm.findClass RX1 = some m.cls := findClass_of_methodNamed B.named
  have hlocks := B.notSynchronized
  have hsz := hI.1
  subst hsz
  have hW := g_W.start hI
  have hK := g_K hI
  have hE := g_E hI
  have hl := lv_entry ([.ref x]) (n := 1) (by exact Nat.le_of_ble_eq_true rfl)
  rw [lg_entry_eq]
  generalize (lg_sl ([.ref x]) ++ List.replicate (1 - (lg_sl ([.ref x])).length) Slot.unset).toArray = ls at hl ⊢
  have hl : lv_has ls 1 [(0, .ref x)] := hl
  obtain ⟨pg, ch, al, m9, cv, kp, qu, fi, ps, chs, als, ks, qs, fs, ys, ⟨h1, h1l⟩, ⟨h2, h2a, h2b, h2c⟩, ⟨h3, h3a, h3b, h3c⟩, ⟨h4, h4a, h4b⟩, h5, h6, ⟨h7, h7a, h7b⟩, ⟨h8, h8a, h8b⟩, ⟨h9, h9a⟩, hbd⟩ := id hS
  refine lv_aload_n hx hb dX1_findings_0 rfl (lv_at hl 0 rfl) ?_
  refine g_get (ci := 0) (v := .ref fi) (C := RX1) (T := TX1) (N := 11) hx hb hts in_X1 hown hK hW h1 rfl 7 (by decide) q361 (fun _ h9 => h9) rfl dX1_findings_1 ?_
  obtain ⟨ar9, hal9, -⟩ := id h9
  obtain ⟨mo9, hat9, -⟩ := id hal9
  refine g_callFi (va_runF (cC := D.1 11) (hK.1 11 _ rfl).2 (As := []) (rest := []) ⟨hx, hb, hml, hown, hts⟩ (mtJ2_size l D w s.heap.size fi ar9 (cp 13) fs hal9) (va_cwF 0 hts (lw_app (lw_in _ [438, 441, 443, 37] (by decide +kernel) (by decide +kernel)) (lw_meth q445)) rfl rfl rfl (fw_24 hE) (by decide +kernel) ⟨Nat.le_of_ble_eq_true rfl, Nat.le_of_ble_eq_true rfl⟩) (g_preV hW hK hE hat9 rfl) rfl rfl hl.1 rfl (lv_room (Nat.le_of_ble_eq_true rfl)) dX1_findings_4 ⟨Nat.le_of_ble_eq_true rfl, Nat.le_of_ble_eq_true rfl⟩) hW (fun r_ u_ H locs hp hW => ?_)
  obtain ⟨er, rfl⟩ := hp
  subst er
  have en : fs.length = F.length := h9a.1
  rw [en]
  exact g_iret (v := nI F.length) hx hb hr hlocks hW (⟨rfl, rfl⟩) (by omega) (by omega) dX1_findings_9
set_option maxHeartbeats 4000000 in
set_option maxRecDepth 100000 in
/-- ShrinkYard.queued -/
theorem mtX1_queued (l : Launch) (D : va_G) (w : g_H) (sz : Nat) (lab : Nat → Nat) (x fq ac rn tt : Nat) (P : List mI) (C : List yC) (A : Nat → List (List Nat)) (cov : Nat → Bool) (K : List (List Nat)) (F : List (List Nat × List Nat × Int32)) (cp : Nat → Nat) (hS : g_SY D w lab x P C A cov K fq ac F rn tt cp) : Met l yX1_queued (ws_ yX1_queued cX1_queued 1 (some .int)) ({ frames := 2, cells := 0, slots := 0, locals := 32 }) (g_Pc D [.ref x] w sz) (g_Qi D w sz (fun r u => r = nI (K.length - fq) ∧ w = u)) (0) (0) (g_A w sz) := by
  refine Met.ofW (cc := cX1_queued) (maxL := 1) (ret := (some .int)) (by decide) rfl ?_
  intro p e s m args below meth c s₁ B hml hv
  obtain ⟨rfl, hI⟩ := hv
  have hx := B.exec
  have hb := B.bytes
  have hr := B.returns
  have hts := atoms_spec (ws := ws_ yX1_queued cX1_queued 1 (some .int)) B.pre
  have hts : ∀ w ∈ lw_all, w.before _ s = true := fun w h => hts w (List.mem_cons_of_mem _ h)
  have hown : s.vm.findClass RX1 = some m.cls := findClass_of_methodNamed B.named
  have hlocks := B.notSynchronized
  have hsz := hI.1
  subst hsz
  have hW := g_W.start hI
  have hK := g_K hI
  have hE := g_E hI
  have hl := lv_entry ([.ref x]) (n := 1) (by exact Nat.le_of_ble_eq_true rfl)
  rw [lg_entry_eq]
  generalize (lg_sl ([.ref x]) ++ List.replicate (1 - (lg_sl ([.ref x])).length) Slot.unset).toArray = ls at hl ⊢
  have hl : lv_has ls 1 [(0, .ref x)] := hl
  obtain ⟨pg, ch, al, m9, cv, kp, qu, fi, ps, chs, als, ks, qs, fs, ys, ⟨h1, h1l⟩, ⟨h2, h2a, h2b, h2c⟩, ⟨h3, h3a, h3b, h3c⟩, ⟨h4, h4a, h4b⟩, h5, h6, ⟨h7, h7a, h7b⟩, ⟨h8, h8a, h8b⟩, ⟨h9, h9a⟩, hbd⟩ := id hS
  refine lv_aload_n hx hb dX1_queued_0 rfl (lv_at hl 0 rfl) ?_
  refine g_get (ci := 0) (v := .ref qu) (C := RX1) (T := TX1) (N := 11) hx hb hts in_X1 hown hK hW h1 rfl 6 (by decide) q360 (fun _ h9 => h9) rfl dX1_queued_1 ?_
  obtain ⟨ns9, hll9, -⟩ := id h8
  obtain ⟨mo9, hat9⟩ := hll9.1
  refine g_calli (va_runV (As := []) (rest := []) ⟨hx, hb, hml, hown, hts⟩ (mtJ5_size l D w s.heap.size qu ns9 qs hll9) (cwV 0 hts (lw_V q455 q448 q2222 q41 q450) rfl rfl rfl (by decide +kernel) ⟨Nat.le_of_ble_eq_true rfl, Nat.le_of_ble_eq_true rfl⟩) (g_preV hW hK hE hat9 rfl) rfl rfl hl.1 rfl (lv_room (Nat.le_of_ble_eq_true rfl)) dX1_queued_4 ⟨Nat.le_of_ble_eq_true rfl, Nat.le_of_ble_eq_true rfl⟩) hW (fun r_ u_ H locs hp hW => ?_)
  obtain ⟨er, rfl⟩ := hp
  subst er
  have en : ns9.length = K.length - fq := by rw [← hll9.2.1.1, h8a.1, List.length_map, List.length_drop]
  rw [en]
  exact g_iret (v := nI (K.length - fq)) hx hb hr hlocks hW (⟨rfl, rfl⟩) (by omega) (by omega) dX1_queued_7
set_option maxHeartbeats 4000000 in
set_option maxRecDepth 100000 in
/-- ShrinkYard.covered -/
theorem mtX1_covered (l : Launch) (D : va_G) (w : g_H) (sz : Nat) (lab : Nat → Nat) (x fq ac rn tt : Nat) (P : List mI) (C : List yC) (A : Nat → List (List Nat)) (cov : Nat → Bool) (K : List (List Nat)) (F : List (List Nat × List Nat × Int32)) (cp : Nat → Nat) (hS : g_SY D w lab x P C A cov K fq ac F rn tt cp) : Met l yX1_covered (ws_ yX1_covered cX1_covered 1 (some .int)) ({ frames := 4, cells := 0, slots := 0, locals := 102 }) (g_Pc D [.ref x] w sz) (g_Qi D w sz (fun r u => r = nI (fb_ct cov 320) ∧ w = u)) (0) (0) (g_A w sz) := by
  refine Met.ofW (cc := cX1_covered) (maxL := 1) (ret := (some .int)) (by decide) rfl ?_
  intro p e s m args below meth c s₁ B hml hv
  obtain ⟨rfl, hI⟩ := hv
  have hx := B.exec
  have hb := B.bytes
  have hr := B.returns
  have hts := atoms_spec (ws := ws_ yX1_covered cX1_covered 1 (some .int)) B.pre
  have hts : ∀ w ∈ lw_all, w.before _ s = true := fun w h => hts w (List.mem_cons_of_mem _ h)
  have hown : s.vm.findClass RX1 = some m.cls := findClass_of_methodNamed B.named
  have hlocks := B.notSynchronized
  have hsz := hI.1
  subst hsz
  have hW := g_W.start hI
  have hK := g_K hI
  have hE := g_E hI
  have hl := lv_entry ([.ref x]) (n := 1) (by exact Nat.le_of_ble_eq_true rfl)
  rw [lg_entry_eq]
  generalize (lg_sl ([.ref x]) ++ List.replicate (1 - (lg_sl ([.ref x])).length) Slot.unset).toArray = ls at hl ⊢
  have hl : lv_has ls 1 [(0, .ref x)] := hl
  obtain ⟨pg, ch, al, m9, cv, kp, qu, fi, ps, chs, als, ks, qs, fs, ys, ⟨h1, h1l⟩, ⟨h2, h2a, h2b, h2c⟩, ⟨h3, h3a, h3b, h3c⟩, ⟨h4, h4a, h4b⟩, h5, h6, ⟨h7, h7a, h7b⟩, ⟨h8, h8a, h8b⟩, ⟨h9, h9a⟩, hbd⟩ := id hS
  refine lv_aload_n hx hb dX1_covered_0 rfl (lv_at hl 0 rfl) ?_
  refine g_get (ci := 0) (v := .ref cv) (C := RX1) (T := TX1) (N := 11) hx hb hts in_X1 hown hK hW h1 rfl 4 (by decide) q358 (fun _ h9 => h9) rfl dX1_covered_1 ?_
  obtain ⟨wa9, n9, hbs9, -, -⟩ := id h6
  refine g_calli (va_runV (As := []) (rest := []) ⟨hx, hb, hml, hown, hts⟩ (mtJ3_cardinality l D w s.heap.size cv wa9 n9 (cp 10) cov hbs9) (cwV 0 hts (lw_V q423 q424 q425 q39 q426) rfl rfl rfl (by decide +kernel) ⟨Nat.le_of_ble_eq_true rfl, Nat.le_of_ble_eq_true rfl⟩) (g_preV hW hK hE hbs9.1 rfl) rfl rfl hl.1 rfl (lv_room (Nat.le_of_ble_eq_true rfl)) dX1_covered_4 ⟨Nat.le_of_ble_eq_true rfl, Nat.le_of_ble_eq_true rfl⟩) hW (fun r_ u_ H locs hp hW => ?_)
  obtain ⟨er, rfl⟩ := hp
  subst er
  rw [ct_320 hbs9.2.2.2.2.1.2 hbs9.2.2.2.2.2]
  exact g_iret (v := nI (fb_ct cov 320)) hx hb hr hlocks hW (⟨rfl, rfl⟩) (by omega) (by omega) dX1_covered_7
set_option maxHeartbeats 4000000 in
set_option maxRecDepth 100000 in
/-- ShrinkYard.keptAt -/
theorem mtX1_keptAt (l : Launch) (hl9 : l.stackTraces = false) (D : va_G) (w : g_H) (sz : Nat) (lab : Nat → Nat) (x fq ac rn tt : Nat) (P : List mI) (C : List yC) (A : Nat → List (List Nat)) (cov : Nat → Bool) (K : List (List Nat)) (F : List (List Nat × List Nat × Int32)) (cp : Nat → Nat) (hS : g_SY D w lab x P C A cov K fq ac F rn tt cp) (i9 : Int32) : vx_Met l yX1_keptAt (ws_ yX1_keptAt cX1_keptAt 2 (some (.object "java/lang/String"))) ({ frames := 9, cells := 1, slots := 6, locals := 131 }) (g_Pc D [.ref x, .int (i9)] w sz) (g_Qq D w sz (fun r u => (¬ i9 < 0 ∧ i9 < nI K.length) ∧ (∃ s9, r = some s9 ∧ g_Str D w s9 (txt (K.getD i9.toNatClampNeg []))) ∧ w = u)) (g_XC D w sz (fun E u => E = "java/lang/IndexOutOfBoundsException" ∧ ¬ (¬ i9 < 0 ∧ i9 < nI K.length) ∧ w = u)) (1) (6) (g_A w sz) := by
  refine vx_ofW (cc := cX1_keptAt) (maxL := 2) (ret := (some (.object "java/lang/String"))) (by decide) rfl ?_
  intro p e s m args below meth c s₁ B hml hhand hv
  have hout : ∀ pc : Nat, ∀ x ∈ c.exceptionTable.toList, covers x pc = false := fun _ x hx => (hhand x hx).elim
  obtain ⟨rfl, hI⟩ := hv
  have hx := B.exec
  have hb := B.bytes
  have hr := B.returns
  have hts := atoms_spec (ws := ws_ yX1_keptAt cX1_keptAt 2 (some (.object "java/lang/String"))) B.pre
  have hts : ∀ w ∈ lw_all, w.before _ s = true := fun w h => hts w (List.mem_cons_of_mem _ h)
  have hown : s.vm.findClass RX1 = some m.cls := findClass_of_methodNamed B.named
  have hlocks := B.notSynchronized
  have hsz := hI.1
  subst hsz
  have hW := g_W.start hI
  have hK := g_K hI
  have hE := g_E hI
  have hl := lv_entry ([.ref x, .int (i9)]) (n := 2) (by exact Nat.le_of_ble_eq_true rfl)
  rw [lg_entry_eq]
  generalize (lg_sl ([.ref x, .int (i9)]) ++ List.replicate (2 - (lg_sl ([.ref x, .int (i9)])).length) Slot.unset).toArray = ls at hl ⊢
  have hl : lv_has ls 2 [(0, .ref x), (1, .int (i9))] := hl
  obtain ⟨pg, ch, al, m9, cv, kp, qu, fi, ps, chs, als, ks, qs, fs, ys, ⟨h1, h1l⟩, ⟨h2, h2a, h2b, h2c⟩, ⟨h3, h3a, h3b, h3c⟩, ⟨h4, h4a, h4b⟩, h5, h6, ⟨h7, h7a, h7b⟩, ⟨h8, h8a, h8b⟩, ⟨h9, h9a⟩, hbd⟩ := id hS
  obtain ⟨ar9, hal9, -⟩ := id h7
  obtain ⟨mo9, hat9, -⟩ := id hal9
  have en : ks.length = K.length := h7a.1.trans (List.length_map ..)
  refine lv_iload_n hx hb dX1_keptAt_0 rfl (lv_at hl 1 rfl) ?_
  refine lv_aload_n hx hb dX1_keptAt_1 rfl (lv_at hl 0 rfl) ?_
  refine g_get (ci := 0) (v := .ref kp) (C := RX1) (T := TX1) (N := 11) hx hb hts in_X1 hown hK hW h1 rfl 5 (by decide) q359 (fun _ h9 => h9) rfl dX1_keptAt_2 ?_
  refine g_callFi (va_runF (cC := D.1 11) (hK.1 11 _ rfl).2 (As := []) (rest := [.int (i9)]) ⟨hx, hb, hml, hown, hts⟩ (mtJ2_size l D w s.heap.size kp ar9 (cp 11) ks hal9) (va_cwF 0 hts (lw_app (lw_in _ [438, 441, 443, 37] (by decide +kernel) (by decide +kernel)) (lw_meth q445)) rfl rfl rfl (fw_24 hE) (by decide +kernel) ⟨Nat.le_of_ble_eq_true rfl, Nat.le_of_ble_eq_true rfl⟩) (g_preV hW hK hE hat9 rfl) rfl rfl hl.1 rfl (lv_room (Nat.le_of_ble_eq_true rfl)) dX1_keptAt_5 ⟨?_, ?_⟩) hW (fun r_ u_ H locs hp hW => ?_)
  · (try simp only [headSpec]); omega
  · (try simp only [headSpec]); omega
  obtain ⟨er, rfl⟩ := hp
  subst er
  refine g_xcallv (vx_runS (As := [.int (i9), .int (nI ks.length)]) (rest := []) ⟨hx, hb, hml, hown, hts⟩ (mtX1_requireIndex l hl9 D w H.size i9 (nI ks.length)) (va_cwS 2 hts (lw_S q1728 q1729 q34 q1730) rfl rfl rfl (by decide +kernel) ⟨Nat.le_of_ble_eq_true rfl, Nat.le_of_ble_eq_true rfl⟩) (g_preS hW hK hE) rfl rfl hl.1 rfl (lv_room (Nat.le_of_ble_eq_true rfl)) dX1_keptAt_10 ⟨?_, ?_⟩) hW (fun E ce q9 u_ H locs hp hW hx1 hx2 hx3 => g_xout (hout _) hlocks hW (⟨hp.1, by rw [← en]; exact hp.2.1, hp.2.2⟩) hx1 hx2 hx3 ?_ ?_) (fun u_ H locs hp hW => ?_)
  · (try simp only [headSpec]); omega
  · (try simp only [headSpec]); omega
  · (try simp only [headSpec]); omega
  · (try simp only [headSpec]); omega
  obtain ⟨⟨hi1, hi2⟩, rfl⟩ := hp
  obtain ⟨j, hj31, hj⟩ := nI_of hi1
  subst hj
  have hjl : j < ks.length := (nI_ltI hj31 (by omega)).mp hi2
  have ej : (nI j).toNatClampNeg = j := nI_clamp hj31
  refine lv_aload_n hx hb dX1_keptAt_13 rfl (lv_at hl 0 rfl) ?_
  refine g_get (ci := 0) (v := .ref kp) (C := RX1) (T := TX1) (N := 11) hx hb hts in_X1 hown hK hW h1 rfl 5 (by decide) q359 (fun _ h9 => h9) rfl dX1_keptAt_14 ?_
  refine lv_iload_n hx hb dX1_keptAt_17 rfl (lv_at hl 1 rfl) ?_
  refine g_callFq (va_runF (cC := D.1 11) (hK.1 11 _ rfl).2 (As := [.int (nI j)]) (rest := []) ⟨hx, hb, hml, hown, hts⟩ (mtJ2_get l D w H.size kp ar9 (cp 11) ks hal9 j hjl) (va_cwF 1 hts (lw_app (lw_in _ [788, 791, 793, 37] (by decide +kernel) (by decide +kernel)) (lw_meth q795)) rfl rfl rfl (fw_26 hE) (by decide +kernel) ⟨Nat.le_of_ble_eq_true rfl, Nat.le_of_ble_eq_true rfl⟩) (g_preV hW hK hE hat9 rfl) rfl rfl hl.1 rfl (lv_room (Nat.le_of_ble_eq_true rfl)) dX1_keptAt_18 ⟨?_, ?_⟩) hW (fun r_ u_ H locs hp hW => ?_)
  · (try simp only [headSpec]); omega
  · (try simp only [headSpec]); omega
  obtain ⟨er, rfl⟩ := hp
  subst er
  have hstr : g_Str D w (ks.getD j 0) (txt (K.getD j [])) := by
        have h := h7a.2 j (by rw [List.length_map]; omega)
        have e : (K.map txt).getD j [] = txt (K.getD j []) := by rw [List.getD_eq_getElem?_getD, List.getElem?_map, List.getD_eq_getElem?_getD, List.getElem?_eq_getElem (by omega)]; rfl
        rw [← e]; exact h
  refine va_castS hx hb hown (hts _ q1107) (hK.1 16 _ rfl).2 (g_Ob.rd (D := D) (ci := 16) hstr.ob rfl hK hE hW) dX1_keptAt_23 ?_
  exact vx_ret (g_qret (v := some (ks.getD j 0)) hx hb hr (Or.inl ⟨_, rfl⟩) hlocks hW (⟨⟨hi1, by rw [← en]; exact hi2⟩, ⟨_, rfl, by rw [ej]; exact hstr⟩, rfl⟩) (by omega) (by omega) dX1_keptAt_26)
set_option maxHeartbeats 4000000 in
set_option maxRecDepth 100000 in
/-- ShrinkYard.findingAt -/
theorem mtX1_findingAt (l : Launch) (hl9 : l.stackTraces = false) (D : va_G) (w : g_H) (sz : Nat) (lab : Nat → Nat) (x fq ac rn tt : Nat) (P : List mI) (C : List yC) (A : Nat → List (List Nat)) (cov : Nat → Bool) (K : List (List Nat)) (F : List (List Nat × List Nat × Int32)) (cp : Nat → Nat) (hS : g_SY D w lab x P C A cov K fq ac F rn tt cp) (i9 : Int32) : vx_Met l yX1_findingAt (ws_ yX1_findingAt cX1_findingAt 2 (some (.object "Finding"))) ({ frames := 9, cells := 1, slots := 6, locals := 131 }) (g_Pc D [.ref x, .int (i9)] w sz) (g_Qq D w sz (fun r u => (¬ i9 < 0 ∧ i9 < nI F.length) ∧ (∃ s9, r = some s9 ∧ g_Fins D w [s9] [F.getD i9.toNatClampNeg ([], [], 0)]) ∧ w = u)) (g_XC D w sz (fun E u => E = "java/lang/IndexOutOfBoundsException" ∧ ¬ (¬ i9 < 0 ∧ i9 < nI F.length) ∧ w = u)) (1) (6) (g_A w sz) := by
  refine vx_ofW (cc := cX1_findingAt) (maxL := 2) (ret := (some (.object "Finding"))) (by decide) rfl ?_
  intro p e s m args below meth c s₁ B hml hhand hv
  have hout : ∀ pc : Nat, ∀ x ∈ c.exceptionTable.toList, covers x pc = false := fun _ x hx => (hhand x hx).elim
  obtain ⟨rfl, hI⟩ := hv
  have hx := B.exec
  have hb := B.bytes
  have hr := B.returns
  have hts := atoms_spec (ws := ws_ yX1_findingAt cX1_findingAt 2 (some (.object "Finding"))) B.pre
  have hts : ∀ w ∈ lw_all, w.before _ s = true := fun w h => hts w (List.mem_cons_of_mem _ h)
  have hown : s.vm.findClass RX1 = some m.cls := findClass_of_methodNamed B.named
  have hlocks := B.notSynchronized
  have hsz := hI.1
  subst hsz
  have hW := g_W.start hI
  have hK := g_K hI
  have hE := g_E hI
  have hl := lv_entry ([.ref x, .int (i9)]) (n := 2) (by exact Nat.le_of_ble_eq_true rfl)
  rw [lg_entry_eq]
  generalize (lg_sl ([.ref x, .int (i9)]) ++ List.replicate (2 - (lg_sl ([.ref x, .int (i9)])).length) Slot.unset).toArray = ls at hl ⊢
  have hl : lv_has ls 2 [(0, .ref x), (1, .int (i9))] := hl
  obtain ⟨pg, ch, al, m9, cv, kp, qu, fi, ps, chs, als, ks, qs, fs, ys, ⟨h1, h1l⟩, ⟨h2, h2a, h2b, h2c⟩, ⟨h3, h3a, h3b, h3c⟩, ⟨h4, h4a, h4b⟩, h5, h6, ⟨h7, h7a, h7b⟩, ⟨h8, h8a, h8b⟩, ⟨h9, h9a⟩, hbd⟩ := id hS
  obtain ⟨ar9, hal9, -⟩ := id h9
  obtain ⟨mo9, hat9, -⟩ := id hal9
  have en : fs.length = F.length := h9a.1
  refine lv_iload_n hx hb dX1_findingAt_0 rfl (lv_at hl 1 rfl) ?_
  refine lv_aload_n hx hb dX1_findingAt_1 rfl (lv_at hl 0 rfl) ?_
  refine g_get (ci := 0) (v := .ref fi) (C := RX1) (T := TX1) (N := 11) hx hb hts in_X1 hown hK hW h1 rfl 7 (by decide) q361 (fun _ h9 => h9) rfl dX1_findingAt_2 ?_
  refine g_callFi (va_runF (cC := D.1 11) (hK.1 11 _ rfl).2 (As := []) (rest := [.int (i9)]) ⟨hx, hb, hml, hown, hts⟩ (mtJ2_size l D w s.heap.size fi ar9 (cp 13) fs hal9) (va_cwF 0 hts (lw_app (lw_in _ [438, 441, 443, 37] (by decide +kernel) (by decide +kernel)) (lw_meth q445)) rfl rfl rfl (fw_24 hE) (by decide +kernel) ⟨Nat.le_of_ble_eq_true rfl, Nat.le_of_ble_eq_true rfl⟩) (g_preV hW hK hE hat9 rfl) rfl rfl hl.1 rfl (lv_room (Nat.le_of_ble_eq_true rfl)) dX1_findingAt_5 ⟨?_, ?_⟩) hW (fun r_ u_ H locs hp hW => ?_)
  · (try simp only [headSpec]); omega
  · (try simp only [headSpec]); omega
  obtain ⟨er, rfl⟩ := hp
  subst er
  refine g_xcallv (vx_runS (As := [.int (i9), .int (nI fs.length)]) (rest := []) ⟨hx, hb, hml, hown, hts⟩ (mtX1_requireIndex l hl9 D w H.size i9 (nI fs.length)) (va_cwS 2 hts (lw_S q1728 q1729 q34 q1730) rfl rfl rfl (by decide +kernel) ⟨Nat.le_of_ble_eq_true rfl, Nat.le_of_ble_eq_true rfl⟩) (g_preS hW hK hE) rfl rfl hl.1 rfl (lv_room (Nat.le_of_ble_eq_true rfl)) dX1_findingAt_10 ⟨?_, ?_⟩) hW (fun E ce q9 u_ H locs hp hW hx1 hx2 hx3 => g_xout (hout _) hlocks hW (⟨hp.1, by rw [← en]; exact hp.2.1, hp.2.2⟩) hx1 hx2 hx3 ?_ ?_) (fun u_ H locs hp hW => ?_)
  · (try simp only [headSpec]); omega
  · (try simp only [headSpec]); omega
  · (try simp only [headSpec]); omega
  · (try simp only [headSpec]); omega
  obtain ⟨⟨hi1, hi2⟩, rfl⟩ := hp
  obtain ⟨j, hj31, hj⟩ := nI_of hi1
  subst hj
  have hjl : j < fs.length := (nI_ltI hj31 (by omega)).mp hi2
  have ej : (nI j).toNatClampNeg = j := nI_clamp hj31
  refine lv_aload_n hx hb dX1_findingAt_13 rfl (lv_at hl 0 rfl) ?_
  refine g_get (ci := 0) (v := .ref fi) (C := RX1) (T := TX1) (N := 11) hx hb hts in_X1 hown hK hW h1 rfl 7 (by decide) q361 (fun _ h9 => h9) rfl dX1_findingAt_14 ?_
  refine lv_iload_n hx hb dX1_findingAt_17 rfl (lv_at hl 1 rfl) ?_
  refine g_callFq (va_runF (cC := D.1 11) (hK.1 11 _ rfl).2 (As := [.int (nI j)]) (rest := []) ⟨hx, hb, hml, hown, hts⟩ (mtJ2_get l D w H.size fi ar9 (cp 13) fs hal9 j hjl) (va_cwF 1 hts (lw_app (lw_in _ [788, 791, 793, 37] (by decide +kernel) (by decide +kernel)) (lw_meth q795)) rfl rfl rfl (fw_26 hE) (by decide +kernel) ⟨Nat.le_of_ble_eq_true rfl, Nat.le_of_ble_eq_true rfl⟩) (g_preV hW hK hE hat9 rfl) rfl rfl hl.1 rfl (lv_room (Nat.le_of_ble_eq_true rfl)) dX1_findingAt_18 ⟨?_, ?_⟩) hW (fun r_ u_ H locs hp hW => ?_)
  · (try simp only [headSpec]); omega
  · (try simp only [headSpec]); omega
  obtain ⟨er, rfl⟩ := hp
  subst er
  obtain ⟨a9, b9, hf1, hf2, hf3⟩ := h9a.2 j (by omega)
  refine va_castS hx hb hown (hts _ q1525) (hK.1 8 _ rfl).2 (g_Ob.rd (D := D) (w := w) (ci := 8) (Or.inl ⟨_, hf1⟩) rfl hK hE hW) dX1_findingAt_23 ?_
  exact vx_ret (g_qret (v := some (fs.getD j 0)) hx hb hr (Or.inl ⟨_, rfl⟩) hlocks hW (⟨⟨hi1, by rw [← en]; exact hi2⟩, ⟨_, rfl, rfl, fun z hz => by
    have ez : z = 0 := by simp at hz; exact hz
    subst ez; rw [ej]; exact ⟨a9, b9, hf1, hf2, hf3⟩⟩, rfl⟩) (by omega) (by omega) dX1_findingAt_26)
set_option maxHeartbeats 4000000 in
set_option maxRecDepth 100000 in
/-- ShrinkYard.isCovered -/
theorem mtX1_isCovered (l : Launch) (hl9 : l.stackTraces = false) (D : va_G) (w : g_H) (sz : Nat) (lab : Nat → Nat) (x fq ac rn tt : Nat) (P : List mI) (C : List yC) (A : Nat → List (List Nat)) (cov : Nat → Bool) (K : List (List Nat)) (F : List (List Nat × List Nat × Int32)) (cp : Nat → Nat) (hS : g_SY D w lab x P C A cov K fq ac F rn tt cp) (i9 j9 : Int32) : vx_Met l yX1_isCovered (ws_ yX1_isCovered cX1_isCovered 3 (some .boolean)) ({ frames := 9, cells := 2, slots := 12, locals := 131 }) (g_Pc D [.ref x, .int (i9), .int (j9)] w sz) (g_Qi D w sz (fun r u => ((¬ i9 < 0 ∧ i9 < nI P.length) ∧ ¬ j9 < 0 ∧ j9 < nI (P.length + 1)) ∧ r = (if cov (17 * i9.toNatClampNeg + j9.toNatClampNeg) = true then 1 else 0) ∧ w = u)) (g_XC D w sz (fun E u => E = "java/lang/IndexOutOfBoundsException" ∧ ¬ ((¬ i9 < 0 ∧ i9 < nI P.length) ∧ ¬ j9 < 0 ∧ j9 < nI (P.length + 1)) ∧ w = u)) (2) (12) (g_A w sz) := by
  refine vx_ofW (cc := cX1_isCovered) (maxL := 3) (ret := (some .boolean)) (by decide) rfl ?_
  intro p e s m args below meth c s₁ B hml hhand hv
  have hout : ∀ pc : Nat, ∀ x ∈ c.exceptionTable.toList, covers x pc = false := fun _ x hx => (hhand x hx).elim
  obtain ⟨rfl, hI⟩ := hv
  have hx := B.exec
  have hb := B.bytes
  have hr := B.returns
  have hts := atoms_spec (ws := ws_ yX1_isCovered cX1_isCovered 3 (some .boolean)) B.pre
  have hts : ∀ w ∈ lw_all, w.before _ s = true := fun w h => hts w (List.mem_cons_of_mem _ h)
  have hown : s.vm.findClass RX1 = some m.cls := findClass_of_methodNamed B.named
  have hlocks := B.notSynchronized
  have hsz := hI.1
  subst hsz
  have hW := g_W.start hI
  have hK := g_K hI
  have hE := g_E hI
  have hl := lv_entry ([.ref x, .int (i9), .int (j9)]) (n := 3) (by exact Nat.le_of_ble_eq_true rfl)
  rw [lg_entry_eq]
  generalize (lg_sl ([.ref x, .int (i9), .int (j9)]) ++ List.replicate (3 - (lg_sl ([.ref x, .int (i9), .int (j9)])).length) Slot.unset).toArray = ls at hl ⊢
  have hl : lv_has ls 3 [(0, .ref x), (1, .int (i9)), (2, .int (j9))] := hl
  obtain ⟨pg, ch, al, m9, cv, kp, qu, fi, ps, chs, als, ks, qs, fs, ys, ⟨h1, h1l⟩, ⟨h2, h2a, h2b, h2c⟩, ⟨h3, h3a, h3b, h3c⟩, ⟨h4, h4a, h4b⟩, h5, h6, ⟨h7, h7a, h7b⟩, ⟨h8, h8a, h8b⟩, ⟨h9, h9a⟩, hbd⟩ := id hS
  obtain ⟨ar9, hal9, -⟩ := id h2
  obtain ⟨mo9, hat9, -⟩ := id hal9
  obtain ⟨wa9, n9, hbs9, -, -⟩ := id h6
  refine lv_iload_n hx hb dX1_isCovered_0 rfl (lv_at hl 1 rfl) ?_
  refine lv_aload_n hx hb dX1_isCovered_1 rfl (lv_at hl 0 rfl) ?_
  refine g_get (ci := 0) (v := .ref pg) (C := RX1) (T := TX1) (N := 11) hx hb hts in_X1 hown hK hW h1 rfl 0 (by decide) q354 (fun _ h9 => h9) rfl dX1_isCovered_2 ?_
  refine g_callFi (va_runF (cC := D.1 11) (hK.1 11 _ rfl).2 (As := []) (rest := [.int (i9)]) ⟨hx, hb, hml, hown, hts⟩ (mtJ2_size l D w s.heap.size pg ar9 (cp 2) ps hal9) (va_cwF 0 hts (lw_app (lw_in _ [438, 441, 443, 37] (by decide +kernel) (by decide +kernel)) (lw_meth q445)) rfl rfl rfl (fw_24 hE) (by decide +kernel) ⟨Nat.le_of_ble_eq_true rfl, Nat.le_of_ble_eq_true rfl⟩) (g_preV hW hK hE hat9 rfl) rfl rfl hl.1 rfl (lv_room (Nat.le_of_ble_eq_true rfl)) dX1_isCovered_5 ⟨?_, ?_⟩) hW (fun r_ u_ H locs hp hW => ?_)
  · (try simp only [headSpec]); omega
  · (try simp only [headSpec]); omega
  obtain ⟨er, rfl⟩ := hp
  subst er
  refine g_xcallv (vx_runS (As := [.int (i9), .int (nI ps.length)]) (rest := []) ⟨hx, hb, hml, hown, hts⟩ (mtX1_requireIndex l hl9 D w H.size i9 (nI ps.length)) (va_cwS 2 hts (lw_S q1728 q1729 q34 q1730) rfl rfl rfl (by decide +kernel) ⟨Nat.le_of_ble_eq_true rfl, Nat.le_of_ble_eq_true rfl⟩) (g_preS hW hK hE) rfl rfl hl.1 rfl (lv_room (Nat.le_of_ble_eq_true rfl)) dX1_isCovered_10 ⟨?_, ?_⟩) hW (fun E ce q9 u_ H locs hp hW hx1 hx2 hx3 => g_xout (hout _) hlocks hW (⟨hp.1, by rw [← h2a]; exact fun z => hp.2.1 z.1, hp.2.2⟩) hx1 hx2 hx3 ?_ ?_) (fun u_ H locs hp hW => ?_)
  · (try simp only [headSpec]); omega
  · (try simp only [headSpec]); omega
  · (try simp only [headSpec]); omega
  · (try simp only [headSpec]); omega
  obtain ⟨⟨hi1, hi2⟩, rfl⟩ := hp
  refine lv_iload_n hx hb dX1_isCovered_13 rfl (lv_at hl 2 rfl) ?_
  refine lv_aload_n hx hb dX1_isCovered_14 rfl (lv_at hl 0 rfl) ?_
  refine g_get (ci := 0) (v := .ref pg) (C := RX1) (T := TX1) (N := 11) hx hb hts in_X1 hown hK hW h1 rfl 0 (by decide) q354 (fun _ h9 => h9) rfl dX1_isCovered_15 ?_
  refine g_callFi (va_runF (cC := D.1 11) (hK.1 11 _ rfl).2 (As := []) (rest := [.int (j9)]) ⟨hx, hb, hml, hown, hts⟩ (mtJ2_size l D w H.size pg ar9 (cp 2) ps hal9) (va_cwF 0 hts (lw_app (lw_in _ [438, 441, 443, 37] (by decide +kernel) (by decide +kernel)) (lw_meth q445)) rfl rfl rfl (fw_24 hE) (by decide +kernel) ⟨Nat.le_of_ble_eq_true rfl, Nat.le_of_ble_eq_true rfl⟩) (g_preV hW hK hE hat9 rfl) rfl rfl hl.1 rfl (lv_room (Nat.le_of_ble_eq_true rfl)) dX1_isCovered_18 ⟨?_, ?_⟩) hW (fun r_ u_ H locs hp hW => ?_)
  · (try simp only [headSpec]); omega
  · (try simp only [headSpec]); omega
  obtain ⟨er, rfl⟩ := hp
  subst er
  refine lv_iconst (v := 1) hx hb dX1_isCovered_23 (by decide) ?_
  refine lv_iadd hx hb dX1_isCovered_24 ?_
  refine g_topi (y := nI (ps.length + 1)) (nI_1 _) ?_
  refine g_xcallv (vx_runS (As := [.int (j9), .int (nI (ps.length + 1))]) (rest := []) ⟨hx, hb, hml, hown, hts⟩ (mtX1_requireIndex l hl9 D w H.size j9 (nI (ps.length + 1))) (va_cwS 2 hts (lw_S q1728 q1729 q34 q1730) rfl rfl rfl (by decide +kernel) ⟨Nat.le_of_ble_eq_true rfl, Nat.le_of_ble_eq_true rfl⟩) (g_preS hW hK hE) rfl rfl hl.1 rfl (lv_room (Nat.le_of_ble_eq_true rfl)) dX1_isCovered_25 ⟨?_, ?_⟩) hW (fun E ce q9 u_ H locs hp hW hx1 hx2 hx3 => g_xout (hout _) hlocks hW (⟨hp.1, by rw [← h2a]; exact fun z => hp.2.1 z.2, hp.2.2⟩) hx1 hx2 hx3 ?_ ?_) (fun u_ H locs hp hW => ?_)
  · (try simp only [headSpec]); omega
  · (try simp only [headSpec]); omega
  · (try simp only [headSpec]); omega
  · (try simp only [headSpec]); omega
  obtain ⟨⟨hj1, hj2⟩, rfl⟩ := hp
  obtain ⟨i, hi31, hi⟩ := nI_of hi1
  subst hi
  obtain ⟨j, hj31, hj⟩ := nI_of hj1
  subst hj
  have hil : i < ps.length := (nI_ltI hi31 (by omega)).mp hi2
  have hjl : j < ps.length + 1 := (nI_ltI hj31 (by omega)).mp hj2
  have ei : (nI i).toNatClampNeg = i := nI_clamp hi31
  have ej : (nI j).toNatClampNeg = j := nI_clamp hj31
  refine lv_aload_n hx hb dX1_isCovered_28 rfl (lv_at hl 0 rfl) ?_
  refine g_get (ci := 0) (v := .ref cv) (C := RX1) (T := TX1) (N := 11) hx hb hts in_X1 hown hK hW h1 rfl 4 (by decide) q358 (fun _ h9 => h9) rfl dX1_isCovered_29 ?_
  refine lv_bipush (v := 17) hx hb dX1_isCovered_32 (by decide) ?_
  refine lv_iload_n hx hb dX1_isCovered_34 rfl (lv_at hl 1 rfl) ?_
  refine lv_imul hx hb dX1_isCovered_35 ?_
  refine lv_iload_n hx hb dX1_isCovered_36 rfl (lv_at hl 2 rfl) ?_
  refine lv_iadd hx hb dX1_isCovered_37 ?_
  refine g_topi (y := nI (17 * i + j)) (by rw [show ((17 : Int32) * nI i) = nI (17 * i) from (Int32.ofNat_mul 17 i).symm, nI_add]) ?_
  refine g_calli (va_runV (As := [.int (nI (17 * i + j))]) (rest := []) ⟨hx, hb, hml, hown, hts⟩ (mtJ3_get l D w H.size cv wa9 n9 (cp 10) cov hbs9 (17 * i + j) (by omega)) (cwV 1 hts (lw_V q1736 q1737 q1738 q39 q1739) rfl rfl rfl (by decide +kernel) ⟨Nat.le_of_ble_eq_true rfl, Nat.le_of_ble_eq_true rfl⟩) (g_preV hW hK hE hbs9.1 rfl) rfl rfl hl.1 rfl (lv_room (Nat.le_of_ble_eq_true rfl)) dX1_isCovered_38 ⟨?_, ?_⟩) hW (fun r_ u_ H locs hp hW => ?_)
  · (try simp only [headSpec]); omega
  · (try simp only [headSpec]); omega
  obtain ⟨er, rfl⟩ := hp
  subst er
  have hcond : ((¬ nI i < 0 ∧ nI i < nI P.length) ∧ ¬ nI j < 0 ∧ nI j < nI (P.length + 1)) := by rw [← h2a]; exact ⟨⟨hi1, hi2⟩, hj1, hj2⟩
  by_cases hq : cov (17 * i + j) = true
  · rw [if_pos hq]
    exact vx_ret (g_zret (v := 1) hx hb hr hlocks (by rfl) hW (⟨hcond, by rw [ei, ej, if_pos hq], rfl⟩) (by omega) (by omega) dX1_isCovered_41)
  · rw [if_neg hq]
    exact vx_ret (g_zret (v := 0) hx hb hr hlocks (by rfl) hW (⟨hcond, by rw [ei, ej, if_neg hq], rfl⟩) (by omega) (by omega) dX1_isCovered_41)
