/-! small records: Instruction, Finding, the edits' constructors and places -/
set_option maxRecDepth 100000
set_option maxHeartbeats 4000000 in
set_option maxRecDepth 100000 in
/-- new Instruction -/
theorem mtX5_init (l : Launch) (D : va_G) (w : g_H) (sz : Nat) (a : Nat) (v0 : Nat) (v1 : Int32) (v2 : Int32) (v3 : Int32) (ha : g_at w a (.inr (7, [.null, .int (0), .int (0), .int (0)]))) : Met l yX5_init (ws_ yX5_init cX5_init 5 none) ({ frames := 1, cells := 0, slots := 0, locals := 12 }) (g_Pc D [.ref a, .ref v0, .int (v1), .int (v2), .int (v3)] w sz) (g_Qv D w sz (fun u => g_at u a (.inr (7, [.ref v0, .int (v1), .int (v2), .int (v3)])) ∧ g_ex (fun q => q = a) w u)) (0) (0) (g_A w sz) := by
  refine Met.ofW (cc := cX5_init) (maxL := 5) (ret := none) (by decide) rfl ?_
  intro p e s m args below meth c s₁ B hml hv
  obtain ⟨rfl, hI⟩ := hv
  have hx := B.exec
  have hb := B.bytes
  have hr := B.returns
  have hts := atoms_spec (ws := ws_ yX5_init cX5_init 5 none) B.pre
  have hts : ∀ w ∈ lw_all, w.before _ s = true := fun w h => hts w (List.mem_cons_of_mem _ h)
  have hown : s.vm.findClass RX5 = some m.cls := findClass_of_methodNamed B.named
  have hlocks := B.notSynchronized
  have hin : meth.name = "<init>" := (name_of_methodNamed B.named B.method).1
  have hsz := hI.1
  subst hsz
  have hW := g_W.start hI
  have hK := g_K hI
  have hE := g_E hI
  have hl := lv_entry ([.ref a, .ref v0, .int (v1), .int (v2), .int (v3)]) (n := 5) (by exact Nat.le_of_ble_eq_true rfl)
  rw [lg_entry_eq]
  generalize (lg_sl ([.ref a, .ref v0, .int (v1), .int (v2), .int (v3)]) ++ List.replicate (5 - (lg_sl ([.ref a, .ref v0, .int (v1), .int (v2), .int (v3)])).length) Slot.unset).toArray = ls at hl ⊢
  have hl : lv_has ls 5 [(0, .ref a), (1, .ref v0), (2, .int (v1)), (3, .int (v2)), (4, .int (v3))] := hl
  have x_1 : g_ex (fun q => q = a) w w := g_ex.rf
  refine lv_aload_n hx hb dX5_init_0 rfl (lv_at hl 0 rfl) ?_
  refine W.objInit hx hb hown (hts _ q103) (hts _ q104) (hts _ q105) rfl (by rw [hml]; exact hl.1) rfl dX5_init_1 (Nat.le_of_ble_eq_true rfl) (Nat.le_of_ble_eq_true rfl) ?_
  refine W.eq (g2 := F0 m 4 ls []) rfl ?_
  refine lv_aload_n hx hb dX5_init_4 rfl (lv_at hl 0 rfl) ?_
  refine lv_aload_n hx hb dX5_init_5 rfl (lv_at hl 1 rfl) ?_
  refine g_putF (ci := 7) (v := .ref v0) (ty := (.object "Op")) (C := RX5) (T := TX5) (N := 4) hx hb hts in_X5 tyX5 tyX5_ok nmX5 hown hK hW ha rfl 0 (by decide) q106 (fun _ h9 => h9) rfl hin rfl (by decide +kernel) rfl rfl (Nat.le_of_ble_eq_true rfl) dX5_init_6 (fun H locs hW => ?_)
  obtain ⟨w_2, ew_2⟩ : ∃ z__, z__ = g_put w a (.inr (7, [.ref v0, .int (0), .int (0), .int (0)])) := ⟨_, rfl⟩
  have hW := g_W.ren hW ew_2 rfl
  have h_3 : g_at w_2 a (.inr (7, [.ref v0, .int (0), .int (0), .int (0)])) := by rw [ew_2]; exact g_at.put_self ha.1
  have x_4 : g_ex (fun q => q = a) w w_2 := by rw [ew_2]; exact x_1.put (fun hz9 => rfl)
  refine lv_aload_n hx hb dX5_init_9 rfl (lv_at hl 0 rfl) ?_
  refine lv_iload_n hx hb dX5_init_10 rfl (lv_at hl 2 rfl) ?_
  refine g_putF (ci := 7) (v := .int (v1)) (ty := .int) (C := RX5) (T := TX5) (N := 4) hx hb hts in_X5 tyX5 tyX5_ok nmX5 hown hK hW h_3 rfl 1 (by decide) q107 (fun _ h9 => h9) rfl hin rfl (by decide +kernel) rfl rfl (Nat.le_of_ble_eq_true rfl) dX5_init_11 (fun H locs hW => ?_)
  obtain ⟨w_5, ew_5⟩ : ∃ z__, z__ = g_put w_2 a (.inr (7, [.ref v0, .int (v1), .int (0), .int (0)])) := ⟨_, rfl⟩
  have hW := g_W.ren hW ew_5 rfl
  have h_6 : g_at w_5 a (.inr (7, [.ref v0, .int (v1), .int (0), .int (0)])) := by rw [ew_5]; exact g_at.put_self h_3.1
  have x_7 : g_ex (fun q => q = a) w w_5 := by rw [ew_5]; exact x_4.put (fun hz9 => rfl)
  refine lv_aload_n hx hb dX5_init_14 rfl (lv_at hl 0 rfl) ?_
  refine lv_iload_n hx hb dX5_init_15 rfl (lv_at hl 3 rfl) ?_
  refine g_putF (ci := 7) (v := .int (v2)) (ty := .int) (C := RX5) (T := TX5) (N := 4) hx hb hts in_X5 tyX5 tyX5_ok nmX5 hown hK hW h_6 rfl 2 (by decide) q108 (fun _ h9 => h9) rfl hin rfl (by decide +kernel) rfl rfl (Nat.le_of_ble_eq_true rfl) dX5_init_16 (fun H locs hW => ?_)
  obtain ⟨w_8, ew_8⟩ : ∃ z__, z__ = g_put w_5 a (.inr (7, [.ref v0, .int (v1), .int (v2), .int (0)])) := ⟨_, rfl⟩
  have hW := g_W.ren hW ew_8 rfl
  have h_9 : g_at w_8 a (.inr (7, [.ref v0, .int (v1), .int (v2), .int (0)])) := by rw [ew_8]; exact g_at.put_self h_6.1
  have x_10 : g_ex (fun q => q = a) w w_8 := by rw [ew_8]; exact x_7.put (fun hz9 => rfl)
  refine lv_aload_n hx hb dX5_init_19 rfl (lv_at hl 0 rfl) ?_
  refine lv_iload hx hb dX5_init_20 (lv_at hl 4 rfl) ?_
  refine g_putF (ci := 7) (v := .int (v3)) (ty := .int) (C := RX5) (T := TX5) (N := 4) hx hb hts in_X5 tyX5 tyX5_ok nmX5 hown hK hW h_9 rfl 3 (by decide) q109 (fun _ h9 => h9) rfl hin rfl (by decide +kernel) rfl rfl (Nat.le_of_ble_eq_true rfl) dX5_init_22 (fun H locs hW => ?_)
  obtain ⟨w_11, ew_11⟩ : ∃ z__, z__ = g_put w_8 a (.inr (7, [.ref v0, .int (v1), .int (v2), .int (v3)])) := ⟨_, rfl⟩
  have hW := g_W.ren hW ew_11 rfl
  have h_12 : g_at w_11 a (.inr (7, [.ref v0, .int (v1), .int (v2), .int (v3)])) := by rw [ew_11]; exact g_at.put_self h_9.1
  have x_13 : g_ex (fun q => q = a) w w_11 := by rw [ew_11]; exact x_10.put (fun hz9 => rfl)
  exact g_vret hx hb hr hlocks hW (⟨h_12, x_13⟩) (by omega) (by omega) dX5_init_25
set_option maxHeartbeats 4000000 in
set_option maxRecDepth 100000 in
/-- Instruction.op -/
theorem mtX5_op (l : Launch) (D : va_G) (w : g_H) (sz : Nat) (a : Nat) (v0 : Nat) (v1 : Int32) (v2 : Int32) (v3 : Int32) (ha : g_at w a (.inr (7, [.ref v0, .int (v1), .int (v2), .int (v3)]))) : Met l yX5_op (ws_ yX5_op cX5_op 1 (some (.object "Op"))) ({ frames := 1, cells := 0, slots := 0, locals := 12 }) (g_Pc D [.ref a] w sz) (g_Qq D w sz (fun r u => r = some v0 ∧ w = u)) (0) (0) (g_A w sz) := by
  refine Met.ofW (cc := cX5_op) (maxL := 1) (ret := (some (.object "Op"))) (by decide) rfl ?_
  intro p e s m args below meth c s₁ B hml hv
  obtain ⟨rfl, hI⟩ := hv
  have hx := B.exec
  have hb := B.bytes
  have hr := B.returns
  have hts := atoms_spec (ws := ws_ yX5_op cX5_op 1 (some (.object "Op"))) B.pre
  have hts : ∀ w ∈ lw_all, w.before _ s = true := fun w h => hts w (List.mem_cons_of_mem _ h)
  have hown : s.vm.findClass RX5 = some m.cls := findClass_of_methodNamed B.named
  have hlocks := B.notSynchronized
  have hsz := hI.1
  subst hsz
  have hW := g_W.start hI
  have hK := g_K hI
  have hE := g_E hI
  have hl := lv_entry ([.ref a]) (n := 1) (by exact Nat.le_of_ble_eq_true rfl)
  rw [lg_entry_eq]
  generalize (lg_sl ([.ref a]) ++ List.replicate (1 - (lg_sl ([.ref a])).length) Slot.unset).toArray = ls at hl ⊢
  have hl : lv_has ls 1 [(0, .ref a)] := hl
  refine lv_aload_n hx hb dX5_op_0 rfl (lv_at hl 0 rfl) ?_
  refine g_get (ci := 7) (v := .ref v0) (C := RX5) (T := TX5) (N := 4) hx hb hts in_X5 hown hK hW ha rfl 0 (by decide) q106 (fun _ h9 => h9) rfl dX5_op_1 ?_
  exact g_qret (v := some v0) hx hb hr (Or.inl ⟨_, rfl⟩) hlocks hW ⟨rfl, rfl⟩ (by omega) (by omega) dX5_op_4
set_option maxHeartbeats 4000000 in
set_option maxRecDepth 100000 in
/-- Instruction.register -/
theorem mtX5_register (l : Launch) (D : va_G) (w : g_H) (sz : Nat) (a : Nat) (v0 : Nat) (v1 : Int32) (v2 : Int32) (v3 : Int32) (ha : g_at w a (.inr (7, [.ref v0, .int (v1), .int (v2), .int (v3)]))) : Met l yX5_register (ws_ yX5_register cX5_register 1 (some .int)) ({ frames := 1, cells := 0, slots := 0, locals := 12 }) (g_Pc D [.ref a] w sz) (g_Qi D w sz (fun r u => r = v1 ∧ w = u)) (0) (0) (g_A w sz) := by
  refine Met.ofW (cc := cX5_register) (maxL := 1) (ret := (some .int)) (by decide) rfl ?_
  intro p e s m args below meth c s₁ B hml hv
  obtain ⟨rfl, hI⟩ := hv
  have hx := B.exec
  have hb := B.bytes
  have hr := B.returns
  have hts := atoms_spec (ws := ws_ yX5_register cX5_register 1 (some .int)) B.pre
  have hts : ∀ w ∈ lw_all, w.before _ s = true := fun w h => hts w (List.mem_cons_of_mem _ h)
  have hown : s.vm.findClass RX5 = some m.cls := findClass_of_methodNamed B.named
  have hlocks := B.notSynchronized
  have hsz := hI.1
  subst hsz
  have hW := g_W.start hI
  have hK := g_K hI
  have hE := g_E hI
  have hl := lv_entry ([.ref a]) (n := 1) (by exact Nat.le_of_ble_eq_true rfl)
  rw [lg_entry_eq]
  generalize (lg_sl ([.ref a]) ++ List.replicate (1 - (lg_sl ([.ref a])).length) Slot.unset).toArray = ls at hl ⊢
  have hl : lv_has ls 1 [(0, .ref a)] := hl
  refine lv_aload_n hx hb dX5_register_0 rfl (lv_at hl 0 rfl) ?_
  refine g_get (ci := 7) (v := .int (v1)) (C := RX5) (T := TX5) (N := 4) hx hb hts in_X5 hown hK hW ha rfl 1 (by decide) q107 (fun _ h9 => h9) rfl dX5_register_1 ?_
  exact g_iret (v := v1) hx hb hr hlocks hW (⟨rfl, rfl⟩) (by omega) (by omega) dX5_register_4
set_option maxHeartbeats 4000000 in
set_option maxRecDepth 100000 in
/-- Instruction.value -/
theorem mtX5_value (l : Launch) (D : va_G) (w : g_H) (sz : Nat) (a : Nat) (v0 : Nat) (v1 : Int32) (v2 : Int32) (v3 : Int32) (ha : g_at w a (.inr (7, [.ref v0, .int (v1), .int (v2), .int (v3)]))) : Met l yX5_value (ws_ yX5_value cX5_value 1 (some .int)) ({ frames := 1, cells := 0, slots := 0, locals := 12 }) (g_Pc D [.ref a] w sz) (g_Qi D w sz (fun r u => r = v2 ∧ w = u)) (0) (0) (g_A w sz) := by
  refine Met.ofW (cc := cX5_value) (maxL := 1) (ret := (some .int)) (by decide) rfl ?_
  intro p e s m args below meth c s₁ B hml hv
  obtain ⟨rfl, hI⟩ := hv
  have hx := B.exec
  have hb := B.bytes
  have hr := B.returns
  have hts := atoms_spec (ws := ws_ yX5_value cX5_value 1 (some .int)) B.pre
  have hts : ∀ w ∈ lw_all, w.before _ s = true := fun w h => hts w (List.mem_cons_of_mem _ h)
  have hown : s.vm.findClass RX5 = some m.cls := findClass_of_methodNamed B.named
  have hlocks := B.notSynchronized
  have hsz := hI.1
  subst hsz
  have hW := g_W.start hI
  have hK := g_K hI
  have hE := g_E hI
  have hl := lv_entry ([.ref a]) (n := 1) (by exact Nat.le_of_ble_eq_true rfl)
  rw [lg_entry_eq]
  generalize (lg_sl ([.ref a]) ++ List.replicate (1 - (lg_sl ([.ref a])).length) Slot.unset).toArray = ls at hl ⊢
  have hl : lv_has ls 1 [(0, .ref a)] := hl
  refine lv_aload_n hx hb dX5_value_0 rfl (lv_at hl 0 rfl) ?_
  refine g_get (ci := 7) (v := .int (v2)) (C := RX5) (T := TX5) (N := 4) hx hb hts in_X5 hown hK hW ha rfl 2 (by decide) q108 (fun _ h9 => h9) rfl dX5_value_1 ?_
  exact g_iret (v := v2) hx hb hr hlocks hW (⟨rfl, rfl⟩) (by omega) (by omega) dX5_value_4
set_option maxHeartbeats 4000000 in
set_option maxRecDepth 100000 in
/-- Instruction.target -/
theorem mtX5_target (l : Launch) (D : va_G) (w : g_H) (sz : Nat) (a : Nat) (v0 : Nat) (v1 : Int32) (v2 : Int32) (v3 : Int32) (ha : g_at w a (.inr (7, [.ref v0, .int (v1), .int (v2), .int (v3)]))) : Met l yX5_target (ws_ yX5_target cX5_target 1 (some .int)) ({ frames := 1, cells := 0, slots := 0, locals := 12 }) (g_Pc D [.ref a] w sz) (g_Qi D w sz (fun r u => r = v3 ∧ w = u)) (0) (0) (g_A w sz) := by
  refine Met.ofW (cc := cX5_target) (maxL := 1) (ret := (some .int)) (by decide) rfl ?_
  intro p e s m args below meth c s₁ B hml hv
  obtain ⟨rfl, hI⟩ := hv
  have hx := B.exec
  have hb := B.bytes
  have hr := B.returns
  have hts := atoms_spec (ws := ws_ yX5_target cX5_target 1 (some .int)) B.pre
  have hts : ∀ w ∈ lw_all, w.before _ s = true := fun w h => hts w (List.mem_cons_of_mem _ h)
  have hown : s.vm.findClass RX5 = some m.cls := findClass_of_methodNamed B.named
  have hlocks := B.notSynchronized
  have hsz := hI.1
  subst hsz
  have hW := g_W.start hI
  have hK := g_K hI
  have hE := g_E hI
  have hl := lv_entry ([.ref a]) (n := 1) (by exact Nat.le_of_ble_eq_true rfl)
  rw [lg_entry_eq]
  generalize (lg_sl ([.ref a]) ++ List.replicate (1 - (lg_sl ([.ref a])).length) Slot.unset).toArray = ls at hl ⊢
  have hl : lv_has ls 1 [(0, .ref a)] := hl
  refine lv_aload_n hx hb dX5_target_0 rfl (lv_at hl 0 rfl) ?_
  refine g_get (ci := 7) (v := .int (v3)) (C := RX5) (T := TX5) (N := 4) hx hb hts in_X5 hown hK hW ha rfl 3 (by decide) q109 (fun _ h9 => h9) rfl dX5_target_1 ?_
  exact g_iret (v := v3) hx hb hr hlocks hW (⟨rfl, rfl⟩) (by omega) (by omega) dX5_target_4
set_option maxHeartbeats 4000000 in
set_option maxRecDepth 100000 in
/-- new Finding -/
theorem mtX12_init (l : Launch) (D : va_G) (w : g_H) (sz : Nat) (a : Nat) (v0 : Nat) (v1 : Nat) (v2 : Int32) (ha : g_at w a (.inr (8, [.null, .null, .int (0)]))) : Met l yX12_init (ws_ yX12_init cX12_init 4 none) ({ frames := 1, cells := 0, slots := 0, locals := 12 }) (g_Pc D [.ref a, .ref v0, .ref v1, .int (v2)] w sz) (g_Qv D w sz (fun u => g_at u a (.inr (8, [.ref v0, .ref v1, .int (v2)])) ∧ g_ex (fun q => q = a) w u)) (0) (0) (g_A w sz) := by
  refine Met.ofW (cc := cX12_init) (maxL := 4) (ret := none) (by decide) rfl ?_
  intro p e s m args below meth c s₁ B hml hv
  obtain ⟨rfl, hI⟩ := hv
  have hx := B.exec
  have hb := B.bytes
  have hr := B.returns
  have hts := atoms_spec (ws := ws_ yX12_init cX12_init 4 none) B.pre
  have hts : ∀ w ∈ lw_all, w.before _ s = true := fun w h => hts w (List.mem_cons_of_mem _ h)
  have hown : s.vm.findClass RX12 = some m.cls := findClass_of_methodNamed B.named
  have hlocks := B.notSynchronized
  have hin : meth.name = "<init>" := (name_of_methodNamed B.named B.method).1
  have hsz := hI.1
  subst hsz
  have hW := g_W.start hI
  have hK := g_K hI
  have hE := g_E hI
  have hl := lv_entry ([.ref a, .ref v0, .ref v1, .int (v2)]) (n := 4) (by exact Nat.le_of_ble_eq_true rfl)
  rw [lg_entry_eq]
  generalize (lg_sl ([.ref a, .ref v0, .ref v1, .int (v2)]) ++ List.replicate (4 - (lg_sl ([.ref a, .ref v0, .ref v1, .int (v2)])).length) Slot.unset).toArray = ls at hl ⊢
  have hl : lv_has ls 4 [(0, .ref a), (1, .ref v0), (2, .ref v1), (3, .int (v2))] := hl
  have x_1 : g_ex (fun q => q = a) w w := g_ex.rf
  refine lv_aload_n hx hb dX12_init_0 rfl (lv_at hl 0 rfl) ?_
  refine W.objInit hx hb hown (hts _ q1552) (hts _ q104) (hts _ q105) rfl (by rw [hml]; exact hl.1) rfl dX12_init_1 (Nat.le_of_ble_eq_true rfl) (Nat.le_of_ble_eq_true rfl) ?_
  refine W.eq (g2 := F0 m 4 ls []) rfl ?_
  refine lv_aload_n hx hb dX12_init_4 rfl (lv_at hl 0 rfl) ?_
  refine lv_aload_n hx hb dX12_init_5 rfl (lv_at hl 1 rfl) ?_
  refine g_putF (ci := 8) (v := .ref v0) (ty := (.object "java/lang/String")) (C := RX12) (T := TX12) (N := 3) hx hb hts in_X12 tyX12 tyX12_ok nmX12 hown hK hW ha rfl 0 (by decide) q1553 (fun _ h9 => h9) rfl hin rfl (by decide +kernel) rfl rfl (Nat.le_of_ble_eq_true rfl) dX12_init_6 (fun H locs hW => ?_)
  obtain ⟨w_2, ew_2⟩ : ∃ z__, z__ = g_put w a (.inr (8, [.ref v0, .null, .int (0)])) := ⟨_, rfl⟩
  have hW := g_W.ren hW ew_2 rfl
  have h_3 : g_at w_2 a (.inr (8, [.ref v0, .null, .int (0)])) := by rw [ew_2]; exact g_at.put_self ha.1
  have x_4 : g_ex (fun q => q = a) w w_2 := by rw [ew_2]; exact x_1.put (fun hz9 => rfl)
  refine lv_aload_n hx hb dX12_init_9 rfl (lv_at hl 0 rfl) ?_
  refine lv_aload_n hx hb dX12_init_10 rfl (lv_at hl 2 rfl) ?_
  refine g_putF (ci := 8) (v := .ref v1) (ty := (.object "java/lang/String")) (C := RX12) (T := TX12) (N := 3) hx hb hts in_X12 tyX12 tyX12_ok nmX12 hown hK hW h_3 rfl 1 (by decide) q1554 (fun _ h9 => h9) rfl hin rfl (by decide +kernel) rfl rfl (Nat.le_of_ble_eq_true rfl) dX12_init_11 (fun H locs hW => ?_)
  obtain ⟨w_5, ew_5⟩ : ∃ z__, z__ = g_put w_2 a (.inr (8, [.ref v0, .ref v1, .int (0)])) := ⟨_, rfl⟩
  have hW := g_W.ren hW ew_5 rfl
  have h_6 : g_at w_5 a (.inr (8, [.ref v0, .ref v1, .int (0)])) := by rw [ew_5]; exact g_at.put_self h_3.1
  have x_7 : g_ex (fun q => q = a) w w_5 := by rw [ew_5]; exact x_4.put (fun hz9 => rfl)
  refine lv_aload_n hx hb dX12_init_14 rfl (lv_at hl 0 rfl) ?_
  refine lv_iload_n hx hb dX12_init_15 rfl (lv_at hl 3 rfl) ?_
  refine g_putF (ci := 8) (v := .int (v2)) (ty := .int) (C := RX12) (T := TX12) (N := 3) hx hb hts in_X12 tyX12 tyX12_ok nmX12 hown hK hW h_6 rfl 2 (by decide) q1555 (fun _ h9 => h9) rfl hin rfl (by decide +kernel) rfl rfl (Nat.le_of_ble_eq_true rfl) dX12_init_16 (fun H locs hW => ?_)
  obtain ⟨w_8, ew_8⟩ : ∃ z__, z__ = g_put w_5 a (.inr (8, [.ref v0, .ref v1, .int (v2)])) := ⟨_, rfl⟩
  have hW := g_W.ren hW ew_8 rfl
  have h_9 : g_at w_8 a (.inr (8, [.ref v0, .ref v1, .int (v2)])) := by rw [ew_8]; exact g_at.put_self h_6.1
  have x_10 : g_ex (fun q => q = a) w w_8 := by rw [ew_8]; exact x_7.put (fun hz9 => rfl)
  exact g_vret hx hb hr hlocks hW (⟨h_9, x_10⟩) (by omega) (by omega) dX12_init_19
set_option maxHeartbeats 4000000 in
set_option maxRecDepth 100000 in
/-- Finding.input -/
theorem mtX12_input (l : Launch) (D : va_G) (w : g_H) (sz : Nat) (a : Nat) (v0 : Nat) (v1 : Nat) (v2 : Int32) (ha : g_at w a (.inr (8, [.ref v0, .ref v1, .int (v2)]))) : Met l yX12_input (ws_ yX12_input cX12_input 1 (some (.object "java/lang/String"))) ({ frames := 1, cells := 0, slots := 0, locals := 12 }) (g_Pc D [.ref a] w sz) (g_Qq D w sz (fun r u => r = some v0 ∧ w = u)) (0) (0) (g_A w sz) := by
  refine Met.ofW (cc := cX12_input) (maxL := 1) (ret := (some (.object "java/lang/String"))) (by decide) rfl ?_
  intro p e s m args below meth c s₁ B hml hv
  obtain ⟨rfl, hI⟩ := hv
  have hx := B.exec
  have hb := B.bytes
  have hr := B.returns
  have hts := atoms_spec (ws := ws_ yX12_input cX12_input 1 (some (.object "java/lang/String"))) B.pre
  have hts : ∀ w ∈ lw_all, w.before _ s = true := fun w h => hts w (List.mem_cons_of_mem _ h)
  have hown : s.vm.findClass RX12 = some m.cls := findClass_of_methodNamed B.named
  have hlocks := B.notSynchronized
  have hsz := hI.1
  subst hsz
  have hW := g_W.start hI
  have hK := g_K hI
  have hE := g_E hI
  have hl := lv_entry ([.ref a]) (n := 1) (by exact Nat.le_of_ble_eq_true rfl)
  rw [lg_entry_eq]
  generalize (lg_sl ([.ref a]) ++ List.replicate (1 - (lg_sl ([.ref a])).length) Slot.unset).toArray = ls at hl ⊢
  have hl : lv_has ls 1 [(0, .ref a)] := hl
  refine lv_aload_n hx hb dX12_input_0 rfl (lv_at hl 0 rfl) ?_
  refine g_get (ci := 8) (v := .ref v0) (C := RX12) (T := TX12) (N := 3) hx hb hts in_X12 hown hK hW ha rfl 0 (by decide) q1553 (fun _ h9 => h9) rfl dX12_input_1 ?_
  exact g_qret (v := some v0) hx hb hr (Or.inl ⟨_, rfl⟩) hlocks hW ⟨rfl, rfl⟩ (by omega) (by omega) dX12_input_4
set_option maxHeartbeats 4000000 in
set_option maxRecDepth 100000 in
/-- Finding.shrunk -/
theorem mtX12_shrunk (l : Launch) (D : va_G) (w : g_H) (sz : Nat) (a : Nat) (v0 : Nat) (v1 : Nat) (v2 : Int32) (ha : g_at w a (.inr (8, [.ref v0, .ref v1, .int (v2)]))) : Met l yX12_shrunk (ws_ yX12_shrunk cX12_shrunk 1 (some (.object "java/lang/String"))) ({ frames := 1, cells := 0, slots := 0, locals := 12 }) (g_Pc D [.ref a] w sz) (g_Qq D w sz (fun r u => r = some v1 ∧ w = u)) (0) (0) (g_A w sz) := by
  refine Met.ofW (cc := cX12_shrunk) (maxL := 1) (ret := (some (.object "java/lang/String"))) (by decide) rfl ?_
  intro p e s m args below meth c s₁ B hml hv
  obtain ⟨rfl, hI⟩ := hv
  have hx := B.exec
  have hb := B.bytes
  have hr := B.returns
  have hts := atoms_spec (ws := ws_ yX12_shrunk cX12_shrunk 1 (some (.object "java/lang/String"))) B.pre
  have hts : ∀ w ∈ lw_all, w.before _ s = true := fun w h => hts w (List.mem_cons_of_mem _ h)
  have hown : s.vm.findClass RX12 = some m.cls := findClass_of_methodNamed B.named
  have hlocks := B.notSynchronized
  have hsz := hI.1
  subst hsz
  have hW := g_W.start hI
  have hK := g_K hI
  have hE := g_E hI
  have hl := lv_entry ([.ref a]) (n := 1) (by exact Nat.le_of_ble_eq_true rfl)
  rw [lg_entry_eq]
  generalize (lg_sl ([.ref a]) ++ List.replicate (1 - (lg_sl ([.ref a])).length) Slot.unset).toArray = ls at hl ⊢
  have hl : lv_has ls 1 [(0, .ref a)] := hl
  refine lv_aload_n hx hb dX12_shrunk_0 rfl (lv_at hl 0 rfl) ?_
  refine g_get (ci := 8) (v := .ref v1) (C := RX12) (T := TX12) (N := 3) hx hb hts in_X12 hown hK hW ha rfl 1 (by decide) q1554 (fun _ h9 => h9) rfl dX12_shrunk_1 ?_
  exact g_qret (v := some v1) hx hb hr (Or.inl ⟨_, rfl⟩) hlocks hW ⟨rfl, rfl⟩ (by omega) (by omega) dX12_shrunk_4
set_option maxHeartbeats 4000000 in
set_option maxRecDepth 100000 in
/-- Finding.code -/
theorem mtX12_code (l : Launch) (D : va_G) (w : g_H) (sz : Nat) (a : Nat) (v0 : Nat) (v1 : Nat) (v2 : Int32) (ha : g_at w a (.inr (8, [.ref v0, .ref v1, .int (v2)]))) : Met l yX12_code (ws_ yX12_code cX12_code 1 (some .int)) ({ frames := 1, cells := 0, slots := 0, locals := 12 }) (g_Pc D [.ref a] w sz) (g_Qi D w sz (fun r u => r = v2 ∧ w = u)) (0) (0) (g_A w sz) := by
  refine Met.ofW (cc := cX12_code) (maxL := 1) (ret := (some .int)) (by decide) rfl ?_
  intro p e s m args below meth c s₁ B hml hv
  obtain ⟨rfl, hI⟩ := hv
  have hx := B.exec
  have hb := B.bytes
  have hr := B.returns
  have hts := atoms_spec (ws := ws_ yX12_code cX12_code 1 (some .int)) B.pre
  have hts : ∀ w ∈ lw_all, w.before _ s = true := fun w h => hts w (List.mem_cons_of_mem _ h)
  have hown : s.vm.findClass RX12 = some m.cls := findClass_of_methodNamed B.named
  have hlocks := B.notSynchronized
  have hsz := hI.1
  subst hsz
  have hW := g_W.start hI
  have hK := g_K hI
  have hE := g_E hI
  have hl := lv_entry ([.ref a]) (n := 1) (by exact Nat.le_of_ble_eq_true rfl)
  rw [lg_entry_eq]
  generalize (lg_sl ([.ref a]) ++ List.replicate (1 - (lg_sl ([.ref a])).length) Slot.unset).toArray = ls at hl ⊢
  have hl : lv_has ls 1 [(0, .ref a)] := hl
  refine lv_aload_n hx hb dX12_code_0 rfl (lv_at hl 0 rfl) ?_
  refine g_get (ci := 8) (v := .int (v2)) (C := RX12) (T := TX12) (N := 3) hx hb hts in_X12 hown hK hW ha rfl 2 (by decide) q1555 (fun _ h9 => h9) rfl dX12_code_1 ?_
  exact g_iret (v := v2) hx hb hr hlocks hW (⟨rfl, rfl⟩) (by omega) (by omega) dX12_code_4
set_option maxHeartbeats 4000000 in
set_option maxRecDepth 100000 in
/-- new ShrinkYard$Replacing -/
theorem mtX7_init (l : Launch) (D : va_G) (w : g_H) (sz : Nat) (a : Nat) (v0 : Int32) (v1 : Int32) (ha : g_at w a (.inr (3, [.int (0), .int (0)]))) : Met l yX7_init (ws_ yX7_init cX7_init 3 none) ({ frames := 1, cells := 0, slots := 0, locals := 12 }) (g_Pc D [.ref a, .int (v0), .int (v1)] w sz) (g_Qv D w sz (fun u => g_at u a (.inr (3, [.int (v0), .int (v1)])) ∧ g_ex (fun q => q = a) w u)) (0) (0) (g_A w sz) := by
  refine Met.ofW (cc := cX7_init) (maxL := 3) (ret := none) (by decide) rfl ?_
  intro p e s m args below meth c s₁ B hml hv
  obtain ⟨rfl, hI⟩ := hv
  have hx := B.exec
  have hb := B.bytes
  have hr := B.returns
  have hts := atoms_spec (ws := ws_ yX7_init cX7_init 3 none) B.pre
  have hts : ∀ w ∈ lw_all, w.before _ s = true := fun w h => hts w (List.mem_cons_of_mem _ h)
  have hown : s.vm.findClass RX7 = some m.cls := findClass_of_methodNamed B.named
  have hlocks := B.notSynchronized
  have hin : meth.name = "<init>" := (name_of_methodNamed B.named B.method).1
  have hsz := hI.1
  subst hsz
  have hW := g_W.start hI
  have hK := g_K hI
  have hE := g_E hI
  have hl := lv_entry ([.ref a, .int (v0), .int (v1)]) (n := 3) (by exact Nat.le_of_ble_eq_true rfl)
  rw [lg_entry_eq]
  generalize (lg_sl ([.ref a, .int (v0), .int (v1)]) ++ List.replicate (3 - (lg_sl ([.ref a, .int (v0), .int (v1)])).length) Slot.unset).toArray = ls at hl ⊢
  have hl : lv_has ls 3 [(0, .ref a), (1, .int (v0)), (2, .int (v1))] := hl
  have x_1 : g_ex (fun q => q = a) w w := g_ex.rf
  refine lv_aload_n hx hb dX7_init_0 rfl (lv_at hl 0 rfl) ?_
  refine W.objInit hx hb hown (hts _ q685) (hts _ q104) (hts _ q105) rfl (by rw [hml]; exact hl.1) rfl dX7_init_1 (Nat.le_of_ble_eq_true rfl) (Nat.le_of_ble_eq_true rfl) ?_
  refine W.eq (g2 := F0 m 4 ls []) rfl ?_
  refine lv_aload_n hx hb dX7_init_4 rfl (lv_at hl 0 rfl) ?_
  refine lv_iload_n hx hb dX7_init_5 rfl (lv_at hl 1 rfl) ?_
  refine g_putF (ci := 3) (v := .int (v0)) (ty := .int) (C := RX7) (T := TX7) (N := 2) hx hb hts in_X7 tyX7 tyX7_ok nmX7 hown hK hW ha rfl 0 (by decide) q686 (fun _ h9 => h9) rfl hin rfl (by decide +kernel) rfl rfl (Nat.le_of_ble_eq_true rfl) dX7_init_6 (fun H locs hW => ?_)
  obtain ⟨w_2, ew_2⟩ : ∃ z__, z__ = g_put w a (.inr (3, [.int (v0), .int (0)])) := ⟨_, rfl⟩
  have hW := g_W.ren hW ew_2 rfl
  have h_3 : g_at w_2 a (.inr (3, [.int (v0), .int (0)])) := by rw [ew_2]; exact g_at.put_self ha.1
  have x_4 : g_ex (fun q => q = a) w w_2 := by rw [ew_2]; exact x_1.put (fun hz9 => rfl)
  refine lv_aload_n hx hb dX7_init_9 rfl (lv_at hl 0 rfl) ?_
  refine lv_iload_n hx hb dX7_init_10 rfl (lv_at hl 2 rfl) ?_
  refine g_putF (ci := 3) (v := .int (v1)) (ty := .int) (C := RX7) (T := TX7) (N := 2) hx hb hts in_X7 tyX7 tyX7_ok nmX7 hown hK hW h_3 rfl 1 (by decide) q687 (fun _ h9 => h9) rfl hin rfl (by decide +kernel) rfl rfl (Nat.le_of_ble_eq_true rfl) dX7_init_11 (fun H locs hW => ?_)
  obtain ⟨w_5, ew_5⟩ : ∃ z__, z__ = g_put w_2 a (.inr (3, [.int (v0), .int (v1)])) := ⟨_, rfl⟩
  have hW := g_W.ren hW ew_5 rfl
  have h_6 : g_at w_5 a (.inr (3, [.int (v0), .int (v1)])) := by rw [ew_5]; exact g_at.put_self h_3.1
  have x_7 : g_ex (fun q => q = a) w w_5 := by rw [ew_5]; exact x_4.put (fun hz9 => rfl)
  exact g_vret hx hb hr hlocks hW (⟨h_6, x_7⟩) (by omega) (by omega) dX7_init_14
set_option maxHeartbeats 4000000 in
set_option maxRecDepth 100000 in
/-- ShrinkYard$Replacing.place -/
theorem mtX7_place (l : Launch) (D : va_G) (w : g_H) (sz : Nat) (a : Nat) (v0 : Int32) (v1 : Int32) (ha : g_at w a (.inr (3, [.int (v0), .int (v1)]))) : Met l yX7_place (ws_ yX7_place cX7_place 1 (some .int)) ({ frames := 1, cells := 0, slots := 0, locals := 12 }) (g_Pc D [.ref a] w sz) (g_Qi D w sz (fun r u => r = v0 ∧ w = u)) (0) (0) (g_A w sz) := by
  refine Met.ofW (cc := cX7_place) (maxL := 1) (ret := (some .int)) (by decide) rfl ?_
  intro p e s m args below meth c s₁ B hml hv
  obtain ⟨rfl, hI⟩ := hv
  have hx := B.exec
  have hb := B.bytes
  have hr := B.returns
  have hts := atoms_spec (ws := ws_ yX7_place cX7_place 1 (some .int)) B.pre
  have hts : ∀ w ∈ lw_all, w.before _ s = true := fun w h => hts w (List.mem_cons_of_mem _ h)
  have hown : s.vm.findClass RX7 = some m.cls := findClass_of_methodNamed B.named
  have hlocks := B.notSynchronized
  have hsz := hI.1
  subst hsz
  have hW := g_W.start hI
  have hK := g_K hI
  have hE := g_E hI
  have hl := lv_entry ([.ref a]) (n := 1) (by exact Nat.le_of_ble_eq_true rfl)
  rw [lg_entry_eq]
  generalize (lg_sl ([.ref a]) ++ List.replicate (1 - (lg_sl ([.ref a])).length) Slot.unset).toArray = ls at hl ⊢
  have hl : lv_has ls 1 [(0, .ref a)] := hl
  refine lv_aload_n hx hb dX7_place_0 rfl (lv_at hl 0 rfl) ?_
  refine g_get (ci := 3) (v := .int (v0)) (C := RX7) (T := TX7) (N := 2) hx hb hts in_X7 hown hK hW ha rfl 0 (by decide) q686 (fun _ h9 => h9) rfl dX7_place_1 ?_
  exact g_iret (v := v0) hx hb hr hlocks hW (⟨rfl, rfl⟩) (by omega) (by omega) dX7_place_4
set_option maxHeartbeats 4000000 in
set_option maxRecDepth 100000 in
/-- new ShrinkYard$Inserting -/
theorem mtX8_init (l : Launch) (D : va_G) (w : g_H) (sz : Nat) (a : Nat) (v0 : Int32) (v1 : Int32) (ha : g_at w a (.inr (4, [.int (0), .int (0)]))) : Met l yX8_init (ws_ yX8_init cX8_init 3 none) ({ frames := 1, cells := 0, slots := 0, locals := 12 }) (g_Pc D [.ref a, .int (v0), .int (v1)] w sz) (g_Qv D w sz (fun u => g_at u a (.inr (4, [.int (v0), .int (v1)])) ∧ g_ex (fun q => q = a) w u)) (0) (0) (g_A w sz) := by
  refine Met.ofW (cc := cX8_init) (maxL := 3) (ret := none) (by decide) rfl ?_
  intro p e s m args below meth c s₁ B hml hv
  obtain ⟨rfl, hI⟩ := hv
  have hx := B.exec
  have hb := B.bytes
  have hr := B.returns
  have hts := atoms_spec (ws := ws_ yX8_init cX8_init 3 none) B.pre
  have hts : ∀ w ∈ lw_all, w.before _ s = true := fun w h => hts w (List.mem_cons_of_mem _ h)
  have hown : s.vm.findClass RX8 = some m.cls := findClass_of_methodNamed B.named
  have hlocks := B.notSynchronized
  have hin : meth.name = "<init>" := (name_of_methodNamed B.named B.method).1
  have hsz := hI.1
  subst hsz
  have hW := g_W.start hI
  have hK := g_K hI
  have hE := g_E hI
  have hl := lv_entry ([.ref a, .int (v0), .int (v1)]) (n := 3) (by exact Nat.le_of_ble_eq_true rfl)
  rw [lg_entry_eq]
  generalize (lg_sl ([.ref a, .int (v0), .int (v1)]) ++ List.replicate (3 - (lg_sl ([.ref a, .int (v0), .int (v1)])).length) Slot.unset).toArray = ls at hl ⊢
  have hl : lv_has ls 3 [(0, .ref a), (1, .int (v0)), (2, .int (v1))] := hl
  have x_1 : g_ex (fun q => q = a) w w := g_ex.rf
  refine lv_aload_n hx hb dX8_init_0 rfl (lv_at hl 0 rfl) ?_
  refine W.objInit hx hb hown (hts _ q698) (hts _ q104) (hts _ q105) rfl (by rw [hml]; exact hl.1) rfl dX8_init_1 (Nat.le_of_ble_eq_true rfl) (Nat.le_of_ble_eq_true rfl) ?_
  refine W.eq (g2 := F0 m 4 ls []) rfl ?_
  refine lv_aload_n hx hb dX8_init_4 rfl (lv_at hl 0 rfl) ?_
  refine lv_iload_n hx hb dX8_init_5 rfl (lv_at hl 1 rfl) ?_
  refine g_putF (ci := 4) (v := .int (v0)) (ty := .int) (C := RX8) (T := TX8) (N := 2) hx hb hts in_X8 tyX8 tyX8_ok nmX8 hown hK hW ha rfl 0 (by decide) q699 (fun _ h9 => h9) rfl hin rfl (by decide +kernel) rfl rfl (Nat.le_of_ble_eq_true rfl) dX8_init_6 (fun H locs hW => ?_)
  obtain ⟨w_2, ew_2⟩ : ∃ z__, z__ = g_put w a (.inr (4, [.int (v0), .int (0)])) := ⟨_, rfl⟩
  have hW := g_W.ren hW ew_2 rfl
  have h_3 : g_at w_2 a (.inr (4, [.int (v0), .int (0)])) := by rw [ew_2]; exact g_at.put_self ha.1
  have x_4 : g_ex (fun q => q = a) w w_2 := by rw [ew_2]; exact x_1.put (fun hz9 => rfl)
  refine lv_aload_n hx hb dX8_init_9 rfl (lv_at hl 0 rfl) ?_
  refine lv_iload_n hx hb dX8_init_10 rfl (lv_at hl 2 rfl) ?_
  refine g_putF (ci := 4) (v := .int (v1)) (ty := .int) (C := RX8) (T := TX8) (N := 2) hx hb hts in_X8 tyX8 tyX8_ok nmX8 hown hK hW h_3 rfl 1 (by decide) q700 (fun _ h9 => h9) rfl hin rfl (by decide +kernel) rfl rfl (Nat.le_of_ble_eq_true rfl) dX8_init_11 (fun H locs hW => ?_)
  obtain ⟨w_5, ew_5⟩ : ∃ z__, z__ = g_put w_2 a (.inr (4, [.int (v0), .int (v1)])) := ⟨_, rfl⟩
  have hW := g_W.ren hW ew_5 rfl
  have h_6 : g_at w_5 a (.inr (4, [.int (v0), .int (v1)])) := by rw [ew_5]; exact g_at.put_self h_3.1
  have x_7 : g_ex (fun q => q = a) w w_5 := by rw [ew_5]; exact x_4.put (fun hz9 => rfl)
  exact g_vret hx hb hr hlocks hW (⟨h_6, x_7⟩) (by omega) (by omega) dX8_init_14
set_option maxHeartbeats 4000000 in
set_option maxRecDepth 100000 in
/-- ShrinkYard$Inserting.place -/
theorem mtX8_place (l : Launch) (D : va_G) (w : g_H) (sz : Nat) (a : Nat) (v0 : Int32) (v1 : Int32) (ha : g_at w a (.inr (4, [.int (v0), .int (v1)]))) : Met l yX8_place (ws_ yX8_place cX8_place 1 (some .int)) ({ frames := 1, cells := 0, slots := 0, locals := 12 }) (g_Pc D [.ref a] w sz) (g_Qi D w sz (fun r u => r = v0 ∧ w = u)) (0) (0) (g_A w sz) := by
  refine Met.ofW (cc := cX8_place) (maxL := 1) (ret := (some .int)) (by decide) rfl ?_
  intro p e s m args below meth c s₁ B hml hv
  obtain ⟨rfl, hI⟩ := hv
  have hx := B.exec
  have hb := B.bytes
  have hr := B.returns
  have hts := atoms_spec (ws := ws_ yX8_place cX8_place 1 (some .int)) B.pre
  have hts : ∀ w ∈ lw_all, w.before _ s = true := fun w h => hts w (List.mem_cons_of_mem _ h)
  have hown : s.vm.findClass RX8 = some m.cls := findClass_of_methodNamed B.named
  have hlocks := B.notSynchronized
  have hsz := hI.1
  subst hsz
  have hW := g_W.start hI
  have hK := g_K hI
  have hE := g_E hI
  have hl := lv_entry ([.ref a]) (n := 1) (by exact Nat.le_of_ble_eq_true rfl)
  rw [lg_entry_eq]
  generalize (lg_sl ([.ref a]) ++ List.replicate (1 - (lg_sl ([.ref a])).length) Slot.unset).toArray = ls at hl ⊢
  have hl : lv_has ls 1 [(0, .ref a)] := hl
  refine lv_aload_n hx hb dX8_place_0 rfl (lv_at hl 0 rfl) ?_
  refine g_get (ci := 4) (v := .int (v0)) (C := RX8) (T := TX8) (N := 2) hx hb hts in_X8 hown hK hW ha rfl 0 (by decide) q699 (fun _ h9 => h9) rfl dX8_place_1 ?_
  exact g_iret (v := v0) hx hb hr hlocks hW (⟨rfl, rfl⟩) (by omega) (by omega) dX8_place_4
set_option maxHeartbeats 4000000 in
set_option maxRecDepth 100000 in
/-- new ShrinkYard$Deleting -/
theorem mtX9_init (l : Launch) (D : va_G) (w : g_H) (sz : Nat) (a : Nat) (v0 : Int32) (ha : g_at w a (.inr (5, [.int (0)]))) : Met l yX9_init (ws_ yX9_init cX9_init 2 none) ({ frames := 1, cells := 0, slots := 0, locals := 12 }) (g_Pc D [.ref a, .int (v0)] w sz) (g_Qv D w sz (fun u => g_at u a (.inr (5, [.int (v0)])) ∧ g_ex (fun q => q = a) w u)) (0) (0) (g_A w sz) := by
  refine Met.ofW (cc := cX9_init) (maxL := 2) (ret := none) (by decide) rfl ?_
  intro p e s m args below meth c s₁ B hml hv
  obtain ⟨rfl, hI⟩ := hv
  have hx := B.exec
  have hb := B.bytes
  have hr := B.returns
  have hts := atoms_spec (ws := ws_ yX9_init cX9_init 2 none) B.pre
  have hts : ∀ w ∈ lw_all, w.before _ s = true := fun w h => hts w (List.mem_cons_of_mem _ h)
  have hown : s.vm.findClass RX9 = some m.cls := findClass_of_methodNamed B.named
  have hlocks := B.notSynchronized
  have hin : meth.name = "<init>" := (name_of_methodNamed B.named B.method).1
  have hsz := hI.1
  subst hsz
  have hW := g_W.start hI
  have hK := g_K hI
  have hE := g_E hI
  have hl := lv_entry ([.ref a, .int (v0)]) (n := 2) (by exact Nat.le_of_ble_eq_true rfl)
  rw [lg_entry_eq]
  generalize (lg_sl ([.ref a, .int (v0)]) ++ List.replicate (2 - (lg_sl ([.ref a, .int (v0)])).length) Slot.unset).toArray = ls at hl ⊢
  have hl : lv_has ls 2 [(0, .ref a), (1, .int (v0))] := hl
  have x_1 : g_ex (fun q => q = a) w w := g_ex.rf
  refine lv_aload_n hx hb dX9_init_0 rfl (lv_at hl 0 rfl) ?_
  refine W.objInit hx hb hown (hts _ q711) (hts _ q104) (hts _ q105) rfl (by rw [hml]; exact hl.1) rfl dX9_init_1 (Nat.le_of_ble_eq_true rfl) (Nat.le_of_ble_eq_true rfl) ?_
  refine W.eq (g2 := F0 m 4 ls []) rfl ?_
  refine lv_aload_n hx hb dX9_init_4 rfl (lv_at hl 0 rfl) ?_
  refine lv_iload_n hx hb dX9_init_5 rfl (lv_at hl 1 rfl) ?_
  refine g_putF (ci := 5) (v := .int (v0)) (ty := .int) (C := RX9) (T := TX9) (N := 1) hx hb hts in_X9 tyX9 tyX9_ok nmX9 hown hK hW ha rfl 0 (by decide) q712 (fun _ h9 => h9) rfl hin rfl (by decide +kernel) rfl rfl (Nat.le_of_ble_eq_true rfl) dX9_init_6 (fun H locs hW => ?_)
  obtain ⟨w_2, ew_2⟩ : ∃ z__, z__ = g_put w a (.inr (5, [.int (v0)])) := ⟨_, rfl⟩
  have hW := g_W.ren hW ew_2 rfl
  have h_3 : g_at w_2 a (.inr (5, [.int (v0)])) := by rw [ew_2]; exact g_at.put_self ha.1
  have x_4 : g_ex (fun q => q = a) w w_2 := by rw [ew_2]; exact x_1.put (fun hz9 => rfl)
  exact g_vret hx hb hr hlocks hW (⟨h_3, x_4⟩) (by omega) (by omega) dX9_init_9
set_option maxHeartbeats 4000000 in
set_option maxRecDepth 100000 in
/-- ShrinkYard$Deleting.place -/
theorem mtX9_place (l : Launch) (D : va_G) (w : g_H) (sz : Nat) (a : Nat) (v0 : Int32) (ha : g_at w a (.inr (5, [.int (v0)]))) : Met l yX9_place (ws_ yX9_place cX9_place 1 (some .int)) ({ frames := 1, cells := 0, slots := 0, locals := 12 }) (g_Pc D [.ref a] w sz) (g_Qi D w sz (fun r u => r = v0 ∧ w = u)) (0) (0) (g_A w sz) := by
  refine Met.ofW (cc := cX9_place) (maxL := 1) (ret := (some .int)) (by decide) rfl ?_
  intro p e s m args below meth c s₁ B hml hv
  obtain ⟨rfl, hI⟩ := hv
  have hx := B.exec
  have hb := B.bytes
  have hr := B.returns
  have hts := atoms_spec (ws := ws_ yX9_place cX9_place 1 (some .int)) B.pre
  have hts : ∀ w ∈ lw_all, w.before _ s = true := fun w h => hts w (List.mem_cons_of_mem _ h)
  have hown : s.vm.findClass RX9 = some m.cls := findClass_of_methodNamed B.named
  have hlocks := B.notSynchronized
  have hsz := hI.1
  subst hsz
  have hW := g_W.start hI
  have hK := g_K hI
  have hE := g_E hI
  have hl := lv_entry ([.ref a]) (n := 1) (by exact Nat.le_of_ble_eq_true rfl)
  rw [lg_entry_eq]
  generalize (lg_sl ([.ref a]) ++ List.replicate (1 - (lg_sl ([.ref a])).length) Slot.unset).toArray = ls at hl ⊢
  have hl : lv_has ls 1 [(0, .ref a)] := hl
  refine lv_aload_n hx hb dX9_place_0 rfl (lv_at hl 0 rfl) ?_
  refine g_get (ci := 5) (v := .int (v0)) (C := RX9) (T := TX9) (N := 1) hx hb hts in_X9 hown hK hW ha rfl 0 (by decide) q712 (fun _ h9 => h9) rfl dX9_place_1 ?_
  exact g_iret (v := v0) hx hb hr hlocks hW (⟨rfl, rfl⟩) (by omega) (by omega) dX9_place_4
set_option maxHeartbeats 4000000 in
set_option maxRecDepth 100000 in
/-- new ShrinkYard$Swapping -/
theorem mtX10_init (l : Launch) (D : va_G) (w : g_H) (sz : Nat) (a : Nat) (v0 : Int32) (ha : g_at w a (.inr (6, [.int (0)]))) : Met l yX10_init (ws_ yX10_init cX10_init 2 none) ({ frames := 1, cells := 0, slots := 0, locals := 12 }) (g_Pc D [.ref a, .int (v0)] w sz) (g_Qv D w sz (fun u => g_at u a (.inr (6, [.int (v0)])) ∧ g_ex (fun q => q = a) w u)) (0) (0) (g_A w sz) := by
  refine Met.ofW (cc := cX10_init) (maxL := 2) (ret := none) (by decide) rfl ?_
  intro p e s m args below meth c s₁ B hml hv
  obtain ⟨rfl, hI⟩ := hv
  have hx := B.exec
  have hb := B.bytes
  have hr := B.returns
  have hts := atoms_spec (ws := ws_ yX10_init cX10_init 2 none) B.pre
  have hts : ∀ w ∈ lw_all, w.before _ s = true := fun w h => hts w (List.mem_cons_of_mem _ h)
  have hown : s.vm.findClass RX10 = some m.cls := findClass_of_methodNamed B.named
  have hlocks := B.notSynchronized
  have hin : meth.name = "<init>" := (name_of_methodNamed B.named B.method).1
  have hsz := hI.1
  subst hsz
  have hW := g_W.start hI
  have hK := g_K hI
  have hE := g_E hI
  have hl := lv_entry ([.ref a, .int (v0)]) (n := 2) (by exact Nat.le_of_ble_eq_true rfl)
  rw [lg_entry_eq]
  generalize (lg_sl ([.ref a, .int (v0)]) ++ List.replicate (2 - (lg_sl ([.ref a, .int (v0)])).length) Slot.unset).toArray = ls at hl ⊢
  have hl : lv_has ls 2 [(0, .ref a), (1, .int (v0))] := hl
  have x_1 : g_ex (fun q => q = a) w w := g_ex.rf
  refine lv_aload_n hx hb dX10_init_0 rfl (lv_at hl 0 rfl) ?_
  refine W.objInit hx hb hown (hts _ q721) (hts _ q104) (hts _ q105) rfl (by rw [hml]; exact hl.1) rfl dX10_init_1 (Nat.le_of_ble_eq_true rfl) (Nat.le_of_ble_eq_true rfl) ?_
  refine W.eq (g2 := F0 m 4 ls []) rfl ?_
  refine lv_aload_n hx hb dX10_init_4 rfl (lv_at hl 0 rfl) ?_
  refine lv_iload_n hx hb dX10_init_5 rfl (lv_at hl 1 rfl) ?_
  refine g_putF (ci := 6) (v := .int (v0)) (ty := .int) (C := RX10) (T := TX10) (N := 1) hx hb hts in_X10 tyX10 tyX10_ok nmX10 hown hK hW ha rfl 0 (by decide) q722 (fun _ h9 => h9) rfl hin rfl (by decide +kernel) rfl rfl (Nat.le_of_ble_eq_true rfl) dX10_init_6 (fun H locs hW => ?_)
  obtain ⟨w_2, ew_2⟩ : ∃ z__, z__ = g_put w a (.inr (6, [.int (v0)])) := ⟨_, rfl⟩
  have hW := g_W.ren hW ew_2 rfl
  have h_3 : g_at w_2 a (.inr (6, [.int (v0)])) := by rw [ew_2]; exact g_at.put_self ha.1
  have x_4 : g_ex (fun q => q = a) w w_2 := by rw [ew_2]; exact x_1.put (fun hz9 => rfl)
  exact g_vret hx hb hr hlocks hW (⟨h_3, x_4⟩) (by omega) (by omega) dX10_init_9
set_option maxHeartbeats 4000000 in
set_option maxRecDepth 100000 in
/-- ShrinkYard$Swapping.place -/
theorem mtX10_place (l : Launch) (D : va_G) (w : g_H) (sz : Nat) (a : Nat) (v0 : Int32) (ha : g_at w a (.inr (6, [.int (v0)]))) : Met l yX10_place (ws_ yX10_place cX10_place 1 (some .int)) ({ frames := 1, cells := 0, slots := 0, locals := 12 }) (g_Pc D [.ref a] w sz) (g_Qi D w sz (fun r u => r = v0 ∧ w = u)) (0) (0) (g_A w sz) := by
  refine Met.ofW (cc := cX10_place) (maxL := 1) (ret := (some .int)) (by decide) rfl ?_
  intro p e s m args below meth c s₁ B hml hv
  obtain ⟨rfl, hI⟩ := hv
  have hx := B.exec
  have hb := B.bytes
  have hr := B.returns
  have hts := atoms_spec (ws := ws_ yX10_place cX10_place 1 (some .int)) B.pre
  have hts : ∀ w ∈ lw_all, w.before _ s = true := fun w h => hts w (List.mem_cons_of_mem _ h)
  have hown : s.vm.findClass RX10 = some m.cls := findClass_of_methodNamed B.named
  have hlocks := B.notSynchronized
  have hsz := hI.1
  subst hsz
  have hW := g_W.start hI
  have hK := g_K hI
  have hE := g_E hI
  have hl := lv_entry ([.ref a]) (n := 1) (by exact Nat.le_of_ble_eq_true rfl)
  rw [lg_entry_eq]
  generalize (lg_sl ([.ref a]) ++ List.replicate (1 - (lg_sl ([.ref a])).length) Slot.unset).toArray = ls at hl ⊢
  have hl : lv_has ls 1 [(0, .ref a)] := hl
  refine lv_aload_n hx hb dX10_place_0 rfl (lv_at hl 0 rfl) ?_
  refine g_get (ci := 6) (v := .int (v0)) (C := RX10) (T := TX10) (N := 1) hx hb hts in_X10 hown hK hW ha rfl 0 (by decide) q722 (fun _ h9 => h9) rfl dX10_place_1 ?_
  exact g_iret (v := v0) hx hb hr hlocks hW (⟨rfl, rfl⟩) (by omega) (by omega) dX10_place_4
