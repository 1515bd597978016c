/-! the model: its constructor; Out's *
-/
set_option maxRecDepth 100000
set_option maxHeartbeats 4000000 in
set_option maxRecDepth 100000 in
/-- ShrinkYardModel's constructor -/
theorem mtX3_init (l : Launch) (D : va_G) (w : g_H) (sz : Nat) (y : Nat) (l0 : Nat → Nat) (hly : l0 y = 20) (hyO : g_at w y (.inr (10, [.null, .null, .null, .null, .int (0), .null, .null, .null, .int (0), .null, .null, .int (0), .int (0), .int (0), .null, .null, .int (0), .long (0), .null, .null, .int (0), .int (0), .int (0), .null, .null, .null, .int (0), .int (0)]))) : Met l yX3_init (ws_ yX3_init cX3_init 1 none) ({ frames := 1, cells := 16, slots := 716, locals := 12 }) (g_Pc D [.ref y] w sz) (g_Qv D w sz (fun u => ∃ (l2 mf : Nat → Nat), g_MZ D u l2 y mf [] [] (fun _ => []) (fun _ => false) [] 0 0 [] 0 0 16 0 0 0 (fun _ => false) 0 ∧ (∀ z, z ∈ w.1 → l2 z = l0 z) ∧ g_ex (fun q => q = y) w u)) (16) (716) (g_A w sz) := by
  refine Met.ofW (cc := cX3_init) (maxL := 1) (ret := none) (by decide) rfl ?_
  intro p e s m args below meth c s₁ B hml hv
  obtain ⟨rfl, hI⟩ := hv
  have hx := B.exec
  have hb := B.bytes
  have hr := B.returns
  have hts := atoms_spec (ws := ws_ yX3_init cX3_init 1 none) B.pre
  have hts : ∀ w ∈ lw_all, w.before _ s = true := fun w h => hts w (List.mem_cons_of_mem _ h)
  have hown : s.vm.findClass RX3 = some m.cls := findClass_of_methodNamed B.named
  have hlocks := B.notSynchronized
  have hin : meth.name = "<init>" := (name_of_methodNamed B.named B.method).1
  have hsz := hI.1
  subst hsz
  have hW := g_W.start hI
  have hK := g_K hI
  have hE := g_E hI
  have hl := lv_entry ([.ref y]) (n := 1) (by exact Nat.le_of_ble_eq_true rfl)
  rw [lg_entry_eq]
  generalize (lg_sl ([.ref y]) ++ List.replicate (1 - (lg_sl ([.ref y])).length) Slot.unset).toArray = ls at hl ⊢
  have hl : lv_has ls 1 [(0, .ref y)] := hl
  refine lv_aload_n hx hb dX3_init_0 rfl (lv_at hl 0 rfl) ?_
  refine W.objInit hx hb hown (hts _ q1881) (hts _ q104) (hts _ q105) rfl (by rw [hml]; exact hl.1) rfl dX3_init_1 (Nat.le_of_ble_eq_true rfl) (Nat.le_of_ble_eq_true rfl) ?_
  refine W.eq (g2 := F0 m 4 ls []) rfl ?_
  have hyw : y ∈ w.1 := hyO.1
  have x_1 : g_ex (fun q => q = y) w w := g_ex.rf
  have hl0 : ∀ z, z ∈ w.1 → l0 z = l0 z := fun _ _ => rfl
  refine lv_aload_n hx hb dX3_init_4 rfl (lv_at hl 0 rfl) ?_
  refine lv_bipush (v := 16) hx hb dX3_init_5 (by decide) ?_
  refine g_newa (k := 0) (atype := .int) (ty := .int) (cB := D.1 100) hx hb rfl (hts _ q187) hK hW rfl 16 (16, .inl (fun _ => 0)) (fun _ => rfl) (by decide) (by decide +kernel) (by decide +kernel) (Nat.le_of_ble_eq_true rfl) (Nat.le_of_ble_eq_true rfl) dX3_init_7 (fun q_2 H hq hW => ?_)
  have hq_2 := hq
  obtain ⟨w_3, ew_3⟩ : ∃ z__, z__ = g_push w q_2 (.inl (D.1 100, 16, .inl ((fun _ => 0)))) := ⟨_, rfl⟩
  have hW := g_W.ren hW ew_3 rfl
  have h_4 : g_at w_3 y (.inr (10, [.null, .null, .null, .null, .int (0), .null, .null, .null, .int (0), .null, .null, .int (0), .int (0), .int (0), .null, .null, .int (0), .long (0), .null, .null, .int (0), .int (0), .int (0), .null, .null, .null, .int (0), .int (0)])) := by rw [ew_3]; exact hyO.push hq
  have h_5 : g_at w_3 q_2 (.inl (D.1 100, 16, .inl ((fun _ => 0)))) := by rw [ew_3]; exact g_at.push_self
  have x_6 : g_ex (fun q => q = y) w w_3 := by rw [ew_3]; exact x_1.push hq
  have lq0_0 : (lb l0 w 21) q_2 = 21 := lb_out hq_2
  have hl1 : ∀ z, z ∈ w.1 → (lb l0 w 21) z = l0 z := fun z hz => (lb_in z (x_1.1 z hz)).trans (hl0 z hz)
  refine g_putF (ci := 10) (v := .ref q_2) (ty := (.array .int)) (C := RX3) (T := TX3) (N := 28) hx hb hts in_X3 tyX3 tyX3_ok nmX3 hown hK hW h_4 rfl 0 (by decide) q1884 (fun _ h9 => h9) rfl hin rfl (by decide +kernel) rfl rfl (Nat.le_of_ble_eq_true rfl) dX3_init_9 (fun H locs hW => ?_)
  obtain ⟨w_7, ew_7⟩ : ∃ z__, z__ = g_put w_3 y (.inr (10, [.ref q_2, .null, .null, .null, .int (0), .null, .null, .null, .int (0), .null, .null, .int (0), .int (0), .int (0), .null, .null, .int (0), .long (0), .null, .null, .int (0), .int (0), .int (0), .null, .null, .null, .int (0), .int (0)])) := ⟨_, rfl⟩
  have hW := g_W.ren hW ew_7 rfl
  have h_8 : g_at w_7 y (.inr (10, [.ref q_2, .null, .null, .null, .int (0), .null, .null, .null, .int (0), .null, .null, .int (0), .int (0), .int (0), .null, .null, .int (0), .long (0), .null, .null, .int (0), .int (0), .int (0), .null, .null, .null, .int (0), .int (0)])) := by rw [ew_7]; exact g_at.put_self h_4.1
  have h_9 : g_at w_7 q_2 (.inl (D.1 100, 16, .inl ((fun _ => 0)))) := by rw [ew_7]; exact h_5.put (g_neAO h_5 h_4)
  have x_10 : g_ex (fun q => q = y) w w_7 := by rw [ew_7]; exact x_6.put (fun hz9 => rfl)
  refine lv_aload_n hx hb dX3_init_12 rfl (lv_at hl 0 rfl) ?_
  refine lv_bipush (v := 16) hx hb dX3_init_13 (by decide) ?_
  refine g_newa (k := 0) (atype := .int) (ty := .int) (cB := D.1 100) hx hb rfl (hts _ q187) hK hW rfl 16 (16, .inl (fun _ => 0)) (fun _ => rfl) (by decide) (by decide +kernel) (by decide +kernel) (Nat.le_of_ble_eq_true rfl) (Nat.le_of_ble_eq_true rfl) dX3_init_15 (fun q_11 H hq hW => ?_)
  have hq_11 := hq
  obtain ⟨w_12, ew_12⟩ : ∃ z__, z__ = g_push w_7 q_11 (.inl (D.1 100, 16, .inl ((fun _ => 0)))) := ⟨_, rfl⟩
  have hW := g_W.ren hW ew_12 rfl
  have h_13 : g_at w_12 y (.inr (10, [.ref q_2, .null, .null, .null, .int (0), .null, .null, .null, .int (0), .null, .null, .int (0), .int (0), .int (0), .null, .null, .int (0), .long (0), .null, .null, .int (0), .int (0), .int (0), .null, .null, .null, .int (0), .int (0)])) := by rw [ew_12]; exact h_8.push hq
  have h_14 : g_at w_12 q_2 (.inl (D.1 100, 16, .inl ((fun _ => 0)))) := by rw [ew_12]; exact h_9.push hq
  have h_15 : g_at w_12 q_11 (.inl (D.1 100, 16, .inl ((fun _ => 0)))) := by rw [ew_12]; exact g_at.push_self
  have x_16 : g_ex (fun q => q = y) w w_12 := by rw [ew_12]; exact x_10.push hq
  have lq1_0 : (lb (lb l0 w 21) w_7 22) q_2 = 21 := (lb_in _ h_9.1).trans lq0_0
  have lq1_1 : (lb (lb l0 w 21) w_7 22) q_11 = 22 := lb_out hq_11
  have hl2 : ∀ z, z ∈ w.1 → (lb (lb l0 w 21) w_7 22) z = l0 z := fun z hz => (lb_in z (x_10.1 z hz)).trans (hl1 z hz)
  refine g_putF (ci := 10) (v := .ref q_11) (ty := (.array .int)) (C := RX3) (T := TX3) (N := 28) hx hb hts in_X3 tyX3 tyX3_ok nmX3 hown hK hW h_13 rfl 1 (by decide) q1885 (fun _ h9 => h9) rfl hin rfl (by decide +kernel) rfl rfl (Nat.le_of_ble_eq_true rfl) dX3_init_17 (fun H locs hW => ?_)
  obtain ⟨w_17, ew_17⟩ : ∃ z__, z__ = g_put w_12 y (.inr (10, [.ref q_2, .ref q_11, .null, .null, .int (0), .null, .null, .null, .int (0), .null, .null, .int (0), .int (0), .int (0), .null, .null, .int (0), .long (0), .null, .null, .int (0), .int (0), .int (0), .null, .null, .null, .int (0), .int (0)])) := ⟨_, rfl⟩
  have hW := g_W.ren hW ew_17 rfl
  have h_18 : g_at w_17 y (.inr (10, [.ref q_2, .ref q_11, .null, .null, .int (0), .null, .null, .null, .int (0), .null, .null, .int (0), .int (0), .int (0), .null, .null, .int (0), .long (0), .null, .null, .int (0), .int (0), .int (0), .null, .null, .null, .int (0), .int (0)])) := by rw [ew_17]; exact g_at.put_self h_13.1
  have h_19 : g_at w_17 q_2 (.inl (D.1 100, 16, .inl ((fun _ => 0)))) := by rw [ew_17]; exact h_14.put (g_neAO h_14 h_13)
  have h_20 : g_at w_17 q_11 (.inl (D.1 100, 16, .inl ((fun _ => 0)))) := by rw [ew_17]; exact h_15.put (g_neAO h_15 h_13)
  have x_21 : g_ex (fun q => q = y) w w_17 := by rw [ew_17]; exact x_16.put (fun hz9 => rfl)
  refine lv_aload_n hx hb dX3_init_20 rfl (lv_at hl 0 rfl) ?_
  refine lv_bipush (v := 16) hx hb dX3_init_21 (by decide) ?_
  refine g_newa (k := 0) (atype := .int) (ty := .int) (cB := D.1 100) hx hb rfl (hts _ q187) hK hW rfl 16 (16, .inl (fun _ => 0)) (fun _ => rfl) (by decide) (by decide +kernel) (by decide +kernel) (Nat.le_of_ble_eq_true rfl) (Nat.le_of_ble_eq_true rfl) dX3_init_23 (fun q_22 H hq hW => ?_)
  have hq_22 := hq
  obtain ⟨w_23, ew_23⟩ : ∃ z__, z__ = g_push w_17 q_22 (.inl (D.1 100, 16, .inl ((fun _ => 0)))) := ⟨_, rfl⟩
  have hW := g_W.ren hW ew_23 rfl
  have h_24 : g_at w_23 y (.inr (10, [.ref q_2, .ref q_11, .null, .null, .int (0), .null, .null, .null, .int (0), .null, .null, .int (0), .int (0), .int (0), .null, .null, .int (0), .long (0), .null, .null, .int (0), .int (0), .int (0), .null, .null, .null, .int (0), .int (0)])) := by rw [ew_23]; exact h_18.push hq
  have h_25 : g_at w_23 q_2 (.inl (D.1 100, 16, .inl ((fun _ => 0)))) := by rw [ew_23]; exact h_19.push hq
  have h_26 : g_at w_23 q_11 (.inl (D.1 100, 16, .inl ((fun _ => 0)))) := by rw [ew_23]; exact h_20.push hq
  have h_27 : g_at w_23 q_22 (.inl (D.1 100, 16, .inl ((fun _ => 0)))) := by rw [ew_23]; exact g_at.push_self
  have x_28 : g_ex (fun q => q = y) w w_23 := by rw [ew_23]; exact x_21.push hq
  have lq2_0 : (lb (lb (lb l0 w 21) w_7 22) w_17 23) q_2 = 21 := (lb_in _ h_19.1).trans lq1_0
  have lq2_1 : (lb (lb (lb l0 w 21) w_7 22) w_17 23) q_11 = 22 := (lb_in _ h_20.1).trans lq1_1
  have lq2_2 : (lb (lb (lb l0 w 21) w_7 22) w_17 23) q_22 = 23 := lb_out hq_22
  have hl3 : ∀ z, z ∈ w.1 → (lb (lb (lb l0 w 21) w_7 22) w_17 23) z = l0 z := fun z hz => (lb_in z (x_21.1 z hz)).trans (hl2 z hz)
  refine g_putF (ci := 10) (v := .ref q_22) (ty := (.array .int)) (C := RX3) (T := TX3) (N := 28) hx hb hts in_X3 tyX3 tyX3_ok nmX3 hown hK hW h_24 rfl 2 (by decide) q1886 (fun _ h9 => h9) rfl hin rfl (by decide +kernel) rfl rfl (Nat.le_of_ble_eq_true rfl) dX3_init_25 (fun H locs hW => ?_)
  obtain ⟨w_29, ew_29⟩ : ∃ z__, z__ = g_put w_23 y (.inr (10, [.ref q_2, .ref q_11, .ref q_22, .null, .int (0), .null, .null, .null, .int (0), .null, .null, .int (0), .int (0), .int (0), .null, .null, .int (0), .long (0), .null, .null, .int (0), .int (0), .int (0), .null, .null, .null, .int (0), .int (0)])) := ⟨_, rfl⟩
  have hW := g_W.ren hW ew_29 rfl
  have h_30 : g_at w_29 y (.inr (10, [.ref q_2, .ref q_11, .ref q_22, .null, .int (0), .null, .null, .null, .int (0), .null, .null, .int (0), .int (0), .int (0), .null, .null, .int (0), .long (0), .null, .null, .int (0), .int (0), .int (0), .null, .null, .null, .int (0), .int (0)])) := by rw [ew_29]; exact g_at.put_self h_24.1
  have h_31 : g_at w_29 q_2 (.inl (D.1 100, 16, .inl ((fun _ => 0)))) := by rw [ew_29]; exact h_25.put (g_neAO h_25 h_24)
  have h_32 : g_at w_29 q_11 (.inl (D.1 100, 16, .inl ((fun _ => 0)))) := by rw [ew_29]; exact h_26.put (g_neAO h_26 h_24)
  have h_33 : g_at w_29 q_22 (.inl (D.1 100, 16, .inl ((fun _ => 0)))) := by rw [ew_29]; exact h_27.put (g_neAO h_27 h_24)
  have x_34 : g_ex (fun q => q = y) w w_29 := by rw [ew_29]; exact x_28.put (fun hz9 => rfl)
  refine lv_aload_n hx hb dX3_init_28 rfl (lv_at hl 0 rfl) ?_
  refine lv_bipush (v := 16) hx hb dX3_init_29 (by decide) ?_
  refine g_newa (k := 0) (atype := .int) (ty := .int) (cB := D.1 100) hx hb rfl (hts _ q187) hK hW rfl 16 (16, .inl (fun _ => 0)) (fun _ => rfl) (by decide) (by decide +kernel) (by decide +kernel) (Nat.le_of_ble_eq_true rfl) (Nat.le_of_ble_eq_true rfl) dX3_init_31 (fun q_35 H hq hW => ?_)
  have hq_35 := hq
  obtain ⟨w_36, ew_36⟩ : ∃ z__, z__ = g_push w_29 q_35 (.inl (D.1 100, 16, .inl ((fun _ => 0)))) := ⟨_, rfl⟩
  have hW := g_W.ren hW ew_36 rfl
  have h_37 : g_at w_36 y (.inr (10, [.ref q_2, .ref q_11, .ref q_22, .null, .int (0), .null, .null, .null, .int (0), .null, .null, .int (0), .int (0), .int (0), .null, .null, .int (0), .long (0), .null, .null, .int (0), .int (0), .int (0), .null, .null, .null, .int (0), .int (0)])) := by rw [ew_36]; exact h_30.push hq
  have h_38 : g_at w_36 q_2 (.inl (D.1 100, 16, .inl ((fun _ => 0)))) := by rw [ew_36]; exact h_31.push hq
  have h_39 : g_at w_36 q_11 (.inl (D.1 100, 16, .inl ((fun _ => 0)))) := by rw [ew_36]; exact h_32.push hq
  have h_40 : g_at w_36 q_22 (.inl (D.1 100, 16, .inl ((fun _ => 0)))) := by rw [ew_36]; exact h_33.push hq
  have h_41 : g_at w_36 q_35 (.inl (D.1 100, 16, .inl ((fun _ => 0)))) := by rw [ew_36]; exact g_at.push_self
  have x_42 : g_ex (fun q => q = y) w w_36 := by rw [ew_36]; exact x_34.push hq
  have lq3_0 : (lb (lb (lb (lb l0 w 21) w_7 22) w_17 23) w_29 24) q_2 = 21 := (lb_in _ h_31.1).trans lq2_0
  have lq3_1 : (lb (lb (lb (lb l0 w 21) w_7 22) w_17 23) w_29 24) q_11 = 22 := (lb_in _ h_32.1).trans lq2_1
  have lq3_2 : (lb (lb (lb (lb l0 w 21) w_7 22) w_17 23) w_29 24) q_22 = 23 := (lb_in _ h_33.1).trans lq2_2
  have lq3_3 : (lb (lb (lb (lb l0 w 21) w_7 22) w_17 23) w_29 24) q_35 = 24 := lb_out hq_35
  have hl4 : ∀ z, z ∈ w.1 → (lb (lb (lb (lb l0 w 21) w_7 22) w_17 23) w_29 24) z = l0 z := fun z hz => (lb_in z (x_34.1 z hz)).trans (hl3 z hz)
  refine g_putF (ci := 10) (v := .ref q_35) (ty := (.array .int)) (C := RX3) (T := TX3) (N := 28) hx hb hts in_X3 tyX3 tyX3_ok nmX3 hown hK hW h_37 rfl 3 (by decide) q1887 (fun _ h9 => h9) rfl hin rfl (by decide +kernel) rfl rfl (Nat.le_of_ble_eq_true rfl) dX3_init_33 (fun H locs hW => ?_)
  obtain ⟨w_43, ew_43⟩ : ∃ z__, z__ = g_put w_36 y (.inr (10, [.ref q_2, .ref q_11, .ref q_22, .ref q_35, .int (0), .null, .null, .null, .int (0), .null, .null, .int (0), .int (0), .int (0), .null, .null, .int (0), .long (0), .null, .null, .int (0), .int (0), .int (0), .null, .null, .null, .int (0), .int (0)])) := ⟨_, rfl⟩
  have hW := g_W.ren hW ew_43 rfl
  have h_44 : g_at w_43 y (.inr (10, [.ref q_2, .ref q_11, .ref q_22, .ref q_35, .int (0), .null, .null, .null, .int (0), .null, .null, .int (0), .int (0), .int (0), .null, .null, .int (0), .long (0), .null, .null, .int (0), .int (0), .int (0), .null, .null, .null, .int (0), .int (0)])) := by rw [ew_43]; exact g_at.put_self h_37.1
  have h_45 : g_at w_43 q_2 (.inl (D.1 100, 16, .inl ((fun _ => 0)))) := by rw [ew_43]; exact h_38.put (g_neAO h_38 h_37)
  have h_46 : g_at w_43 q_11 (.inl (D.1 100, 16, .inl ((fun _ => 0)))) := by rw [ew_43]; exact h_39.put (g_neAO h_39 h_37)
  have h_47 : g_at w_43 q_22 (.inl (D.1 100, 16, .inl ((fun _ => 0)))) := by rw [ew_43]; exact h_40.put (g_neAO h_40 h_37)
  have h_48 : g_at w_43 q_35 (.inl (D.1 100, 16, .inl ((fun _ => 0)))) := by rw [ew_43]; exact h_41.put (g_neAO h_41 h_37)
  have x_49 : g_ex (fun q => q = y) w w_43 := by rw [ew_43]; exact x_42.put (fun hz9 => rfl)
  refine lv_aload_n hx hb dX3_init_36 rfl (lv_at hl 0 rfl) ?_
  refine lv_bipush (v := 8) hx hb dX3_init_37 (by decide) ?_
  refine g_newa (k := 0) (atype := .int) (ty := .int) (cB := D.1 100) hx hb rfl (hts _ q187) hK hW rfl 8 (8, .inl (fun _ => 0)) (fun _ => rfl) (by decide) (by decide +kernel) (by decide +kernel) (Nat.le_of_ble_eq_true rfl) (Nat.le_of_ble_eq_true rfl) dX3_init_39 (fun q_50 H hq hW => ?_)
  have hq_50 := hq
  obtain ⟨w_51, ew_51⟩ : ∃ z__, z__ = g_push w_43 q_50 (.inl (D.1 100, 8, .inl ((fun _ => 0)))) := ⟨_, rfl⟩
  have hW := g_W.ren hW ew_51 rfl
  have h_52 : g_at w_51 y (.inr (10, [.ref q_2, .ref q_11, .ref q_22, .ref q_35, .int (0), .null, .null, .null, .int (0), .null, .null, .int (0), .int (0), .int (0), .null, .null, .int (0), .long (0), .null, .null, .int (0), .int (0), .int (0), .null, .null, .null, .int (0), .int (0)])) := by rw [ew_51]; exact h_44.push hq
  have h_53 : g_at w_51 q_2 (.inl (D.1 100, 16, .inl ((fun _ => 0)))) := by rw [ew_51]; exact h_45.push hq
  have h_54 : g_at w_51 q_11 (.inl (D.1 100, 16, .inl ((fun _ => 0)))) := by rw [ew_51]; exact h_46.push hq
  have h_55 : g_at w_51 q_22 (.inl (D.1 100, 16, .inl ((fun _ => 0)))) := by rw [ew_51]; exact h_47.push hq
  have h_56 : g_at w_51 q_35 (.inl (D.1 100, 16, .inl ((fun _ => 0)))) := by rw [ew_51]; exact h_48.push hq
  have h_57 : g_at w_51 q_50 (.inl (D.1 100, 8, .inl ((fun _ => 0)))) := by rw [ew_51]; exact g_at.push_self
  have x_58 : g_ex (fun q => q = y) w w_51 := by rw [ew_51]; exact x_49.push hq
  have lq4_0 : (lb (lb (lb (lb (lb l0 w 21) w_7 22) w_17 23) w_29 24) w_43 26) q_2 = 21 := (lb_in _ h_45.1).trans lq3_0
  have lq4_1 : (lb (lb (lb (lb (lb l0 w 21) w_7 22) w_17 23) w_29 24) w_43 26) q_11 = 22 := (lb_in _ h_46.1).trans lq3_1
  have lq4_2 : (lb (lb (lb (lb (lb l0 w 21) w_7 22) w_17 23) w_29 24) w_43 26) q_22 = 23 := (lb_in _ h_47.1).trans lq3_2
  have lq4_3 : (lb (lb (lb (lb (lb l0 w 21) w_7 22) w_17 23) w_29 24) w_43 26) q_35 = 24 := (lb_in _ h_48.1).trans lq3_3
  have lq4_5 : (lb (lb (lb (lb (lb l0 w 21) w_7 22) w_17 23) w_29 24) w_43 26) q_50 = 26 := lb_out hq_50
  have hl5 : ∀ z, z ∈ w.1 → (lb (lb (lb (lb (lb l0 w 21) w_7 22) w_17 23) w_29 24) w_43 26) z = l0 z := fun z hz => (lb_in z (x_49.1 z hz)).trans (hl4 z hz)
  refine g_putF (ci := 10) (v := .ref q_50) (ty := (.array .int)) (C := RX3) (T := TX3) (N := 28) hx hb hts in_X3 tyX3 tyX3_ok nmX3 hown hK hW h_52 rfl 5 (by decide) q1889 (fun _ h9 => h9) rfl hin rfl (by decide +kernel) rfl rfl (Nat.le_of_ble_eq_true rfl) dX3_init_41 (fun H locs hW => ?_)
  obtain ⟨w_59, ew_59⟩ : ∃ z__, z__ = g_put w_51 y (.inr (10, [.ref q_2, .ref q_11, .ref q_22, .ref q_35, .int (0), .ref q_50, .null, .null, .int (0), .null, .null, .int (0), .int (0), .int (0), .null, .null, .int (0), .long (0), .null, .null, .int (0), .int (0), .int (0), .null, .null, .null, .int (0), .int (0)])) := ⟨_, rfl⟩
  have hW := g_W.ren hW ew_59 rfl
  have h_60 : g_at w_59 y (.inr (10, [.ref q_2, .ref q_11, .ref q_22, .ref q_35, .int (0), .ref q_50, .null, .null, .int (0), .null, .null, .int (0), .int (0), .int (0), .null, .null, .int (0), .long (0), .null, .null, .int (0), .int (0), .int (0), .null, .null, .null, .int (0), .int (0)])) := by rw [ew_59]; exact g_at.put_self h_52.1
  have h_61 : g_at w_59 q_2 (.inl (D.1 100, 16, .inl ((fun _ => 0)))) := by rw [ew_59]; exact h_53.put (g_neAO h_53 h_52)
  have h_62 : g_at w_59 q_11 (.inl (D.1 100, 16, .inl ((fun _ => 0)))) := by rw [ew_59]; exact h_54.put (g_neAO h_54 h_52)
  have h_63 : g_at w_59 q_22 (.inl (D.1 100, 16, .inl ((fun _ => 0)))) := by rw [ew_59]; exact h_55.put (g_neAO h_55 h_52)
  have h_64 : g_at w_59 q_35 (.inl (D.1 100, 16, .inl ((fun _ => 0)))) := by rw [ew_59]; exact h_56.put (g_neAO h_56 h_52)
  have h_65 : g_at w_59 q_50 (.inl (D.1 100, 8, .inl ((fun _ => 0)))) := by rw [ew_59]; exact h_57.put (g_neAO h_57 h_52)
  have x_66 : g_ex (fun q => q = y) w w_59 := by rw [ew_59]; exact x_58.put (fun hz9 => rfl)
  refine lv_aload_n hx hb dX3_init_44 rfl (lv_at hl 0 rfl) ?_
  refine lv_bipush (v := 8) hx hb dX3_init_45 (by decide) ?_
  refine g_newa (k := 0) (atype := .int) (ty := .int) (cB := D.1 100) hx hb rfl (hts _ q187) hK hW rfl 8 (8, .inl (fun _ => 0)) (fun _ => rfl) (by decide) (by decide +kernel) (by decide +kernel) (Nat.le_of_ble_eq_true rfl) (Nat.le_of_ble_eq_true rfl) dX3_init_47 (fun q_67 H hq hW => ?_)
  have hq_67 := hq
  obtain ⟨w_68, ew_68⟩ : ∃ z__, z__ = g_push w_59 q_67 (.inl (D.1 100, 8, .inl ((fun _ => 0)))) := ⟨_, rfl⟩
  have hW := g_W.ren hW ew_68 rfl
  have h_69 : g_at w_68 y (.inr (10, [.ref q_2, .ref q_11, .ref q_22, .ref q_35, .int (0), .ref q_50, .null, .null, .int (0), .null, .null, .int (0), .int (0), .int (0), .null, .null, .int (0), .long (0), .null, .null, .int (0), .int (0), .int (0), .null, .null, .null, .int (0), .int (0)])) := by rw [ew_68]; exact h_60.push hq
  have h_70 : g_at w_68 q_2 (.inl (D.1 100, 16, .inl ((fun _ => 0)))) := by rw [ew_68]; exact h_61.push hq
  have h_71 : g_at w_68 q_11 (.inl (D.1 100, 16, .inl ((fun _ => 0)))) := by rw [ew_68]; exact h_62.push hq
  have h_72 : g_at w_68 q_22 (.inl (D.1 100, 16, .inl ((fun _ => 0)))) := by rw [ew_68]; exact h_63.push hq
  have h_73 : g_at w_68 q_35 (.inl (D.1 100, 16, .inl ((fun _ => 0)))) := by rw [ew_68]; exact h_64.push hq
  have h_74 : g_at w_68 q_50 (.inl (D.1 100, 8, .inl ((fun _ => 0)))) := by rw [ew_68]; exact h_65.push hq
  have h_75 : g_at w_68 q_67 (.inl (D.1 100, 8, .inl ((fun _ => 0)))) := by rw [ew_68]; exact g_at.push_self
  have x_76 : g_ex (fun q => q = y) w w_68 := by rw [ew_68]; exact x_66.push hq
  have lq5_0 : (lb (lb (lb (lb (lb (lb l0 w 21) w_7 22) w_17 23) w_29 24) w_43 26) w_59 27) q_2 = 21 := (lb_in _ h_61.1).trans lq4_0
  have lq5_1 : (lb (lb (lb (lb (lb (lb l0 w 21) w_7 22) w_17 23) w_29 24) w_43 26) w_59 27) q_11 = 22 := (lb_in _ h_62.1).trans lq4_1
  have lq5_2 : (lb (lb (lb (lb (lb (lb l0 w 21) w_7 22) w_17 23) w_29 24) w_43 26) w_59 27) q_22 = 23 := (lb_in _ h_63.1).trans lq4_2
  have lq5_3 : (lb (lb (lb (lb (lb (lb l0 w 21) w_7 22) w_17 23) w_29 24) w_43 26) w_59 27) q_35 = 24 := (lb_in _ h_64.1).trans lq4_3
  have lq5_5 : (lb (lb (lb (lb (lb (lb l0 w 21) w_7 22) w_17 23) w_29 24) w_43 26) w_59 27) q_50 = 26 := (lb_in _ h_65.1).trans lq4_5
  have lq5_6 : (lb (lb (lb (lb (lb (lb l0 w 21) w_7 22) w_17 23) w_29 24) w_43 26) w_59 27) q_67 = 27 := lb_out hq_67
  have hl6 : ∀ z, z ∈ w.1 → (lb (lb (lb (lb (lb (lb l0 w 21) w_7 22) w_17 23) w_29 24) w_43 26) w_59 27) z = l0 z := fun z hz => (lb_in z (x_66.1 z hz)).trans (hl5 z hz)
  refine g_putF (ci := 10) (v := .ref q_67) (ty := (.array .int)) (C := RX3) (T := TX3) (N := 28) hx hb hts in_X3 tyX3 tyX3_ok nmX3 hown hK hW h_69 rfl 6 (by decide) q1890 (fun _ h9 => h9) rfl hin rfl (by decide +kernel) rfl rfl (Nat.le_of_ble_eq_true rfl) dX3_init_49 (fun H locs hW => ?_)
  obtain ⟨w_77, ew_77⟩ : ∃ z__, z__ = g_put w_68 y (.inr (10, [.ref q_2, .ref q_11, .ref q_22, .ref q_35, .int (0), .ref q_50, .ref q_67, .null, .int (0), .null, .null, .int (0), .int (0), .int (0), .null, .null, .int (0), .long (0), .null, .null, .int (0), .int (0), .int (0), .null, .null, .null, .int (0), .int (0)])) := ⟨_, rfl⟩
  have hW := g_W.ren hW ew_77 rfl
  have h_78 : g_at w_77 y (.inr (10, [.ref q_2, .ref q_11, .ref q_22, .ref q_35, .int (0), .ref q_50, .ref q_67, .null, .int (0), .null, .null, .int (0), .int (0), .int (0), .null, .null, .int (0), .long (0), .null, .null, .int (0), .int (0), .int (0), .null, .null, .null, .int (0), .int (0)])) := by rw [ew_77]; exact g_at.put_self h_69.1
  have h_79 : g_at w_77 q_2 (.inl (D.1 100, 16, .inl ((fun _ => 0)))) := by rw [ew_77]; exact h_70.put (g_neAO h_70 h_69)
  have h_80 : g_at w_77 q_11 (.inl (D.1 100, 16, .inl ((fun _ => 0)))) := by rw [ew_77]; exact h_71.put (g_neAO h_71 h_69)
  have h_81 : g_at w_77 q_22 (.inl (D.1 100, 16, .inl ((fun _ => 0)))) := by rw [ew_77]; exact h_72.put (g_neAO h_72 h_69)
  have h_82 : g_at w_77 q_35 (.inl (D.1 100, 16, .inl ((fun _ => 0)))) := by rw [ew_77]; exact h_73.put (g_neAO h_73 h_69)
  have h_83 : g_at w_77 q_50 (.inl (D.1 100, 8, .inl ((fun _ => 0)))) := by rw [ew_77]; exact h_74.put (g_neAO h_74 h_69)
  have h_84 : g_at w_77 q_67 (.inl (D.1 100, 8, .inl ((fun _ => 0)))) := by rw [ew_77]; exact h_75.put (g_neAO h_75 h_69)
  have x_85 : g_ex (fun q => q = y) w w_77 := by rw [ew_77]; exact x_76.put (fun hz9 => rfl)
  refine lv_aload_n hx hb dX3_init_52 rfl (lv_at hl 0 rfl) ?_
  refine lv_bipush (v := 8) hx hb dX3_init_53 (by decide) ?_
  refine g_newa (k := 0) (atype := .int) (ty := .int) (cB := D.1 100) hx hb rfl (hts _ q187) hK hW rfl 8 (8, .inl (fun _ => 0)) (fun _ => rfl) (by decide) (by decide +kernel) (by decide +kernel) (Nat.le_of_ble_eq_true rfl) (Nat.le_of_ble_eq_true rfl) dX3_init_55 (fun q_86 H hq hW => ?_)
  have hq_86 := hq
  obtain ⟨w_87, ew_87⟩ : ∃ z__, z__ = g_push w_77 q_86 (.inl (D.1 100, 8, .inl ((fun _ => 0)))) := ⟨_, rfl⟩
  have hW := g_W.ren hW ew_87 rfl
  have h_88 : g_at w_87 y (.inr (10, [.ref q_2, .ref q_11, .ref q_22, .ref q_35, .int (0), .ref q_50, .ref q_67, .null, .int (0), .null, .null, .int (0), .int (0), .int (0), .null, .null, .int (0), .long (0), .null, .null, .int (0), .int (0), .int (0), .null, .null, .null, .int (0), .int (0)])) := by rw [ew_87]; exact h_78.push hq
  have h_89 : g_at w_87 q_2 (.inl (D.1 100, 16, .inl ((fun _ => 0)))) := by rw [ew_87]; exact h_79.push hq
  have h_90 : g_at w_87 q_11 (.inl (D.1 100, 16, .inl ((fun _ => 0)))) := by rw [ew_87]; exact h_80.push hq
  have h_91 : g_at w_87 q_22 (.inl (D.1 100, 16, .inl ((fun _ => 0)))) := by rw [ew_87]; exact h_81.push hq
  have h_92 : g_at w_87 q_35 (.inl (D.1 100, 16, .inl ((fun _ => 0)))) := by rw [ew_87]; exact h_82.push hq
  have h_93 : g_at w_87 q_50 (.inl (D.1 100, 8, .inl ((fun _ => 0)))) := by rw [ew_87]; exact h_83.push hq
  have h_94 : g_at w_87 q_67 (.inl (D.1 100, 8, .inl ((fun _ => 0)))) := by rw [ew_87]; exact h_84.push hq
  have h_95 : g_at w_87 q_86 (.inl (D.1 100, 8, .inl ((fun _ => 0)))) := by rw [ew_87]; exact g_at.push_self
  have x_96 : g_ex (fun q => q = y) w w_87 := by rw [ew_87]; exact x_85.push hq
  have lq6_0 : (lb (lb (lb (lb (lb (lb (lb l0 w 21) w_7 22) w_17 23) w_29 24) w_43 26) w_59 27) w_77 28) q_2 = 21 := (lb_in _ h_79.1).trans lq5_0
  have lq6_1 : (lb (lb (lb (lb (lb (lb (lb l0 w 21) w_7 22) w_17 23) w_29 24) w_43 26) w_59 27) w_77 28) q_11 = 22 := (lb_in _ h_80.1).trans lq5_1
  have lq6_2 : (lb (lb (lb (lb (lb (lb (lb l0 w 21) w_7 22) w_17 23) w_29 24) w_43 26) w_59 27) w_77 28) q_22 = 23 := (lb_in _ h_81.1).trans lq5_2
  have lq6_3 : (lb (lb (lb (lb (lb (lb (lb l0 w 21) w_7 22) w_17 23) w_29 24) w_43 26) w_59 27) w_77 28) q_35 = 24 := (lb_in _ h_82.1).trans lq5_3
  have lq6_5 : (lb (lb (lb (lb (lb (lb (lb l0 w 21) w_7 22) w_17 23) w_29 24) w_43 26) w_59 27) w_77 28) q_50 = 26 := (lb_in _ h_83.1).trans lq5_5
  have lq6_6 : (lb (lb (lb (lb (lb (lb (lb l0 w 21) w_7 22) w_17 23) w_29 24) w_43 26) w_59 27) w_77 28) q_67 = 27 := (lb_in _ h_84.1).trans lq5_6
  have lq6_7 : (lb (lb (lb (lb (lb (lb (lb l0 w 21) w_7 22) w_17 23) w_29 24) w_43 26) w_59 27) w_77 28) q_86 = 28 := lb_out hq_86
  have hl7 : ∀ z, z ∈ w.1 → (lb (lb (lb (lb (lb (lb (lb l0 w 21) w_7 22) w_17 23) w_29 24) w_43 26) w_59 27) w_77 28) z = l0 z := fun z hz => (lb_in z (x_85.1 z hz)).trans (hl6 z hz)
  refine g_putF (ci := 10) (v := .ref q_86) (ty := (.array .int)) (C := RX3) (T := TX3) (N := 28) hx hb hts in_X3 tyX3 tyX3_ok nmX3 hown hK hW h_88 rfl 7 (by decide) q1891 (fun _ h9 => h9) rfl hin rfl (by decide +kernel) rfl rfl (Nat.le_of_ble_eq_true rfl) dX3_init_57 (fun H locs hW => ?_)
  obtain ⟨w_97, ew_97⟩ : ∃ z__, z__ = g_put w_87 y (.inr (10, [.ref q_2, .ref q_11, .ref q_22, .ref q_35, .int (0), .ref q_50, .ref q_67, .ref q_86, .int (0), .null, .null, .int (0), .int (0), .int (0), .null, .null, .int (0), .long (0), .null, .null, .int (0), .int (0), .int (0), .null, .null, .null, .int (0), .int (0)])) := ⟨_, rfl⟩
  have hW := g_W.ren hW ew_97 rfl
  have h_98 : g_at w_97 y (.inr (10, [.ref q_2, .ref q_11, .ref q_22, .ref q_35, .int (0), .ref q_50, .ref q_67, .ref q_86, .int (0), .null, .null, .int (0), .int (0), .int (0), .null, .null, .int (0), .long (0), .null, .null, .int (0), .int (0), .int (0), .null, .null, .null, .int (0), .int (0)])) := by rw [ew_97]; exact g_at.put_self h_88.1
  have h_99 : g_at w_97 q_2 (.inl (D.1 100, 16, .inl ((fun _ => 0)))) := by rw [ew_97]; exact h_89.put (g_neAO h_89 h_88)
  have h_100 : g_at w_97 q_11 (.inl (D.1 100, 16, .inl ((fun _ => 0)))) := by rw [ew_97]; exact h_90.put (g_neAO h_90 h_88)
  have h_101 : g_at w_97 q_22 (.inl (D.1 100, 16, .inl ((fun _ => 0)))) := by rw [ew_97]; exact h_91.put (g_neAO h_91 h_88)
  have h_102 : g_at w_97 q_35 (.inl (D.1 100, 16, .inl ((fun _ => 0)))) := by rw [ew_97]; exact h_92.put (g_neAO h_92 h_88)
  have h_103 : g_at w_97 q_50 (.inl (D.1 100, 8, .inl ((fun _ => 0)))) := by rw [ew_97]; exact h_93.put (g_neAO h_93 h_88)
  have h_104 : g_at w_97 q_67 (.inl (D.1 100, 8, .inl ((fun _ => 0)))) := by rw [ew_97]; exact h_94.put (g_neAO h_94 h_88)
  have h_105 : g_at w_97 q_86 (.inl (D.1 100, 8, .inl ((fun _ => 0)))) := by rw [ew_97]; exact h_95.put (g_neAO h_95 h_88)
  have x_106 : g_ex (fun q => q = y) w w_97 := by rw [ew_97]; exact x_96.put (fun hz9 => rfl)
  refine lv_aload_n hx hb dX3_init_60 rfl (lv_at hl 0 rfl) ?_
  refine lv_bipush (v := 12) hx hb dX3_init_61 (by decide) ?_
  refine g_newq (k := 5) (cB := D.1 105) hx hb hts hown q1882 hE.as hK hW rfl (12) (by decide) (by decide) (by decide) (Nat.le_of_ble_eq_true rfl) (Nat.le_of_ble_eq_true rfl) dX3_init_63 (fun q_107 H hq hW => ?_)
  have hq_107 := hq
  obtain ⟨w_108, ew_108⟩ : ∃ z__, z__ = g_push w_97 q_107 (.inl (D.1 105, 12, .inr (.inr (.inr (.inr ((fun _ => none))))))) := ⟨_, rfl⟩
  have hW := g_W.ren hW ew_108 rfl
  have h_109 : g_at w_108 y (.inr (10, [.ref q_2, .ref q_11, .ref q_22, .ref q_35, .int (0), .ref q_50, .ref q_67, .ref q_86, .int (0), .null, .null, .int (0), .int (0), .int (0), .null, .null, .int (0), .long (0), .null, .null, .int (0), .int (0), .int (0), .null, .null, .null, .int (0), .int (0)])) := by rw [ew_108]; exact h_98.push hq
  have h_110 : g_at w_108 q_2 (.inl (D.1 100, 16, .inl ((fun _ => 0)))) := by rw [ew_108]; exact h_99.push hq
  have h_111 : g_at w_108 q_11 (.inl (D.1 100, 16, .inl ((fun _ => 0)))) := by rw [ew_108]; exact h_100.push hq
  have h_112 : g_at w_108 q_22 (.inl (D.1 100, 16, .inl ((fun _ => 0)))) := by rw [ew_108]; exact h_101.push hq
  have h_113 : g_at w_108 q_35 (.inl (D.1 100, 16, .inl ((fun _ => 0)))) := by rw [ew_108]; exact h_102.push hq
  have h_114 : g_at w_108 q_50 (.inl (D.1 100, 8, .inl ((fun _ => 0)))) := by rw [ew_108]; exact h_103.push hq
  have h_115 : g_at w_108 q_67 (.inl (D.1 100, 8, .inl ((fun _ => 0)))) := by rw [ew_108]; exact h_104.push hq
  have h_116 : g_at w_108 q_86 (.inl (D.1 100, 8, .inl ((fun _ => 0)))) := by rw [ew_108]; exact h_105.push hq
  have h_117 : g_at w_108 q_107 (.inl (D.1 105, 12, .inr (.inr (.inr (.inr ((fun _ => none))))))) := by rw [ew_108]; exact g_at.push_self
  have x_118 : g_ex (fun q => q = y) w w_108 := by rw [ew_108]; exact x_106.push hq
  have lq7_0 : (lb (lb (lb (lb (lb (lb (lb (lb l0 w 21) w_7 22) w_17 23) w_29 24) w_43 26) w_59 27) w_77 28) w_97 30) q_2 = 21 := (lb_in _ h_99.1).trans lq6_0
  have lq7_1 : (lb (lb (lb (lb (lb (lb (lb (lb l0 w 21) w_7 22) w_17 23) w_29 24) w_43 26) w_59 27) w_77 28) w_97 30) q_11 = 22 := (lb_in _ h_100.1).trans lq6_1
  have lq7_2 : (lb (lb (lb (lb (lb (lb (lb (lb l0 w 21) w_7 22) w_17 23) w_29 24) w_43 26) w_59 27) w_77 28) w_97 30) q_22 = 23 := (lb_in _ h_101.1).trans lq6_2
  have lq7_3 : (lb (lb (lb (lb (lb (lb (lb (lb l0 w 21) w_7 22) w_17 23) w_29 24) w_43 26) w_59 27) w_77 28) w_97 30) q_35 = 24 := (lb_in _ h_102.1).trans lq6_3
  have lq7_5 : (lb (lb (lb (lb (lb (lb (lb (lb l0 w 21) w_7 22) w_17 23) w_29 24) w_43 26) w_59 27) w_77 28) w_97 30) q_50 = 26 := (lb_in _ h_103.1).trans lq6_5
  have lq7_6 : (lb (lb (lb (lb (lb (lb (lb (lb l0 w 21) w_7 22) w_17 23) w_29 24) w_43 26) w_59 27) w_77 28) w_97 30) q_67 = 27 := (lb_in _ h_104.1).trans lq6_6
  have lq7_7 : (lb (lb (lb (lb (lb (lb (lb (lb l0 w 21) w_7 22) w_17 23) w_29 24) w_43 26) w_59 27) w_77 28) w_97 30) q_86 = 28 := (lb_in _ h_105.1).trans lq6_7
  have lq7_9 : (lb (lb (lb (lb (lb (lb (lb (lb l0 w 21) w_7 22) w_17 23) w_29 24) w_43 26) w_59 27) w_77 28) w_97 30) q_107 = 30 := lb_out hq_107
  have hl8 : ∀ z, z ∈ w.1 → (lb (lb (lb (lb (lb (lb (lb (lb l0 w 21) w_7 22) w_17 23) w_29 24) w_43 26) w_59 27) w_77 28) w_97 30) z = l0 z := fun z hz => (lb_in z (x_106.1 z hz)).trans (hl7 z hz)
  refine g_putF (ci := 10) (v := .ref q_107) (ty := (.array (.object "java/lang/String"))) (C := RX3) (T := TX3) (N := 28) hx hb hts in_X3 tyX3 tyX3_ok nmX3 hown hK hW h_109 rfl 9 (by decide) q1893 (fun _ h9 => h9) rfl hin rfl (by decide +kernel) rfl rfl (Nat.le_of_ble_eq_true rfl) dX3_init_66 (fun H locs hW => ?_)
  obtain ⟨w_119, ew_119⟩ : ∃ z__, z__ = g_put w_108 y (.inr (10, [.ref q_2, .ref q_11, .ref q_22, .ref q_35, .int (0), .ref q_50, .ref q_67, .ref q_86, .int (0), .ref q_107, .null, .int (0), .int (0), .int (0), .null, .null, .int (0), .long (0), .null, .null, .int (0), .int (0), .int (0), .null, .null, .null, .int (0), .int (0)])) := ⟨_, rfl⟩
  have hW := g_W.ren hW ew_119 rfl
  have h_120 : g_at w_119 y (.inr (10, [.ref q_2, .ref q_11, .ref q_22, .ref q_35, .int (0), .ref q_50, .ref q_67, .ref q_86, .int (0), .ref q_107, .null, .int (0), .int (0), .int (0), .null, .null, .int (0), .long (0), .null, .null, .int (0), .int (0), .int (0), .null, .null, .null, .int (0), .int (0)])) := by rw [ew_119]; exact g_at.put_self h_109.1
  have h_121 : g_at w_119 q_2 (.inl (D.1 100, 16, .inl ((fun _ => 0)))) := by rw [ew_119]; exact h_110.put (g_neAO h_110 h_109)
  have h_122 : g_at w_119 q_11 (.inl (D.1 100, 16, .inl ((fun _ => 0)))) := by rw [ew_119]; exact h_111.put (g_neAO h_111 h_109)
  have h_123 : g_at w_119 q_22 (.inl (D.1 100, 16, .inl ((fun _ => 0)))) := by rw [ew_119]; exact h_112.put (g_neAO h_112 h_109)
  have h_124 : g_at w_119 q_35 (.inl (D.1 100, 16, .inl ((fun _ => 0)))) := by rw [ew_119]; exact h_113.put (g_neAO h_113 h_109)
  have h_125 : g_at w_119 q_50 (.inl (D.1 100, 8, .inl ((fun _ => 0)))) := by rw [ew_119]; exact h_114.put (g_neAO h_114 h_109)
  have h_126 : g_at w_119 q_67 (.inl (D.1 100, 8, .inl ((fun _ => 0)))) := by rw [ew_119]; exact h_115.put (g_neAO h_115 h_109)
  have h_127 : g_at w_119 q_86 (.inl (D.1 100, 8, .inl ((fun _ => 0)))) := by rw [ew_119]; exact h_116.put (g_neAO h_116 h_109)
  have h_128 : g_at w_119 q_107 (.inl (D.1 105, 12, .inr (.inr (.inr (.inr ((fun _ => none))))))) := by rw [ew_119]; exact h_117.put (g_neAO h_117 h_109)
  have x_129 : g_ex (fun q => q = y) w w_119 := by rw [ew_119]; exact x_118.put (fun hz9 => rfl)
  refine lv_aload_n hx hb dX3_init_69 rfl (lv_at hl 0 rfl) ?_
  refine lv_iconst (v := 4) hx hb dX3_init_70 (by decide) ?_
  refine g_newa (k := 0) (atype := .int) (ty := .int) (cB := D.1 100) hx hb rfl (hts _ q187) hK hW rfl 4 (4, .inl (fun _ => 0)) (fun _ => rfl) (by decide) (by decide +kernel) (by decide +kernel) (Nat.le_of_ble_eq_true rfl) (Nat.le_of_ble_eq_true rfl) dX3_init_71 (fun q_130 H hq hW => ?_)
  have hq_130 := hq
  obtain ⟨w_131, ew_131⟩ : ∃ z__, z__ = g_push w_119 q_130 (.inl (D.1 100, 4, .inl ((fun _ => 0)))) := ⟨_, rfl⟩
  have hW := g_W.ren hW ew_131 rfl
  have h_132 : g_at w_131 y (.inr (10, [.ref q_2, .ref q_11, .ref q_22, .ref q_35, .int (0), .ref q_50, .ref q_67, .ref q_86, .int (0), .ref q_107, .null, .int (0), .int (0), .int (0), .null, .null, .int (0), .long (0), .null, .null, .int (0), .int (0), .int (0), .null, .null, .null, .int (0), .int (0)])) := by rw [ew_131]; exact h_120.push hq
  have h_133 : g_at w_131 q_2 (.inl (D.1 100, 16, .inl ((fun _ => 0)))) := by rw [ew_131]; exact h_121.push hq
  have h_134 : g_at w_131 q_11 (.inl (D.1 100, 16, .inl ((fun _ => 0)))) := by rw [ew_131]; exact h_122.push hq
  have h_135 : g_at w_131 q_22 (.inl (D.1 100, 16, .inl ((fun _ => 0)))) := by rw [ew_131]; exact h_123.push hq
  have h_136 : g_at w_131 q_35 (.inl (D.1 100, 16, .inl ((fun _ => 0)))) := by rw [ew_131]; exact h_124.push hq
  have h_137 : g_at w_131 q_50 (.inl (D.1 100, 8, .inl ((fun _ => 0)))) := by rw [ew_131]; exact h_125.push hq
  have h_138 : g_at w_131 q_67 (.inl (D.1 100, 8, .inl ((fun _ => 0)))) := by rw [ew_131]; exact h_126.push hq
  have h_139 : g_at w_131 q_86 (.inl (D.1 100, 8, .inl ((fun _ => 0)))) := by rw [ew_131]; exact h_127.push hq
  have h_140 : g_at w_131 q_107 (.inl (D.1 105, 12, .inr (.inr (.inr (.inr ((fun _ => none))))))) := by rw [ew_131]; exact h_128.push hq
  have h_141 : g_at w_131 q_130 (.inl (D.1 100, 4, .inl ((fun _ => 0)))) := by rw [ew_131]; exact g_at.push_self
  have x_142 : g_ex (fun q => q = y) w w_131 := by rw [ew_131]; exact x_129.push hq
  have lq8_0 : (lb (lb (lb (lb (lb (lb (lb (lb (lb l0 w 21) w_7 22) w_17 23) w_29 24) w_43 26) w_59 27) w_77 28) w_97 30) w_119 31) q_2 = 21 := (lb_in _ h_121.1).trans lq7_0
  have lq8_1 : (lb (lb (lb (lb (lb (lb (lb (lb (lb l0 w 21) w_7 22) w_17 23) w_29 24) w_43 26) w_59 27) w_77 28) w_97 30) w_119 31) q_11 = 22 := (lb_in _ h_122.1).trans lq7_1
  have lq8_2 : (lb (lb (lb (lb (lb (lb (lb (lb (lb l0 w 21) w_7 22) w_17 23) w_29 24) w_43 26) w_59 27) w_77 28) w_97 30) w_119 31) q_22 = 23 := (lb_in _ h_123.1).trans lq7_2
  have lq8_3 : (lb (lb (lb (lb (lb (lb (lb (lb (lb l0 w 21) w_7 22) w_17 23) w_29 24) w_43 26) w_59 27) w_77 28) w_97 30) w_119 31) q_35 = 24 := (lb_in _ h_124.1).trans lq7_3
  have lq8_5 : (lb (lb (lb (lb (lb (lb (lb (lb (lb l0 w 21) w_7 22) w_17 23) w_29 24) w_43 26) w_59 27) w_77 28) w_97 30) w_119 31) q_50 = 26 := (lb_in _ h_125.1).trans lq7_5
  have lq8_6 : (lb (lb (lb (lb (lb (lb (lb (lb (lb l0 w 21) w_7 22) w_17 23) w_29 24) w_43 26) w_59 27) w_77 28) w_97 30) w_119 31) q_67 = 27 := (lb_in _ h_126.1).trans lq7_6
  have lq8_7 : (lb (lb (lb (lb (lb (lb (lb (lb (lb l0 w 21) w_7 22) w_17 23) w_29 24) w_43 26) w_59 27) w_77 28) w_97 30) w_119 31) q_86 = 28 := (lb_in _ h_127.1).trans lq7_7
  have lq8_9 : (lb (lb (lb (lb (lb (lb (lb (lb (lb l0 w 21) w_7 22) w_17 23) w_29 24) w_43 26) w_59 27) w_77 28) w_97 30) w_119 31) q_107 = 30 := (lb_in _ h_128.1).trans lq7_9
  have lq8_10 : (lb (lb (lb (lb (lb (lb (lb (lb (lb l0 w 21) w_7 22) w_17 23) w_29 24) w_43 26) w_59 27) w_77 28) w_97 30) w_119 31) q_130 = 31 := lb_out hq_130
  have hl9 : ∀ z, z ∈ w.1 → (lb (lb (lb (lb (lb (lb (lb (lb (lb l0 w 21) w_7 22) w_17 23) w_29 24) w_43 26) w_59 27) w_77 28) w_97 30) w_119 31) z = l0 z := fun z hz => (lb_in z (x_129.1 z hz)).trans (hl8 z hz)
  refine g_putF (ci := 10) (v := .ref q_130) (ty := (.array .int)) (C := RX3) (T := TX3) (N := 28) hx hb hts in_X3 tyX3 tyX3_ok nmX3 hown hK hW h_132 rfl 10 (by decide) q1894 (fun _ h9 => h9) rfl hin rfl (by decide +kernel) rfl rfl (Nat.le_of_ble_eq_true rfl) dX3_init_73 (fun H locs hW => ?_)
  obtain ⟨w_143, ew_143⟩ : ∃ z__, z__ = g_put w_131 y (.inr (10, [.ref q_2, .ref q_11, .ref q_22, .ref q_35, .int (0), .ref q_50, .ref q_67, .ref q_86, .int (0), .ref q_107, .ref q_130, .int (0), .int (0), .int (0), .null, .null, .int (0), .long (0), .null, .null, .int (0), .int (0), .int (0), .null, .null, .null, .int (0), .int (0)])) := ⟨_, rfl⟩
  have hW := g_W.ren hW ew_143 rfl
  have h_144 : g_at w_143 y (.inr (10, [.ref q_2, .ref q_11, .ref q_22, .ref q_35, .int (0), .ref q_50, .ref q_67, .ref q_86, .int (0), .ref q_107, .ref q_130, .int (0), .int (0), .int (0), .null, .null, .int (0), .long (0), .null, .null, .int (0), .int (0), .int (0), .null, .null, .null, .int (0), .int (0)])) := by rw [ew_143]; exact g_at.put_self h_132.1
  have h_145 : g_at w_143 q_2 (.inl (D.1 100, 16, .inl ((fun _ => 0)))) := by rw [ew_143]; exact h_133.put (g_neAO h_133 h_132)
  have h_146 : g_at w_143 q_11 (.inl (D.1 100, 16, .inl ((fun _ => 0)))) := by rw [ew_143]; exact h_134.put (g_neAO h_134 h_132)
  have h_147 : g_at w_143 q_22 (.inl (D.1 100, 16, .inl ((fun _ => 0)))) := by rw [ew_143]; exact h_135.put (g_neAO h_135 h_132)
  have h_148 : g_at w_143 q_35 (.inl (D.1 100, 16, .inl ((fun _ => 0)))) := by rw [ew_143]; exact h_136.put (g_neAO h_136 h_132)
  have h_149 : g_at w_143 q_50 (.inl (D.1 100, 8, .inl ((fun _ => 0)))) := by rw [ew_143]; exact h_137.put (g_neAO h_137 h_132)
  have h_150 : g_at w_143 q_67 (.inl (D.1 100, 8, .inl ((fun _ => 0)))) := by rw [ew_143]; exact h_138.put (g_neAO h_138 h_132)
  have h_151 : g_at w_143 q_86 (.inl (D.1 100, 8, .inl ((fun _ => 0)))) := by rw [ew_143]; exact h_139.put (g_neAO h_139 h_132)
  have h_152 : g_at w_143 q_107 (.inl (D.1 105, 12, .inr (.inr (.inr (.inr ((fun _ => none))))))) := by rw [ew_143]; exact h_140.put (g_neAO h_140 h_132)
  have h_153 : g_at w_143 q_130 (.inl (D.1 100, 4, .inl ((fun _ => 0)))) := by rw [ew_143]; exact h_141.put (g_neAO h_141 h_132)
  have x_154 : g_ex (fun q => q = y) w w_143 := by rw [ew_143]; exact x_142.put (fun hz9 => rfl)
  refine lv_aload_n hx hb dX3_init_76 rfl (lv_at hl 0 rfl) ?_
  refine lv_sipush (v := 272) hx hb dX3_init_77 (by decide) ?_
  refine g_newa (k := 2) (atype := .boolean) (ty := .boolean) (cB := D.1 102) hx hb rfl (hts _ q1969) hK hW rfl 272 (272, .inl (fun _ => 0)) (fun _ => rfl) (by decide) (by decide +kernel) (by decide +kernel) (Nat.le_of_ble_eq_true rfl) (Nat.le_of_ble_eq_true rfl) dX3_init_80 (fun q_155 H hq hW => ?_)
  have hq_155 := hq
  obtain ⟨w_156, ew_156⟩ : ∃ z__, z__ = g_push w_143 q_155 (.inl (D.1 102, 272, .inl ((fun _ => 0)))) := ⟨_, rfl⟩
  have hW := g_W.ren hW ew_156 rfl
  have h_157 : g_at w_156 y (.inr (10, [.ref q_2, .ref q_11, .ref q_22, .ref q_35, .int (0), .ref q_50, .ref q_67, .ref q_86, .int (0), .ref q_107, .ref q_130, .int (0), .int (0), .int (0), .null, .null, .int (0), .long (0), .null, .null, .int (0), .int (0), .int (0), .null, .null, .null, .int (0), .int (0)])) := by rw [ew_156]; exact h_144.push hq
  have h_158 : g_at w_156 q_2 (.inl (D.1 100, 16, .inl ((fun _ => 0)))) := by rw [ew_156]; exact h_145.push hq
  have h_159 : g_at w_156 q_11 (.inl (D.1 100, 16, .inl ((fun _ => 0)))) := by rw [ew_156]; exact h_146.push hq
  have h_160 : g_at w_156 q_22 (.inl (D.1 100, 16, .inl ((fun _ => 0)))) := by rw [ew_156]; exact h_147.push hq
  have h_161 : g_at w_156 q_35 (.inl (D.1 100, 16, .inl ((fun _ => 0)))) := by rw [ew_156]; exact h_148.push hq
  have h_162 : g_at w_156 q_50 (.inl (D.1 100, 8, .inl ((fun _ => 0)))) := by rw [ew_156]; exact h_149.push hq
  have h_163 : g_at w_156 q_67 (.inl (D.1 100, 8, .inl ((fun _ => 0)))) := by rw [ew_156]; exact h_150.push hq
  have h_164 : g_at w_156 q_86 (.inl (D.1 100, 8, .inl ((fun _ => 0)))) := by rw [ew_156]; exact h_151.push hq
  have h_165 : g_at w_156 q_107 (.inl (D.1 105, 12, .inr (.inr (.inr (.inr ((fun _ => none))))))) := by rw [ew_156]; exact h_152.push hq
  have h_166 : g_at w_156 q_130 (.inl (D.1 100, 4, .inl ((fun _ => 0)))) := by rw [ew_156]; exact h_153.push hq
  have h_167 : g_at w_156 q_155 (.inl (D.1 102, 272, .inl ((fun _ => 0)))) := by rw [ew_156]; exact g_at.push_self
  have x_168 : g_ex (fun q => q = y) w w_156 := by rw [ew_156]; exact x_154.push hq
  have lq9_0 : (lb (lb (lb (lb (lb (lb (lb (lb (lb (lb l0 w 21) w_7 22) w_17 23) w_29 24) w_43 26) w_59 27) w_77 28) w_97 30) w_119 31) w_143 35) q_2 = 21 := (lb_in _ h_145.1).trans lq8_0
  have lq9_1 : (lb (lb (lb (lb (lb (lb (lb (lb (lb (lb l0 w 21) w_7 22) w_17 23) w_29 24) w_43 26) w_59 27) w_77 28) w_97 30) w_119 31) w_143 35) q_11 = 22 := (lb_in _ h_146.1).trans lq8_1
  have lq9_2 : (lb (lb (lb (lb (lb (lb (lb (lb (lb (lb l0 w 21) w_7 22) w_17 23) w_29 24) w_43 26) w_59 27) w_77 28) w_97 30) w_119 31) w_143 35) q_22 = 23 := (lb_in _ h_147.1).trans lq8_2
  have lq9_3 : (lb (lb (lb (lb (lb (lb (lb (lb (lb (lb l0 w 21) w_7 22) w_17 23) w_29 24) w_43 26) w_59 27) w_77 28) w_97 30) w_119 31) w_143 35) q_35 = 24 := (lb_in _ h_148.1).trans lq8_3
  have lq9_5 : (lb (lb (lb (lb (lb (lb (lb (lb (lb (lb l0 w 21) w_7 22) w_17 23) w_29 24) w_43 26) w_59 27) w_77 28) w_97 30) w_119 31) w_143 35) q_50 = 26 := (lb_in _ h_149.1).trans lq8_5
  have lq9_6 : (lb (lb (lb (lb (lb (lb (lb (lb (lb (lb l0 w 21) w_7 22) w_17 23) w_29 24) w_43 26) w_59 27) w_77 28) w_97 30) w_119 31) w_143 35) q_67 = 27 := (lb_in _ h_150.1).trans lq8_6
  have lq9_7 : (lb (lb (lb (lb (lb (lb (lb (lb (lb (lb l0 w 21) w_7 22) w_17 23) w_29 24) w_43 26) w_59 27) w_77 28) w_97 30) w_119 31) w_143 35) q_86 = 28 := (lb_in _ h_151.1).trans lq8_7
  have lq9_9 : (lb (lb (lb (lb (lb (lb (lb (lb (lb (lb l0 w 21) w_7 22) w_17 23) w_29 24) w_43 26) w_59 27) w_77 28) w_97 30) w_119 31) w_143 35) q_107 = 30 := (lb_in _ h_152.1).trans lq8_9
  have lq9_10 : (lb (lb (lb (lb (lb (lb (lb (lb (lb (lb l0 w 21) w_7 22) w_17 23) w_29 24) w_43 26) w_59 27) w_77 28) w_97 30) w_119 31) w_143 35) q_130 = 31 := (lb_in _ h_153.1).trans lq8_10
  have lq9_14 : (lb (lb (lb (lb (lb (lb (lb (lb (lb (lb l0 w 21) w_7 22) w_17 23) w_29 24) w_43 26) w_59 27) w_77 28) w_97 30) w_119 31) w_143 35) q_155 = 35 := lb_out hq_155
  have hl10 : ∀ z, z ∈ w.1 → (lb (lb (lb (lb (lb (lb (lb (lb (lb (lb l0 w 21) w_7 22) w_17 23) w_29 24) w_43 26) w_59 27) w_77 28) w_97 30) w_119 31) w_143 35) z = l0 z := fun z hz => (lb_in z (x_154.1 z hz)).trans (hl9 z hz)
  refine g_putF (ci := 10) (v := .ref q_155) (ty := (.array .boolean)) (C := RX3) (T := TX3) (N := 28) hx hb hts in_X3 tyX3 tyX3_ok nmX3 hown hK hW h_157 rfl 14 (by decide) q1898 (fun _ h9 => h9) rfl hin rfl (by decide +kernel) rfl rfl (Nat.le_of_ble_eq_true rfl) dX3_init_82 (fun H locs hW => ?_)
  obtain ⟨w_169, ew_169⟩ : ∃ z__, z__ = g_put w_156 y (.inr (10, [.ref q_2, .ref q_11, .ref q_22, .ref q_35, .int (0), .ref q_50, .ref q_67, .ref q_86, .int (0), .ref q_107, .ref q_130, .int (0), .int (0), .int (0), .ref q_155, .null, .int (0), .long (0), .null, .null, .int (0), .int (0), .int (0), .null, .null, .null, .int (0), .int (0)])) := ⟨_, rfl⟩
  have hW := g_W.ren hW ew_169 rfl
  have h_170 : g_at w_169 y (.inr (10, [.ref q_2, .ref q_11, .ref q_22, .ref q_35, .int (0), .ref q_50, .ref q_67, .ref q_86, .int (0), .ref q_107, .ref q_130, .int (0), .int (0), .int (0), .ref q_155, .null, .int (0), .long (0), .null, .null, .int (0), .int (0), .int (0), .null, .null, .null, .int (0), .int (0)])) := by rw [ew_169]; exact g_at.put_self h_157.1
  have h_171 : g_at w_169 q_2 (.inl (D.1 100, 16, .inl ((fun _ => 0)))) := by rw [ew_169]; exact h_158.put (g_neAO h_158 h_157)
  have h_172 : g_at w_169 q_11 (.inl (D.1 100, 16, .inl ((fun _ => 0)))) := by rw [ew_169]; exact h_159.put (g_neAO h_159 h_157)
  have h_173 : g_at w_169 q_22 (.inl (D.1 100, 16, .inl ((fun _ => 0)))) := by rw [ew_169]; exact h_160.put (g_neAO h_160 h_157)
  have h_174 : g_at w_169 q_35 (.inl (D.1 100, 16, .inl ((fun _ => 0)))) := by rw [ew_169]; exact h_161.put (g_neAO h_161 h_157)
  have h_175 : g_at w_169 q_50 (.inl (D.1 100, 8, .inl ((fun _ => 0)))) := by rw [ew_169]; exact h_162.put (g_neAO h_162 h_157)
  have h_176 : g_at w_169 q_67 (.inl (D.1 100, 8, .inl ((fun _ => 0)))) := by rw [ew_169]; exact h_163.put (g_neAO h_163 h_157)
  have h_177 : g_at w_169 q_86 (.inl (D.1 100, 8, .inl ((fun _ => 0)))) := by rw [ew_169]; exact h_164.put (g_neAO h_164 h_157)
  have h_178 : g_at w_169 q_107 (.inl (D.1 105, 12, .inr (.inr (.inr (.inr ((fun _ => none))))))) := by rw [ew_169]; exact h_165.put (g_neAO h_165 h_157)
  have h_179 : g_at w_169 q_130 (.inl (D.1 100, 4, .inl ((fun _ => 0)))) := by rw [ew_169]; exact h_166.put (g_neAO h_166 h_157)
  have h_180 : g_at w_169 q_155 (.inl (D.1 102, 272, .inl ((fun _ => 0)))) := by rw [ew_169]; exact h_167.put (g_neAO h_167 h_157)
  have x_181 : g_ex (fun q => q = y) w w_169 := by rw [ew_169]; exact x_168.put (fun hz9 => rfl)
  refine lv_aload_n hx hb dX3_init_85 rfl (lv_at hl 0 rfl) ?_
  refine lv_iconst (v := 4) hx hb dX3_init_86 (by decide) ?_
  refine g_newa (k := 0) (atype := .int) (ty := .int) (cB := D.1 100) hx hb rfl (hts _ q187) hK hW rfl 4 (4, .inl (fun _ => 0)) (fun _ => rfl) (by decide) (by decide +kernel) (by decide +kernel) (Nat.le_of_ble_eq_true rfl) (Nat.le_of_ble_eq_true rfl) dX3_init_87 (fun q_182 H hq hW => ?_)
  have hq_182 := hq
  obtain ⟨w_183, ew_183⟩ : ∃ z__, z__ = g_push w_169 q_182 (.inl (D.1 100, 4, .inl ((fun _ => 0)))) := ⟨_, rfl⟩
  have hW := g_W.ren hW ew_183 rfl
  have h_184 : g_at w_183 y (.inr (10, [.ref q_2, .ref q_11, .ref q_22, .ref q_35, .int (0), .ref q_50, .ref q_67, .ref q_86, .int (0), .ref q_107, .ref q_130, .int (0), .int (0), .int (0), .ref q_155, .null, .int (0), .long (0), .null, .null, .int (0), .int (0), .int (0), .null, .null, .null, .int (0), .int (0)])) := by rw [ew_183]; exact h_170.push hq
  have h_185 : g_at w_183 q_2 (.inl (D.1 100, 16, .inl ((fun _ => 0)))) := by rw [ew_183]; exact h_171.push hq
  have h_186 : g_at w_183 q_11 (.inl (D.1 100, 16, .inl ((fun _ => 0)))) := by rw [ew_183]; exact h_172.push hq
  have h_187 : g_at w_183 q_22 (.inl (D.1 100, 16, .inl ((fun _ => 0)))) := by rw [ew_183]; exact h_173.push hq
  have h_188 : g_at w_183 q_35 (.inl (D.1 100, 16, .inl ((fun _ => 0)))) := by rw [ew_183]; exact h_174.push hq
  have h_189 : g_at w_183 q_50 (.inl (D.1 100, 8, .inl ((fun _ => 0)))) := by rw [ew_183]; exact h_175.push hq
  have h_190 : g_at w_183 q_67 (.inl (D.1 100, 8, .inl ((fun _ => 0)))) := by rw [ew_183]; exact h_176.push hq
  have h_191 : g_at w_183 q_86 (.inl (D.1 100, 8, .inl ((fun _ => 0)))) := by rw [ew_183]; exact h_177.push hq
  have h_192 : g_at w_183 q_107 (.inl (D.1 105, 12, .inr (.inr (.inr (.inr ((fun _ => none))))))) := by rw [ew_183]; exact h_178.push hq
  have h_193 : g_at w_183 q_130 (.inl (D.1 100, 4, .inl ((fun _ => 0)))) := by rw [ew_183]; exact h_179.push hq
  have h_194 : g_at w_183 q_155 (.inl (D.1 102, 272, .inl ((fun _ => 0)))) := by rw [ew_183]; exact h_180.push hq
  have h_195 : g_at w_183 q_182 (.inl (D.1 100, 4, .inl ((fun _ => 0)))) := by rw [ew_183]; exact g_at.push_self
  have x_196 : g_ex (fun q => q = y) w w_183 := by rw [ew_183]; exact x_181.push hq
  have lq10_0 : (lb (lb (lb (lb (lb (lb (lb (lb (lb (lb (lb l0 w 21) w_7 22) w_17 23) w_29 24) w_43 26) w_59 27) w_77 28) w_97 30) w_119 31) w_143 35) w_169 36) q_2 = 21 := (lb_in _ h_171.1).trans lq9_0
  have lq10_1 : (lb (lb (lb (lb (lb (lb (lb (lb (lb (lb (lb l0 w 21) w_7 22) w_17 23) w_29 24) w_43 26) w_59 27) w_77 28) w_97 30) w_119 31) w_143 35) w_169 36) q_11 = 22 := (lb_in _ h_172.1).trans lq9_1
  have lq10_2 : (lb (lb (lb (lb (lb (lb (lb (lb (lb (lb (lb l0 w 21) w_7 22) w_17 23) w_29 24) w_43 26) w_59 27) w_77 28) w_97 30) w_119 31) w_143 35) w_169 36) q_22 = 23 := (lb_in _ h_173.1).trans lq9_2
  have lq10_3 : (lb (lb (lb (lb (lb (lb (lb (lb (lb (lb (lb l0 w 21) w_7 22) w_17 23) w_29 24) w_43 26) w_59 27) w_77 28) w_97 30) w_119 31) w_143 35) w_169 36) q_35 = 24 := (lb_in _ h_174.1).trans lq9_3
  have lq10_5 : (lb (lb (lb (lb (lb (lb (lb (lb (lb (lb (lb l0 w 21) w_7 22) w_17 23) w_29 24) w_43 26) w_59 27) w_77 28) w_97 30) w_119 31) w_143 35) w_169 36) q_50 = 26 := (lb_in _ h_175.1).trans lq9_5
  have lq10_6 : (lb (lb (lb (lb (lb (lb (lb (lb (lb (lb (lb l0 w 21) w_7 22) w_17 23) w_29 24) w_43 26) w_59 27) w_77 28) w_97 30) w_119 31) w_143 35) w_169 36) q_67 = 27 := (lb_in _ h_176.1).trans lq9_6
  have lq10_7 : (lb (lb (lb (lb (lb (lb (lb (lb (lb (lb (lb l0 w 21) w_7 22) w_17 23) w_29 24) w_43 26) w_59 27) w_77 28) w_97 30) w_119 31) w_143 35) w_169 36) q_86 = 28 := (lb_in _ h_177.1).trans lq9_7
  have lq10_9 : (lb (lb (lb (lb (lb (lb (lb (lb (lb (lb (lb l0 w 21) w_7 22) w_17 23) w_29 24) w_43 26) w_59 27) w_77 28) w_97 30) w_119 31) w_143 35) w_169 36) q_107 = 30 := (lb_in _ h_178.1).trans lq9_9
  have lq10_10 : (lb (lb (lb (lb (lb (lb (lb (lb (lb (lb (lb l0 w 21) w_7 22) w_17 23) w_29 24) w_43 26) w_59 27) w_77 28) w_97 30) w_119 31) w_143 35) w_169 36) q_130 = 31 := (lb_in _ h_179.1).trans lq9_10
  have lq10_14 : (lb (lb (lb (lb (lb (lb (lb (lb (lb (lb (lb l0 w 21) w_7 22) w_17 23) w_29 24) w_43 26) w_59 27) w_77 28) w_97 30) w_119 31) w_143 35) w_169 36) q_155 = 35 := (lb_in _ h_180.1).trans lq9_14
  have lq10_15 : (lb (lb (lb (lb (lb (lb (lb (lb (lb (lb (lb l0 w 21) w_7 22) w_17 23) w_29 24) w_43 26) w_59 27) w_77 28) w_97 30) w_119 31) w_143 35) w_169 36) q_182 = 36 := lb_out hq_182
  have hl11 : ∀ z, z ∈ w.1 → (lb (lb (lb (lb (lb (lb (lb (lb (lb (lb (lb l0 w 21) w_7 22) w_17 23) w_29 24) w_43 26) w_59 27) w_77 28) w_97 30) w_119 31) w_143 35) w_169 36) z = l0 z := fun z hz => (lb_in z (x_181.1 z hz)).trans (hl10 z hz)
  refine g_putF (ci := 10) (v := .ref q_182) (ty := (.array .int)) (C := RX3) (T := TX3) (N := 28) hx hb hts in_X3 tyX3 tyX3_ok nmX3 hown hK hW h_184 rfl 15 (by decide) q1899 (fun _ h9 => h9) rfl hin rfl (by decide +kernel) rfl rfl (Nat.le_of_ble_eq_true rfl) dX3_init_89 (fun H locs hW => ?_)
  obtain ⟨w_197, ew_197⟩ : ∃ z__, z__ = g_put w_183 y (.inr (10, [.ref q_2, .ref q_11, .ref q_22, .ref q_35, .int (0), .ref q_50, .ref q_67, .ref q_86, .int (0), .ref q_107, .ref q_130, .int (0), .int (0), .int (0), .ref q_155, .ref q_182, .int (0), .long (0), .null, .null, .int (0), .int (0), .int (0), .null, .null, .null, .int (0), .int (0)])) := ⟨_, rfl⟩
  have hW := g_W.ren hW ew_197 rfl
  have h_198 : g_at w_197 y (.inr (10, [.ref q_2, .ref q_11, .ref q_22, .ref q_35, .int (0), .ref q_50, .ref q_67, .ref q_86, .int (0), .ref q_107, .ref q_130, .int (0), .int (0), .int (0), .ref q_155, .ref q_182, .int (0), .long (0), .null, .null, .int (0), .int (0), .int (0), .null, .null, .null, .int (0), .int (0)])) := by rw [ew_197]; exact g_at.put_self h_184.1
  have h_199 : g_at w_197 q_2 (.inl (D.1 100, 16, .inl ((fun _ => 0)))) := by rw [ew_197]; exact h_185.put (g_neAO h_185 h_184)
  have h_200 : g_at w_197 q_11 (.inl (D.1 100, 16, .inl ((fun _ => 0)))) := by rw [ew_197]; exact h_186.put (g_neAO h_186 h_184)
  have h_201 : g_at w_197 q_22 (.inl (D.1 100, 16, .inl ((fun _ => 0)))) := by rw [ew_197]; exact h_187.put (g_neAO h_187 h_184)
  have h_202 : g_at w_197 q_35 (.inl (D.1 100, 16, .inl ((fun _ => 0)))) := by rw [ew_197]; exact h_188.put (g_neAO h_188 h_184)
  have h_203 : g_at w_197 q_50 (.inl (D.1 100, 8, .inl ((fun _ => 0)))) := by rw [ew_197]; exact h_189.put (g_neAO h_189 h_184)
  have h_204 : g_at w_197 q_67 (.inl (D.1 100, 8, .inl ((fun _ => 0)))) := by rw [ew_197]; exact h_190.put (g_neAO h_190 h_184)
  have h_205 : g_at w_197 q_86 (.inl (D.1 100, 8, .inl ((fun _ => 0)))) := by rw [ew_197]; exact h_191.put (g_neAO h_191 h_184)
  have h_206 : g_at w_197 q_107 (.inl (D.1 105, 12, .inr (.inr (.inr (.inr ((fun _ => none))))))) := by rw [ew_197]; exact h_192.put (g_neAO h_192 h_184)
  have h_207 : g_at w_197 q_130 (.inl (D.1 100, 4, .inl ((fun _ => 0)))) := by rw [ew_197]; exact h_193.put (g_neAO h_193 h_184)
  have h_208 : g_at w_197 q_155 (.inl (D.1 102, 272, .inl ((fun _ => 0)))) := by rw [ew_197]; exact h_194.put (g_neAO h_194 h_184)
  have h_209 : g_at w_197 q_182 (.inl (D.1 100, 4, .inl ((fun _ => 0)))) := by rw [ew_197]; exact h_195.put (g_neAO h_195 h_184)
  have x_210 : g_ex (fun q => q = y) w w_197 := by rw [ew_197]; exact x_196.put (fun hz9 => rfl)
  refine lv_aload_n hx hb dX3_init_92 rfl (lv_at hl 0 rfl) ?_
  refine lv_sipush (v := 272) hx hb dX3_init_93 (by decide) ?_
  refine g_newa (k := 2) (atype := .boolean) (ty := .boolean) (cB := D.1 102) hx hb rfl (hts _ q1969) hK hW rfl 272 (272, .inl (fun _ => 0)) (fun _ => rfl) (by decide) (by decide +kernel) (by decide +kernel) (Nat.le_of_ble_eq_true rfl) (Nat.le_of_ble_eq_true rfl) dX3_init_96 (fun q_211 H hq hW => ?_)
  have hq_211 := hq
  obtain ⟨w_212, ew_212⟩ : ∃ z__, z__ = g_push w_197 q_211 (.inl (D.1 102, 272, .inl ((fun _ => 0)))) := ⟨_, rfl⟩
  have hW := g_W.ren hW ew_212 rfl
  have h_213 : g_at w_212 y (.inr (10, [.ref q_2, .ref q_11, .ref q_22, .ref q_35, .int (0), .ref q_50, .ref q_67, .ref q_86, .int (0), .ref q_107, .ref q_130, .int (0), .int (0), .int (0), .ref q_155, .ref q_182, .int (0), .long (0), .null, .null, .int (0), .int (0), .int (0), .null, .null, .null, .int (0), .int (0)])) := by rw [ew_212]; exact h_198.push hq
  have h_214 : g_at w_212 q_2 (.inl (D.1 100, 16, .inl ((fun _ => 0)))) := by rw [ew_212]; exact h_199.push hq
  have h_215 : g_at w_212 q_11 (.inl (D.1 100, 16, .inl ((fun _ => 0)))) := by rw [ew_212]; exact h_200.push hq
  have h_216 : g_at w_212 q_22 (.inl (D.1 100, 16, .inl ((fun _ => 0)))) := by rw [ew_212]; exact h_201.push hq
  have h_217 : g_at w_212 q_35 (.inl (D.1 100, 16, .inl ((fun _ => 0)))) := by rw [ew_212]; exact h_202.push hq
  have h_218 : g_at w_212 q_50 (.inl (D.1 100, 8, .inl ((fun _ => 0)))) := by rw [ew_212]; exact h_203.push hq
  have h_219 : g_at w_212 q_67 (.inl (D.1 100, 8, .inl ((fun _ => 0)))) := by rw [ew_212]; exact h_204.push hq
  have h_220 : g_at w_212 q_86 (.inl (D.1 100, 8, .inl ((fun _ => 0)))) := by rw [ew_212]; exact h_205.push hq
  have h_221 : g_at w_212 q_107 (.inl (D.1 105, 12, .inr (.inr (.inr (.inr ((fun _ => none))))))) := by rw [ew_212]; exact h_206.push hq
  have h_222 : g_at w_212 q_130 (.inl (D.1 100, 4, .inl ((fun _ => 0)))) := by rw [ew_212]; exact h_207.push hq
  have h_223 : g_at w_212 q_155 (.inl (D.1 102, 272, .inl ((fun _ => 0)))) := by rw [ew_212]; exact h_208.push hq
  have h_224 : g_at w_212 q_182 (.inl (D.1 100, 4, .inl ((fun _ => 0)))) := by rw [ew_212]; exact h_209.push hq
  have h_225 : g_at w_212 q_211 (.inl (D.1 102, 272, .inl ((fun _ => 0)))) := by rw [ew_212]; exact g_at.push_self
  have x_226 : g_ex (fun q => q = y) w w_212 := by rw [ew_212]; exact x_210.push hq
  have lq11_0 : (lb (lb (lb (lb (lb (lb (lb (lb (lb (lb (lb (lb l0 w 21) w_7 22) w_17 23) w_29 24) w_43 26) w_59 27) w_77 28) w_97 30) w_119 31) w_143 35) w_169 36) w_197 39) q_2 = 21 := (lb_in _ h_199.1).trans lq10_0
  have lq11_1 : (lb (lb (lb (lb (lb (lb (lb (lb (lb (lb (lb (lb l0 w 21) w_7 22) w_17 23) w_29 24) w_43 26) w_59 27) w_77 28) w_97 30) w_119 31) w_143 35) w_169 36) w_197 39) q_11 = 22 := (lb_in _ h_200.1).trans lq10_1
  have lq11_2 : (lb (lb (lb (lb (lb (lb (lb (lb (lb (lb (lb (lb l0 w 21) w_7 22) w_17 23) w_29 24) w_43 26) w_59 27) w_77 28) w_97 30) w_119 31) w_143 35) w_169 36) w_197 39) q_22 = 23 := (lb_in _ h_201.1).trans lq10_2
  have lq11_3 : (lb (lb (lb (lb (lb (lb (lb (lb (lb (lb (lb (lb l0 w 21) w_7 22) w_17 23) w_29 24) w_43 26) w_59 27) w_77 28) w_97 30) w_119 31) w_143 35) w_169 36) w_197 39) q_35 = 24 := (lb_in _ h_202.1).trans lq10_3
  have lq11_5 : (lb (lb (lb (lb (lb (lb (lb (lb (lb (lb (lb (lb l0 w 21) w_7 22) w_17 23) w_29 24) w_43 26) w_59 27) w_77 28) w_97 30) w_119 31) w_143 35) w_169 36) w_197 39) q_50 = 26 := (lb_in _ h_203.1).trans lq10_5
  have lq11_6 : (lb (lb (lb (lb (lb (lb (lb (lb (lb (lb (lb (lb l0 w 21) w_7 22) w_17 23) w_29 24) w_43 26) w_59 27) w_77 28) w_97 30) w_119 31) w_143 35) w_169 36) w_197 39) q_67 = 27 := (lb_in _ h_204.1).trans lq10_6
  have lq11_7 : (lb (lb (lb (lb (lb (lb (lb (lb (lb (lb (lb (lb l0 w 21) w_7 22) w_17 23) w_29 24) w_43 26) w_59 27) w_77 28) w_97 30) w_119 31) w_143 35) w_169 36) w_197 39) q_86 = 28 := (lb_in _ h_205.1).trans lq10_7
  have lq11_9 : (lb (lb (lb (lb (lb (lb (lb (lb (lb (lb (lb (lb l0 w 21) w_7 22) w_17 23) w_29 24) w_43 26) w_59 27) w_77 28) w_97 30) w_119 31) w_143 35) w_169 36) w_197 39) q_107 = 30 := (lb_in _ h_206.1).trans lq10_9
  have lq11_10 : (lb (lb (lb (lb (lb (lb (lb (lb (lb (lb (lb (lb l0 w 21) w_7 22) w_17 23) w_29 24) w_43 26) w_59 27) w_77 28) w_97 30) w_119 31) w_143 35) w_169 36) w_197 39) q_130 = 31 := (lb_in _ h_207.1).trans lq10_10
  have lq11_14 : (lb (lb (lb (lb (lb (lb (lb (lb (lb (lb (lb (lb l0 w 21) w_7 22) w_17 23) w_29 24) w_43 26) w_59 27) w_77 28) w_97 30) w_119 31) w_143 35) w_169 36) w_197 39) q_155 = 35 := (lb_in _ h_208.1).trans lq10_14
  have lq11_15 : (lb (lb (lb (lb (lb (lb (lb (lb (lb (lb (lb (lb l0 w 21) w_7 22) w_17 23) w_29 24) w_43 26) w_59 27) w_77 28) w_97 30) w_119 31) w_143 35) w_169 36) w_197 39) q_182 = 36 := (lb_in _ h_209.1).trans lq10_15
  have lq11_18 : (lb (lb (lb (lb (lb (lb (lb (lb (lb (lb (lb (lb l0 w 21) w_7 22) w_17 23) w_29 24) w_43 26) w_59 27) w_77 28) w_97 30) w_119 31) w_143 35) w_169 36) w_197 39) q_211 = 39 := lb_out hq_211
  have hl12 : ∀ z, z ∈ w.1 → (lb (lb (lb (lb (lb (lb (lb (lb (lb (lb (lb (lb l0 w 21) w_7 22) w_17 23) w_29 24) w_43 26) w_59 27) w_77 28) w_97 30) w_119 31) w_143 35) w_169 36) w_197 39) z = l0 z := fun z hz => (lb_in z (x_210.1 z hz)).trans (hl11 z hz)
  refine g_putF (ci := 10) (v := .ref q_211) (ty := (.array .boolean)) (C := RX3) (T := TX3) (N := 28) hx hb hts in_X3 tyX3 tyX3_ok nmX3 hown hK hW h_213 rfl 18 (by decide) q1902 (fun _ h9 => h9) rfl hin rfl (by decide +kernel) rfl rfl (Nat.le_of_ble_eq_true rfl) dX3_init_98 (fun H locs hW => ?_)
  obtain ⟨w_227, ew_227⟩ : ∃ z__, z__ = g_put w_212 y (.inr (10, [.ref q_2, .ref q_11, .ref q_22, .ref q_35, .int (0), .ref q_50, .ref q_67, .ref q_86, .int (0), .ref q_107, .ref q_130, .int (0), .int (0), .int (0), .ref q_155, .ref q_182, .int (0), .long (0), .ref q_211, .null, .int (0), .int (0), .int (0), .null, .null, .null, .int (0), .int (0)])) := ⟨_, rfl⟩
  have hW := g_W.ren hW ew_227 rfl
  have h_228 : g_at w_227 y (.inr (10, [.ref q_2, .ref q_11, .ref q_22, .ref q_35, .int (0), .ref q_50, .ref q_67, .ref q_86, .int (0), .ref q_107, .ref q_130, .int (0), .int (0), .int (0), .ref q_155, .ref q_182, .int (0), .long (0), .ref q_211, .null, .int (0), .int (0), .int (0), .null, .null, .null, .int (0), .int (0)])) := by rw [ew_227]; exact g_at.put_self h_213.1
  have h_229 : g_at w_227 q_2 (.inl (D.1 100, 16, .inl ((fun _ => 0)))) := by rw [ew_227]; exact h_214.put (g_neAO h_214 h_213)
  have h_230 : g_at w_227 q_11 (.inl (D.1 100, 16, .inl ((fun _ => 0)))) := by rw [ew_227]; exact h_215.put (g_neAO h_215 h_213)
  have h_231 : g_at w_227 q_22 (.inl (D.1 100, 16, .inl ((fun _ => 0)))) := by rw [ew_227]; exact h_216.put (g_neAO h_216 h_213)
  have h_232 : g_at w_227 q_35 (.inl (D.1 100, 16, .inl ((fun _ => 0)))) := by rw [ew_227]; exact h_217.put (g_neAO h_217 h_213)
  have h_233 : g_at w_227 q_50 (.inl (D.1 100, 8, .inl ((fun _ => 0)))) := by rw [ew_227]; exact h_218.put (g_neAO h_218 h_213)
  have h_234 : g_at w_227 q_67 (.inl (D.1 100, 8, .inl ((fun _ => 0)))) := by rw [ew_227]; exact h_219.put (g_neAO h_219 h_213)
  have h_235 : g_at w_227 q_86 (.inl (D.1 100, 8, .inl ((fun _ => 0)))) := by rw [ew_227]; exact h_220.put (g_neAO h_220 h_213)
  have h_236 : g_at w_227 q_107 (.inl (D.1 105, 12, .inr (.inr (.inr (.inr ((fun _ => none))))))) := by rw [ew_227]; exact h_221.put (g_neAO h_221 h_213)
  have h_237 : g_at w_227 q_130 (.inl (D.1 100, 4, .inl ((fun _ => 0)))) := by rw [ew_227]; exact h_222.put (g_neAO h_222 h_213)
  have h_238 : g_at w_227 q_155 (.inl (D.1 102, 272, .inl ((fun _ => 0)))) := by rw [ew_227]; exact h_223.put (g_neAO h_223 h_213)
  have h_239 : g_at w_227 q_182 (.inl (D.1 100, 4, .inl ((fun _ => 0)))) := by rw [ew_227]; exact h_224.put (g_neAO h_224 h_213)
  have h_240 : g_at w_227 q_211 (.inl (D.1 102, 272, .inl ((fun _ => 0)))) := by rw [ew_227]; exact h_225.put (g_neAO h_225 h_213)
  have x_241 : g_ex (fun q => q = y) w w_227 := by rw [ew_227]; exact x_226.put (fun hz9 => rfl)
  refine lv_aload_n hx hb dX3_init_101 rfl (lv_at hl 0 rfl) ?_
  refine lv_bipush (v := 16) hx hb dX3_init_102 (by decide) ?_
  refine g_newq (k := 5) (cB := D.1 105) hx hb hts hown q1882 hE.as hK hW rfl (16) (by decide) (by decide) (by decide) (Nat.le_of_ble_eq_true rfl) (Nat.le_of_ble_eq_true rfl) dX3_init_104 (fun q_242 H hq hW => ?_)
  have hq_242 := hq
  obtain ⟨w_243, ew_243⟩ : ∃ z__, z__ = g_push w_227 q_242 (.inl (D.1 105, 16, .inr (.inr (.inr (.inr ((fun _ => none))))))) := ⟨_, rfl⟩
  have hW := g_W.ren hW ew_243 rfl
  have h_244 : g_at w_243 y (.inr (10, [.ref q_2, .ref q_11, .ref q_22, .ref q_35, .int (0), .ref q_50, .ref q_67, .ref q_86, .int (0), .ref q_107, .ref q_130, .int (0), .int (0), .int (0), .ref q_155, .ref q_182, .int (0), .long (0), .ref q_211, .null, .int (0), .int (0), .int (0), .null, .null, .null, .int (0), .int (0)])) := by rw [ew_243]; exact h_228.push hq
  have h_245 : g_at w_243 q_2 (.inl (D.1 100, 16, .inl ((fun _ => 0)))) := by rw [ew_243]; exact h_229.push hq
  have h_246 : g_at w_243 q_11 (.inl (D.1 100, 16, .inl ((fun _ => 0)))) := by rw [ew_243]; exact h_230.push hq
  have h_247 : g_at w_243 q_22 (.inl (D.1 100, 16, .inl ((fun _ => 0)))) := by rw [ew_243]; exact h_231.push hq
  have h_248 : g_at w_243 q_35 (.inl (D.1 100, 16, .inl ((fun _ => 0)))) := by rw [ew_243]; exact h_232.push hq
  have h_249 : g_at w_243 q_50 (.inl (D.1 100, 8, .inl ((fun _ => 0)))) := by rw [ew_243]; exact h_233.push hq
  have h_250 : g_at w_243 q_67 (.inl (D.1 100, 8, .inl ((fun _ => 0)))) := by rw [ew_243]; exact h_234.push hq
  have h_251 : g_at w_243 q_86 (.inl (D.1 100, 8, .inl ((fun _ => 0)))) := by rw [ew_243]; exact h_235.push hq
  have h_252 : g_at w_243 q_107 (.inl (D.1 105, 12, .inr (.inr (.inr (.inr ((fun _ => none))))))) := by rw [ew_243]; exact h_236.push hq
  have h_253 : g_at w_243 q_130 (.inl (D.1 100, 4, .inl ((fun _ => 0)))) := by rw [ew_243]; exact h_237.push hq
  have h_254 : g_at w_243 q_155 (.inl (D.1 102, 272, .inl ((fun _ => 0)))) := by rw [ew_243]; exact h_238.push hq
  have h_255 : g_at w_243 q_182 (.inl (D.1 100, 4, .inl ((fun _ => 0)))) := by rw [ew_243]; exact h_239.push hq
  have h_256 : g_at w_243 q_211 (.inl (D.1 102, 272, .inl ((fun _ => 0)))) := by rw [ew_243]; exact h_240.push hq
  have h_257 : g_at w_243 q_242 (.inl (D.1 105, 16, .inr (.inr (.inr (.inr ((fun _ => none))))))) := by rw [ew_243]; exact g_at.push_self
  have x_258 : g_ex (fun q => q = y) w w_243 := by rw [ew_243]; exact x_241.push hq
  have lq12_0 : (lb (lb (lb (lb (lb (lb (lb (lb (lb (lb (lb (lb (lb l0 w 21) w_7 22) w_17 23) w_29 24) w_43 26) w_59 27) w_77 28) w_97 30) w_119 31) w_143 35) w_169 36) w_197 39) w_227 40) q_2 = 21 := (lb_in _ h_229.1).trans lq11_0
  have lq12_1 : (lb (lb (lb (lb (lb (lb (lb (lb (lb (lb (lb (lb (lb l0 w 21) w_7 22) w_17 23) w_29 24) w_43 26) w_59 27) w_77 28) w_97 30) w_119 31) w_143 35) w_169 36) w_197 39) w_227 40) q_11 = 22 := (lb_in _ h_230.1).trans lq11_1
  have lq12_2 : (lb (lb (lb (lb (lb (lb (lb (lb (lb (lb (lb (lb (lb l0 w 21) w_7 22) w_17 23) w_29 24) w_43 26) w_59 27) w_77 28) w_97 30) w_119 31) w_143 35) w_169 36) w_197 39) w_227 40) q_22 = 23 := (lb_in _ h_231.1).trans lq11_2
  have lq12_3 : (lb (lb (lb (lb (lb (lb (lb (lb (lb (lb (lb (lb (lb l0 w 21) w_7 22) w_17 23) w_29 24) w_43 26) w_59 27) w_77 28) w_97 30) w_119 31) w_143 35) w_169 36) w_197 39) w_227 40) q_35 = 24 := (lb_in _ h_232.1).trans lq11_3
  have lq12_5 : (lb (lb (lb (lb (lb (lb (lb (lb (lb (lb (lb (lb (lb l0 w 21) w_7 22) w_17 23) w_29 24) w_43 26) w_59 27) w_77 28) w_97 30) w_119 31) w_143 35) w_169 36) w_197 39) w_227 40) q_50 = 26 := (lb_in _ h_233.1).trans lq11_5
  have lq12_6 : (lb (lb (lb (lb (lb (lb (lb (lb (lb (lb (lb (lb (lb l0 w 21) w_7 22) w_17 23) w_29 24) w_43 26) w_59 27) w_77 28) w_97 30) w_119 31) w_143 35) w_169 36) w_197 39) w_227 40) q_67 = 27 := (lb_in _ h_234.1).trans lq11_6
  have lq12_7 : (lb (lb (lb (lb (lb (lb (lb (lb (lb (lb (lb (lb (lb l0 w 21) w_7 22) w_17 23) w_29 24) w_43 26) w_59 27) w_77 28) w_97 30) w_119 31) w_143 35) w_169 36) w_197 39) w_227 40) q_86 = 28 := (lb_in _ h_235.1).trans lq11_7
  have lq12_9 : (lb (lb (lb (lb (lb (lb (lb (lb (lb (lb (lb (lb (lb l0 w 21) w_7 22) w_17 23) w_29 24) w_43 26) w_59 27) w_77 28) w_97 30) w_119 31) w_143 35) w_169 36) w_197 39) w_227 40) q_107 = 30 := (lb_in _ h_236.1).trans lq11_9
  have lq12_10 : (lb (lb (lb (lb (lb (lb (lb (lb (lb (lb (lb (lb (lb l0 w 21) w_7 22) w_17 23) w_29 24) w_43 26) w_59 27) w_77 28) w_97 30) w_119 31) w_143 35) w_169 36) w_197 39) w_227 40) q_130 = 31 := (lb_in _ h_237.1).trans lq11_10
  have lq12_14 : (lb (lb (lb (lb (lb (lb (lb (lb (lb (lb (lb (lb (lb l0 w 21) w_7 22) w_17 23) w_29 24) w_43 26) w_59 27) w_77 28) w_97 30) w_119 31) w_143 35) w_169 36) w_197 39) w_227 40) q_155 = 35 := (lb_in _ h_238.1).trans lq11_14
  have lq12_15 : (lb (lb (lb (lb (lb (lb (lb (lb (lb (lb (lb (lb (lb l0 w 21) w_7 22) w_17 23) w_29 24) w_43 26) w_59 27) w_77 28) w_97 30) w_119 31) w_143 35) w_169 36) w_197 39) w_227 40) q_182 = 36 := (lb_in _ h_239.1).trans lq11_15
  have lq12_18 : (lb (lb (lb (lb (lb (lb (lb (lb (lb (lb (lb (lb (lb l0 w 21) w_7 22) w_17 23) w_29 24) w_43 26) w_59 27) w_77 28) w_97 30) w_119 31) w_143 35) w_169 36) w_197 39) w_227 40) q_211 = 39 := (lb_in _ h_240.1).trans lq11_18
  have lq12_19 : (lb (lb (lb (lb (lb (lb (lb (lb (lb (lb (lb (lb (lb l0 w 21) w_7 22) w_17 23) w_29 24) w_43 26) w_59 27) w_77 28) w_97 30) w_119 31) w_143 35) w_169 36) w_197 39) w_227 40) q_242 = 40 := lb_out hq_242
  have hl13 : ∀ z, z ∈ w.1 → (lb (lb (lb (lb (lb (lb (lb (lb (lb (lb (lb (lb (lb l0 w 21) w_7 22) w_17 23) w_29 24) w_43 26) w_59 27) w_77 28) w_97 30) w_119 31) w_143 35) w_169 36) w_197 39) w_227 40) z = l0 z := fun z hz => (lb_in z (x_241.1 z hz)).trans (hl12 z hz)
  refine g_putf (ci := 10) (v := .ref q_242) (ty := (.array (.object "java/lang/String"))) (C := RX3) (T := TX3) (N := 28) hx hb hts in_X3 tyX3 tyX3_ok nmX3 hown hK hW h_244 rfl 19 (by decide) q1903 (fun _ h9 => h9) rfl (by decide +kernel) rfl rfl (Nat.le_of_ble_eq_true rfl) dX3_init_107 (fun H locs hW => ?_)
  obtain ⟨w_259, ew_259⟩ : ∃ z__, z__ = g_put w_243 y (.inr (10, [.ref q_2, .ref q_11, .ref q_22, .ref q_35, .int (0), .ref q_50, .ref q_67, .ref q_86, .int (0), .ref q_107, .ref q_130, .int (0), .int (0), .int (0), .ref q_155, .ref q_182, .int (0), .long (0), .ref q_211, .ref q_242, .int (0), .int (0), .int (0), .null, .null, .null, .int (0), .int (0)])) := ⟨_, rfl⟩
  have hW := g_W.ren hW ew_259 rfl
  have h_260 : g_at w_259 y (.inr (10, [.ref q_2, .ref q_11, .ref q_22, .ref q_35, .int (0), .ref q_50, .ref q_67, .ref q_86, .int (0), .ref q_107, .ref q_130, .int (0), .int (0), .int (0), .ref q_155, .ref q_182, .int (0), .long (0), .ref q_211, .ref q_242, .int (0), .int (0), .int (0), .null, .null, .null, .int (0), .int (0)])) := by rw [ew_259]; exact g_at.put_self h_244.1
  have h_261 : g_at w_259 q_2 (.inl (D.1 100, 16, .inl ((fun _ => 0)))) := by rw [ew_259]; exact h_245.put (g_neAO h_245 h_244)
  have h_262 : g_at w_259 q_11 (.inl (D.1 100, 16, .inl ((fun _ => 0)))) := by rw [ew_259]; exact h_246.put (g_neAO h_246 h_244)
  have h_263 : g_at w_259 q_22 (.inl (D.1 100, 16, .inl ((fun _ => 0)))) := by rw [ew_259]; exact h_247.put (g_neAO h_247 h_244)
  have h_264 : g_at w_259 q_35 (.inl (D.1 100, 16, .inl ((fun _ => 0)))) := by rw [ew_259]; exact h_248.put (g_neAO h_248 h_244)
  have h_265 : g_at w_259 q_50 (.inl (D.1 100, 8, .inl ((fun _ => 0)))) := by rw [ew_259]; exact h_249.put (g_neAO h_249 h_244)
  have h_266 : g_at w_259 q_67 (.inl (D.1 100, 8, .inl ((fun _ => 0)))) := by rw [ew_259]; exact h_250.put (g_neAO h_250 h_244)
  have h_267 : g_at w_259 q_86 (.inl (D.1 100, 8, .inl ((fun _ => 0)))) := by rw [ew_259]; exact h_251.put (g_neAO h_251 h_244)
  have h_268 : g_at w_259 q_107 (.inl (D.1 105, 12, .inr (.inr (.inr (.inr ((fun _ => none))))))) := by rw [ew_259]; exact h_252.put (g_neAO h_252 h_244)
  have h_269 : g_at w_259 q_130 (.inl (D.1 100, 4, .inl ((fun _ => 0)))) := by rw [ew_259]; exact h_253.put (g_neAO h_253 h_244)
  have h_270 : g_at w_259 q_155 (.inl (D.1 102, 272, .inl ((fun _ => 0)))) := by rw [ew_259]; exact h_254.put (g_neAO h_254 h_244)
  have h_271 : g_at w_259 q_182 (.inl (D.1 100, 4, .inl ((fun _ => 0)))) := by rw [ew_259]; exact h_255.put (g_neAO h_255 h_244)
  have h_272 : g_at w_259 q_211 (.inl (D.1 102, 272, .inl ((fun _ => 0)))) := by rw [ew_259]; exact h_256.put (g_neAO h_256 h_244)
  have h_273 : g_at w_259 q_242 (.inl (D.1 105, 16, .inr (.inr (.inr (.inr ((fun _ => none))))))) := by rw [ew_259]; exact h_257.put (g_neAO h_257 h_244)
  have x_274 : g_ex (fun q => q = y) w w_259 := by rw [ew_259]; exact x_258.put (fun hz9 => rfl)
  refine lv_aload_n hx hb dX3_init_110 rfl (lv_at hl 0 rfl) ?_
  refine lv_bipush (v := 16) hx hb dX3_init_111 (by decide) ?_
  refine g_newq (k := 5) (cB := D.1 105) hx hb hts hown q1882 hE.as hK hW rfl (16) (by decide) (by decide) (by decide) (Nat.le_of_ble_eq_true rfl) (Nat.le_of_ble_eq_true rfl) dX3_init_113 (fun q_275 H hq hW => ?_)
  have hq_275 := hq
  obtain ⟨w_276, ew_276⟩ : ∃ z__, z__ = g_push w_259 q_275 (.inl (D.1 105, 16, .inr (.inr (.inr (.inr ((fun _ => none))))))) := ⟨_, rfl⟩
  have hW := g_W.ren hW ew_276 rfl
  have h_277 : g_at w_276 y (.inr (10, [.ref q_2, .ref q_11, .ref q_22, .ref q_35, .int (0), .ref q_50, .ref q_67, .ref q_86, .int (0), .ref q_107, .ref q_130, .int (0), .int (0), .int (0), .ref q_155, .ref q_182, .int (0), .long (0), .ref q_211, .ref q_242, .int (0), .int (0), .int (0), .null, .null, .null, .int (0), .int (0)])) := by rw [ew_276]; exact h_260.push hq
  have h_278 : g_at w_276 q_2 (.inl (D.1 100, 16, .inl ((fun _ => 0)))) := by rw [ew_276]; exact h_261.push hq
  have h_279 : g_at w_276 q_11 (.inl (D.1 100, 16, .inl ((fun _ => 0)))) := by rw [ew_276]; exact h_262.push hq
  have h_280 : g_at w_276 q_22 (.inl (D.1 100, 16, .inl ((fun _ => 0)))) := by rw [ew_276]; exact h_263.push hq
  have h_281 : g_at w_276 q_35 (.inl (D.1 100, 16, .inl ((fun _ => 0)))) := by rw [ew_276]; exact h_264.push hq
  have h_282 : g_at w_276 q_50 (.inl (D.1 100, 8, .inl ((fun _ => 0)))) := by rw [ew_276]; exact h_265.push hq
  have h_283 : g_at w_276 q_67 (.inl (D.1 100, 8, .inl ((fun _ => 0)))) := by rw [ew_276]; exact h_266.push hq
  have h_284 : g_at w_276 q_86 (.inl (D.1 100, 8, .inl ((fun _ => 0)))) := by rw [ew_276]; exact h_267.push hq
  have h_285 : g_at w_276 q_107 (.inl (D.1 105, 12, .inr (.inr (.inr (.inr ((fun _ => none))))))) := by rw [ew_276]; exact h_268.push hq
  have h_286 : g_at w_276 q_130 (.inl (D.1 100, 4, .inl ((fun _ => 0)))) := by rw [ew_276]; exact h_269.push hq
  have h_287 : g_at w_276 q_155 (.inl (D.1 102, 272, .inl ((fun _ => 0)))) := by rw [ew_276]; exact h_270.push hq
  have h_288 : g_at w_276 q_182 (.inl (D.1 100, 4, .inl ((fun _ => 0)))) := by rw [ew_276]; exact h_271.push hq
  have h_289 : g_at w_276 q_211 (.inl (D.1 102, 272, .inl ((fun _ => 0)))) := by rw [ew_276]; exact h_272.push hq
  have h_290 : g_at w_276 q_242 (.inl (D.1 105, 16, .inr (.inr (.inr (.inr ((fun _ => none))))))) := by rw [ew_276]; exact h_273.push hq
  have h_291 : g_at w_276 q_275 (.inl (D.1 105, 16, .inr (.inr (.inr (.inr ((fun _ => none))))))) := by rw [ew_276]; exact g_at.push_self
  have x_292 : g_ex (fun q => q = y) w w_276 := by rw [ew_276]; exact x_274.push hq
  have lq13_0 : (lb (lb (lb (lb (lb (lb (lb (lb (lb (lb (lb (lb (lb (lb l0 w 21) w_7 22) w_17 23) w_29 24) w_43 26) w_59 27) w_77 28) w_97 30) w_119 31) w_143 35) w_169 36) w_197 39) w_227 40) w_259 44) q_2 = 21 := (lb_in _ h_261.1).trans lq12_0
  have lq13_1 : (lb (lb (lb (lb (lb (lb (lb (lb (lb (lb (lb (lb (lb (lb l0 w 21) w_7 22) w_17 23) w_29 24) w_43 26) w_59 27) w_77 28) w_97 30) w_119 31) w_143 35) w_169 36) w_197 39) w_227 40) w_259 44) q_11 = 22 := (lb_in _ h_262.1).trans lq12_1
  have lq13_2 : (lb (lb (lb (lb (lb (lb (lb (lb (lb (lb (lb (lb (lb (lb l0 w 21) w_7 22) w_17 23) w_29 24) w_43 26) w_59 27) w_77 28) w_97 30) w_119 31) w_143 35) w_169 36) w_197 39) w_227 40) w_259 44) q_22 = 23 := (lb_in _ h_263.1).trans lq12_2
  have lq13_3 : (lb (lb (lb (lb (lb (lb (lb (lb (lb (lb (lb (lb (lb (lb l0 w 21) w_7 22) w_17 23) w_29 24) w_43 26) w_59 27) w_77 28) w_97 30) w_119 31) w_143 35) w_169 36) w_197 39) w_227 40) w_259 44) q_35 = 24 := (lb_in _ h_264.1).trans lq12_3
  have lq13_5 : (lb (lb (lb (lb (lb (lb (lb (lb (lb (lb (lb (lb (lb (lb l0 w 21) w_7 22) w_17 23) w_29 24) w_43 26) w_59 27) w_77 28) w_97 30) w_119 31) w_143 35) w_169 36) w_197 39) w_227 40) w_259 44) q_50 = 26 := (lb_in _ h_265.1).trans lq12_5
  have lq13_6 : (lb (lb (lb (lb (lb (lb (lb (lb (lb (lb (lb (lb (lb (lb l0 w 21) w_7 22) w_17 23) w_29 24) w_43 26) w_59 27) w_77 28) w_97 30) w_119 31) w_143 35) w_169 36) w_197 39) w_227 40) w_259 44) q_67 = 27 := (lb_in _ h_266.1).trans lq12_6
  have lq13_7 : (lb (lb (lb (lb (lb (lb (lb (lb (lb (lb (lb (lb (lb (lb l0 w 21) w_7 22) w_17 23) w_29 24) w_43 26) w_59 27) w_77 28) w_97 30) w_119 31) w_143 35) w_169 36) w_197 39) w_227 40) w_259 44) q_86 = 28 := (lb_in _ h_267.1).trans lq12_7
  have lq13_9 : (lb (lb (lb (lb (lb (lb (lb (lb (lb (lb (lb (lb (lb (lb l0 w 21) w_7 22) w_17 23) w_29 24) w_43 26) w_59 27) w_77 28) w_97 30) w_119 31) w_143 35) w_169 36) w_197 39) w_227 40) w_259 44) q_107 = 30 := (lb_in _ h_268.1).trans lq12_9
  have lq13_10 : (lb (lb (lb (lb (lb (lb (lb (lb (lb (lb (lb (lb (lb (lb l0 w 21) w_7 22) w_17 23) w_29 24) w_43 26) w_59 27) w_77 28) w_97 30) w_119 31) w_143 35) w_169 36) w_197 39) w_227 40) w_259 44) q_130 = 31 := (lb_in _ h_269.1).trans lq12_10
  have lq13_14 : (lb (lb (lb (lb (lb (lb (lb (lb (lb (lb (lb (lb (lb (lb l0 w 21) w_7 22) w_17 23) w_29 24) w_43 26) w_59 27) w_77 28) w_97 30) w_119 31) w_143 35) w_169 36) w_197 39) w_227 40) w_259 44) q_155 = 35 := (lb_in _ h_270.1).trans lq12_14
  have lq13_15 : (lb (lb (lb (lb (lb (lb (lb (lb (lb (lb (lb (lb (lb (lb l0 w 21) w_7 22) w_17 23) w_29 24) w_43 26) w_59 27) w_77 28) w_97 30) w_119 31) w_143 35) w_169 36) w_197 39) w_227 40) w_259 44) q_182 = 36 := (lb_in _ h_271.1).trans lq12_15
  have lq13_18 : (lb (lb (lb (lb (lb (lb (lb (lb (lb (lb (lb (lb (lb (lb l0 w 21) w_7 22) w_17 23) w_29 24) w_43 26) w_59 27) w_77 28) w_97 30) w_119 31) w_143 35) w_169 36) w_197 39) w_227 40) w_259 44) q_211 = 39 := (lb_in _ h_272.1).trans lq12_18
  have lq13_19 : (lb (lb (lb (lb (lb (lb (lb (lb (lb (lb (lb (lb (lb (lb l0 w 21) w_7 22) w_17 23) w_29 24) w_43 26) w_59 27) w_77 28) w_97 30) w_119 31) w_143 35) w_169 36) w_197 39) w_227 40) w_259 44) q_242 = 40 := (lb_in _ h_273.1).trans lq12_19
  have lq13_23 : (lb (lb (lb (lb (lb (lb (lb (lb (lb (lb (lb (lb (lb (lb l0 w 21) w_7 22) w_17 23) w_29 24) w_43 26) w_59 27) w_77 28) w_97 30) w_119 31) w_143 35) w_169 36) w_197 39) w_227 40) w_259 44) q_275 = 44 := lb_out hq_275
  have hl14 : ∀ z, z ∈ w.1 → (lb (lb (lb (lb (lb (lb (lb (lb (lb (lb (lb (lb (lb (lb l0 w 21) w_7 22) w_17 23) w_29 24) w_43 26) w_59 27) w_77 28) w_97 30) w_119 31) w_143 35) w_169 36) w_197 39) w_227 40) w_259 44) z = l0 z := fun z hz => (lb_in z (x_274.1 z hz)).trans (hl13 z hz)
  refine g_putf (ci := 10) (v := .ref q_275) (ty := (.array (.object "java/lang/String"))) (C := RX3) (T := TX3) (N := 28) hx hb hts in_X3 tyX3 tyX3_ok nmX3 hown hK hW h_277 rfl 23 (by decide) q1907 (fun _ h9 => h9) rfl (by decide +kernel) rfl rfl (Nat.le_of_ble_eq_true rfl) dX3_init_116 (fun H locs hW => ?_)
  obtain ⟨w_293, ew_293⟩ : ∃ z__, z__ = g_put w_276 y (.inr (10, [.ref q_2, .ref q_11, .ref q_22, .ref q_35, .int (0), .ref q_50, .ref q_67, .ref q_86, .int (0), .ref q_107, .ref q_130, .int (0), .int (0), .int (0), .ref q_155, .ref q_182, .int (0), .long (0), .ref q_211, .ref q_242, .int (0), .int (0), .int (0), .ref q_275, .null, .null, .int (0), .int (0)])) := ⟨_, rfl⟩
  have hW := g_W.ren hW ew_293 rfl
  have h_294 : g_at w_293 y (.inr (10, [.ref q_2, .ref q_11, .ref q_22, .ref q_35, .int (0), .ref q_50, .ref q_67, .ref q_86, .int (0), .ref q_107, .ref q_130, .int (0), .int (0), .int (0), .ref q_155, .ref q_182, .int (0), .long (0), .ref q_211, .ref q_242, .int (0), .int (0), .int (0), .ref q_275, .null, .null, .int (0), .int (0)])) := by rw [ew_293]; exact g_at.put_self h_277.1
  have h_295 : g_at w_293 q_2 (.inl (D.1 100, 16, .inl ((fun _ => 0)))) := by rw [ew_293]; exact h_278.put (g_neAO h_278 h_277)
  have h_296 : g_at w_293 q_11 (.inl (D.1 100, 16, .inl ((fun _ => 0)))) := by rw [ew_293]; exact h_279.put (g_neAO h_279 h_277)
  have h_297 : g_at w_293 q_22 (.inl (D.1 100, 16, .inl ((fun _ => 0)))) := by rw [ew_293]; exact h_280.put (g_neAO h_280 h_277)
  have h_298 : g_at w_293 q_35 (.inl (D.1 100, 16, .inl ((fun _ => 0)))) := by rw [ew_293]; exact h_281.put (g_neAO h_281 h_277)
  have h_299 : g_at w_293 q_50 (.inl (D.1 100, 8, .inl ((fun _ => 0)))) := by rw [ew_293]; exact h_282.put (g_neAO h_282 h_277)
  have h_300 : g_at w_293 q_67 (.inl (D.1 100, 8, .inl ((fun _ => 0)))) := by rw [ew_293]; exact h_283.put (g_neAO h_283 h_277)
  have h_301 : g_at w_293 q_86 (.inl (D.1 100, 8, .inl ((fun _ => 0)))) := by rw [ew_293]; exact h_284.put (g_neAO h_284 h_277)
  have h_302 : g_at w_293 q_107 (.inl (D.1 105, 12, .inr (.inr (.inr (.inr ((fun _ => none))))))) := by rw [ew_293]; exact h_285.put (g_neAO h_285 h_277)
  have h_303 : g_at w_293 q_130 (.inl (D.1 100, 4, .inl ((fun _ => 0)))) := by rw [ew_293]; exact h_286.put (g_neAO h_286 h_277)
  have h_304 : g_at w_293 q_155 (.inl (D.1 102, 272, .inl ((fun _ => 0)))) := by rw [ew_293]; exact h_287.put (g_neAO h_287 h_277)
  have h_305 : g_at w_293 q_182 (.inl (D.1 100, 4, .inl ((fun _ => 0)))) := by rw [ew_293]; exact h_288.put (g_neAO h_288 h_277)
  have h_306 : g_at w_293 q_211 (.inl (D.1 102, 272, .inl ((fun _ => 0)))) := by rw [ew_293]; exact h_289.put (g_neAO h_289 h_277)
  have h_307 : g_at w_293 q_242 (.inl (D.1 105, 16, .inr (.inr (.inr (.inr ((fun _ => none))))))) := by rw [ew_293]; exact h_290.put (g_neAO h_290 h_277)
  have h_308 : g_at w_293 q_275 (.inl (D.1 105, 16, .inr (.inr (.inr (.inr ((fun _ => none))))))) := by rw [ew_293]; exact h_291.put (g_neAO h_291 h_277)
  have x_309 : g_ex (fun q => q = y) w w_293 := by rw [ew_293]; exact x_292.put (fun hz9 => rfl)
  refine lv_aload_n hx hb dX3_init_119 rfl (lv_at hl 0 rfl) ?_
  refine lv_bipush (v := 16) hx hb dX3_init_120 (by decide) ?_
  refine g_newq (k := 5) (cB := D.1 105) hx hb hts hown q1882 hE.as hK hW rfl (16) (by decide) (by decide) (by decide) (Nat.le_of_ble_eq_true rfl) (Nat.le_of_ble_eq_true rfl) dX3_init_122 (fun q_310 H hq hW => ?_)
  have hq_310 := hq
  obtain ⟨w_311, ew_311⟩ : ∃ z__, z__ = g_push w_293 q_310 (.inl (D.1 105, 16, .inr (.inr (.inr (.inr ((fun _ => none))))))) := ⟨_, rfl⟩
  have hW := g_W.ren hW ew_311 rfl
  have h_312 : g_at w_311 y (.inr (10, [.ref q_2, .ref q_11, .ref q_22, .ref q_35, .int (0), .ref q_50, .ref q_67, .ref q_86, .int (0), .ref q_107, .ref q_130, .int (0), .int (0), .int (0), .ref q_155, .ref q_182, .int (0), .long (0), .ref q_211, .ref q_242, .int (0), .int (0), .int (0), .ref q_275, .null, .null, .int (0), .int (0)])) := by rw [ew_311]; exact h_294.push hq
  have h_313 : g_at w_311 q_2 (.inl (D.1 100, 16, .inl ((fun _ => 0)))) := by rw [ew_311]; exact h_295.push hq
  have h_314 : g_at w_311 q_11 (.inl (D.1 100, 16, .inl ((fun _ => 0)))) := by rw [ew_311]; exact h_296.push hq
  have h_315 : g_at w_311 q_22 (.inl (D.1 100, 16, .inl ((fun _ => 0)))) := by rw [ew_311]; exact h_297.push hq
  have h_316 : g_at w_311 q_35 (.inl (D.1 100, 16, .inl ((fun _ => 0)))) := by rw [ew_311]; exact h_298.push hq
  have h_317 : g_at w_311 q_50 (.inl (D.1 100, 8, .inl ((fun _ => 0)))) := by rw [ew_311]; exact h_299.push hq
  have h_318 : g_at w_311 q_67 (.inl (D.1 100, 8, .inl ((fun _ => 0)))) := by rw [ew_311]; exact h_300.push hq
  have h_319 : g_at w_311 q_86 (.inl (D.1 100, 8, .inl ((fun _ => 0)))) := by rw [ew_311]; exact h_301.push hq
  have h_320 : g_at w_311 q_107 (.inl (D.1 105, 12, .inr (.inr (.inr (.inr ((fun _ => none))))))) := by rw [ew_311]; exact h_302.push hq
  have h_321 : g_at w_311 q_130 (.inl (D.1 100, 4, .inl ((fun _ => 0)))) := by rw [ew_311]; exact h_303.push hq
  have h_322 : g_at w_311 q_155 (.inl (D.1 102, 272, .inl ((fun _ => 0)))) := by rw [ew_311]; exact h_304.push hq
  have h_323 : g_at w_311 q_182 (.inl (D.1 100, 4, .inl ((fun _ => 0)))) := by rw [ew_311]; exact h_305.push hq
  have h_324 : g_at w_311 q_211 (.inl (D.1 102, 272, .inl ((fun _ => 0)))) := by rw [ew_311]; exact h_306.push hq
  have h_325 : g_at w_311 q_242 (.inl (D.1 105, 16, .inr (.inr (.inr (.inr ((fun _ => none))))))) := by rw [ew_311]; exact h_307.push hq
  have h_326 : g_at w_311 q_275 (.inl (D.1 105, 16, .inr (.inr (.inr (.inr ((fun _ => none))))))) := by rw [ew_311]; exact h_308.push hq
  have h_327 : g_at w_311 q_310 (.inl (D.1 105, 16, .inr (.inr (.inr (.inr ((fun _ => none))))))) := by rw [ew_311]; exact g_at.push_self
  have x_328 : g_ex (fun q => q = y) w w_311 := by rw [ew_311]; exact x_309.push hq
  have lq14_0 : (lb (lb (lb (lb (lb (lb (lb (lb (lb (lb (lb (lb (lb (lb (lb l0 w 21) w_7 22) w_17 23) w_29 24) w_43 26) w_59 27) w_77 28) w_97 30) w_119 31) w_143 35) w_169 36) w_197 39) w_227 40) w_259 44) w_293 45) q_2 = 21 := (lb_in _ h_295.1).trans lq13_0
  have lq14_1 : (lb (lb (lb (lb (lb (lb (lb (lb (lb (lb (lb (lb (lb (lb (lb l0 w 21) w_7 22) w_17 23) w_29 24) w_43 26) w_59 27) w_77 28) w_97 30) w_119 31) w_143 35) w_169 36) w_197 39) w_227 40) w_259 44) w_293 45) q_11 = 22 := (lb_in _ h_296.1).trans lq13_1
  have lq14_2 : (lb (lb (lb (lb (lb (lb (lb (lb (lb (lb (lb (lb (lb (lb (lb l0 w 21) w_7 22) w_17 23) w_29 24) w_43 26) w_59 27) w_77 28) w_97 30) w_119 31) w_143 35) w_169 36) w_197 39) w_227 40) w_259 44) w_293 45) q_22 = 23 := (lb_in _ h_297.1).trans lq13_2
  have lq14_3 : (lb (lb (lb (lb (lb (lb (lb (lb (lb (lb (lb (lb (lb (lb (lb l0 w 21) w_7 22) w_17 23) w_29 24) w_43 26) w_59 27) w_77 28) w_97 30) w_119 31) w_143 35) w_169 36) w_197 39) w_227 40) w_259 44) w_293 45) q_35 = 24 := (lb_in _ h_298.1).trans lq13_3
  have lq14_5 : (lb (lb (lb (lb (lb (lb (lb (lb (lb (lb (lb (lb (lb (lb (lb l0 w 21) w_7 22) w_17 23) w_29 24) w_43 26) w_59 27) w_77 28) w_97 30) w_119 31) w_143 35) w_169 36) w_197 39) w_227 40) w_259 44) w_293 45) q_50 = 26 := (lb_in _ h_299.1).trans lq13_5
  have lq14_6 : (lb (lb (lb (lb (lb (lb (lb (lb (lb (lb (lb (lb (lb (lb (lb l0 w 21) w_7 22) w_17 23) w_29 24) w_43 26) w_59 27) w_77 28) w_97 30) w_119 31) w_143 35) w_169 36) w_197 39) w_227 40) w_259 44) w_293 45) q_67 = 27 := (lb_in _ h_300.1).trans lq13_6
  have lq14_7 : (lb (lb (lb (lb (lb (lb (lb (lb (lb (lb (lb (lb (lb (lb (lb l0 w 21) w_7 22) w_17 23) w_29 24) w_43 26) w_59 27) w_77 28) w_97 30) w_119 31) w_143 35) w_169 36) w_197 39) w_227 40) w_259 44) w_293 45) q_86 = 28 := (lb_in _ h_301.1).trans lq13_7
  have lq14_9 : (lb (lb (lb (lb (lb (lb (lb (lb (lb (lb (lb (lb (lb (lb (lb l0 w 21) w_7 22) w_17 23) w_29 24) w_43 26) w_59 27) w_77 28) w_97 30) w_119 31) w_143 35) w_169 36) w_197 39) w_227 40) w_259 44) w_293 45) q_107 = 30 := (lb_in _ h_302.1).trans lq13_9
  have lq14_10 : (lb (lb (lb (lb (lb (lb (lb (lb (lb (lb (lb (lb (lb (lb (lb l0 w 21) w_7 22) w_17 23) w_29 24) w_43 26) w_59 27) w_77 28) w_97 30) w_119 31) w_143 35) w_169 36) w_197 39) w_227 40) w_259 44) w_293 45) q_130 = 31 := (lb_in _ h_303.1).trans lq13_10
  have lq14_14 : (lb (lb (lb (lb (lb (lb (lb (lb (lb (lb (lb (lb (lb (lb (lb l0 w 21) w_7 22) w_17 23) w_29 24) w_43 26) w_59 27) w_77 28) w_97 30) w_119 31) w_143 35) w_169 36) w_197 39) w_227 40) w_259 44) w_293 45) q_155 = 35 := (lb_in _ h_304.1).trans lq13_14
  have lq14_15 : (lb (lb (lb (lb (lb (lb (lb (lb (lb (lb (lb (lb (lb (lb (lb l0 w 21) w_7 22) w_17 23) w_29 24) w_43 26) w_59 27) w_77 28) w_97 30) w_119 31) w_143 35) w_169 36) w_197 39) w_227 40) w_259 44) w_293 45) q_182 = 36 := (lb_in _ h_305.1).trans lq13_15
  have lq14_18 : (lb (lb (lb (lb (lb (lb (lb (lb (lb (lb (lb (lb (lb (lb (lb l0 w 21) w_7 22) w_17 23) w_29 24) w_43 26) w_59 27) w_77 28) w_97 30) w_119 31) w_143 35) w_169 36) w_197 39) w_227 40) w_259 44) w_293 45) q_211 = 39 := (lb_in _ h_306.1).trans lq13_18
  have lq14_19 : (lb (lb (lb (lb (lb (lb (lb (lb (lb (lb (lb (lb (lb (lb (lb l0 w 21) w_7 22) w_17 23) w_29 24) w_43 26) w_59 27) w_77 28) w_97 30) w_119 31) w_143 35) w_169 36) w_197 39) w_227 40) w_259 44) w_293 45) q_242 = 40 := (lb_in _ h_307.1).trans lq13_19
  have lq14_23 : (lb (lb (lb (lb (lb (lb (lb (lb (lb (lb (lb (lb (lb (lb (lb l0 w 21) w_7 22) w_17 23) w_29 24) w_43 26) w_59 27) w_77 28) w_97 30) w_119 31) w_143 35) w_169 36) w_197 39) w_227 40) w_259 44) w_293 45) q_275 = 44 := (lb_in _ h_308.1).trans lq13_23
  have lq14_24 : (lb (lb (lb (lb (lb (lb (lb (lb (lb (lb (lb (lb (lb (lb (lb l0 w 21) w_7 22) w_17 23) w_29 24) w_43 26) w_59 27) w_77 28) w_97 30) w_119 31) w_143 35) w_169 36) w_197 39) w_227 40) w_259 44) w_293 45) q_310 = 45 := lb_out hq_310
  have hl15 : ∀ z, z ∈ w.1 → (lb (lb (lb (lb (lb (lb (lb (lb (lb (lb (lb (lb (lb (lb (lb l0 w 21) w_7 22) w_17 23) w_29 24) w_43 26) w_59 27) w_77 28) w_97 30) w_119 31) w_143 35) w_169 36) w_197 39) w_227 40) w_259 44) w_293 45) z = l0 z := fun z hz => (lb_in z (x_309.1 z hz)).trans (hl14 z hz)
  refine g_putf (ci := 10) (v := .ref q_310) (ty := (.array (.object "java/lang/String"))) (C := RX3) (T := TX3) (N := 28) hx hb hts in_X3 tyX3 tyX3_ok nmX3 hown hK hW h_312 rfl 24 (by decide) q1908 (fun _ h9 => h9) rfl (by decide +kernel) rfl rfl (Nat.le_of_ble_eq_true rfl) dX3_init_125 (fun H locs hW => ?_)
  obtain ⟨w_329, ew_329⟩ : ∃ z__, z__ = g_put w_311 y (.inr (10, [.ref q_2, .ref q_11, .ref q_22, .ref q_35, .int (0), .ref q_50, .ref q_67, .ref q_86, .int (0), .ref q_107, .ref q_130, .int (0), .int (0), .int (0), .ref q_155, .ref q_182, .int (0), .long (0), .ref q_211, .ref q_242, .int (0), .int (0), .int (0), .ref q_275, .ref q_310, .null, .int (0), .int (0)])) := ⟨_, rfl⟩
  have hW := g_W.ren hW ew_329 rfl
  have h_330 : g_at w_329 y (.inr (10, [.ref q_2, .ref q_11, .ref q_22, .ref q_35, .int (0), .ref q_50, .ref q_67, .ref q_86, .int (0), .ref q_107, .ref q_130, .int (0), .int (0), .int (0), .ref q_155, .ref q_182, .int (0), .long (0), .ref q_211, .ref q_242, .int (0), .int (0), .int (0), .ref q_275, .ref q_310, .null, .int (0), .int (0)])) := by rw [ew_329]; exact g_at.put_self h_312.1
  have h_331 : g_at w_329 q_2 (.inl (D.1 100, 16, .inl ((fun _ => 0)))) := by rw [ew_329]; exact h_313.put (g_neAO h_313 h_312)
  have h_332 : g_at w_329 q_11 (.inl (D.1 100, 16, .inl ((fun _ => 0)))) := by rw [ew_329]; exact h_314.put (g_neAO h_314 h_312)
  have h_333 : g_at w_329 q_22 (.inl (D.1 100, 16, .inl ((fun _ => 0)))) := by rw [ew_329]; exact h_315.put (g_neAO h_315 h_312)
  have h_334 : g_at w_329 q_35 (.inl (D.1 100, 16, .inl ((fun _ => 0)))) := by rw [ew_329]; exact h_316.put (g_neAO h_316 h_312)
  have h_335 : g_at w_329 q_50 (.inl (D.1 100, 8, .inl ((fun _ => 0)))) := by rw [ew_329]; exact h_317.put (g_neAO h_317 h_312)
  have h_336 : g_at w_329 q_67 (.inl (D.1 100, 8, .inl ((fun _ => 0)))) := by rw [ew_329]; exact h_318.put (g_neAO h_318 h_312)
  have h_337 : g_at w_329 q_86 (.inl (D.1 100, 8, .inl ((fun _ => 0)))) := by rw [ew_329]; exact h_319.put (g_neAO h_319 h_312)
  have h_338 : g_at w_329 q_107 (.inl (D.1 105, 12, .inr (.inr (.inr (.inr ((fun _ => none))))))) := by rw [ew_329]; exact h_320.put (g_neAO h_320 h_312)
  have h_339 : g_at w_329 q_130 (.inl (D.1 100, 4, .inl ((fun _ => 0)))) := by rw [ew_329]; exact h_321.put (g_neAO h_321 h_312)
  have h_340 : g_at w_329 q_155 (.inl (D.1 102, 272, .inl ((fun _ => 0)))) := by rw [ew_329]; exact h_322.put (g_neAO h_322 h_312)
  have h_341 : g_at w_329 q_182 (.inl (D.1 100, 4, .inl ((fun _ => 0)))) := by rw [ew_329]; exact h_323.put (g_neAO h_323 h_312)
  have h_342 : g_at w_329 q_211 (.inl (D.1 102, 272, .inl ((fun _ => 0)))) := by rw [ew_329]; exact h_324.put (g_neAO h_324 h_312)
  have h_343 : g_at w_329 q_242 (.inl (D.1 105, 16, .inr (.inr (.inr (.inr ((fun _ => none))))))) := by rw [ew_329]; exact h_325.put (g_neAO h_325 h_312)
  have h_344 : g_at w_329 q_275 (.inl (D.1 105, 16, .inr (.inr (.inr (.inr ((fun _ => none))))))) := by rw [ew_329]; exact h_326.put (g_neAO h_326 h_312)
  have h_345 : g_at w_329 q_310 (.inl (D.1 105, 16, .inr (.inr (.inr (.inr ((fun _ => none))))))) := by rw [ew_329]; exact h_327.put (g_neAO h_327 h_312)
  have x_346 : g_ex (fun q => q = y) w w_329 := by rw [ew_329]; exact x_328.put (fun hz9 => rfl)
  refine lv_aload_n hx hb dX3_init_128 rfl (lv_at hl 0 rfl) ?_
  refine lv_bipush (v := 16) hx hb dX3_init_129 (by decide) ?_
  refine g_newa (k := 0) (atype := .int) (ty := .int) (cB := D.1 100) hx hb rfl (hts _ q187) hK hW rfl 16 (16, .inl (fun _ => 0)) (fun _ => rfl) (by decide) (by decide +kernel) (by decide +kernel) (Nat.le_of_ble_eq_true rfl) (Nat.le_of_ble_eq_true rfl) dX3_init_131 (fun q_347 H hq hW => ?_)
  have hq_347 := hq
  obtain ⟨w_348, ew_348⟩ : ∃ z__, z__ = g_push w_329 q_347 (.inl (D.1 100, 16, .inl ((fun _ => 0)))) := ⟨_, rfl⟩
  have hW := g_W.ren hW ew_348 rfl
  have h_349 : g_at w_348 y (.inr (10, [.ref q_2, .ref q_11, .ref q_22, .ref q_35, .int (0), .ref q_50, .ref q_67, .ref q_86, .int (0), .ref q_107, .ref q_130, .int (0), .int (0), .int (0), .ref q_155, .ref q_182, .int (0), .long (0), .ref q_211, .ref q_242, .int (0), .int (0), .int (0), .ref q_275, .ref q_310, .null, .int (0), .int (0)])) := by rw [ew_348]; exact h_330.push hq
  have h_350 : g_at w_348 q_2 (.inl (D.1 100, 16, .inl ((fun _ => 0)))) := by rw [ew_348]; exact h_331.push hq
  have h_351 : g_at w_348 q_11 (.inl (D.1 100, 16, .inl ((fun _ => 0)))) := by rw [ew_348]; exact h_332.push hq
  have h_352 : g_at w_348 q_22 (.inl (D.1 100, 16, .inl ((fun _ => 0)))) := by rw [ew_348]; exact h_333.push hq
  have h_353 : g_at w_348 q_35 (.inl (D.1 100, 16, .inl ((fun _ => 0)))) := by rw [ew_348]; exact h_334.push hq
  have h_354 : g_at w_348 q_50 (.inl (D.1 100, 8, .inl ((fun _ => 0)))) := by rw [ew_348]; exact h_335.push hq
  have h_355 : g_at w_348 q_67 (.inl (D.1 100, 8, .inl ((fun _ => 0)))) := by rw [ew_348]; exact h_336.push hq
  have h_356 : g_at w_348 q_86 (.inl (D.1 100, 8, .inl ((fun _ => 0)))) := by rw [ew_348]; exact h_337.push hq
  have h_357 : g_at w_348 q_107 (.inl (D.1 105, 12, .inr (.inr (.inr (.inr ((fun _ => none))))))) := by rw [ew_348]; exact h_338.push hq
  have h_358 : g_at w_348 q_130 (.inl (D.1 100, 4, .inl ((fun _ => 0)))) := by rw [ew_348]; exact h_339.push hq
  have h_359 : g_at w_348 q_155 (.inl (D.1 102, 272, .inl ((fun _ => 0)))) := by rw [ew_348]; exact h_340.push hq
  have h_360 : g_at w_348 q_182 (.inl (D.1 100, 4, .inl ((fun _ => 0)))) := by rw [ew_348]; exact h_341.push hq
  have h_361 : g_at w_348 q_211 (.inl (D.1 102, 272, .inl ((fun _ => 0)))) := by rw [ew_348]; exact h_342.push hq
  have h_362 : g_at w_348 q_242 (.inl (D.1 105, 16, .inr (.inr (.inr (.inr ((fun _ => none))))))) := by rw [ew_348]; exact h_343.push hq
  have h_363 : g_at w_348 q_275 (.inl (D.1 105, 16, .inr (.inr (.inr (.inr ((fun _ => none))))))) := by rw [ew_348]; exact h_344.push hq
  have h_364 : g_at w_348 q_310 (.inl (D.1 105, 16, .inr (.inr (.inr (.inr ((fun _ => none))))))) := by rw [ew_348]; exact h_345.push hq
  have h_365 : g_at w_348 q_347 (.inl (D.1 100, 16, .inl ((fun _ => 0)))) := by rw [ew_348]; exact g_at.push_self
  have x_366 : g_ex (fun q => q = y) w w_348 := by rw [ew_348]; exact x_346.push hq
  have lq15_0 : (lb (lb (lb (lb (lb (lb (lb (lb (lb (lb (lb (lb (lb (lb (lb (lb l0 w 21) w_7 22) w_17 23) w_29 24) w_43 26) w_59 27) w_77 28) w_97 30) w_119 31) w_143 35) w_169 36) w_197 39) w_227 40) w_259 44) w_293 45) w_329 46) q_2 = 21 := (lb_in _ h_331.1).trans lq14_0
  have lq15_1 : (lb (lb (lb (lb (lb (lb (lb (lb (lb (lb (lb (lb (lb (lb (lb (lb l0 w 21) w_7 22) w_17 23) w_29 24) w_43 26) w_59 27) w_77 28) w_97 30) w_119 31) w_143 35) w_169 36) w_197 39) w_227 40) w_259 44) w_293 45) w_329 46) q_11 = 22 := (lb_in _ h_332.1).trans lq14_1
  have lq15_2 : (lb (lb (lb (lb (lb (lb (lb (lb (lb (lb (lb (lb (lb (lb (lb (lb l0 w 21) w_7 22) w_17 23) w_29 24) w_43 26) w_59 27) w_77 28) w_97 30) w_119 31) w_143 35) w_169 36) w_197 39) w_227 40) w_259 44) w_293 45) w_329 46) q_22 = 23 := (lb_in _ h_333.1).trans lq14_2
  have lq15_3 : (lb (lb (lb (lb (lb (lb (lb (lb (lb (lb (lb (lb (lb (lb (lb (lb l0 w 21) w_7 22) w_17 23) w_29 24) w_43 26) w_59 27) w_77 28) w_97 30) w_119 31) w_143 35) w_169 36) w_197 39) w_227 40) w_259 44) w_293 45) w_329 46) q_35 = 24 := (lb_in _ h_334.1).trans lq14_3
  have lq15_5 : (lb (lb (lb (lb (lb (lb (lb (lb (lb (lb (lb (lb (lb (lb (lb (lb l0 w 21) w_7 22) w_17 23) w_29 24) w_43 26) w_59 27) w_77 28) w_97 30) w_119 31) w_143 35) w_169 36) w_197 39) w_227 40) w_259 44) w_293 45) w_329 46) q_50 = 26 := (lb_in _ h_335.1).trans lq14_5
  have lq15_6 : (lb (lb (lb (lb (lb (lb (lb (lb (lb (lb (lb (lb (lb (lb (lb (lb l0 w 21) w_7 22) w_17 23) w_29 24) w_43 26) w_59 27) w_77 28) w_97 30) w_119 31) w_143 35) w_169 36) w_197 39) w_227 40) w_259 44) w_293 45) w_329 46) q_67 = 27 := (lb_in _ h_336.1).trans lq14_6
  have lq15_7 : (lb (lb (lb (lb (lb (lb (lb (lb (lb (lb (lb (lb (lb (lb (lb (lb l0 w 21) w_7 22) w_17 23) w_29 24) w_43 26) w_59 27) w_77 28) w_97 30) w_119 31) w_143 35) w_169 36) w_197 39) w_227 40) w_259 44) w_293 45) w_329 46) q_86 = 28 := (lb_in _ h_337.1).trans lq14_7
  have lq15_9 : (lb (lb (lb (lb (lb (lb (lb (lb (lb (lb (lb (lb (lb (lb (lb (lb l0 w 21) w_7 22) w_17 23) w_29 24) w_43 26) w_59 27) w_77 28) w_97 30) w_119 31) w_143 35) w_169 36) w_197 39) w_227 40) w_259 44) w_293 45) w_329 46) q_107 = 30 := (lb_in _ h_338.1).trans lq14_9
  have lq15_10 : (lb (lb (lb (lb (lb (lb (lb (lb (lb (lb (lb (lb (lb (lb (lb (lb l0 w 21) w_7 22) w_17 23) w_29 24) w_43 26) w_59 27) w_77 28) w_97 30) w_119 31) w_143 35) w_169 36) w_197 39) w_227 40) w_259 44) w_293 45) w_329 46) q_130 = 31 := (lb_in _ h_339.1).trans lq14_10
  have lq15_14 : (lb (lb (lb (lb (lb (lb (lb (lb (lb (lb (lb (lb (lb (lb (lb (lb l0 w 21) w_7 22) w_17 23) w_29 24) w_43 26) w_59 27) w_77 28) w_97 30) w_119 31) w_143 35) w_169 36) w_197 39) w_227 40) w_259 44) w_293 45) w_329 46) q_155 = 35 := (lb_in _ h_340.1).trans lq14_14
  have lq15_15 : (lb (lb (lb (lb (lb (lb (lb (lb (lb (lb (lb (lb (lb (lb (lb (lb l0 w 21) w_7 22) w_17 23) w_29 24) w_43 26) w_59 27) w_77 28) w_97 30) w_119 31) w_143 35) w_169 36) w_197 39) w_227 40) w_259 44) w_293 45) w_329 46) q_182 = 36 := (lb_in _ h_341.1).trans lq14_15
  have lq15_18 : (lb (lb (lb (lb (lb (lb (lb (lb (lb (lb (lb (lb (lb (lb (lb (lb l0 w 21) w_7 22) w_17 23) w_29 24) w_43 26) w_59 27) w_77 28) w_97 30) w_119 31) w_143 35) w_169 36) w_197 39) w_227 40) w_259 44) w_293 45) w_329 46) q_211 = 39 := (lb_in _ h_342.1).trans lq14_18
  have lq15_19 : (lb (lb (lb (lb (lb (lb (lb (lb (lb (lb (lb (lb (lb (lb (lb (lb l0 w 21) w_7 22) w_17 23) w_29 24) w_43 26) w_59 27) w_77 28) w_97 30) w_119 31) w_143 35) w_169 36) w_197 39) w_227 40) w_259 44) w_293 45) w_329 46) q_242 = 40 := (lb_in _ h_343.1).trans lq14_19
  have lq15_23 : (lb (lb (lb (lb (lb (lb (lb (lb (lb (lb (lb (lb (lb (lb (lb (lb l0 w 21) w_7 22) w_17 23) w_29 24) w_43 26) w_59 27) w_77 28) w_97 30) w_119 31) w_143 35) w_169 36) w_197 39) w_227 40) w_259 44) w_293 45) w_329 46) q_275 = 44 := (lb_in _ h_344.1).trans lq14_23
  have lq15_24 : (lb (lb (lb (lb (lb (lb (lb (lb (lb (lb (lb (lb (lb (lb (lb (lb l0 w 21) w_7 22) w_17 23) w_29 24) w_43 26) w_59 27) w_77 28) w_97 30) w_119 31) w_143 35) w_169 36) w_197 39) w_227 40) w_259 44) w_293 45) w_329 46) q_310 = 45 := (lb_in _ h_345.1).trans lq14_24
  have lq15_25 : (lb (lb (lb (lb (lb (lb (lb (lb (lb (lb (lb (lb (lb (lb (lb (lb l0 w 21) w_7 22) w_17 23) w_29 24) w_43 26) w_59 27) w_77 28) w_97 30) w_119 31) w_143 35) w_169 36) w_197 39) w_227 40) w_259 44) w_293 45) w_329 46) q_347 = 46 := lb_out hq_347
  have hl16 : ∀ z, z ∈ w.1 → (lb (lb (lb (lb (lb (lb (lb (lb (lb (lb (lb (lb (lb (lb (lb (lb l0 w 21) w_7 22) w_17 23) w_29 24) w_43 26) w_59 27) w_77 28) w_97 30) w_119 31) w_143 35) w_169 36) w_197 39) w_227 40) w_259 44) w_293 45) w_329 46) z = l0 z := fun z hz => (lb_in z (x_346.1 z hz)).trans (hl15 z hz)
  refine g_putf (ci := 10) (v := .ref q_347) (ty := (.array .int)) (C := RX3) (T := TX3) (N := 28) hx hb hts in_X3 tyX3 tyX3_ok nmX3 hown hK hW h_349 rfl 25 (by decide) q1909 (fun _ h9 => h9) rfl (by decide +kernel) rfl rfl (Nat.le_of_ble_eq_true rfl) dX3_init_133 (fun H locs hW => ?_)
  obtain ⟨w_367, ew_367⟩ : ∃ z__, z__ = g_put w_348 y (.inr (10, [.ref q_2, .ref q_11, .ref q_22, .ref q_35, .int (0), .ref q_50, .ref q_67, .ref q_86, .int (0), .ref q_107, .ref q_130, .int (0), .int (0), .int (0), .ref q_155, .ref q_182, .int (0), .long (0), .ref q_211, .ref q_242, .int (0), .int (0), .int (0), .ref q_275, .ref q_310, .ref q_347, .int (0), .int (0)])) := ⟨_, rfl⟩
  have hW := g_W.ren hW ew_367 rfl
  have h_368 : g_at w_367 y (.inr (10, [.ref q_2, .ref q_11, .ref q_22, .ref q_35, .int (0), .ref q_50, .ref q_67, .ref q_86, .int (0), .ref q_107, .ref q_130, .int (0), .int (0), .int (0), .ref q_155, .ref q_182, .int (0), .long (0), .ref q_211, .ref q_242, .int (0), .int (0), .int (0), .ref q_275, .ref q_310, .ref q_347, .int (0), .int (0)])) := by rw [ew_367]; exact g_at.put_self h_349.1
  have h_369 : g_at w_367 q_2 (.inl (D.1 100, 16, .inl ((fun _ => 0)))) := by rw [ew_367]; exact h_350.put (g_neAO h_350 h_349)
  have h_370 : g_at w_367 q_11 (.inl (D.1 100, 16, .inl ((fun _ => 0)))) := by rw [ew_367]; exact h_351.put (g_neAO h_351 h_349)
  have h_371 : g_at w_367 q_22 (.inl (D.1 100, 16, .inl ((fun _ => 0)))) := by rw [ew_367]; exact h_352.put (g_neAO h_352 h_349)
  have h_372 : g_at w_367 q_35 (.inl (D.1 100, 16, .inl ((fun _ => 0)))) := by rw [ew_367]; exact h_353.put (g_neAO h_353 h_349)
  have h_373 : g_at w_367 q_50 (.inl (D.1 100, 8, .inl ((fun _ => 0)))) := by rw [ew_367]; exact h_354.put (g_neAO h_354 h_349)
  have h_374 : g_at w_367 q_67 (.inl (D.1 100, 8, .inl ((fun _ => 0)))) := by rw [ew_367]; exact h_355.put (g_neAO h_355 h_349)
  have h_375 : g_at w_367 q_86 (.inl (D.1 100, 8, .inl ((fun _ => 0)))) := by rw [ew_367]; exact h_356.put (g_neAO h_356 h_349)
  have h_376 : g_at w_367 q_107 (.inl (D.1 105, 12, .inr (.inr (.inr (.inr ((fun _ => none))))))) := by rw [ew_367]; exact h_357.put (g_neAO h_357 h_349)
  have h_377 : g_at w_367 q_130 (.inl (D.1 100, 4, .inl ((fun _ => 0)))) := by rw [ew_367]; exact h_358.put (g_neAO h_358 h_349)
  have h_378 : g_at w_367 q_155 (.inl (D.1 102, 272, .inl ((fun _ => 0)))) := by rw [ew_367]; exact h_359.put (g_neAO h_359 h_349)
  have h_379 : g_at w_367 q_182 (.inl (D.1 100, 4, .inl ((fun _ => 0)))) := by rw [ew_367]; exact h_360.put (g_neAO h_360 h_349)
  have h_380 : g_at w_367 q_211 (.inl (D.1 102, 272, .inl ((fun _ => 0)))) := by rw [ew_367]; exact h_361.put (g_neAO h_361 h_349)
  have h_381 : g_at w_367 q_242 (.inl (D.1 105, 16, .inr (.inr (.inr (.inr ((fun _ => none))))))) := by rw [ew_367]; exact h_362.put (g_neAO h_362 h_349)
  have h_382 : g_at w_367 q_275 (.inl (D.1 105, 16, .inr (.inr (.inr (.inr ((fun _ => none))))))) := by rw [ew_367]; exact h_363.put (g_neAO h_363 h_349)
  have h_383 : g_at w_367 q_310 (.inl (D.1 105, 16, .inr (.inr (.inr (.inr ((fun _ => none))))))) := by rw [ew_367]; exact h_364.put (g_neAO h_364 h_349)
  have h_384 : g_at w_367 q_347 (.inl (D.1 100, 16, .inl ((fun _ => 0)))) := by rw [ew_367]; exact h_365.put (g_neAO h_365 h_349)
  have x_385 : g_ex (fun q => q = y) w w_367 := by rw [ew_367]; exact x_366.put (fun hz9 => rfl)
  have hmL : mLab (lb (lb (lb (lb (lb (lb (lb (lb (lb (lb (lb (lb (lb (lb (lb (lb l0 w 21) w_7 22) w_17 23) w_29 24) w_43 26) w_59 27) w_77 28) w_97 30) w_119 31) w_143 35) w_169 36) w_197 39) w_227 40) w_259 44) w_293 45) w_329 46) (fun k => match k with | 0 => q_2 | 1 => q_11 | 2 => q_22 | 3 => q_35 | 5 => q_50 | 6 => q_67 | 7 => q_86 | 9 => q_107 | 10 => q_130 | 14 => q_155 | 15 => q_182 | 18 => q_211 | 19 => q_242 | 23 => q_275 | 24 => q_310 | 25 => q_347 | _ => 0) := fun k hk => by
    simp only [mKs, List.mem_cons, List.not_mem_nil, or_false] at hk
    rcases hk with rfl | rfl | rfl | rfl | rfl | rfl | rfl | rfl | rfl | rfl | rfl | rfl | rfl | rfl | rfl | rfl
    · exact lq15_0
    · exact lq15_1
    · exact lq15_2
    · exact lq15_3
    · exact lq15_5
    · exact lq15_6
    · exact lq15_7
    · exact lq15_9
    · exact lq15_10
    · exact lq15_14
    · exact lq15_15
    · exact lq15_18
    · exact lq15_19
    · exact lq15_23
    · exact lq15_24
    · exact lq15_25
  exact g_vret hx hb hr hlocks hW (⟨(lb (lb (lb (lb (lb (lb (lb (lb (lb (lb (lb (lb (lb (lb (lb (lb l0 w 21) w_7 22) w_17 23) w_29 24) w_43 26) w_59 27) w_77 28) w_97 30) w_119 31) w_143 35) w_169 36) w_197 39) w_227 40) w_259 44) w_293 45) w_329 46), (fun k => match k with | 0 => q_2 | 1 => q_11 | 2 => q_22 | 3 => q_35 | 5 => q_50 | 6 => q_67 | 7 => q_86 | 9 => q_107 | 10 => q_130 | 14 => q_155 | 15 => q_182 | 18 => q_211 | 19 => q_242 | 23 => q_275 | 24 => q_310 | 25 => q_347 | _ => 0), ⟨h_368, ⟨(hl16 y hyw).trans hly, hmL⟩, ⟨_, _, _, _, h_369, h_370, h_371, h_372, by decide, fun _ z => absurd z (Nat.not_lt_zero _), fun _ z => absurd z (Nat.not_lt_zero _), fun _ z => absurd z (Nat.not_lt_zero _), fun _ z => absurd z (Nat.not_lt_zero _), fun _ z => absurd z (Nat.not_lt_zero _)⟩, ⟨_, _, h_378, fun _ _ => rfl, h_379⟩, ⟨_, _, _, h_373, h_374, h_375, by decide, fun _ z => absurd z (Nat.not_lt_zero _)⟩, ⟨_, _, h_376, h_377, fun _ _ => ⟨Nat.zero_le _, rfl, fun _ z => absurd z (Nat.not_lt_zero _)⟩⟩, ⟨_, h_380, fun _ _ => rfl⟩, ⟨_, h_381, by decide, by decide, by decide, fun _ z => absurd z (Nat.not_lt_zero _)⟩, ⟨_, _, _, h_382, h_383, h_384, by decide, fun _ z => absurd z (Nat.not_lt_zero _)⟩, by decide, by decide, by decide, by decide, by decide⟩, hl16, x_385⟩) (by omega) (by omega) dX3_init_136
set_option maxHeartbeats 4000000 in
set_option maxRecDepth 100000 in
/-- Out's constructor -/
theorem mtX4_init (l : Launch) (D : va_G) (w : g_H) (sz : Nat) (o9 : Nat) : Met l yX4_init (ws_ yX4_init cX4_init 1 none) ({ frames := 1, cells := 0, slots := 0, locals := 12 }) (g_Pc D [.ref o9] w sz) (g_Qv D w sz (fun u => w = u)) (0) (0) (g_A w sz) := by
  refine Met.ofW (cc := cX4_init) (maxL := 1) (ret := none) (by decide) rfl ?_
  intro p e s m args below meth c s₁ B hml hv
  obtain ⟨rfl, hI⟩ := hv
  have hx := B.exec
  have hb := B.bytes
  have hr := B.returns
  have hts := atoms_spec (ws := ws_ yX4_init cX4_init 1 none) B.pre
  have hts : ∀ w ∈ lw_all, w.before _ s = true := fun w h => hts w (List.mem_cons_of_mem _ h)
  have hown : s.vm.findClass RX4 = some m.cls := findClass_of_methodNamed B.named
  have hlocks := B.notSynchronized
  have hin : meth.name = "<init>" := (name_of_methodNamed B.named B.method).1
  have hsz := hI.1
  subst hsz
  have hW := g_W.start hI
  have hK := g_K hI
  have hE := g_E hI
  have hl := lv_entry ([.ref o9]) (n := 1) (by exact Nat.le_of_ble_eq_true rfl)
  rw [lg_entry_eq]
  generalize (lg_sl ([.ref o9]) ++ List.replicate (1 - (lg_sl ([.ref o9])).length) Slot.unset).toArray = ls at hl ⊢
  have hl : lv_has ls 1 [(0, .ref o9)] := hl
  refine lv_aload_n hx hb dX4_init_0 rfl (lv_at hl 0 rfl) ?_
  refine W.objInit hx hb hown (hts _ q465) (hts _ q104) (hts _ q105) rfl (by rw [hml]; exact hl.1) rfl dX4_init_1 (Nat.le_of_ble_eq_true rfl) (Nat.le_of_ble_eq_true rfl) ?_
  refine W.eq (g2 := F0 m 4 ls []) rfl ?_
  exact g_vret hx hb hr hlocks hW (rfl) (by omega) (by omega) dX4_init_4
