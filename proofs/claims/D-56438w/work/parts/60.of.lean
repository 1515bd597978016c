/-! Edit.of; Digits.isNext as a list *
-/
set_option maxRecDepth 100000
def kEd (p9 d9 : Int32) : Prop := (0 ≤ p9 ∧ p9 ≤ 7) ∧ 0 ≤ d9 ∧ d9 ≤ 7
theorem kEd_of {p9 d9 : Int32} (h : kEd p9 d9) : ∃ a b, a < 8 ∧ b < 8 ∧ p9 = nI a ∧ d9 = nI b := by
  obtain ⟨⟨h1, h2⟩, h3, h4⟩ := h
  obtain ⟨a, ha, rfl⟩ := nI_of (Int32.not_lt.mpr h1)
  obtain ⟨b, hb, rfl⟩ := nI_of (Int32.not_lt.mpr h3)
  refine ⟨a, b, ?_, ?_, rfl, rfl⟩
  · have := (nI_ltI (a := 7) (b := a) (by decide) ha).mpr
    exact Nat.lt_of_not_le fun z => absurd h2 (Int32.not_le.mpr (this (by omega)))
  · have := (nI_ltI (a := 7) (b := b) (by decide) hb).mpr
    exact Nat.lt_of_not_le fun z => absurd h4 (Int32.not_le.mpr (this (by omega)))
set_option maxHeartbeats 4000000 in
set_option maxRecDepth 100000 in
/-- Edit.of -/
theorem mtX6_of (l : Launch) (hl9 : l.stackTraces = false) (D : va_G) (w : g_H) (sz : Nat) (k9 : Nat) (p9 d9 : Int32) (hk9 : k9 < 4) : vx_Met l yX6_of (ws_ yX6_of cX6_of 3 (some (.object "ShrinkYard$Edit"))) ({ frames := 9, cells := 2, slots := 10, locals := 130 }) (g_Pc D [.ref (D.2 1004 k9), .int (p9), .int (d9)] w sz) (g_Qq D w sz (fun r u => kEd p9 d9 ∧ ∃ e9, r = some e9 ∧ e9 ∉ w.1 ∧ g_Ed u e9 k9 p9.toNatClampNeg d9.toNatClampNeg ∧ g_ex (fun _ => False) w u)) (g_XC D w sz (fun E u => E = "java/lang/IllegalArgumentException" ∧ ¬ kEd p9 d9 ∧ w = u)) (2) (10) (g_A w sz) := by
  refine vx_ofW (cc := cX6_of) (maxL := 3) (ret := (some (.object "ShrinkYard$Edit"))) (by decide) rfl ?_
  intro p e s m args below meth c s₁ B hml hhand hv
  have hout : ∀ pc : Nat, ∀ x ∈ c.exceptionTable.toList, covers x pc = false := fun _ x hx => (hhand x hx).elim
  obtain ⟨rfl, hI⟩ := hv
  have hx := B.exec
  have hb := B.bytes
  have hr := B.returns
  have hts := atoms_spec (ws := ws_ yX6_of cX6_of 3 (some (.object "ShrinkYard$Edit"))) B.pre
  have hts : ∀ w ∈ lw_all, w.before _ s = true := fun w h => hts w (List.mem_cons_of_mem _ h)
  have hown : s.vm.findClass RX6 = some m.cls := findClass_of_methodNamed B.named
  have hlocks := B.notSynchronized
  have hsz := hI.1
  subst hsz
  have hW := g_W.start hI
  have hK := g_K hI
  have hE := g_E hI
  have hl := lv_entry ([.ref (D.2 1004 k9), .int (p9), .int (d9)]) (n := 3) (by exact Nat.le_of_ble_eq_true rfl)
  rw [lg_entry_eq]
  generalize (lg_sl ([.ref (D.2 1004 k9), .int (p9), .int (d9)]) ++ List.replicate (3 - (lg_sl ([.ref (D.2 1004 k9), .int (p9), .int (d9)])).length) Slot.unset).toArray = ls at hl ⊢
  have hl : lv_has ls 3 [(0, .ref (D.2 1004 k9)), (1, .int (p9)), (2, .int (d9))] := hl
  refine lv_iload_n hx hb dX6_of_0 rfl (lv_at hl 1 rfl) ?_
  refine lv_iconst (v := 0) hx hb dX6_of_1 (by decide) ?_
  refine lv_bipush (v := 7) hx hb dX6_of_2 (by decide) ?_
  refine g_calli (va_runSN (As := [.int (p9), .int (0), .int (7)]) (rest := []) ⟨hx, hb, hml, hown, hts⟩ (mtX1_isIn l D w s.heap.size p9 0 7) ⟨(va_cnB 3 hts (lw_meth q564) rfl rfl rfl (nm_q672 hE) (hts _ q34) (by decide +kernel) ⟨Nat.le_of_ble_eq_true rfl, Nat.le_of_ble_eq_true rfl⟩), hts _ q563, trivial⟩ (g_preS hW hK hE) rfl rfl hl.1 rfl (lv_room (Nat.le_of_ble_eq_true rfl)) dX6_of_4 ⟨?_, ?_⟩) hW (fun r_ u_ H locs hp hW => ?_)
  · (try simp only [headSpec]); omega
  · (try simp only [headSpec]); omega
  obtain ⟨er, rfl⟩ := hp
  subst er
  by_cases hp1 : 0 ≤ p9 ∧ p9 ≤ 7
  · rw [if_pos hp1]
    refine lv_if_eq (tgt := 24) hx hb dX6_of_7 (by decide) (fun hz => absurd hz (by decide)) (fun _ => ?_)
    refine lv_iload_n hx hb dX6_of_10 rfl (lv_at hl 2 rfl) ?_
    refine lv_iconst (v := 0) hx hb dX6_of_11 (by decide) ?_
    refine lv_bipush (v := 7) hx hb dX6_of_12 (by decide) ?_
    refine g_calli (va_runSN (As := [.int (d9), .int (0), .int (7)]) (rest := []) ⟨hx, hb, hml, hown, hts⟩ (mtX1_isIn l D w H.size d9 0 7) ⟨(va_cnB 3 hts (lw_meth q564) rfl rfl rfl (nm_q672 hE) (hts _ q34) (by decide +kernel) ⟨Nat.le_of_ble_eq_true rfl, Nat.le_of_ble_eq_true rfl⟩), hts _ q563, trivial⟩ (g_preS hW hK hE) rfl rfl hl.1 rfl (lv_room (Nat.le_of_ble_eq_true rfl)) dX6_of_14 ⟨?_, ?_⟩) hW (fun r_ u_ H locs hp hW => ?_)
    · (try simp only [headSpec]); omega
    · (try simp only [headSpec]); omega
    obtain ⟨er, rfl⟩ := hp
    subst er
    by_cases hp2 : 0 ≤ d9 ∧ d9 ≤ 7
    · rw [if_pos hp2]
      refine lv_if_eq (tgt := 24) hx hb dX6_of_17 (by decide) (fun hz => absurd hz (by decide)) (fun _ => ?_)
      refine lv_iconst (v := 1) hx hb dX6_of_20 (by decide) ?_
      refine lv_goto (tgt := 25) hx hb dX6_of_21 (by decide) ?_
      refine g_xcallv (vx_runSN (As := [.int (1)]) (rest := []) ⟨hx, hb, hml, hown, hts⟩ (mtX1_requireArgument l hl9 D w H.size 1) ⟨(va_cnB 1 hts (lw_meth q575) rfl rfl rfl (nm_q673 hE) (hts _ q34) (by decide +kernel) ⟨Nat.le_of_ble_eq_true rfl, Nat.le_of_ble_eq_true rfl⟩), hts _ q574, trivial⟩ (g_preS hW hK hE) rfl rfl hl.1 rfl (lv_room (Nat.le_of_ble_eq_true rfl)) dX6_of_25 ⟨?_, ?_⟩) hW (fun E ce q9 u_ H locs hp hW hx1 hx2 hx3 => g_xout (hout _) hlocks hW (absurd hp.2.1 (by decide)) hx1 hx2 hx3 ?_ ?_) (fun u_ H locs hp hW => ?_)
      · (try simp only [headSpec]); omega
      · (try simp only [headSpec]); omega
      · (try simp only [headSpec]); omega
      · (try simp only [headSpec]); omega
      obtain ⟨-, rfl⟩ := hp
      have hK1 : kEd p9 d9 := ⟨hp1, hp2⟩
      obtain ⟨a, b, ha8, hb8, ea, eb⟩ := kEd_of hK1
      have ea1 : p9.toNatClampNeg = a := by rw [ea]; exact nI_clamp (by omega)
      have eb1 : d9.toNatClampNeg = b := by rw [eb]; exact nI_clamp (by omega)
      have hk : k9 = 0 ∨ k9 = 1 ∨ k9 = 2 ∨ k9 = 3 := by omega
      rcases hk with rfl | rfl | rfl | rfl
      · refine lv_aload_n hx hb dX6_of_28 rfl (lv_at hl 0 rfl) ?_
        refine g_calli (va_runU (As := []) (rest := []) ⟨hx, hb, hml, hown, hts⟩ (mtJ10_ordinal l D w H.size (D.2 1004 0) (nI 0) (fun s hE => g_chg (by decide) s hE)) (va_cwU (owner := "java/lang/Enum") (x := ⟨"Change", "ordinal", "()I"⟩) 0 hts (lw_app (lw_in _ [674, 675, 677, 678, 50] (by decide +kernel) (by decide +kernel)) (lw_meth q679)) rfl rfl rfl rfl (by decide +kernel) ⟨Nat.le_of_ble_eq_true rfl, Nat.le_of_ble_eq_true rfl⟩) (g_preVR hW hK hE (g_chgO hE hW (by decide))) rfl rfl hl.1 rfl (lv_room (Nat.le_of_ble_eq_true rfl)) dX6_of_29 ⟨?_, ?_⟩) hW (fun r_ u_ H locs hp hW => ?_)
        · (try simp only [headSpec]); omega
        · (try simp only [headSpec]); omega
        obtain ⟨er, rfl⟩ := hp
        subst er
        refine lv_tableIn (tgt := 60) hx hb dX6_of_32 (by decide) (by decide) rfl (by decide) ?_
        have x_1 : g_ex (fun _ => False) w w := g_ex.rf
        refine g_newo (ci := 3) (C := RX7) (T := TX7) (N := 2) hx hb hts in_X7 tyX7 tyX7_ok hown q680 q681 q59 hK hW rfl [.int (0), .int (0)] (by decide +kernel) ?_ ?_ dX6_of_60 (fun o_2 H hq hW => ?_)
        · show _ ≤ 2; omega
        · show _ ≤ 10; omega
        have ho_2 := hq
        obtain ⟨w_3, ew_3⟩ : ∃ z__, z__ = g_push w o_2 (.inr (3, [.int (0), .int (0)])) := ⟨_, rfl⟩
        have hW := g_W.ren hW ew_3 rfl
        have h_4 : g_at w_3 o_2 (.inr (3, [.int (0), .int (0)])) := by rw [ew_3]; exact g_at.push_self
        have x_5 : g_ex (fun _ => False) w w_3 := by rw [ew_3]; exact x_1.push hq
        refine lv_dup hx hb dX6_of_63 rfl ?_
        refine lv_iload_n hx hb dX6_of_64 rfl (lv_at hl 1 rfl) ?_
        refine lv_iload_n hx hb dX6_of_65 rfl (lv_at hl 2 rfl) ?_
        refine g_callv (va_runI (As := [.int (p9), .int (d9)]) (rest := [.ref o_2]) ⟨hx, hb, hml, hown, hts⟩ (mtX7_init l D w_3 H.size o_2 p9 d9 h_4) (cwI 2 hts (lw_meth q684) rfl rfl rfl (hts _ q59) (hts _ q682) (hts _ q683) rfl (by decide +kernel) ⟨Nat.le_of_ble_eq_true rfl, Nat.le_of_ble_eq_true rfl⟩) (g_preS hW hK hE) rfl rfl hl.1 rfl (lv_room (Nat.le_of_ble_eq_true rfl)) dX6_of_66 ⟨?_, ?_⟩) hW (fun u1 H locs hp hW => ?_)
        · (try simp only [headSpec]); omega
        · (try simp only [headSpec]); omega
        obtain ⟨hd1, hex1⟩ := hp
        have hx1 : g_ex (fun _ => False) w u1 := x_5.trM hex1 (fun z hz1 hz2 => ho_2 (hz2 ▸ hz1))
        refine lv_goto (tgt := 103) hx hb dX6_of_69 (by decide) ?_
        exact vx_ret (g_qret (v := some o_2) hx hb hr (Or.inl ⟨_, rfl⟩) hlocks hW (⟨hK1, o_2, rfl, ho_2, by rw [ea1, eb1]; exact ⟨ha8, hb8, Or.inl ⟨rfl, by rw [← ea, ← eb]; exact hd1⟩⟩, hx1⟩) (by omega) (by omega) dX6_of_103)
      · refine lv_aload_n hx hb dX6_of_28 rfl (lv_at hl 0 rfl) ?_
        refine g_calli (va_runU (As := []) (rest := []) ⟨hx, hb, hml, hown, hts⟩ (mtJ10_ordinal l D w H.size (D.2 1004 1) (nI 1) (fun s hE => g_chg (by decide) s hE)) (va_cwU (owner := "java/lang/Enum") (x := ⟨"Change", "ordinal", "()I"⟩) 0 hts (lw_app (lw_in _ [674, 675, 677, 678, 50] (by decide +kernel) (by decide +kernel)) (lw_meth q679)) rfl rfl rfl rfl (by decide +kernel) ⟨Nat.le_of_ble_eq_true rfl, Nat.le_of_ble_eq_true rfl⟩) (g_preVR hW hK hE (g_chgO hE hW (by decide))) rfl rfl hl.1 rfl (lv_room (Nat.le_of_ble_eq_true rfl)) dX6_of_29 ⟨?_, ?_⟩) hW (fun r_ u_ H locs hp hW => ?_)
        · (try simp only [headSpec]); omega
        · (try simp only [headSpec]); omega
        obtain ⟨er, rfl⟩ := hp
        subst er
        refine lv_tableIn (tgt := 72) hx hb dX6_of_32 (by decide) (by decide) rfl (by decide) ?_
        have x_6 : g_ex (fun _ => False) w w := g_ex.rf
        refine g_newo (ci := 4) (C := RX8) (T := TX8) (N := 2) hx hb hts in_X8 tyX8 tyX8_ok hown q693 q694 q60 hK hW rfl [.int (0), .int (0)] (by decide +kernel) ?_ ?_ dX6_of_72 (fun o_7 H hq hW => ?_)
        · show _ ≤ 2; omega
        · show _ ≤ 10; omega
        have ho_7 := hq
        obtain ⟨w_8, ew_8⟩ : ∃ z__, z__ = g_push w o_7 (.inr (4, [.int (0), .int (0)])) := ⟨_, rfl⟩
        have hW := g_W.ren hW ew_8 rfl
        have h_9 : g_at w_8 o_7 (.inr (4, [.int (0), .int (0)])) := by rw [ew_8]; exact g_at.push_self
        have x_10 : g_ex (fun _ => False) w w_8 := by rw [ew_8]; exact x_6.push hq
        refine lv_dup hx hb dX6_of_75 rfl ?_
        refine lv_iload_n hx hb dX6_of_76 rfl (lv_at hl 1 rfl) ?_
        refine lv_iload_n hx hb dX6_of_77 rfl (lv_at hl 2 rfl) ?_
        refine g_callv (va_runI (As := [.int (p9), .int (d9)]) (rest := [.ref o_7]) ⟨hx, hb, hml, hown, hts⟩ (mtX8_init l D w_8 H.size o_7 p9 d9 h_9) (cwI 2 hts (lw_meth q697) rfl rfl rfl (hts _ q60) (hts _ q695) (hts _ q696) rfl (by decide +kernel) ⟨Nat.le_of_ble_eq_true rfl, Nat.le_of_ble_eq_true rfl⟩) (g_preS hW hK hE) rfl rfl hl.1 rfl (lv_room (Nat.le_of_ble_eq_true rfl)) dX6_of_78 ⟨?_, ?_⟩) hW (fun u1 H locs hp hW => ?_)
        · (try simp only [headSpec]); omega
        · (try simp only [headSpec]); omega
        obtain ⟨hd1, hex1⟩ := hp
        have hx1 : g_ex (fun _ => False) w u1 := x_10.trM hex1 (fun z hz1 hz2 => ho_7 (hz2 ▸ hz1))
        refine lv_goto (tgt := 103) hx hb dX6_of_81 (by decide) ?_
        exact vx_ret (g_qret (v := some o_7) hx hb hr (Or.inl ⟨_, rfl⟩) hlocks hW (⟨hK1, o_7, rfl, ho_7, by rw [ea1, eb1]; exact ⟨ha8, hb8, Or.inr (Or.inl ⟨rfl, by rw [← ea, ← eb]; exact hd1⟩)⟩, hx1⟩) (by omega) (by omega) dX6_of_103)
      · refine lv_aload_n hx hb dX6_of_28 rfl (lv_at hl 0 rfl) ?_
        refine g_calli (va_runU (As := []) (rest := []) ⟨hx, hb, hml, hown, hts⟩ (mtJ10_ordinal l D w H.size (D.2 1004 2) (nI 2) (fun s hE => g_chg (by decide) s hE)) (va_cwU (owner := "java/lang/Enum") (x := ⟨"Change", "ordinal", "()I"⟩) 0 hts (lw_app (lw_in _ [674, 675, 677, 678, 50] (by decide +kernel) (by decide +kernel)) (lw_meth q679)) rfl rfl rfl rfl (by decide +kernel) ⟨Nat.le_of_ble_eq_true rfl, Nat.le_of_ble_eq_true rfl⟩) (g_preVR hW hK hE (g_chgO hE hW (by decide))) rfl rfl hl.1 rfl (lv_room (Nat.le_of_ble_eq_true rfl)) dX6_of_29 ⟨?_, ?_⟩) hW (fun r_ u_ H locs hp hW => ?_)
        · (try simp only [headSpec]); omega
        · (try simp only [headSpec]); omega
        obtain ⟨er, rfl⟩ := hp
        subst er
        refine lv_tableIn (tgt := 84) hx hb dX6_of_32 (by decide) (by decide) rfl (by decide) ?_
        have x_11 : g_ex (fun _ => False) w w := g_ex.rf
        refine g_newo (ci := 5) (C := RX9) (T := TX9) (N := 1) hx hb hts in_X9 tyX9 tyX9_ok hown q706 q707 q61 hK hW rfl [.int (0)] (by decide +kernel) ?_ ?_ dX6_of_84 (fun o_12 H hq hW => ?_)
        · show _ ≤ 2; omega
        · show _ ≤ 10; omega
        have ho_12 := hq
        obtain ⟨w_13, ew_13⟩ : ∃ z__, z__ = g_push w o_12 (.inr (5, [.int (0)])) := ⟨_, rfl⟩
        have hW := g_W.ren hW ew_13 rfl
        have h_14 : g_at w_13 o_12 (.inr (5, [.int (0)])) := by rw [ew_13]; exact g_at.push_self
        have x_15 : g_ex (fun _ => False) w w_13 := by rw [ew_13]; exact x_11.push hq
        refine lv_dup hx hb dX6_of_87 rfl ?_
        refine lv_iload_n hx hb dX6_of_88 rfl (lv_at hl 1 rfl) ?_
        refine g_callv (va_runI (As := [.int (p9)]) (rest := [.ref o_12]) ⟨hx, hb, hml, hown, hts⟩ (mtX9_init l D w_13 H.size o_12 p9 h_14) (cwI 1 hts (lw_meth q710) rfl rfl rfl (hts _ q61) (hts _ q708) (hts _ q709) rfl (by decide +kernel) ⟨Nat.le_of_ble_eq_true rfl, Nat.le_of_ble_eq_true rfl⟩) (g_preS hW hK hE) rfl rfl hl.1 rfl (lv_room (Nat.le_of_ble_eq_true rfl)) dX6_of_89 ⟨?_, ?_⟩) hW (fun u1 H locs hp hW => ?_)
        · (try simp only [headSpec]); omega
        · (try simp only [headSpec]); omega
        obtain ⟨hd1, hex1⟩ := hp
        have hx1 : g_ex (fun _ => False) w u1 := x_15.trM hex1 (fun z hz1 hz2 => ho_12 (hz2 ▸ hz1))
        refine lv_goto (tgt := 103) hx hb dX6_of_92 (by decide) ?_
        exact vx_ret (g_qret (v := some o_12) hx hb hr (Or.inl ⟨_, rfl⟩) hlocks hW (⟨hK1, o_12, rfl, ho_12, by rw [ea1, eb1]; exact ⟨ha8, hb8, Or.inr (Or.inr (Or.inl ⟨rfl, by rw [← ea]; exact hd1⟩))⟩, hx1⟩) (by omega) (by omega) dX6_of_103)
      · refine lv_aload_n hx hb dX6_of_28 rfl (lv_at hl 0 rfl) ?_
        refine g_calli (va_runU (As := []) (rest := []) ⟨hx, hb, hml, hown, hts⟩ (mtJ10_ordinal l D w H.size (D.2 1004 3) (nI 3) (fun s hE => g_chg (by decide) s hE)) (va_cwU (owner := "java/lang/Enum") (x := ⟨"Change", "ordinal", "()I"⟩) 0 hts (lw_app (lw_in _ [674, 675, 677, 678, 50] (by decide +kernel) (by decide +kernel)) (lw_meth q679)) rfl rfl rfl rfl (by decide +kernel) ⟨Nat.le_of_ble_eq_true rfl, Nat.le_of_ble_eq_true rfl⟩) (g_preVR hW hK hE (g_chgO hE hW (by decide))) rfl rfl hl.1 rfl (lv_room (Nat.le_of_ble_eq_true rfl)) dX6_of_29 ⟨?_, ?_⟩) hW (fun r_ u_ H locs hp hW => ?_)
        · (try simp only [headSpec]); omega
        · (try simp only [headSpec]); omega
        obtain ⟨er, rfl⟩ := hp
        subst er
        refine lv_tableOut (tgt := 95) hx hb dX6_of_32 (by decide) (by decide) ?_
        have x_16 : g_ex (fun _ => False) w w := g_ex.rf
        refine g_newo (ci := 6) (C := RX10) (T := TX10) (N := 1) hx hb hts in_X10 tyX10 tyX10_ok hown q716 q717 q62 hK hW rfl [.int (0)] (by decide +kernel) ?_ ?_ dX6_of_95 (fun o_17 H hq hW => ?_)
        · show _ ≤ 2; omega
        · show _ ≤ 10; omega
        have ho_17 := hq
        obtain ⟨w_18, ew_18⟩ : ∃ z__, z__ = g_push w o_17 (.inr (6, [.int (0)])) := ⟨_, rfl⟩
        have hW := g_W.ren hW ew_18 rfl
        have h_19 : g_at w_18 o_17 (.inr (6, [.int (0)])) := by rw [ew_18]; exact g_at.push_self
        have x_20 : g_ex (fun _ => False) w w_18 := by rw [ew_18]; exact x_16.push hq
        refine lv_dup hx hb dX6_of_98 rfl ?_
        refine lv_iload_n hx hb dX6_of_99 rfl (lv_at hl 1 rfl) ?_
        refine g_callv (va_runI (As := [.int (p9)]) (rest := [.ref o_17]) ⟨hx, hb, hml, hown, hts⟩ (mtX10_init l D w_18 H.size o_17 p9 h_19) (cwI 1 hts (lw_meth q720) rfl rfl rfl (hts _ q62) (hts _ q718) (hts _ q719) rfl (by decide +kernel) ⟨Nat.le_of_ble_eq_true rfl, Nat.le_of_ble_eq_true rfl⟩) (g_preS hW hK hE) rfl rfl hl.1 rfl (lv_room (Nat.le_of_ble_eq_true rfl)) dX6_of_100 ⟨?_, ?_⟩) hW (fun u1 H locs hp hW => ?_)
        · (try simp only [headSpec]); omega
        · (try simp only [headSpec]); omega
        obtain ⟨hd1, hex1⟩ := hp
        have hx1 : g_ex (fun _ => False) w u1 := x_20.trM hex1 (fun z hz1 hz2 => ho_17 (hz2 ▸ hz1))
        exact vx_ret (g_qret (v := some o_17) hx hb hr (Or.inl ⟨_, rfl⟩) hlocks hW (⟨hK1, o_17, rfl, ho_17, by rw [ea1, eb1]; exact ⟨ha8, hb8, Or.inr (Or.inr (Or.inr ⟨rfl, by rw [← ea]; exact hd1⟩))⟩, hx1⟩) (by omega) (by omega) dX6_of_103)
    · rw [if_neg hp2]
      refine lv_if_eq (tgt := 24) hx hb dX6_of_17 (by decide) (fun _ => ?_) (fun hz => absurd rfl hz)
      refine lv_iconst (v := 0) hx hb dX6_of_24 (by decide) ?_
      refine g_xcallv (vx_runSN (As := [.int (0)]) (rest := []) ⟨hx, hb, hml, hown, hts⟩ (mtX1_requireArgument l hl9 D w H.size 0) ⟨(va_cnB 1 hts (lw_meth q575) rfl rfl rfl (nm_q673 hE) (hts _ q34) (by decide +kernel) ⟨Nat.le_of_ble_eq_true rfl, Nat.le_of_ble_eq_true rfl⟩), hts _ q574, trivial⟩ (g_preS hW hK hE) rfl rfl hl.1 rfl (lv_room (Nat.le_of_ble_eq_true rfl)) dX6_of_25 ⟨?_, ?_⟩) hW (fun E ce q9 u_ H locs hp hW hx1 hx2 hx3 => g_xout (hout _) hlocks hW (⟨hp.1, fun z => hp2 z.2, hp.2.2⟩) hx1 hx2 hx3 ?_ ?_) (fun u_ H locs hp hW => ?_)
      · (try simp only [headSpec]); omega
      · (try simp only [headSpec]); omega
      · (try simp only [headSpec]); omega
      · (try simp only [headSpec]); omega
      exact absurd rfl hp.1
  · rw [if_neg hp1]
    refine lv_if_eq (tgt := 24) hx hb dX6_of_7 (by decide) (fun _ => ?_) (fun hz => absurd rfl hz)
    refine lv_iconst (v := 0) hx hb dX6_of_24 (by decide) ?_
    refine g_xcallv (vx_runSN (As := [.int (0)]) (rest := []) ⟨hx, hb, hml, hown, hts⟩ (mtX1_requireArgument l hl9 D w H.size 0) ⟨(va_cnB 1 hts (lw_meth q575) rfl rfl rfl (nm_q673 hE) (hts _ q34) (by decide +kernel) ⟨Nat.le_of_ble_eq_true rfl, Nat.le_of_ble_eq_true rfl⟩), hts _ q574, trivial⟩ (g_preS hW hK hE) rfl rfl hl.1 rfl (lv_room (Nat.le_of_ble_eq_true rfl)) dX6_of_25 ⟨?_, ?_⟩) hW (fun E ce q9 u_ H locs hp hW hx1 hx2 hx3 => g_xout (hout _) hlocks hW (⟨hp.1, fun z => hp1 z.1, hp.2.2⟩) hx1 hx2 hx3 ?_ ?_) (fun u_ H locs hp hW => ?_)
    · (try simp only [headSpec]); omega
    · (try simp only [headSpec]); omega
    · (try simp only [headSpec]); omega
    · (try simp only [headSpec]); omega
    exact absurd rfl hp.1
