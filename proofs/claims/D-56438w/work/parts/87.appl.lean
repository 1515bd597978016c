/-! the model: applies, applied, reductionMany, reduction *
-/
set_option maxRecDepth 100000
theorem txt_len {xs : List Nat} : (txt xs).length = xs.length := List.length_map ..
theorem txt_get {xs : List Nat} {i : Nat} (h : i < xs.length) : (txt xs).getD i 0 = 48 + xs.getD i 0 := by
  unfold txt
  rw [List.getD_eq_getElem?_getD, List.getElem?_map, List.getD_eq_getElem?_getD, List.getElem?_eq_getElem h]
  rfl
theorem txt_set {xs : List Nat} {p d : Nat} : (txt xs).set p (48 + d) = txt (xs.set p d) := by unfold txt; rw [List.map_set]
theorem txt_del {xs : List Nat} {p : Nat} : (txt xs).eraseIdx p = txt (xs.eraseIdx p) := by
  unfold txt
  rw [List.eraseIdx_eq_take_drop_succ, List.eraseIdx_eq_take_drop_succ, List.map_append, List.map_take, List.map_drop]
theorem txt_ins {xs : List Nat} {p d : Nat} (h : p ≤ xs.length) : (txt xs).insertIdx p (48 + d) = txt (xs.insertIdx p d) := by
  rw [insIdx_eq (by rw [txt_len]; exact h), insIdx_eq h]
  unfold txt
  rw [List.map_append, List.map_cons, List.map_take, List.map_drop]
theorem txt_kHas {xs : List Nat} (h : sDg xs) : kHas (txt xs) 0 = true := kHas_mem.mpr (fun c hc => by
  obtain ⟨x, hx, rfl⟩ := List.mem_map.mp hc
  have := h.2 x hx
  unfold kKind
  rw [if_pos (by omega)]
  exact Nat.le_refl 0)
theorem digs_txt2 (xs : List Nat) : digs (txt xs) = xs := digs_txt xs
theorem getD8 {xs : List Nat} (h : sDg xs) (i : Nat) : xs.getD i 0 < 8 := by
  by_cases q : i < xs.length
  · exact h.2 _ (g_mem q)
  · rw [List.getD_eq_getElem?_getD, List.getElem?_eq_none (by omega)]; exact (by decide : 0 < 8)
theorem nI_n8 {a b : Nat} (ha : a < 1000) (hb : b < 1000) : nI a = nI b ↔ a = b := nI_eq (by omega) (by omega)
theorem eF0 {pl dg : Nat} {xs : List Nat} : eFits 0 pl dg xs = decide (pl < xs.length ∧ xs.getD pl 0 ≠ dg) := rfl
theorem eF1 {pl dg : Nat} {xs : List Nat} : eFits 1 pl dg xs = decide (pl ≤ xs.length ∧ xs.length < 8) := rfl
theorem eF2 {pl dg : Nat} {xs : List Nat} : eFits 2 pl dg xs = decide (pl < xs.length) := rfl
theorem eF3 {pl dg : Nat} {xs : List Nat} : eFits 3 pl dg xs = decide (pl + 1 < xs.length ∧ xs.getD pl 0 ≠ xs.getD (pl + 1) 0) := rfl
def aC (k : Nat) : Nat := if k = 3 then 8 else 4
theorem sum_take {xs : List Nat} {i : Nat} (h : i < xs.length) : (xs.take (i + 1)).sum = (xs.take i).sum + xs.getD i 0 := by
  rw [tk1 h, List.sum_append]
  simp
theorem sum_tk_le {xs : List Nat} (h : sDg xs) (i : Nat) : (xs.take i).sum ≤ 7 * xs.length := by
  have : ∀ ys : List Nat, (∀ y ∈ ys, y < 8) → ys.sum ≤ 7 * ys.length := fun ys => by
    induction ys with
    | nil => intro _; exact Nat.le_refl 0
    | cons y ys ih =>
      intro hy
      have h1 := hy y List.mem_cons_self
      have h2 := ih (fun z hz => hy z (List.mem_cons_of_mem _ hz))
      simp only [List.sum_cons, List.length_cons]
      omega
  have h1 := this (xs.take i) (fun y hy => h.2 y (List.mem_of_mem_take hy))
  rw [List.length_take] at h1
  omega
theorem repD_get {xs : List Nat} {p e : Nat} (h : e < xs.getD p 0) : (repD xs p 0)[e]? = some (xs.set p e) := by
  unfold repD
  rw [List.drop_zero, List.getElem?_map, List.getElem?_eq_getElem (by rw [List.length_range]; exact h), List.getElem_range]
  rfl
theorem repD_len {xs : List Nat} {p : Nat} : (repD xs p 0).length = xs.getD p 0 := by unfold repD; rw [List.drop_zero, List.length_map, List.length_range]
theorem delC_get {xs : List Nat} {k : Nat} (h : k < xs.length) : (delC xs 0)[k]? = some (xs.eraseIdx k) := by
  unfold delC
  rw [List.drop_zero, List.getElem?_map, List.getElem?_eq_getElem (by rw [List.length_range]; exact h), List.getElem_range]
  rfl
theorem delC_len {xs : List Nat} : (delC xs 0).length = xs.length := by unfold delC; rw [List.drop_zero, List.length_map, List.length_range]
theorem repC_len {xs : List Nat} : ∀ n i, xs.length = n + i → (repC xs i).length = (xs.drop i).sum := by
  intro n
  induction n with
  | zero => intro i h; rw [repC_end (by omega), List.drop_of_length_le (by omega)]; rfl
  | succ n ih =>
    intro i h
    have hi : i < xs.length := by omega
    rw [repC_cons hi, List.length_append, repD_len, ih (i + 1) (by omega), List.drop_eq_getElem_cons hi, List.sum_cons, List.getD_eq_getElem?_getD, List.getElem?_eq_getElem hi]
    rfl
theorem redL_len {xs : List Nat} : (redL xs).length = sMs xs := by
  unfold redL sMs
  rw [List.length_append, delC_len, repC_len xs.length 0 (by omega), List.drop_zero]
theorem redL_1 {xs : List Nat} {k : Nat} (h : k < xs.length) : (redL xs)[k]? = some (xs.eraseIdx k) := by
  unfold redL
  rw [List.getElem?_append_left (by rw [delC_len]; exact h), delC_get h]
theorem redL_2 {xs : List Nat} {k : Nat} (h : xs.length ≤ k) : (redL xs)[k]? = (repC xs 0)[k - xs.length]? := by
  unfold redL
  rw [List.getElem?_append_right (by rw [delC_len]; exact h), delC_len]
theorem repC_1 {xs : List Nat} {p e : Nat} (h : p < xs.length) (k : e < xs.getD p 0) : (repC xs p)[e]? = some (xs.set p e) := by
  rw [repC_cons h, List.getElem?_append_left (by rw [repD_len]; exact k), repD_get k]
theorem repC_2 {xs : List Nat} {p e : Nat} (h : p < xs.length) (k : ¬ e < xs.getD p 0) : (repC xs p)[e]? = (repC xs (p + 1))[e - xs.getD p 0]? := by
  rw [repC_cons h, List.getElem?_append_right (by rw [repD_len]; omega), repD_len]
set_option maxHeartbeats 4000000 in
set_option maxRecDepth 100000 in
/-- Model.applies -/
theorem mtX3_applies (l : Launch) (D : va_G) (w : g_H) (sz : Nat) (kd pl dg sp : Nat) (xs : List Nat) (hk4 : kd < 4) (hpl : pl < 8) (hdg : dg < 8) (hst : g_Str D w sp (txt xs)) (hxs : sDg xs) : Met l yX3_applies (ws_ yX3_applies cX3_applies 5 (some .boolean)) ({ frames := 5, cells := 0, slots := 0, locals := 97 }) (g_Pc D [.int (nI kd), .int (nI pl), .int (nI dg), .ref sp] w sz) (g_Qi D w sz (fun r u => r = (if eFits kd pl dg xs = true then 1 else 0) ∧ w = u)) (0) (0) (g_A w sz) := by
  refine Met.ofW (cc := cX3_applies) (maxL := 5) (ret := (some .boolean)) (by decide) rfl ?_
  intro p e s m args below meth c s₁ B hml hv
  obtain ⟨rfl, hI⟩ := hv
  have hx := B.exec
  have hb := B.bytes
  have hr := B.returns
  have hts := atoms_spec (ws := ws_ yX3_applies cX3_applies 5 (some .boolean)) B.pre
  have hts : ∀ w ∈ lw_all, w.before _ s = true := fun w h => hts w (List.mem_cons_of_mem _ h)
  have hown : s.vm.findClass RX3 = some m.cls := findClass_of_methodNamed B.named
  have hlocks := B.notSynchronized
  have hsz := hI.1
  subst hsz
  have hW := g_W.start hI
  have hK := g_K hI
  have hE := g_E hI
  have hl := lv_entry ([.int (nI kd), .int (nI pl), .int (nI dg), .ref sp]) (n := 5) (by exact Nat.le_of_ble_eq_true rfl)
  rw [lg_entry_eq]
  generalize (lg_sl ([.int (nI kd), .int (nI pl), .int (nI dg), .ref sp]) ++ List.replicate (5 - (lg_sl ([.int (nI kd), .int (nI pl), .int (nI dg), .ref sp])).length) Slot.unset).toArray = ls at hl ⊢
  have hl : lv_has ls 5 [(0, .int (nI kd)), (1, .int (nI pl)), (2, .int (nI dg)), (3, .ref sp)] := hl
  have h8 := hxs.1
  have g8 := getD8 hxs
  refine lv_iload_n hx hb dX3_applies_0 rfl (lv_at hl 1 rfl) ?_
  refine lv_aload_n hx hb dX3_applies_1 rfl (lv_at hl 3 rfl) ?_
  obtain ⟨v, hr1, hb1⟩ := hst.rd hts hK hE hW
  refine g_calli (va_runV (As := []) (rest := [.int (nI pl)]) ⟨hx, hb, hml, hown, hts⟩ (mtJ16_length l D w s.heap.size sp (txt xs) hst) (cwV 0 hts (lw_V q2004 q740 q741 q63 q742) rfl rfl rfl (by decide +kernel) ⟨Nat.le_of_ble_eq_true rfl, Nat.le_of_ble_eq_true rfl⟩) (g_preVR hW hK hE hr1.2.2.2) rfl rfl hl.1 rfl (lv_room (Nat.le_of_ble_eq_true rfl)) dX3_applies_2 ⟨Nat.le_of_ble_eq_true rfl, Nat.le_of_ble_eq_true rfl⟩) hW (fun r_ u_ H locs hp hW => ?_)
  obtain ⟨er, rfl⟩ := hp
  subst er
  refine g_topi (y := nI xs.length) (by rw [txt_len]) ?_
  refine g_icmp_ge (x := pl) (y := xs.length) (tgt := 12) hx hb (by omega) (by omega) dX3_applies_5 (by decide) (fun hc => ?_) (fun hc => ?_)
  · refine lv_iconst (v := 0) hx hb dX3_applies_12 (by decide) ?_
    refine lv_istore (lv' := [(4, .int (0)), (0, .int (nI kd)), (1, .int (nI pl)), (2, .int (nI dg)), (3, .ref sp)]) hx hb dX3_applies_13 hl (by decide) rfl (fun ls hl => ?_)
    have hkk : kd = 0 ∨ kd = 1 ∨ kd = 2 ∨ kd = 3 := by omega
    rcases hkk with rfl | rfl | rfl | rfl
    · refine lv_iload_n hx hb dX3_applies_15 rfl (lv_at hl 1 rfl) ?_
      refine va_gets hx hb ((hE.2.2.2.2.2.2.2.2.1.1 0 (by decide)).1) hW.2.2.1 hown (hts _ q2094) (fun _ h9 => h9) dX3_applies_16 ?_
      refine g_calli (va_runU (As := []) (rest := [.int (nI 0)]) ⟨hx, hb, hml, hown, hts⟩ (mtJ10_ordinal l D w H.size (D.2 1004 0) (nI 0) (fun s hE => g_chg (by decide) s hE)) (va_cwU (owner := "java/lang/Enum") (x := ⟨"Change", "ordinal", "()I"⟩) 0 hts (lw_app (lw_in _ [1996, 675, 677, 678, 50] (by decide +kernel) (by decide +kernel)) (lw_meth q679)) rfl rfl rfl rfl (by decide +kernel) ⟨Nat.le_of_ble_eq_true rfl, Nat.le_of_ble_eq_true rfl⟩) (g_preVR hW hK hE (g_chgO hE hW (by decide))) rfl rfl hl.1 rfl (lv_room (Nat.le_of_ble_eq_true rfl)) dX3_applies_19 ⟨Nat.le_of_ble_eq_true rfl, Nat.le_of_ble_eq_true rfl⟩) hW (fun r_ u_ H locs hp hW => ?_)
      obtain ⟨er, rfl⟩ := hp
      subst er
      refine lv_icmp_ne (tgt := 48) hx hb dX3_applies_22 (by decide) (fun hz => absurd rfl hz) (fun _ => ?_)
      refine lv_iload hx hb dX3_applies_25 (lv_at hl 0 rfl) ?_
      refine lv_if_eq (tgt := 46) hx hb dX3_applies_27 (by decide) (fun _ => ?_) (fun hz => absurd rfl hz)
      refine lv_iconst (v := 0) hx hb dX3_applies_46 (by decide) ?_
      exact g_zret (v := 0) hx hb hr hlocks (by rfl) hW (⟨by rw [show eFits 0 pl dg xs = false from decide_eq_false (fun z => by omega)]; rfl, rfl⟩) (by omega) (by omega) dX3_applies_47
    · refine lv_iload_n hx hb dX3_applies_15 rfl (lv_at hl 1 rfl) ?_
      refine va_gets hx hb ((hE.2.2.2.2.2.2.2.2.1.1 0 (by decide)).1) hW.2.2.1 hown (hts _ q2094) (fun _ h9 => h9) dX3_applies_16 ?_
      refine g_calli (va_runU (As := []) (rest := [.int (nI 1)]) ⟨hx, hb, hml, hown, hts⟩ (mtJ10_ordinal l D w H.size (D.2 1004 0) (nI 0) (fun s hE => g_chg (by decide) s hE)) (va_cwU (owner := "java/lang/Enum") (x := ⟨"Change", "ordinal", "()I"⟩) 0 hts (lw_app (lw_in _ [1996, 675, 677, 678, 50] (by decide +kernel) (by decide +kernel)) (lw_meth q679)) rfl rfl rfl rfl (by decide +kernel) ⟨Nat.le_of_ble_eq_true rfl, Nat.le_of_ble_eq_true rfl⟩) (g_preVR hW hK hE (g_chgO hE hW (by decide))) rfl rfl hl.1 rfl (lv_room (Nat.le_of_ble_eq_true rfl)) dX3_applies_19 ⟨Nat.le_of_ble_eq_true rfl, Nat.le_of_ble_eq_true rfl⟩) hW (fun r_ u_ H locs hp hW => ?_)
      obtain ⟨er, rfl⟩ := hp
      subst er
      refine lv_icmp_ne (tgt := 48) hx hb dX3_applies_22 (by decide) (fun _ => ?_) (fun hz => absurd (by first | exact hz | exact Classical.not_not.mp hz) (by decide))
      refine lv_iload_n hx hb dX3_applies_48 rfl (lv_at hl 1 rfl) ?_
      refine va_gets hx hb ((hE.2.2.2.2.2.2.2.2.1.1 1 (by decide)).1) hW.2.2.1 hown (hts _ q2095) (fun _ h9 => h9) dX3_applies_49 ?_
      refine g_calli (va_runU (As := []) (rest := [.int (nI 1)]) ⟨hx, hb, hml, hown, hts⟩ (mtJ10_ordinal l D w H.size (D.2 1004 1) (nI 1) (fun s hE => g_chg (by decide) s hE)) (va_cwU (owner := "java/lang/Enum") (x := ⟨"Change", "ordinal", "()I"⟩) 0 hts (lw_app (lw_in _ [1996, 675, 677, 678, 50] (by decide +kernel) (by decide +kernel)) (lw_meth q679)) rfl rfl rfl rfl (by decide +kernel) ⟨Nat.le_of_ble_eq_true rfl, Nat.le_of_ble_eq_true rfl⟩) (g_preVR hW hK hE (g_chgO hE hW (by decide))) rfl rfl hl.1 rfl (lv_room (Nat.le_of_ble_eq_true rfl)) dX3_applies_52 ⟨Nat.le_of_ble_eq_true rfl, Nat.le_of_ble_eq_true rfl⟩) hW (fun r_ u_ H locs hp hW => ?_)
      obtain ⟨er, rfl⟩ := hp
      subst er
      refine lv_icmp_ne (tgt := 81) hx hb dX3_applies_55 (by decide) (fun hz => absurd rfl hz) (fun _ => ?_)
      refine lv_iload_n hx hb dX3_applies_58 rfl (lv_at hl 2 rfl) ?_
      refine lv_aload_n hx hb dX3_applies_59 rfl (lv_at hl 4 rfl) ?_
      obtain ⟨v, hr1, hb1⟩ := hst.rd hts hK hE hW
      refine g_calli (va_runV (As := []) (rest := [.int (nI pl)]) ⟨hx, hb, hml, hown, hts⟩ (mtJ16_length l D w H.size sp (txt xs) hst) (cwV 0 hts (lw_V q2004 q740 q741 q63 q742) rfl rfl rfl (by decide +kernel) ⟨Nat.le_of_ble_eq_true rfl, Nat.le_of_ble_eq_true rfl⟩) (g_preVR hW hK hE hr1.2.2.2) rfl rfl hl.1 rfl (lv_room (Nat.le_of_ble_eq_true rfl)) dX3_applies_60 ⟨Nat.le_of_ble_eq_true rfl, Nat.le_of_ble_eq_true rfl⟩) hW (fun r_ u_ H locs hp hW => ?_)
      obtain ⟨er, rfl⟩ := hp
      subst er
      refine g_topi (y := nI xs.length) (by rw [txt_len]) ?_
      refine lv_icmp_gt (tgt := 79) hx hb dX3_applies_63 (by decide) (fun hd => ?_) (fun hd => ?_)
      · have hd9 := (nI_ltI (by omega) (by omega)).mp hd
        refine lv_iconst (v := 0) hx hb dX3_applies_79 (by decide) ?_
        exact g_zret (v := 0) hx hb hr hlocks (by rfl) hW (⟨by rw [show eFits 1 pl dg xs = false from decide_eq_false (fun z => by omega)]; rfl, rfl⟩) (by omega) (by omega) dX3_applies_80
      · have hd9 : pl ≤ xs.length := Nat.le_of_not_lt (fun z => hd ((nI_ltI (by omega) (by omega)).mpr z))
        refine lv_aload_n hx hb dX3_applies_66 rfl (lv_at hl 4 rfl) ?_
        obtain ⟨v, hr1, hb1⟩ := hst.rd hts hK hE hW
        refine g_calli (va_runV (As := []) (rest := []) ⟨hx, hb, hml, hown, hts⟩ (mtJ16_length l D w H.size sp (txt xs) hst) (cwV 0 hts (lw_V q2004 q740 q741 q63 q742) rfl rfl rfl (by decide +kernel) ⟨Nat.le_of_ble_eq_true rfl, Nat.le_of_ble_eq_true rfl⟩) (g_preVR hW hK hE hr1.2.2.2) rfl rfl hl.1 rfl (lv_room (Nat.le_of_ble_eq_true rfl)) dX3_applies_67 ⟨Nat.le_of_ble_eq_true rfl, Nat.le_of_ble_eq_true rfl⟩) hW (fun r_ u_ H locs hp hW => ?_)
        obtain ⟨er, rfl⟩ := hp
        subst er
        refine g_topi (y := nI xs.length) (by rw [txt_len]) ?_
        refine lv_bipush (v := 8) hx hb dX3_applies_70 (by decide) ?_
        refine g_icmp_ge (x := xs.length) (y := 8) (tgt := 79) hx hb (by omega) (by omega) dX3_applies_72 (by decide) (fun he => ?_) (fun he => ?_)
        · refine lv_iconst (v := 0) hx hb dX3_applies_79 (by decide) ?_
          exact g_zret (v := 0) hx hb hr hlocks (by rfl) hW (⟨by rw [show eFits 1 pl dg xs = false from decide_eq_false (fun z => by omega)]; rfl, rfl⟩) (by omega) (by omega) dX3_applies_80
        · refine lv_iconst (v := 1) hx hb dX3_applies_75 (by decide) ?_
          refine lv_goto (tgt := 80) hx hb dX3_applies_76 (by decide) ?_
          exact g_zret (v := 1) hx hb hr hlocks (by rfl) hW (⟨by rw [show eFits 1 pl dg xs = true from decide_eq_true ⟨hd9, he⟩]; rfl, rfl⟩) (by omega) (by omega) dX3_applies_80
    · refine lv_iload_n hx hb dX3_applies_15 rfl (lv_at hl 1 rfl) ?_
      refine va_gets hx hb ((hE.2.2.2.2.2.2.2.2.1.1 0 (by decide)).1) hW.2.2.1 hown (hts _ q2094) (fun _ h9 => h9) dX3_applies_16 ?_
      refine g_calli (va_runU (As := []) (rest := [.int (nI 2)]) ⟨hx, hb, hml, hown, hts⟩ (mtJ10_ordinal l D w H.size (D.2 1004 0) (nI 0) (fun s hE => g_chg (by decide) s hE)) (va_cwU (owner := "java/lang/Enum") (x := ⟨"Change", "ordinal", "()I"⟩) 0 hts (lw_app (lw_in _ [1996, 675, 677, 678, 50] (by decide +kernel) (by decide +kernel)) (lw_meth q679)) rfl rfl rfl rfl (by decide +kernel) ⟨Nat.le_of_ble_eq_true rfl, Nat.le_of_ble_eq_true rfl⟩) (g_preVR hW hK hE (g_chgO hE hW (by decide))) rfl rfl hl.1 rfl (lv_room (Nat.le_of_ble_eq_true rfl)) dX3_applies_19 ⟨Nat.le_of_ble_eq_true rfl, Nat.le_of_ble_eq_true rfl⟩) hW (fun r_ u_ H locs hp hW => ?_)
      obtain ⟨er, rfl⟩ := hp
      subst er
      refine lv_icmp_ne (tgt := 48) hx hb dX3_applies_22 (by decide) (fun _ => ?_) (fun hz => absurd (by first | exact hz | exact Classical.not_not.mp hz) (by decide))
      refine lv_iload_n hx hb dX3_applies_48 rfl (lv_at hl 1 rfl) ?_
      refine va_gets hx hb ((hE.2.2.2.2.2.2.2.2.1.1 1 (by decide)).1) hW.2.2.1 hown (hts _ q2095) (fun _ h9 => h9) dX3_applies_49 ?_
      refine g_calli (va_runU (As := []) (rest := [.int (nI 2)]) ⟨hx, hb, hml, hown, hts⟩ (mtJ10_ordinal l D w H.size (D.2 1004 1) (nI 1) (fun s hE => g_chg (by decide) s hE)) (va_cwU (owner := "java/lang/Enum") (x := ⟨"Change", "ordinal", "()I"⟩) 0 hts (lw_app (lw_in _ [1996, 675, 677, 678, 50] (by decide +kernel) (by decide +kernel)) (lw_meth q679)) rfl rfl rfl rfl (by decide +kernel) ⟨Nat.le_of_ble_eq_true rfl, Nat.le_of_ble_eq_true rfl⟩) (g_preVR hW hK hE (g_chgO hE hW (by decide))) rfl rfl hl.1 rfl (lv_room (Nat.le_of_ble_eq_true rfl)) dX3_applies_52 ⟨Nat.le_of_ble_eq_true rfl, Nat.le_of_ble_eq_true rfl⟩) hW (fun r_ u_ H locs hp hW => ?_)
      obtain ⟨er, rfl⟩ := hp
      subst er
      refine lv_icmp_ne (tgt := 81) hx hb dX3_applies_55 (by decide) (fun _ => ?_) (fun hz => absurd (by first | exact hz | exact Classical.not_not.mp hz) (by decide))
      refine lv_iload_n hx hb dX3_applies_81 rfl (lv_at hl 1 rfl) ?_
      refine va_gets hx hb ((hE.2.2.2.2.2.2.2.2.1.1 2 (by decide)).1) hW.2.2.1 hown (hts _ q2096) (fun _ h9 => h9) dX3_applies_82 ?_
      refine g_calli (va_runU (As := []) (rest := [.int (nI 2)]) ⟨hx, hb, hml, hown, hts⟩ (mtJ10_ordinal l D w H.size (D.2 1004 2) (nI 2) (fun s hE => g_chg (by decide) s hE)) (va_cwU (owner := "java/lang/Enum") (x := ⟨"Change", "ordinal", "()I"⟩) 0 hts (lw_app (lw_in _ [1996, 675, 677, 678, 50] (by decide +kernel) (by decide +kernel)) (lw_meth q679)) rfl rfl rfl rfl (by decide +kernel) ⟨Nat.le_of_ble_eq_true rfl, Nat.le_of_ble_eq_true rfl⟩) (g_preVR hW hK hE (g_chgO hE hW (by decide))) rfl rfl hl.1 rfl (lv_room (Nat.le_of_ble_eq_true rfl)) dX3_applies_85 ⟨Nat.le_of_ble_eq_true rfl, Nat.le_of_ble_eq_true rfl⟩) hW (fun r_ u_ H locs hp hW => ?_)
      obtain ⟨er, rfl⟩ := hp
      subst er
      refine lv_icmp_ne (tgt := 94) hx hb dX3_applies_88 (by decide) (fun hz => absurd rfl hz) (fun _ => ?_)
      refine lv_iload hx hb dX3_applies_91 (lv_at hl 0 rfl) ?_
      exact g_zret (v := 0) hx hb hr hlocks (by rfl) hW (⟨by rw [show eFits 2 pl dg xs = false from decide_eq_false (fun z => by omega)]; rfl, rfl⟩) (by omega) (by omega) dX3_applies_93
    · refine lv_iload_n hx hb dX3_applies_15 rfl (lv_at hl 1 rfl) ?_
      refine va_gets hx hb ((hE.2.2.2.2.2.2.2.2.1.1 0 (by decide)).1) hW.2.2.1 hown (hts _ q2094) (fun _ h9 => h9) dX3_applies_16 ?_
      refine g_calli (va_runU (As := []) (rest := [.int (nI 3)]) ⟨hx, hb, hml, hown, hts⟩ (mtJ10_ordinal l D w H.size (D.2 1004 0) (nI 0) (fun s hE => g_chg (by decide) s hE)) (va_cwU (owner := "java/lang/Enum") (x := ⟨"Change", "ordinal", "()I"⟩) 0 hts (lw_app (lw_in _ [1996, 675, 677, 678, 50] (by decide +kernel) (by decide +kernel)) (lw_meth q679)) rfl rfl rfl rfl (by decide +kernel) ⟨Nat.le_of_ble_eq_true rfl, Nat.le_of_ble_eq_true rfl⟩) (g_preVR hW hK hE (g_chgO hE hW (by decide))) rfl rfl hl.1 rfl (lv_room (Nat.le_of_ble_eq_true rfl)) dX3_applies_19 ⟨Nat.le_of_ble_eq_true rfl, Nat.le_of_ble_eq_true rfl⟩) hW (fun r_ u_ H locs hp hW => ?_)
      obtain ⟨er, rfl⟩ := hp
      subst er
      refine lv_icmp_ne (tgt := 48) hx hb dX3_applies_22 (by decide) (fun _ => ?_) (fun hz => absurd (by first | exact hz | exact Classical.not_not.mp hz) (by decide))
      refine lv_iload_n hx hb dX3_applies_48 rfl (lv_at hl 1 rfl) ?_
      refine va_gets hx hb ((hE.2.2.2.2.2.2.2.2.1.1 1 (by decide)).1) hW.2.2.1 hown (hts _ q2095) (fun _ h9 => h9) dX3_applies_49 ?_
      refine g_calli (va_runU (As := []) (rest := [.int (nI 3)]) ⟨hx, hb, hml, hown, hts⟩ (mtJ10_ordinal l D w H.size (D.2 1004 1) (nI 1) (fun s hE => g_chg (by decide) s hE)) (va_cwU (owner := "java/lang/Enum") (x := ⟨"Change", "ordinal", "()I"⟩) 0 hts (lw_app (lw_in _ [1996, 675, 677, 678, 50] (by decide +kernel) (by decide +kernel)) (lw_meth q679)) rfl rfl rfl rfl (by decide +kernel) ⟨Nat.le_of_ble_eq_true rfl, Nat.le_of_ble_eq_true rfl⟩) (g_preVR hW hK hE (g_chgO hE hW (by decide))) rfl rfl hl.1 rfl (lv_room (Nat.le_of_ble_eq_true rfl)) dX3_applies_52 ⟨Nat.le_of_ble_eq_true rfl, Nat.le_of_ble_eq_true rfl⟩) hW (fun r_ u_ H locs hp hW => ?_)
      obtain ⟨er, rfl⟩ := hp
      subst er
      refine lv_icmp_ne (tgt := 81) hx hb dX3_applies_55 (by decide) (fun _ => ?_) (fun hz => absurd (by first | exact hz | exact Classical.not_not.mp hz) (by decide))
      refine lv_iload_n hx hb dX3_applies_81 rfl (lv_at hl 1 rfl) ?_
      refine va_gets hx hb ((hE.2.2.2.2.2.2.2.2.1.1 2 (by decide)).1) hW.2.2.1 hown (hts _ q2096) (fun _ h9 => h9) dX3_applies_82 ?_
      refine g_calli (va_runU (As := []) (rest := [.int (nI 3)]) ⟨hx, hb, hml, hown, hts⟩ (mtJ10_ordinal l D w H.size (D.2 1004 2) (nI 2) (fun s hE => g_chg (by decide) s hE)) (va_cwU (owner := "java/lang/Enum") (x := ⟨"Change", "ordinal", "()I"⟩) 0 hts (lw_app (lw_in _ [1996, 675, 677, 678, 50] (by decide +kernel) (by decide +kernel)) (lw_meth q679)) rfl rfl rfl rfl (by decide +kernel) ⟨Nat.le_of_ble_eq_true rfl, Nat.le_of_ble_eq_true rfl⟩) (g_preVR hW hK hE (g_chgO hE hW (by decide))) rfl rfl hl.1 rfl (lv_room (Nat.le_of_ble_eq_true rfl)) dX3_applies_85 ⟨Nat.le_of_ble_eq_true rfl, Nat.le_of_ble_eq_true rfl⟩) hW (fun r_ u_ H locs hp hW => ?_)
      obtain ⟨er, rfl⟩ := hp
      subst er
      refine lv_icmp_ne (tgt := 94) hx hb dX3_applies_88 (by decide) (fun _ => ?_) (fun hz => absurd (by first | exact hz | exact Classical.not_not.mp hz) (by decide))
      refine lv_iload_n hx hb dX3_applies_94 rfl (lv_at hl 2 rfl) ?_
      refine lv_iconst (v := 1) hx hb dX3_applies_95 (by decide) ?_
      refine lv_iadd hx hb dX3_applies_96 ?_
      refine g_topi (y := nI (pl + 1)) (nI_1 pl) ?_
      refine lv_aload_n hx hb dX3_applies_97 rfl (lv_at hl 4 rfl) ?_
      obtain ⟨v, hr1, hb1⟩ := hst.rd hts hK hE hW
      refine g_calli (va_runV (As := []) (rest := [.int (nI (pl + 1))]) ⟨hx, hb, hml, hown, hts⟩ (mtJ16_length l D w H.size sp (txt xs) hst) (cwV 0 hts (lw_V q2004 q740 q741 q63 q742) rfl rfl rfl (by decide +kernel) ⟨Nat.le_of_ble_eq_true rfl, Nat.le_of_ble_eq_true rfl⟩) (g_preVR hW hK hE hr1.2.2.2) rfl rfl hl.1 rfl (lv_room (Nat.le_of_ble_eq_true rfl)) dX3_applies_98 ⟨Nat.le_of_ble_eq_true rfl, Nat.le_of_ble_eq_true rfl⟩) hW (fun r_ u_ H locs hp hW => ?_)
      obtain ⟨er, rfl⟩ := hp
      subst er
      refine g_topi (y := nI xs.length) (by rw [txt_len]) ?_
      refine g_icmp_ge (x := pl + 1) (y := xs.length) (tgt := 123) hx hb (by omega) (by omega) dX3_applies_101 (by decide) (fun hd => ?_) (fun hd => ?_)
      · refine lv_iconst (v := 0) hx hb dX3_applies_123 (by decide) ?_
        exact g_zret (v := 0) hx hb hr hlocks (by rfl) hW (⟨by rw [show eFits 3 pl dg xs = false from decide_eq_false (fun z => by omega)]; rfl, rfl⟩) (by omega) (by omega) dX3_applies_124
      · have hp0 : pl < xs.length := by omega
        refine lv_aload_n hx hb dX3_applies_104 rfl (lv_at hl 4 rfl) ?_
        refine lv_iload_n hx hb dX3_applies_105 rfl (lv_at hl 2 rfl) ?_
        obtain ⟨v, hr1, hb1⟩ := hst.rd hts hK hE hW
        refine g_calli (va_runV (As := [.int (nI pl)]) (rest := []) ⟨hx, hb, hml, hown, hts⟩ (mtJ16_charAt l D w H.size sp pl (txt xs) hst (by rw [txt_len]; exact hp0)) (cwV 1 hts (lw_V q2005 q750 q751 q63 q752) rfl rfl rfl (by decide +kernel) ⟨Nat.le_of_ble_eq_true rfl, Nat.le_of_ble_eq_true rfl⟩) (g_preVR hW hK hE hr1.2.2.2) rfl rfl hl.1 rfl (lv_room (Nat.le_of_ble_eq_true rfl)) dX3_applies_106 ⟨Nat.le_of_ble_eq_true rfl, Nat.le_of_ble_eq_true rfl⟩) hW (fun r_ u_ H locs hp hW => ?_)
        obtain ⟨er, rfl⟩ := hp
        subst er
        refine g_topi (y := nI (48 + xs.getD pl 0)) (by rw [txt_get hp0]) ?_
        refine lv_aload_n hx hb dX3_applies_109 rfl (lv_at hl 4 rfl) ?_
        refine lv_iload_n hx hb dX3_applies_110 rfl (lv_at hl 2 rfl) ?_
        refine lv_iconst (v := 1) hx hb dX3_applies_111 (by decide) ?_
        refine lv_iadd hx hb dX3_applies_112 ?_
        refine g_topi (y := nI (pl + 1)) (nI_1 pl) ?_
        obtain ⟨v, hr1, hb1⟩ := hst.rd hts hK hE hW
        refine g_calli (va_runV (As := [.int (nI (pl + 1))]) (rest := [.int (nI (48 + xs.getD pl 0))]) ⟨hx, hb, hml, hown, hts⟩ (mtJ16_charAt l D w H.size sp (pl + 1) (txt xs) hst (by rw [txt_len]; exact hd)) (cwV 1 hts (lw_V q2005 q750 q751 q63 q752) rfl rfl rfl (by decide +kernel) ⟨Nat.le_of_ble_eq_true rfl, Nat.le_of_ble_eq_true rfl⟩) (g_preVR hW hK hE hr1.2.2.2) rfl rfl hl.1 rfl (lv_room (Nat.le_of_ble_eq_true rfl)) dX3_applies_113 ⟨Nat.le_of_ble_eq_true rfl, Nat.le_of_ble_eq_true rfl⟩) hW (fun r_ u_ H locs hp hW => ?_)
        obtain ⟨er, rfl⟩ := hp
        subst er
        refine g_topi (y := nI (48 + xs.getD (pl + 1) 0)) (by rw [txt_get hd]) ?_
        refine lv_icmp_eq (tgt := 123) hx hb dX3_applies_116 (by decide) (fun he => ?_) (fun he => ?_)
        all_goals have g9 := g8 pl
        all_goals have g7 := g8 (pl + 1)
        · have e9 : 48 + xs.getD pl 0 = 48 + xs.getD (pl + 1) 0 := (nI_n8 (by omega) (by omega)).mp he
          refine lv_iconst (v := 0) hx hb dX3_applies_123 (by decide) ?_
          exact g_zret (v := 0) hx hb hr hlocks (by rfl) hW (⟨by rw [show eFits 3 pl dg xs = false from decide_eq_false (fun z => z.2 (by omega))]; rfl, rfl⟩) (by omega) (by omega) dX3_applies_124
        · refine lv_iconst (v := 1) hx hb dX3_applies_119 (by decide) ?_
          refine lv_goto (tgt := 124) hx hb dX3_applies_120 (by decide) ?_
          exact g_zret (v := 1) hx hb hr hlocks (by rfl) hW (⟨by rw [show eFits 3 pl dg xs = true from decide_eq_true ⟨hd, fun z => he (by rw [z])⟩]; rfl, rfl⟩) (by omega) (by omega) dX3_applies_124
  · refine lv_iconst (v := 1) hx hb dX3_applies_8 (by decide) ?_
    refine lv_goto (tgt := 13) hx hb dX3_applies_9 (by decide) ?_
    refine lv_istore (lv' := [(4, .int (1)), (0, .int (nI kd)), (1, .int (nI pl)), (2, .int (nI dg)), (3, .ref sp)]) hx hb dX3_applies_13 hl (by decide) rfl (fun ls hl => ?_)
    have hkk : kd = 0 ∨ kd = 1 ∨ kd = 2 ∨ kd = 3 := by omega
    rcases hkk with rfl | rfl | rfl | rfl
    · refine lv_iload_n hx hb dX3_applies_15 rfl (lv_at hl 1 rfl) ?_
      refine va_gets hx hb ((hE.2.2.2.2.2.2.2.2.1.1 0 (by decide)).1) hW.2.2.1 hown (hts _ q2094) (fun _ h9 => h9) dX3_applies_16 ?_
      refine g_calli (va_runU (As := []) (rest := [.int (nI 0)]) ⟨hx, hb, hml, hown, hts⟩ (mtJ10_ordinal l D w H.size (D.2 1004 0) (nI 0) (fun s hE => g_chg (by decide) s hE)) (va_cwU (owner := "java/lang/Enum") (x := ⟨"Change", "ordinal", "()I"⟩) 0 hts (lw_app (lw_in _ [1996, 675, 677, 678, 50] (by decide +kernel) (by decide +kernel)) (lw_meth q679)) rfl rfl rfl rfl (by decide +kernel) ⟨Nat.le_of_ble_eq_true rfl, Nat.le_of_ble_eq_true rfl⟩) (g_preVR hW hK hE (g_chgO hE hW (by decide))) rfl rfl hl.1 rfl (lv_room (Nat.le_of_ble_eq_true rfl)) dX3_applies_19 ⟨Nat.le_of_ble_eq_true rfl, Nat.le_of_ble_eq_true rfl⟩) hW (fun r_ u_ H locs hp hW => ?_)
      obtain ⟨er, rfl⟩ := hp
      subst er
      refine lv_icmp_ne (tgt := 48) hx hb dX3_applies_22 (by decide) (fun hz => absurd rfl hz) (fun _ => ?_)
      refine lv_iload hx hb dX3_applies_25 (lv_at hl 0 rfl) ?_
      refine lv_if_eq (tgt := 46) hx hb dX3_applies_27 (by decide) (fun hz => absurd hz (by decide)) (fun _ => ?_)
      refine lv_aload_n hx hb dX3_applies_30 rfl (lv_at hl 4 rfl) ?_
      refine lv_iload_n hx hb dX3_applies_31 rfl (lv_at hl 2 rfl) ?_
      obtain ⟨v, hr1, hb1⟩ := hst.rd hts hK hE hW
      refine g_calli (va_runV (As := [.int (nI pl)]) (rest := []) ⟨hx, hb, hml, hown, hts⟩ (mtJ16_charAt l D w H.size sp pl (txt xs) hst (by rw [txt_len]; exact hc)) (cwV 1 hts (lw_V q2005 q750 q751 q63 q752) rfl rfl rfl (by decide +kernel) ⟨Nat.le_of_ble_eq_true rfl, Nat.le_of_ble_eq_true rfl⟩) (g_preVR hW hK hE hr1.2.2.2) rfl rfl hl.1 rfl (lv_room (Nat.le_of_ble_eq_true rfl)) dX3_applies_32 ⟨Nat.le_of_ble_eq_true rfl, Nat.le_of_ble_eq_true rfl⟩) hW (fun r_ u_ H locs hp hW => ?_)
      obtain ⟨er, rfl⟩ := hp
      subst er
      refine g_topi (y := nI (48 + xs.getD pl 0)) (by rw [txt_get hc]) ?_
      refine lv_bipush (v := 48) hx hb dX3_applies_35 (by decide) ?_
      refine lv_iload_n hx hb dX3_applies_37 rfl (lv_at hl 3 rfl) ?_
      refine lv_iadd hx hb dX3_applies_38 ?_
      refine g_topi (y := nI (48 + dg)) (nI_add 48 dg) ?_
      refine lv_icmp_eq (tgt := 46) hx hb dX3_applies_39 (by decide) (fun hd => ?_) (fun hd => ?_)
      all_goals have g9 := g8 pl
      · have e9 : 48 + xs.getD pl 0 = 48 + dg := (nI_n8 (by omega) (by omega)).mp hd
        refine lv_iconst (v := 0) hx hb dX3_applies_46 (by decide) ?_
        exact g_zret (v := 0) hx hb hr hlocks (by rfl) hW (⟨by rw [show eFits 0 pl dg xs = false from decide_eq_false (fun z => z.2 (by omega))]; rfl, rfl⟩) (by omega) (by omega) dX3_applies_47
      · refine lv_iconst (v := 1) hx hb dX3_applies_42 (by decide) ?_
        refine lv_goto (tgt := 47) hx hb dX3_applies_43 (by decide) ?_
        exact g_zret (v := 1) hx hb hr hlocks (by rfl) hW (⟨by rw [show eFits 0 pl dg xs = true from decide_eq_true ⟨hc, fun z => hd (by rw [z])⟩]; rfl, rfl⟩) (by omega) (by omega) dX3_applies_47
    · refine lv_iload_n hx hb dX3_applies_15 rfl (lv_at hl 1 rfl) ?_
      refine va_gets hx hb ((hE.2.2.2.2.2.2.2.2.1.1 0 (by decide)).1) hW.2.2.1 hown (hts _ q2094) (fun _ h9 => h9) dX3_applies_16 ?_
      refine g_calli (va_runU (As := []) (rest := [.int (nI 1)]) ⟨hx, hb, hml, hown, hts⟩ (mtJ10_ordinal l D w H.size (D.2 1004 0) (nI 0) (fun s hE => g_chg (by decide) s hE)) (va_cwU (owner := "java/lang/Enum") (x := ⟨"Change", "ordinal", "()I"⟩) 0 hts (lw_app (lw_in _ [1996, 675, 677, 678, 50] (by decide +kernel) (by decide +kernel)) (lw_meth q679)) rfl rfl rfl rfl (by decide +kernel) ⟨Nat.le_of_ble_eq_true rfl, Nat.le_of_ble_eq_true rfl⟩) (g_preVR hW hK hE (g_chgO hE hW (by decide))) rfl rfl hl.1 rfl (lv_room (Nat.le_of_ble_eq_true rfl)) dX3_applies_19 ⟨Nat.le_of_ble_eq_true rfl, Nat.le_of_ble_eq_true rfl⟩) hW (fun r_ u_ H locs hp hW => ?_)
      obtain ⟨er, rfl⟩ := hp
      subst er
      refine lv_icmp_ne (tgt := 48) hx hb dX3_applies_22 (by decide) (fun _ => ?_) (fun hz => absurd (by first | exact hz | exact Classical.not_not.mp hz) (by decide))
      refine lv_iload_n hx hb dX3_applies_48 rfl (lv_at hl 1 rfl) ?_
      refine va_gets hx hb ((hE.2.2.2.2.2.2.2.2.1.1 1 (by decide)).1) hW.2.2.1 hown (hts _ q2095) (fun _ h9 => h9) dX3_applies_49 ?_
      refine g_calli (va_runU (As := []) (rest := [.int (nI 1)]) ⟨hx, hb, hml, hown, hts⟩ (mtJ10_ordinal l D w H.size (D.2 1004 1) (nI 1) (fun s hE => g_chg (by decide) s hE)) (va_cwU (owner := "java/lang/Enum") (x := ⟨"Change", "ordinal", "()I"⟩) 0 hts (lw_app (lw_in _ [1996, 675, 677, 678, 50] (by decide +kernel) (by decide +kernel)) (lw_meth q679)) rfl rfl rfl rfl (by decide +kernel) ⟨Nat.le_of_ble_eq_true rfl, Nat.le_of_ble_eq_true rfl⟩) (g_preVR hW hK hE (g_chgO hE hW (by decide))) rfl rfl hl.1 rfl (lv_room (Nat.le_of_ble_eq_true rfl)) dX3_applies_52 ⟨Nat.le_of_ble_eq_true rfl, Nat.le_of_ble_eq_true rfl⟩) hW (fun r_ u_ H locs hp hW => ?_)
      obtain ⟨er, rfl⟩ := hp
      subst er
      refine lv_icmp_ne (tgt := 81) hx hb dX3_applies_55 (by decide) (fun hz => absurd rfl hz) (fun _ => ?_)
      refine lv_iload_n hx hb dX3_applies_58 rfl (lv_at hl 2 rfl) ?_
      refine lv_aload_n hx hb dX3_applies_59 rfl (lv_at hl 4 rfl) ?_
      obtain ⟨v, hr1, hb1⟩ := hst.rd hts hK hE hW
      refine g_calli (va_runV (As := []) (rest := [.int (nI pl)]) ⟨hx, hb, hml, hown, hts⟩ (mtJ16_length l D w H.size sp (txt xs) hst) (cwV 0 hts (lw_V q2004 q740 q741 q63 q742) rfl rfl rfl (by decide +kernel) ⟨Nat.le_of_ble_eq_true rfl, Nat.le_of_ble_eq_true rfl⟩) (g_preVR hW hK hE hr1.2.2.2) rfl rfl hl.1 rfl (lv_room (Nat.le_of_ble_eq_true rfl)) dX3_applies_60 ⟨Nat.le_of_ble_eq_true rfl, Nat.le_of_ble_eq_true rfl⟩) hW (fun r_ u_ H locs hp hW => ?_)
      obtain ⟨er, rfl⟩ := hp
      subst er
      refine g_topi (y := nI xs.length) (by rw [txt_len]) ?_
      refine lv_icmp_gt (tgt := 79) hx hb dX3_applies_63 (by decide) (fun hd => ?_) (fun hd => ?_)
      · have hd9 := (nI_ltI (by omega) (by omega)).mp hd
        refine lv_iconst (v := 0) hx hb dX3_applies_79 (by decide) ?_
        exact g_zret (v := 0) hx hb hr hlocks (by rfl) hW (⟨by rw [show eFits 1 pl dg xs = false from decide_eq_false (fun z => by omega)]; rfl, rfl⟩) (by omega) (by omega) dX3_applies_80
      · have hd9 : pl ≤ xs.length := Nat.le_of_not_lt (fun z => hd ((nI_ltI (by omega) (by omega)).mpr z))
        refine lv_aload_n hx hb dX3_applies_66 rfl (lv_at hl 4 rfl) ?_
        obtain ⟨v, hr1, hb1⟩ := hst.rd hts hK hE hW
        refine g_calli (va_runV (As := []) (rest := []) ⟨hx, hb, hml, hown, hts⟩ (mtJ16_length l D w H.size sp (txt xs) hst) (cwV 0 hts (lw_V q2004 q740 q741 q63 q742) rfl rfl rfl (by decide +kernel) ⟨Nat.le_of_ble_eq_true rfl, Nat.le_of_ble_eq_true rfl⟩) (g_preVR hW hK hE hr1.2.2.2) rfl rfl hl.1 rfl (lv_room (Nat.le_of_ble_eq_true rfl)) dX3_applies_67 ⟨Nat.le_of_ble_eq_true rfl, Nat.le_of_ble_eq_true rfl⟩) hW (fun r_ u_ H locs hp hW => ?_)
        obtain ⟨er, rfl⟩ := hp
        subst er
        refine g_topi (y := nI xs.length) (by rw [txt_len]) ?_
        refine lv_bipush (v := 8) hx hb dX3_applies_70 (by decide) ?_
        refine g_icmp_ge (x := xs.length) (y := 8) (tgt := 79) hx hb (by omega) (by omega) dX3_applies_72 (by decide) (fun he => ?_) (fun he => ?_)
        · refine lv_iconst (v := 0) hx hb dX3_applies_79 (by decide) ?_
          exact g_zret (v := 0) hx hb hr hlocks (by rfl) hW (⟨by rw [show eFits 1 pl dg xs = false from decide_eq_false (fun z => by omega)]; rfl, rfl⟩) (by omega) (by omega) dX3_applies_80
        · refine lv_iconst (v := 1) hx hb dX3_applies_75 (by decide) ?_
          refine lv_goto (tgt := 80) hx hb dX3_applies_76 (by decide) ?_
          exact g_zret (v := 1) hx hb hr hlocks (by rfl) hW (⟨by rw [show eFits 1 pl dg xs = true from decide_eq_true ⟨hd9, he⟩]; rfl, rfl⟩) (by omega) (by omega) dX3_applies_80
    · refine lv_iload_n hx hb dX3_applies_15 rfl (lv_at hl 1 rfl) ?_
      refine va_gets hx hb ((hE.2.2.2.2.2.2.2.2.1.1 0 (by decide)).1) hW.2.2.1 hown (hts _ q2094) (fun _ h9 => h9) dX3_applies_16 ?_
      refine g_calli (va_runU (As := []) (rest := [.int (nI 2)]) ⟨hx, hb, hml, hown, hts⟩ (mtJ10_ordinal l D w H.size (D.2 1004 0) (nI 0) (fun s hE => g_chg (by decide) s hE)) (va_cwU (owner := "java/lang/Enum") (x := ⟨"Change", "ordinal", "()I"⟩) 0 hts (lw_app (lw_in _ [1996, 675, 677, 678, 50] (by decide +kernel) (by decide +kernel)) (lw_meth q679)) rfl rfl rfl rfl (by decide +kernel) ⟨Nat.le_of_ble_eq_true rfl, Nat.le_of_ble_eq_true rfl⟩) (g_preVR hW hK hE (g_chgO hE hW (by decide))) rfl rfl hl.1 rfl (lv_room (Nat.le_of_ble_eq_true rfl)) dX3_applies_19 ⟨Nat.le_of_ble_eq_true rfl, Nat.le_of_ble_eq_true rfl⟩) hW (fun r_ u_ H locs hp hW => ?_)
      obtain ⟨er, rfl⟩ := hp
      subst er
      refine lv_icmp_ne (tgt := 48) hx hb dX3_applies_22 (by decide) (fun _ => ?_) (fun hz => absurd (by first | exact hz | exact Classical.not_not.mp hz) (by decide))
      refine lv_iload_n hx hb dX3_applies_48 rfl (lv_at hl 1 rfl) ?_
      refine va_gets hx hb ((hE.2.2.2.2.2.2.2.2.1.1 1 (by decide)).1) hW.2.2.1 hown (hts _ q2095) (fun _ h9 => h9) dX3_applies_49 ?_
      refine g_calli (va_runU (As := []) (rest := [.int (nI 2)]) ⟨hx, hb, hml, hown, hts⟩ (mtJ10_ordinal l D w H.size (D.2 1004 1) (nI 1) (fun s hE => g_chg (by decide) s hE)) (va_cwU (owner := "java/lang/Enum") (x := ⟨"Change", "ordinal", "()I"⟩) 0 hts (lw_app (lw_in _ [1996, 675, 677, 678, 50] (by decide +kernel) (by decide +kernel)) (lw_meth q679)) rfl rfl rfl rfl (by decide +kernel) ⟨Nat.le_of_ble_eq_true rfl, Nat.le_of_ble_eq_true rfl⟩) (g_preVR hW hK hE (g_chgO hE hW (by decide))) rfl rfl hl.1 rfl (lv_room (Nat.le_of_ble_eq_true rfl)) dX3_applies_52 ⟨Nat.le_of_ble_eq_true rfl, Nat.le_of_ble_eq_true rfl⟩) hW (fun r_ u_ H locs hp hW => ?_)
      obtain ⟨er, rfl⟩ := hp
      subst er
      refine lv_icmp_ne (tgt := 81) hx hb dX3_applies_55 (by decide) (fun _ => ?_) (fun hz => absurd (by first | exact hz | exact Classical.not_not.mp hz) (by decide))
      refine lv_iload_n hx hb dX3_applies_81 rfl (lv_at hl 1 rfl) ?_
      refine va_gets hx hb ((hE.2.2.2.2.2.2.2.2.1.1 2 (by decide)).1) hW.2.2.1 hown (hts _ q2096) (fun _ h9 => h9) dX3_applies_82 ?_
      refine g_calli (va_runU (As := []) (rest := [.int (nI 2)]) ⟨hx, hb, hml, hown, hts⟩ (mtJ10_ordinal l D w H.size (D.2 1004 2) (nI 2) (fun s hE => g_chg (by decide) s hE)) (va_cwU (owner := "java/lang/Enum") (x := ⟨"Change", "ordinal", "()I"⟩) 0 hts (lw_app (lw_in _ [1996, 675, 677, 678, 50] (by decide +kernel) (by decide +kernel)) (lw_meth q679)) rfl rfl rfl rfl (by decide +kernel) ⟨Nat.le_of_ble_eq_true rfl, Nat.le_of_ble_eq_true rfl⟩) (g_preVR hW hK hE (g_chgO hE hW (by decide))) rfl rfl hl.1 rfl (lv_room (Nat.le_of_ble_eq_true rfl)) dX3_applies_85 ⟨Nat.le_of_ble_eq_true rfl, Nat.le_of_ble_eq_true rfl⟩) hW (fun r_ u_ H locs hp hW => ?_)
      obtain ⟨er, rfl⟩ := hp
      subst er
      refine lv_icmp_ne (tgt := 94) hx hb dX3_applies_88 (by decide) (fun hz => absurd rfl hz) (fun _ => ?_)
      refine lv_iload hx hb dX3_applies_91 (lv_at hl 0 rfl) ?_
      exact g_zret (v := 1) hx hb hr hlocks (by rfl) hW (⟨by rw [show eFits 2 pl dg xs = true from decide_eq_true hc]; rfl, rfl⟩) (by omega) (by omega) dX3_applies_93
    · refine lv_iload_n hx hb dX3_applies_15 rfl (lv_at hl 1 rfl) ?_
      refine va_gets hx hb ((hE.2.2.2.2.2.2.2.2.1.1 0 (by decide)).1) hW.2.2.1 hown (hts _ q2094) (fun _ h9 => h9) dX3_applies_16 ?_
      refine g_calli (va_runU (As := []) (rest := [.int (nI 3)]) ⟨hx, hb, hml, hown, hts⟩ (mtJ10_ordinal l D w H.size (D.2 1004 0) (nI 0) (fun s hE => g_chg (by decide) s hE)) (va_cwU (owner := "java/lang/Enum") (x := ⟨"Change", "ordinal", "()I"⟩) 0 hts (lw_app (lw_in _ [1996, 675, 677, 678, 50] (by decide +kernel) (by decide +kernel)) (lw_meth q679)) rfl rfl rfl rfl (by decide +kernel) ⟨Nat.le_of_ble_eq_true rfl, Nat.le_of_ble_eq_true rfl⟩) (g_preVR hW hK hE (g_chgO hE hW (by decide))) rfl rfl hl.1 rfl (lv_room (Nat.le_of_ble_eq_true rfl)) dX3_applies_19 ⟨Nat.le_of_ble_eq_true rfl, Nat.le_of_ble_eq_true rfl⟩) hW (fun r_ u_ H locs hp hW => ?_)
      obtain ⟨er, rfl⟩ := hp
      subst er
      refine lv_icmp_ne (tgt := 48) hx hb dX3_applies_22 (by decide) (fun _ => ?_) (fun hz => absurd (by first | exact hz | exact Classical.not_not.mp hz) (by decide))
      refine lv_iload_n hx hb dX3_applies_48 rfl (lv_at hl 1 rfl) ?_
      refine va_gets hx hb ((hE.2.2.2.2.2.2.2.2.1.1 1 (by decide)).1) hW.2.2.1 hown (hts _ q2095) (fun _ h9 => h9) dX3_applies_49 ?_
      refine g_calli (va_runU (As := []) (rest := [.int (nI 3)]) ⟨hx, hb, hml, hown, hts⟩ (mtJ10_ordinal l D w H.size (D.2 1004 1) (nI 1) (fun s hE => g_chg (by decide) s hE)) (va_cwU (owner := "java/lang/Enum") (x := ⟨"Change", "ordinal", "()I"⟩) 0 hts (lw_app (lw_in _ [1996, 675, 677, 678, 50] (by decide +kernel) (by decide +kernel)) (lw_meth q679)) rfl rfl rfl rfl (by decide +kernel) ⟨Nat.le_of_ble_eq_true rfl, Nat.le_of_ble_eq_true rfl⟩) (g_preVR hW hK hE (g_chgO hE hW (by decide))) rfl rfl hl.1 rfl (lv_room (Nat.le_of_ble_eq_true rfl)) dX3_applies_52 ⟨Nat.le_of_ble_eq_true rfl, Nat.le_of_ble_eq_true rfl⟩) hW (fun r_ u_ H locs hp hW => ?_)
      obtain ⟨er, rfl⟩ := hp
      subst er
      refine lv_icmp_ne (tgt := 81) hx hb dX3_applies_55 (by decide) (fun _ => ?_) (fun hz => absurd (by first | exact hz | exact Classical.not_not.mp hz) (by decide))
      refine lv_iload_n hx hb dX3_applies_81 rfl (lv_at hl 1 rfl) ?_
      refine va_gets hx hb ((hE.2.2.2.2.2.2.2.2.1.1 2 (by decide)).1) hW.2.2.1 hown (hts _ q2096) (fun _ h9 => h9) dX3_applies_82 ?_
      refine g_calli (va_runU (As := []) (rest := [.int (nI 3)]) ⟨hx, hb, hml, hown, hts⟩ (mtJ10_ordinal l D w H.size (D.2 1004 2) (nI 2) (fun s hE => g_chg (by decide) s hE)) (va_cwU (owner := "java/lang/Enum") (x := ⟨"Change", "ordinal", "()I"⟩) 0 hts (lw_app (lw_in _ [1996, 675, 677, 678, 50] (by decide +kernel) (by decide +kernel)) (lw_meth q679)) rfl rfl rfl rfl (by decide +kernel) ⟨Nat.le_of_ble_eq_true rfl, Nat.le_of_ble_eq_true rfl⟩) (g_preVR hW hK hE (g_chgO hE hW (by decide))) rfl rfl hl.1 rfl (lv_room (Nat.le_of_ble_eq_true rfl)) dX3_applies_85 ⟨Nat.le_of_ble_eq_true rfl, Nat.le_of_ble_eq_true rfl⟩) hW (fun r_ u_ H locs hp hW => ?_)
      obtain ⟨er, rfl⟩ := hp
      subst er
      refine lv_icmp_ne (tgt := 94) hx hb dX3_applies_88 (by decide) (fun _ => ?_) (fun hz => absurd (by first | exact hz | exact Classical.not_not.mp hz) (by decide))
      refine lv_iload_n hx hb dX3_applies_94 rfl (lv_at hl 2 rfl) ?_
      refine lv_iconst (v := 1) hx hb dX3_applies_95 (by decide) ?_
      refine lv_iadd hx hb dX3_applies_96 ?_
      refine g_topi (y := nI (pl + 1)) (nI_1 pl) ?_
      refine lv_aload_n hx hb dX3_applies_97 rfl (lv_at hl 4 rfl) ?_
      obtain ⟨v, hr1, hb1⟩ := hst.rd hts hK hE hW
      refine g_calli (va_runV (As := []) (rest := [.int (nI (pl + 1))]) ⟨hx, hb, hml, hown, hts⟩ (mtJ16_length l D w H.size sp (txt xs) hst) (cwV 0 hts (lw_V q2004 q740 q741 q63 q742) rfl rfl rfl (by decide +kernel) ⟨Nat.le_of_ble_eq_true rfl, Nat.le_of_ble_eq_true rfl⟩) (g_preVR hW hK hE hr1.2.2.2) rfl rfl hl.1 rfl (lv_room (Nat.le_of_ble_eq_true rfl)) dX3_applies_98 ⟨Nat.le_of_ble_eq_true rfl, Nat.le_of_ble_eq_true rfl⟩) hW (fun r_ u_ H locs hp hW => ?_)
      obtain ⟨er, rfl⟩ := hp
      subst er
      refine g_topi (y := nI xs.length) (by rw [txt_len]) ?_
      refine g_icmp_ge (x := pl + 1) (y := xs.length) (tgt := 123) hx hb (by omega) (by omega) dX3_applies_101 (by decide) (fun hd => ?_) (fun hd => ?_)
      · refine lv_iconst (v := 0) hx hb dX3_applies_123 (by decide) ?_
        exact g_zret (v := 0) hx hb hr hlocks (by rfl) hW (⟨by rw [show eFits 3 pl dg xs = false from decide_eq_false (fun z => by omega)]; rfl, rfl⟩) (by omega) (by omega) dX3_applies_124
      · have hp0 : pl < xs.length := by omega
        refine lv_aload_n hx hb dX3_applies_104 rfl (lv_at hl 4 rfl) ?_
        refine lv_iload_n hx hb dX3_applies_105 rfl (lv_at hl 2 rfl) ?_
        obtain ⟨v, hr1, hb1⟩ := hst.rd hts hK hE hW
        refine g_calli (va_runV (As := [.int (nI pl)]) (rest := []) ⟨hx, hb, hml, hown, hts⟩ (mtJ16_charAt l D w H.size sp pl (txt xs) hst (by rw [txt_len]; exact hp0)) (cwV 1 hts (lw_V q2005 q750 q751 q63 q752) rfl rfl rfl (by decide +kernel) ⟨Nat.le_of_ble_eq_true rfl, Nat.le_of_ble_eq_true rfl⟩) (g_preVR hW hK hE hr1.2.2.2) rfl rfl hl.1 rfl (lv_room (Nat.le_of_ble_eq_true rfl)) dX3_applies_106 ⟨Nat.le_of_ble_eq_true rfl, Nat.le_of_ble_eq_true rfl⟩) hW (fun r_ u_ H locs hp hW => ?_)
        obtain ⟨er, rfl⟩ := hp
        subst er
        refine g_topi (y := nI (48 + xs.getD pl 0)) (by rw [txt_get hp0]) ?_
        refine lv_aload_n hx hb dX3_applies_109 rfl (lv_at hl 4 rfl) ?_
        refine lv_iload_n hx hb dX3_applies_110 rfl (lv_at hl 2 rfl) ?_
        refine lv_iconst (v := 1) hx hb dX3_applies_111 (by decide) ?_
        refine lv_iadd hx hb dX3_applies_112 ?_
        refine g_topi (y := nI (pl + 1)) (nI_1 pl) ?_
        obtain ⟨v, hr1, hb1⟩ := hst.rd hts hK hE hW
        refine g_calli (va_runV (As := [.int (nI (pl + 1))]) (rest := [.int (nI (48 + xs.getD pl 0))]) ⟨hx, hb, hml, hown, hts⟩ (mtJ16_charAt l D w H.size sp (pl + 1) (txt xs) hst (by rw [txt_len]; exact hd)) (cwV 1 hts (lw_V q2005 q750 q751 q63 q752) rfl rfl rfl (by decide +kernel) ⟨Nat.le_of_ble_eq_true rfl, Nat.le_of_ble_eq_true rfl⟩) (g_preVR hW hK hE hr1.2.2.2) rfl rfl hl.1 rfl (lv_room (Nat.le_of_ble_eq_true rfl)) dX3_applies_113 ⟨Nat.le_of_ble_eq_true rfl, Nat.le_of_ble_eq_true rfl⟩) hW (fun r_ u_ H locs hp hW => ?_)
        obtain ⟨er, rfl⟩ := hp
        subst er
        refine g_topi (y := nI (48 + xs.getD (pl + 1) 0)) (by rw [txt_get hd]) ?_
        refine lv_icmp_eq (tgt := 123) hx hb dX3_applies_116 (by decide) (fun he => ?_) (fun he => ?_)
        all_goals have g9 := g8 pl
        all_goals have g7 := g8 (pl + 1)
        · have e9 : 48 + xs.getD pl 0 = 48 + xs.getD (pl + 1) 0 := (nI_n8 (by omega) (by omega)).mp he
          refine lv_iconst (v := 0) hx hb dX3_applies_123 (by decide) ?_
          exact g_zret (v := 0) hx hb hr hlocks (by rfl) hW (⟨by rw [show eFits 3 pl dg xs = false from decide_eq_false (fun z => z.2 (by omega))]; rfl, rfl⟩) (by omega) (by omega) dX3_applies_124
        · refine lv_iconst (v := 1) hx hb dX3_applies_119 (by decide) ?_
          refine lv_goto (tgt := 124) hx hb dX3_applies_120 (by decide) ?_
          exact g_zret (v := 1) hx hb hr hlocks (by rfl) hW (⟨by rw [show eFits 3 pl dg xs = true from decide_eq_true ⟨hd, fun z => he (by rw [z])⟩]; rfl, rfl⟩) (by omega) (by omega) dX3_applies_124
set_option maxHeartbeats 4000000 in
set_option maxRecDepth 100000 in
/-- Model.applied -/
theorem mtX3_applied (l : Launch) (D : va_G) (w : g_H) (sz : Nat) (kd pl dg sp : Nat) (xs : List Nat) (hk4 : kd < 4) (hpl : pl < 8) (hdg : dg < 8) (hst : g_Str D w sp (txt xs)) (hxs : sDg xs) (hf : eFits kd pl dg xs = true) : Met l yX3_applied (ws_ yX3_applied cX3_applied 5 (some (.object "java/lang/String"))) ({ frames := 8, cells := aC kd, slots := 70, locals := 215 }) (g_Pc D [.int (nI kd), .int (nI pl), .int (nI dg), .ref sp] w sz) (g_Qq D w sz (fun r u => ∃ st, r = some st ∧ st ∉ w.1 ∧ g_Str D u st (txt (eAct kd pl dg xs)) ∧ g_ex (fun _ => False) w u)) (aC kd) (70) (g_A w sz) := by
  refine Met.ofW (cc := cX3_applied) (maxL := 5) (ret := (some (.object "java/lang/String"))) (by decide) rfl ?_
  intro p e s m args below meth c s₁ B hml hv
  obtain ⟨rfl, hI⟩ := hv
  have hx := B.exec
  have hb := B.bytes
  have hr := B.returns
  have hts := atoms_spec (ws := ws_ yX3_applied cX3_applied 5 (some (.object "java/lang/String"))) B.pre
  have hts : ∀ w ∈ lw_all, w.before _ s = true := fun w h => hts w (List.mem_cons_of_mem _ h)
  have hown : s.vm.findClass RX3 = some m.cls := findClass_of_methodNamed B.named
  have hlocks := B.notSynchronized
  have hsz := hI.1
  subst hsz
  have hW := g_W.start hI
  have hK := g_K hI
  have hE := g_E hI
  have hl := lv_entry ([.int (nI kd), .int (nI pl), .int (nI dg), .ref sp]) (n := 5) (by exact Nat.le_of_ble_eq_true rfl)
  rw [lg_entry_eq]
  generalize (lg_sl ([.int (nI kd), .int (nI pl), .int (nI dg), .ref sp]) ++ List.replicate (5 - (lg_sl ([.int (nI kd), .int (nI pl), .int (nI dg), .ref sp])).length) Slot.unset).toArray = ls at hl ⊢
  have hl : lv_has ls 5 [(0, .int (nI kd)), (1, .int (nI pl)), (2, .int (nI dg)), (3, .ref sp)] := hl
  have h8 := hxs.1
  have g8 := getD8 hxs
  refine lv_bipush (v := 48) hx hb dX3_applied_0 (by decide) ?_
  refine lv_iload_n hx hb dX3_applied_2 rfl (lv_at hl 2 rfl) ?_
  refine lv_iadd hx hb dX3_applied_3 ?_
  refine g_topi (y := nI (48 + dg)) (nI_add 48 dg) ?_
  refine lv_i2c (v := nI (48 + dg)) hx hb dX3_applied_4 (sb_byte _ (by omega)).2.1 ?_
  refine lv_istore (lv' := [(4, .int (nI (48 + dg))), (0, .int (nI kd)), (1, .int (nI pl)), (2, .int (nI dg)), (3, .ref sp)]) hx hb dX3_applied_5 hl (by decide) rfl (fun ls hl => ?_)
  have hkk : kd = 0 ∨ kd = 1 ∨ kd = 2 ∨ kd = 3 := by omega
  have htl : (txt xs).length = xs.length := txt_len
  rcases hkk with rfl | rfl | rfl | rfl
  · refine lv_iload_n hx hb dX3_applied_7 rfl (lv_at hl 1 rfl) ?_
    refine va_gets hx hb ((hE.2.2.2.2.2.2.2.2.1.1 0 (by decide)).1) hW.2.2.1 hown (hts _ q2094) (fun _ h9 => h9) dX3_applied_8 ?_
    refine g_calli (va_runU (As := []) (rest := [.int (nI 0)]) ⟨hx, hb, hml, hown, hts⟩ (mtJ10_ordinal l D w s.heap.size (D.2 1004 0) (nI 0) (fun s hE => g_chg (by decide) s hE)) (va_cwU (owner := "java/lang/Enum") (x := ⟨"Change", "ordinal", "()I"⟩) 0 hts (lw_app (lw_in _ [1996, 675, 677, 678, 50] (by decide +kernel) (by decide +kernel)) (lw_meth q679)) rfl rfl rfl rfl (by decide +kernel) ⟨Nat.le_of_ble_eq_true rfl, Nat.le_of_ble_eq_true rfl⟩) (g_preVR hW hK hE (g_chgO hE hW (by decide))) rfl rfl hl.1 rfl (lv_room (Nat.le_of_ble_eq_true rfl)) dX3_applied_11 ⟨Nat.le_of_ble_eq_true rfl, Nat.le_of_ble_eq_true rfl⟩) hW (fun r_ u_ H locs hp hW => ?_)
    obtain ⟨er, rfl⟩ := hp
    subst er
    refine lv_icmp_ne (tgt := 25) hx hb dX3_applied_14 (by decide) (fun hz => absurd rfl hz) (fun _ => ?_)
    refine lv_aload_n hx hb dX3_applied_17 rfl (lv_at hl 4 rfl) ?_
    refine lv_iload_n hx hb dX3_applied_18 rfl (lv_at hl 2 rfl) ?_
    refine lv_iload hx hb dX3_applied_19 (lv_at hl 0 rfl) ?_
    refine g_callq (va_runS (As := [.ref sp, .int (nI pl), .int (nI (48 + dg))]) (rest := []) ⟨hx, hb, hml, hown, hts⟩ (mtX3_with l D w H.size sp pl (48 + dg) (txt xs) hst (by omega) (by omega) (by omega)) (va_cwS 3 hts (lw_S q2074 q2075 q47 q2076) rfl rfl rfl (by decide +kernel) ⟨Nat.le_of_ble_eq_true rfl, Nat.le_of_ble_eq_true rfl⟩) (g_preS hW hK hE) rfl rfl hl.1 rfl (lv_room (Nat.le_of_ble_eq_true rfl)) dX3_applied_21 ⟨?_, ?_⟩) hW (fun r_ u1 H locs hp hW => ?_)
    · (try simp only [headSpec]); rw [show aC 0 = 4 from rfl]; omega
    · (try simp only [headSpec]); omega
    obtain ⟨s9, er, fs, hs9, hx9⟩ := hp
    subst er
    rw [txt_set] at hs9
    exact g_qret (v := some s9) hx hb hr (Or.inl ⟨_, rfl⟩) hlocks hW (⟨s9, rfl, fs, hs9, hx9⟩) (by rw [show aC 0 = 4 from rfl]; omega) (by omega) dX3_applied_24
  · refine lv_iload_n hx hb dX3_applied_7 rfl (lv_at hl 1 rfl) ?_
    refine va_gets hx hb ((hE.2.2.2.2.2.2.2.2.1.1 0 (by decide)).1) hW.2.2.1 hown (hts _ q2094) (fun _ h9 => h9) dX3_applied_8 ?_
    refine g_calli (va_runU (As := []) (rest := [.int (nI 1)]) ⟨hx, hb, hml, hown, hts⟩ (mtJ10_ordinal l D w s.heap.size (D.2 1004 0) (nI 0) (fun s hE => g_chg (by decide) s hE)) (va_cwU (owner := "java/lang/Enum") (x := ⟨"Change", "ordinal", "()I"⟩) 0 hts (lw_app (lw_in _ [1996, 675, 677, 678, 50] (by decide +kernel) (by decide +kernel)) (lw_meth q679)) rfl rfl rfl rfl (by decide +kernel) ⟨Nat.le_of_ble_eq_true rfl, Nat.le_of_ble_eq_true rfl⟩) (g_preVR hW hK hE (g_chgO hE hW (by decide))) rfl rfl hl.1 rfl (lv_room (Nat.le_of_ble_eq_true rfl)) dX3_applied_11 ⟨Nat.le_of_ble_eq_true rfl, Nat.le_of_ble_eq_true rfl⟩) hW (fun r_ u_ H locs hp hW => ?_)
    obtain ⟨er, rfl⟩ := hp
    subst er
    refine lv_icmp_ne (tgt := 25) hx hb dX3_applied_14 (by decide) (fun _ => ?_) (fun hz => absurd (by first | exact hz | exact Classical.not_not.mp hz) (by decide))
    refine lv_iload_n hx hb dX3_applied_25 rfl (lv_at hl 1 rfl) ?_
    refine va_gets hx hb ((hE.2.2.2.2.2.2.2.2.1.1 1 (by decide)).1) hW.2.2.1 hown (hts _ q2095) (fun _ h9 => h9) dX3_applied_26 ?_
    refine g_calli (va_runU (As := []) (rest := [.int (nI 1)]) ⟨hx, hb, hml, hown, hts⟩ (mtJ10_ordinal l D w H.size (D.2 1004 1) (nI 1) (fun s hE => g_chg (by decide) s hE)) (va_cwU (owner := "java/lang/Enum") (x := ⟨"Change", "ordinal", "()I"⟩) 0 hts (lw_app (lw_in _ [1996, 675, 677, 678, 50] (by decide +kernel) (by decide +kernel)) (lw_meth q679)) rfl rfl rfl rfl (by decide +kernel) ⟨Nat.le_of_ble_eq_true rfl, Nat.le_of_ble_eq_true rfl⟩) (g_preVR hW hK hE (g_chgO hE hW (by decide))) rfl rfl hl.1 rfl (lv_room (Nat.le_of_ble_eq_true rfl)) dX3_applied_29 ⟨Nat.le_of_ble_eq_true rfl, Nat.le_of_ble_eq_true rfl⟩) hW (fun r_ u_ H locs hp hW => ?_)
    obtain ⟨er, rfl⟩ := hp
    subst er
    refine lv_icmp_ne (tgt := 43) hx hb dX3_applied_32 (by decide) (fun hz => absurd rfl hz) (fun _ => ?_)
    refine lv_aload_n hx hb dX3_applied_35 rfl (lv_at hl 4 rfl) ?_
    refine lv_iload_n hx hb dX3_applied_36 rfl (lv_at hl 2 rfl) ?_
    refine lv_iload hx hb dX3_applied_37 (lv_at hl 0 rfl) ?_
    have hp9 : pl ≤ xs.length := (of_decide_eq_true hf).1
    refine g_callq (va_runS (As := [.ref sp, .int (nI pl), .int (nI (48 + dg))]) (rest := []) ⟨hx, hb, hml, hown, hts⟩ (mtX3_putIn l D w H.size sp pl (48 + dg) (txt xs) hst (by omega) (by omega) (by omega)) (va_cwS 3 hts (lw_S q2100 q2101 q47 q2102) rfl rfl rfl (by decide +kernel) ⟨Nat.le_of_ble_eq_true rfl, Nat.le_of_ble_eq_true rfl⟩) (g_preS hW hK hE) rfl rfl hl.1 rfl (lv_room (Nat.le_of_ble_eq_true rfl)) dX3_applied_39 ⟨?_, ?_⟩) hW (fun r_ u1 H locs hp hW => ?_)
    · (try simp only [headSpec]); rw [show aC 1 = 4 from rfl]; omega
    · (try simp only [headSpec]); omega
    obtain ⟨s9, er, fs, hs9, hx9⟩ := hp
    subst er
    rw [txt_ins hp9] at hs9
    exact g_qret (v := some s9) hx hb hr (Or.inl ⟨_, rfl⟩) hlocks hW (⟨s9, rfl, fs, hs9, hx9⟩) (by rw [show aC 1 = 4 from rfl]; omega) (by omega) dX3_applied_42
  · refine lv_iload_n hx hb dX3_applied_7 rfl (lv_at hl 1 rfl) ?_
    refine va_gets hx hb ((hE.2.2.2.2.2.2.2.2.1.1 0 (by decide)).1) hW.2.2.1 hown (hts _ q2094) (fun _ h9 => h9) dX3_applied_8 ?_
    refine g_calli (va_runU (As := []) (rest := [.int (nI 2)]) ⟨hx, hb, hml, hown, hts⟩ (mtJ10_ordinal l D w s.heap.size (D.2 1004 0) (nI 0) (fun s hE => g_chg (by decide) s hE)) (va_cwU (owner := "java/lang/Enum") (x := ⟨"Change", "ordinal", "()I"⟩) 0 hts (lw_app (lw_in _ [1996, 675, 677, 678, 50] (by decide +kernel) (by decide +kernel)) (lw_meth q679)) rfl rfl rfl rfl (by decide +kernel) ⟨Nat.le_of_ble_eq_true rfl, Nat.le_of_ble_eq_true rfl⟩) (g_preVR hW hK hE (g_chgO hE hW (by decide))) rfl rfl hl.1 rfl (lv_room (Nat.le_of_ble_eq_true rfl)) dX3_applied_11 ⟨Nat.le_of_ble_eq_true rfl, Nat.le_of_ble_eq_true rfl⟩) hW (fun r_ u_ H locs hp hW => ?_)
    obtain ⟨er, rfl⟩ := hp
    subst er
    refine lv_icmp_ne (tgt := 25) hx hb dX3_applied_14 (by decide) (fun _ => ?_) (fun hz => absurd (by first | exact hz | exact Classical.not_not.mp hz) (by decide))
    refine lv_iload_n hx hb dX3_applied_25 rfl (lv_at hl 1 rfl) ?_
    refine va_gets hx hb ((hE.2.2.2.2.2.2.2.2.1.1 1 (by decide)).1) hW.2.2.1 hown (hts _ q2095) (fun _ h9 => h9) dX3_applied_26 ?_
    refine g_calli (va_runU (As := []) (rest := [.int (nI 2)]) ⟨hx, hb, hml, hown, hts⟩ (mtJ10_ordinal l D w H.size (D.2 1004 1) (nI 1) (fun s hE => g_chg (by decide) s hE)) (va_cwU (owner := "java/lang/Enum") (x := ⟨"Change", "ordinal", "()I"⟩) 0 hts (lw_app (lw_in _ [1996, 675, 677, 678, 50] (by decide +kernel) (by decide +kernel)) (lw_meth q679)) rfl rfl rfl rfl (by decide +kernel) ⟨Nat.le_of_ble_eq_true rfl, Nat.le_of_ble_eq_true rfl⟩) (g_preVR hW hK hE (g_chgO hE hW (by decide))) rfl rfl hl.1 rfl (lv_room (Nat.le_of_ble_eq_true rfl)) dX3_applied_29 ⟨Nat.le_of_ble_eq_true rfl, Nat.le_of_ble_eq_true rfl⟩) hW (fun r_ u_ H locs hp hW => ?_)
    obtain ⟨er, rfl⟩ := hp
    subst er
    refine lv_icmp_ne (tgt := 43) hx hb dX3_applied_32 (by decide) (fun _ => ?_) (fun hz => absurd (by first | exact hz | exact Classical.not_not.mp hz) (by decide))
    refine lv_iload_n hx hb dX3_applied_43 rfl (lv_at hl 1 rfl) ?_
    refine va_gets hx hb ((hE.2.2.2.2.2.2.2.2.1.1 2 (by decide)).1) hW.2.2.1 hown (hts _ q2096) (fun _ h9 => h9) dX3_applied_44 ?_
    refine g_calli (va_runU (As := []) (rest := [.int (nI 2)]) ⟨hx, hb, hml, hown, hts⟩ (mtJ10_ordinal l D w H.size (D.2 1004 2) (nI 2) (fun s hE => g_chg (by decide) s hE)) (va_cwU (owner := "java/lang/Enum") (x := ⟨"Change", "ordinal", "()I"⟩) 0 hts (lw_app (lw_in _ [1996, 675, 677, 678, 50] (by decide +kernel) (by decide +kernel)) (lw_meth q679)) rfl rfl rfl rfl (by decide +kernel) ⟨Nat.le_of_ble_eq_true rfl, Nat.le_of_ble_eq_true rfl⟩) (g_preVR hW hK hE (g_chgO hE hW (by decide))) rfl rfl hl.1 rfl (lv_room (Nat.le_of_ble_eq_true rfl)) dX3_applied_47 ⟨Nat.le_of_ble_eq_true rfl, Nat.le_of_ble_eq_true rfl⟩) hW (fun r_ u_ H locs hp hW => ?_)
    obtain ⟨er, rfl⟩ := hp
    subst er
    refine lv_icmp_ne (tgt := 59) hx hb dX3_applied_50 (by decide) (fun hz => absurd rfl hz) (fun _ => ?_)
    refine lv_aload_n hx hb dX3_applied_53 rfl (lv_at hl 4 rfl) ?_
    refine lv_iload_n hx hb dX3_applied_54 rfl (lv_at hl 2 rfl) ?_
    refine g_callq (va_runS (As := [.ref sp, .int (nI pl)]) (rest := []) ⟨hx, hb, hml, hown, hts⟩ (mtX3_without l D w H.size sp pl (txt xs) hst (by omega) (by omega)) (va_cwS 2 hts (lw_S q2071 q2072 q47 q2073) rfl rfl rfl (by decide +kernel) ⟨Nat.le_of_ble_eq_true rfl, Nat.le_of_ble_eq_true rfl⟩) (g_preS hW hK hE) rfl rfl hl.1 rfl (lv_room (Nat.le_of_ble_eq_true rfl)) dX3_applied_55 ⟨?_, ?_⟩) hW (fun r_ u1 H locs hp hW => ?_)
    · (try simp only [headSpec]); rw [show aC 2 = 4 from rfl]; omega
    · (try simp only [headSpec]); omega
    obtain ⟨s9, er, fs, hs9, hx9⟩ := hp
    subst er
    rw [txt_del] at hs9
    exact g_qret (v := some s9) hx hb hr (Or.inl ⟨_, rfl⟩) hlocks hW (⟨s9, rfl, fs, hs9, hx9⟩) (by rw [show aC 2 = 4 from rfl]; omega) (by omega) dX3_applied_58
  · refine lv_iload_n hx hb dX3_applied_7 rfl (lv_at hl 1 rfl) ?_
    refine va_gets hx hb ((hE.2.2.2.2.2.2.2.2.1.1 0 (by decide)).1) hW.2.2.1 hown (hts _ q2094) (fun _ h9 => h9) dX3_applied_8 ?_
    refine g_calli (va_runU (As := []) (rest := [.int (nI 3)]) ⟨hx, hb, hml, hown, hts⟩ (mtJ10_ordinal l D w s.heap.size (D.2 1004 0) (nI 0) (fun s hE => g_chg (by decide) s hE)) (va_cwU (owner := "java/lang/Enum") (x := ⟨"Change", "ordinal", "()I"⟩) 0 hts (lw_app (lw_in _ [1996, 675, 677, 678, 50] (by decide +kernel) (by decide +kernel)) (lw_meth q679)) rfl rfl rfl rfl (by decide +kernel) ⟨Nat.le_of_ble_eq_true rfl, Nat.le_of_ble_eq_true rfl⟩) (g_preVR hW hK hE (g_chgO hE hW (by decide))) rfl rfl hl.1 rfl (lv_room (Nat.le_of_ble_eq_true rfl)) dX3_applied_11 ⟨Nat.le_of_ble_eq_true rfl, Nat.le_of_ble_eq_true rfl⟩) hW (fun r_ u_ H locs hp hW => ?_)
    obtain ⟨er, rfl⟩ := hp
    subst er
    refine lv_icmp_ne (tgt := 25) hx hb dX3_applied_14 (by decide) (fun _ => ?_) (fun hz => absurd (by first | exact hz | exact Classical.not_not.mp hz) (by decide))
    refine lv_iload_n hx hb dX3_applied_25 rfl (lv_at hl 1 rfl) ?_
    refine va_gets hx hb ((hE.2.2.2.2.2.2.2.2.1.1 1 (by decide)).1) hW.2.2.1 hown (hts _ q2095) (fun _ h9 => h9) dX3_applied_26 ?_
    refine g_calli (va_runU (As := []) (rest := [.int (nI 3)]) ⟨hx, hb, hml, hown, hts⟩ (mtJ10_ordinal l D w H.size (D.2 1004 1) (nI 1) (fun s hE => g_chg (by decide) s hE)) (va_cwU (owner := "java/lang/Enum") (x := ⟨"Change", "ordinal", "()I"⟩) 0 hts (lw_app (lw_in _ [1996, 675, 677, 678, 50] (by decide +kernel) (by decide +kernel)) (lw_meth q679)) rfl rfl rfl rfl (by decide +kernel) ⟨Nat.le_of_ble_eq_true rfl, Nat.le_of_ble_eq_true rfl⟩) (g_preVR hW hK hE (g_chgO hE hW (by decide))) rfl rfl hl.1 rfl (lv_room (Nat.le_of_ble_eq_true rfl)) dX3_applied_29 ⟨Nat.le_of_ble_eq_true rfl, Nat.le_of_ble_eq_true rfl⟩) hW (fun r_ u_ H locs hp hW => ?_)
    obtain ⟨er, rfl⟩ := hp
    subst er
    refine lv_icmp_ne (tgt := 43) hx hb dX3_applied_32 (by decide) (fun _ => ?_) (fun hz => absurd (by first | exact hz | exact Classical.not_not.mp hz) (by decide))
    refine lv_iload_n hx hb dX3_applied_43 rfl (lv_at hl 1 rfl) ?_
    refine va_gets hx hb ((hE.2.2.2.2.2.2.2.2.1.1 2 (by decide)).1) hW.2.2.1 hown (hts _ q2096) (fun _ h9 => h9) dX3_applied_44 ?_
    refine g_calli (va_runU (As := []) (rest := [.int (nI 3)]) ⟨hx, hb, hml, hown, hts⟩ (mtJ10_ordinal l D w H.size (D.2 1004 2) (nI 2) (fun s hE => g_chg (by decide) s hE)) (va_cwU (owner := "java/lang/Enum") (x := ⟨"Change", "ordinal", "()I"⟩) 0 hts (lw_app (lw_in _ [1996, 675, 677, 678, 50] (by decide +kernel) (by decide +kernel)) (lw_meth q679)) rfl rfl rfl rfl (by decide +kernel) ⟨Nat.le_of_ble_eq_true rfl, Nat.le_of_ble_eq_true rfl⟩) (g_preVR hW hK hE (g_chgO hE hW (by decide))) rfl rfl hl.1 rfl (lv_room (Nat.le_of_ble_eq_true rfl)) dX3_applied_47 ⟨Nat.le_of_ble_eq_true rfl, Nat.le_of_ble_eq_true rfl⟩) hW (fun r_ u_ H locs hp hW => ?_)
    obtain ⟨er, rfl⟩ := hp
    subst er
    refine lv_icmp_ne (tgt := 59) hx hb dX3_applied_50 (by decide) (fun _ => ?_) (fun hz => absurd (by first | exact hz | exact Classical.not_not.mp hz) (by decide))
    have ha3 : aC 3 = 8 := rfl
    have hp9 : pl + 1 < xs.length := (of_decide_eq_true hf).1
    have hp0 : pl < xs.length := by omega
    have g9 := g8 pl
    have g7 := g8 (pl + 1)
    refine lv_aload_n hx hb dX3_applied_59 rfl (lv_at hl 4 rfl) ?_
    refine lv_iload_n hx hb dX3_applied_60 rfl (lv_at hl 2 rfl) ?_
    refine lv_aload_n hx hb dX3_applied_61 rfl (lv_at hl 4 rfl) ?_
    refine lv_iload_n hx hb dX3_applied_62 rfl (lv_at hl 2 rfl) ?_
    refine lv_iconst (v := 1) hx hb dX3_applied_63 (by decide) ?_
    refine lv_iadd hx hb dX3_applied_64 ?_
    refine g_topi (y := nI (pl + 1)) (nI_1 pl) ?_
    obtain ⟨v, hr1, hb1⟩ := hst.rd hts hK hE hW
    refine g_calli (va_runV (As := [.int (nI (pl + 1))]) (rest := [.int (nI pl), .ref sp]) ⟨hx, hb, hml, hown, hts⟩ (mtJ16_charAt l D w H.size sp (pl + 1) (txt xs) hst (by rw [txt_len]; exact hp9)) (cwV 1 hts (lw_V q2005 q750 q751 q63 q752) rfl rfl rfl (by decide +kernel) ⟨Nat.le_of_ble_eq_true rfl, Nat.le_of_ble_eq_true rfl⟩) (g_preVR hW hK hE hr1.2.2.2) rfl rfl hl.1 rfl (lv_room (Nat.le_of_ble_eq_true rfl)) dX3_applied_65 ⟨Nat.le_of_ble_eq_true rfl, Nat.le_of_ble_eq_true rfl⟩) hW (fun r_ u_ H locs hp hW => ?_)
    obtain ⟨er, rfl⟩ := hp
    subst er
    refine g_topi (y := nI (48 + xs.getD (pl + 1) 0)) (by rw [txt_get hp9]) ?_
    refine g_callq (va_runS (As := [.ref sp, .int (nI pl), .int (nI (48 + xs.getD (pl + 1) 0))]) (rest := []) ⟨hx, hb, hml, hown, hts⟩ (mtX3_with l D w H.size sp pl (48 + xs.getD (pl + 1) 0) (txt xs) hst (by omega) (by omega) (by omega)) (va_cwS 3 hts (lw_S q2074 q2075 q47 q2076) rfl rfl rfl (by decide +kernel) ⟨Nat.le_of_ble_eq_true rfl, Nat.le_of_ble_eq_true rfl⟩) (g_preS hW hK hE) rfl rfl hl.1 rfl (lv_room (Nat.le_of_ble_eq_true rfl)) dX3_applied_68 ⟨?_, ?_⟩) hW (fun r_ u1 H locs hp hW => ?_)
    · (try simp only [headSpec]); rw [show aC 3 = 8 from rfl]; omega
    · (try simp only [headSpec]); omega
    obtain ⟨s9, er, fs, hs9, hx9⟩ := hp
    subst er
    rw [txt_set] at hs9
    have hst0 := hst
    have hst : g_Str D u1 sp (txt xs) := hst0.ex hx9 (fun _ _ z => z.elim)
    refine lv_iload_n hx hb dX3_applied_71 rfl (lv_at hl 2 rfl) ?_
    refine lv_iconst (v := 1) hx hb dX3_applied_72 (by decide) ?_
    refine lv_iadd hx hb dX3_applied_73 ?_
    refine g_topi (y := nI (pl + 1)) (nI_1 pl) ?_
    refine lv_aload_n hx hb dX3_applied_74 rfl (lv_at hl 4 rfl) ?_
    refine lv_iload_n hx hb dX3_applied_75 rfl (lv_at hl 2 rfl) ?_
    obtain ⟨v, hr1, hb1⟩ := hst.rd hts hK hE hW
    refine g_calli (va_runV (As := [.int (nI pl)]) (rest := [.int (nI (pl + 1)), .ref s9]) ⟨hx, hb, hml, hown, hts⟩ (mtJ16_charAt l D u1 H.size sp pl (txt xs) hst (by rw [txt_len]; exact hp0)) (cwV 1 hts (lw_V q2005 q750 q751 q63 q752) rfl rfl rfl (by decide +kernel) ⟨Nat.le_of_ble_eq_true rfl, Nat.le_of_ble_eq_true rfl⟩) (g_preVR hW hK hE hr1.2.2.2) rfl rfl hl.1 rfl (lv_room (Nat.le_of_ble_eq_true rfl)) dX3_applied_76 ⟨?_, ?_⟩) hW (fun r_ u_ H locs hp hW => ?_)
    · (try simp only [headSpec]); omega
    · (try simp only [headSpec]); omega
    obtain ⟨er, rfl⟩ := hp
    subst er
    refine g_topi (y := nI (48 + xs.getD pl 0)) (by rw [txt_get hp0]) ?_
    refine g_callq (va_runS (As := [.ref s9, .int (nI (pl + 1)), .int (nI (48 + xs.getD pl 0))]) (rest := []) ⟨hx, hb, hml, hown, hts⟩ (mtX3_with l D u1 H.size s9 (pl + 1) (48 + xs.getD pl 0) (txt (xs.set pl (xs.getD (pl + 1) 0))) hs9 (by rw [txt_len, List.length_set]; omega) (by omega) (by omega)) (va_cwS 3 hts (lw_S q2074 q2075 q47 q2076) rfl rfl rfl (by decide +kernel) ⟨Nat.le_of_ble_eq_true rfl, Nat.le_of_ble_eq_true rfl⟩) (g_preS hW hK hE) rfl rfl hl.1 rfl (lv_room (Nat.le_of_ble_eq_true rfl)) dX3_applied_79 ⟨?_, ?_⟩) hW (fun r_ u2 H locs hp hW => ?_)
    · (try simp only [headSpec]); rw [show aC 3 = 8 from rfl]; omega
    · (try simp only [headSpec]); rw [show (txt (xs.set pl (xs.getD (pl + 1) 0))).length = xs.length by rw [txt_len, List.length_set]]; omega
    obtain ⟨s8, er, fs8, hs8, hx8⟩ := hp
    subst er
    rw [txt_set] at hs8
    exact g_qret (v := some s8) hx hb hr (Or.inl ⟨_, rfl⟩) hlocks hW (⟨s8, rfl, fun z => fs8 (hx9.1 _ z), hs8, hx9.tr hx8⟩) (by rw [show aC 3 = 8 from rfl]; omega) (by rw [show (txt (xs.set pl (xs.getD (pl + 1) 0))).length = xs.length by rw [txt_len, List.length_set]]; omega) dX3_applied_82
set_option maxHeartbeats 4000000 in
set_option maxRecDepth 100000 in
/-- Model.reductionMany: its loop -/
theorem lpX3_reductionMany {p : Program} {l : Launch} {e : Env} {R : Room} {s : State} {m : MethodId} {args : Array Value} {below : List Frame} {meth : Method} {c : Code} {cells slots : Nat} {Q : State → Prop} {D : va_G} {A : Nat → Prop} (hx : p.tables.exec = Jvm.exec) (hb : c.code = cX3_reductionMany) (hts : ∀ w ∈ lw_all, w.before args s = true) (hown : s.vm.findClass RX3 = some m.cls) (hK : va_K D gCl (gT D) s) (hE : g_Env D A s) (hml : c.maxLocals = 3) (hRf : 5 ≤ R.frames) (hRl : 97 ≤ R.locals) (hRc : cells ≤ R.cells) (hRs : slots ≤ R.slots) (w : g_H) (sp : Nat) (xs : List Nat) (hst : g_Str D w sp (txt xs)) (hxs : sDg xs)
    (kk : ∀ (H : Heap) (locs : List Loc) (ls : Array Slot), g_W D A s.heap H locs w → lv_has ls 3 [(1, .int (nI (sMs xs)))] → W p l e R s m args below meth c H locs cells slots Q (F0 m 32 ls [])) :
    ∀ (k : Nat) (i : Nat) (H : Heap) (locs : List Loc) (ls : Array Slot), xs.length < i + k → i ≤ xs.length → g_W D A s.heap H locs w → lv_has ls 3 [(1, .int (nI (xs.length + (xs.take i).sum))), (2, .int (nI i)), (0, .ref sp)] → W p l e R s m args below meth c H locs cells slots Q (F0 m 7 ls []) := by
  intro k
  induction k with
  | zero => intro i H locs ls hfuel hi hW hl; exact absurd hfuel (by omega)
  | succ k ih =>
    intro i H locs ls hfuel hi hW hl
    have h8 := hxs.1
    have g8 := getD8 hxs i
    refine lv_iload_n hx hb dX3_reductionMany_7 rfl (lv_at hl 1 rfl) ?_
    refine lv_aload_n hx hb dX3_reductionMany_8 rfl (lv_at hl 2 rfl) ?_
    obtain ⟨v, hr1, hb1⟩ := hst.rd hts hK hE hW
    refine g_calli (va_runV (As := []) (rest := [.int (nI i)]) ⟨hx, hb, hml, hown, hts⟩ (mtJ16_length l D w H.size sp (txt xs) hst) (cwV 0 hts (lw_V q2004 q740 q741 q63 q742) rfl rfl rfl (by decide +kernel) ⟨Nat.le_trans (Nat.le_of_ble_eq_true rfl) hRf, Nat.le_trans (Nat.le_of_ble_eq_true rfl) hRl⟩) (g_preVR hW hK hE hr1.2.2.2) rfl rfl hl.1 rfl (lv_room (Nat.le_of_ble_eq_true rfl)) dX3_reductionMany_9 ⟨hRc, hRs⟩) hW (fun r_ u_ H locs hp hW => ?_)
    obtain ⟨er, rfl⟩ := hp
    subst er
    refine g_topi (y := nI xs.length) (by rw [txt_len]) ?_
    refine g_icmp_ge (x := i) (y := xs.length) (tgt := 32) hx hb (by omega) (by omega) dX3_reductionMany_12 (by decide) (fun hc => ?_) (fun hc => ?_)
    · have e1 : i = xs.length := by omega
      subst e1
      rw [List.take_length] at hl
      exact kk H locs ls hW (lv_sub hl [0] rfl)
    · refine lv_iload_n hx hb dX3_reductionMany_15 rfl (lv_at hl 0 rfl) ?_
      refine lv_aload_n hx hb dX3_reductionMany_16 rfl (lv_at hl 2 rfl) ?_
      refine lv_iload_n hx hb dX3_reductionMany_17 rfl (lv_at hl 1 rfl) ?_
      obtain ⟨v, hr1, hb1⟩ := hst.rd hts hK hE hW
      refine g_calli (va_runV (As := [.int (nI i)]) (rest := [.int (nI (xs.length + (xs.take i).sum))]) ⟨hx, hb, hml, hown, hts⟩ (mtJ16_charAt l D w H.size sp i (txt xs) hst (by rw [txt_len]; exact hc)) (cwV 1 hts (lw_V q2005 q750 q751 q63 q752) rfl rfl rfl (by decide +kernel) ⟨Nat.le_trans (Nat.le_of_ble_eq_true rfl) hRf, Nat.le_trans (Nat.le_of_ble_eq_true rfl) hRl⟩) (g_preVR hW hK hE hr1.2.2.2) rfl rfl hl.1 rfl (lv_room (Nat.le_of_ble_eq_true rfl)) dX3_reductionMany_18 ⟨hRc, hRs⟩) hW (fun r_ u_ H locs hp hW => ?_)
      obtain ⟨er, rfl⟩ := hp
      subst er
      refine g_topi (y := nI (48 + xs.getD i 0)) (by rw [txt_get hc]) ?_
      refine lv_bipush (v := 48) hx hb dX3_reductionMany_21 (by decide) ?_
      refine lv_isub hx hb dX3_reductionMany_23 ?_
      refine g_topi (y := nI (xs.getD i 0)) (by rw [show (48 : Int32) = nI 48 from rfl, pk_sub (by omega), Nat.add_sub_cancel_left]) ?_
      refine lv_iadd hx hb dX3_reductionMany_24 ?_
      refine g_topi (y := nI (xs.length + (xs.take (i + 1)).sum)) (by rw [nI_add, sum_take hc, Nat.add_assoc]) ?_
      refine lv_istore_n (lv' := [(1, .int (nI (xs.length + (xs.take (i + 1)).sum))), (2, .int (nI i)), (0, .ref sp)]) hx hb dX3_reductionMany_25 rfl hl (by decide) rfl (fun ls hl => ?_)
      refine lv_iinc (v := nI (i + 1)) (lv' := [(2, .int (nI (i + 1))), (1, .int (nI (xs.length + (xs.take (i + 1)).sum))), (0, .ref sp)]) hx hb dX3_reductionMany_26 hl (k := 1) rfl (nI_1 i) (by decide) rfl (fun ls hl => ?_)
      refine lv_goto (tgt := 7) hx hb dX3_reductionMany_29 (by decide) ?_
      exact ih (i + 1) H locs ls (by omega) (by omega) hW (lv_sub hl [1, 0, 2] rfl)
set_option maxHeartbeats 4000000 in
set_option maxRecDepth 100000 in
/-- Model.reductionMany -/
theorem mtX3_reductionMany (l : Launch) (D : va_G) (w : g_H) (sz : Nat) (sp : Nat) (xs : List Nat) (hst : g_Str D w sp (txt xs)) (hxs : sDg xs) : Met l yX3_reductionMany (ws_ yX3_reductionMany cX3_reductionMany 3 (some .int)) ({ frames := 5, cells := 0, slots := 0, locals := 97 }) (g_Pc D [.ref sp] w sz) (g_Qi D w sz (fun r u => r = nI (sMs xs) ∧ w = u)) (0) (0) (g_A w sz) := by
  refine Met.ofW (cc := cX3_reductionMany) (maxL := 3) (ret := (some .int)) (by decide) rfl ?_
  intro p e s m args below meth c s₁ B hml hv
  obtain ⟨rfl, hI⟩ := hv
  have hx := B.exec
  have hb := B.bytes
  have hr := B.returns
  have hts := atoms_spec (ws := ws_ yX3_reductionMany cX3_reductionMany 3 (some .int)) B.pre
  have hts : ∀ w ∈ lw_all, w.before _ s = true := fun w h => hts w (List.mem_cons_of_mem _ h)
  have hown : s.vm.findClass RX3 = some m.cls := findClass_of_methodNamed B.named
  have hlocks := B.notSynchronized
  have hsz := hI.1
  subst hsz
  have hW := g_W.start hI
  have hK := g_K hI
  have hE := g_E hI
  have hl := lv_entry ([.ref sp]) (n := 3) (by exact Nat.le_of_ble_eq_true rfl)
  rw [lg_entry_eq]
  generalize (lg_sl ([.ref sp]) ++ List.replicate (3 - (lg_sl ([.ref sp])).length) Slot.unset).toArray = ls at hl ⊢
  have hl : lv_has ls 3 [(0, .ref sp)] := hl
  refine lv_aload_n hx hb dX3_reductionMany_0 rfl (lv_at hl 0 rfl) ?_
  obtain ⟨v, hr1, hb1⟩ := hst.rd hts hK hE hW
  refine g_calli (va_runV (As := []) (rest := []) ⟨hx, hb, hml, hown, hts⟩ (mtJ16_length l D w s.heap.size sp (txt xs) hst) (cwV 0 hts (lw_V q2004 q740 q741 q63 q742) rfl rfl rfl (by decide +kernel) ⟨Nat.le_of_ble_eq_true rfl, Nat.le_of_ble_eq_true rfl⟩) (g_preVR hW hK hE hr1.2.2.2) rfl rfl hl.1 rfl (lv_room (Nat.le_of_ble_eq_true rfl)) dX3_reductionMany_1 ⟨Nat.le_of_ble_eq_true rfl, Nat.le_of_ble_eq_true rfl⟩) hW (fun r_ u_ H locs hp hW => ?_)
  obtain ⟨er, rfl⟩ := hp
  subst er
  refine g_topi (y := nI xs.length) (by rw [txt_len]) ?_
  refine lv_istore_n (lv' := [(1, .int (nI xs.length)), (0, .ref sp)]) hx hb dX3_reductionMany_4 rfl hl (by decide) rfl (fun ls hl => ?_)
  refine lv_iconst (v := 0) hx hb dX3_reductionMany_5 (by decide) ?_
  refine lv_istore_n (lv' := [(2, .int (0)), (1, .int (nI xs.length)), (0, .ref sp)]) hx hb dX3_reductionMany_6 rfl hl (by decide) rfl (fun ls hl => ?_)
  refine lpX3_reductionMany (D := D) hx hb hts hown hK hE hml (Nat.le_of_ble_eq_true rfl) (Nat.le_of_ble_eq_true rfl) ?_ ?_ w sp xs hst hxs (fun H locs ls hW hl => ?_) (xs.length + 1) 0 _ _ ls (by omega) (Nat.zero_le _) hW (lv_sub hl [1, 0, 2] rfl)
  · (try simp only [headSpec]); omega
  · (try simp only [headSpec]); omega
  refine lv_iload_n hx hb dX3_reductionMany_32 rfl (lv_at hl 0 rfl) ?_
  exact g_iret (v := nI (sMs xs)) hx hb hr hlocks hW (⟨rfl, rfl⟩) (by omega) (by omega) dX3_reductionMany_33
set_option maxHeartbeats 4000000 in
set_option maxRecDepth 100000 in
/-- Model.reduction: its loop -/
theorem lpX3_reduction {p : Program} {l : Launch} {e : Env} {R : Room} {s : State} {m : MethodId} {args : Array Value} {below : List Frame} {meth : Method} {c : Code} {cells slots : Nat} {Q : State → Prop} {D : va_G} {A : Nat → Prop} (hx : p.tables.exec = Jvm.exec) (hb : c.code = cX3_reduction) (hts : ∀ w ∈ lw_all, w.before args s = true) (hown : s.vm.findClass RX3 = some m.cls) (hK : va_K D gCl (gT D) s) (hE : g_Env D A s) (hml : c.maxLocals = 4) (hRf : 5 ≤ R.frames) (hRl : 97 ≤ R.locals) (hRc : cells ≤ R.cells) (hRs : slots ≤ R.slots) (w : g_H) (sp : Nat) (xs ys : List Nat) (hst : g_Str D w sp (txt xs)) (hxs : sDg xs)
    (kk : ∀ (lf pl : Nat) (H : Heap) (locs : List Loc) (ls : Array Slot), pl < xs.length → lf < xs.getD pl 0 → ys = xs.set pl lf → g_W D A s.heap H locs w → lv_has ls 4 [(2, .int (nI lf)), (3, .int (nI pl)), (0, .ref sp)] → W p l e R s m args below meth c H locs cells slots Q (F0 m 52 ls [])) :
    ∀ (k : Nat) (lf : Nat) (pl : Nat) (H : Heap) (locs : List Loc) (ls : Array Slot), xs.length < pl + k → pl ≤ xs.length → lf < 1000 → (repC xs pl)[lf]? = some ys → g_W D A s.heap H locs w → lv_has ls 4 [(2, .int (nI lf)), (3, .int (nI pl)), (0, .ref sp)] → W p l e R s m args below meth c H locs cells slots Q (F0 m 23 ls []) := by
  intro k
  induction k with
  | zero => intro lf pl H locs ls hfuel hpl hlf hy hW hl; exact absurd hfuel (by omega)
  | succ k ih =>
    intro lf pl H locs ls hfuel hpl hlf hy hW hl
    have h8 := hxs.1
    have g8 := getD8 hxs pl
    have hp9 : pl < xs.length := Nat.lt_of_not_le (fun z => by rw [repC_end z] at hy; cases hy)
    refine lv_iload_n hx hb dX3_reduction_23 rfl (lv_at hl 0 rfl) ?_
    refine lv_aload_n hx hb dX3_reduction_24 rfl (lv_at hl 2 rfl) ?_
    refine lv_iload_n hx hb dX3_reduction_25 rfl (lv_at hl 1 rfl) ?_
    obtain ⟨v, hr1, hb1⟩ := hst.rd hts hK hE hW
    refine g_calli (va_runV (As := [.int (nI pl)]) (rest := [.int (nI lf)]) ⟨hx, hb, hml, hown, hts⟩ (mtJ16_charAt l D w H.size sp pl (txt xs) hst (by rw [txt_len]; exact hp9)) (cwV 1 hts (lw_V q2005 q750 q751 q63 q752) rfl rfl rfl (by decide +kernel) ⟨Nat.le_trans (Nat.le_of_ble_eq_true rfl) hRf, Nat.le_trans (Nat.le_of_ble_eq_true rfl) hRl⟩) (g_preVR hW hK hE hr1.2.2.2) rfl rfl hl.1 rfl (lv_room (Nat.le_of_ble_eq_true rfl)) dX3_reduction_26 ⟨hRc, hRs⟩) hW (fun r_ u_ H locs hp hW => ?_)
    obtain ⟨er, rfl⟩ := hp
    subst er
    refine g_topi (y := nI (48 + xs.getD pl 0)) (by rw [txt_get hp9]) ?_
    refine lv_bipush (v := 48) hx hb dX3_reduction_29 (by decide) ?_
    refine lv_isub hx hb dX3_reduction_31 ?_
    refine g_topi (y := nI (xs.getD pl 0)) (by rw [show (48 : Int32) = nI 48 from rfl, pk_sub (by omega), Nat.add_sub_cancel_left]) ?_
    refine lv_icmp_lt (tgt := 52) hx hb dX3_reduction_32 (by decide) (fun hc => ?_) (fun hc => ?_)
    · have hl9 := (nI_ltI (by omega) (by omega)).mp hc
      exact kk lf pl H locs ls hp9 hl9 (by rw [repC_1 hp9 hl9] at hy; exact (Option.some.inj hy).symm) hW (lv_sub hl [0, 1, 2] rfl)
    · have hl9 : ¬ lf < xs.getD pl 0 := fun z => hc ((nI_ltI (by omega) (by omega)).mpr z)
      refine lv_iload_n hx hb dX3_reduction_35 rfl (lv_at hl 0 rfl) ?_
      refine lv_aload_n hx hb dX3_reduction_36 rfl (lv_at hl 2 rfl) ?_
      refine lv_iload_n hx hb dX3_reduction_37 rfl (lv_at hl 1 rfl) ?_
      obtain ⟨v, hr1, hb1⟩ := hst.rd hts hK hE hW
      refine g_calli (va_runV (As := [.int (nI pl)]) (rest := [.int (nI lf)]) ⟨hx, hb, hml, hown, hts⟩ (mtJ16_charAt l D w H.size sp pl (txt xs) hst (by rw [txt_len]; exact hp9)) (cwV 1 hts (lw_V q2005 q750 q751 q63 q752) rfl rfl rfl (by decide +kernel) ⟨Nat.le_trans (Nat.le_of_ble_eq_true rfl) hRf, Nat.le_trans (Nat.le_of_ble_eq_true rfl) hRl⟩) (g_preVR hW hK hE hr1.2.2.2) rfl rfl hl.1 rfl (lv_room (Nat.le_of_ble_eq_true rfl)) dX3_reduction_38 ⟨hRc, hRs⟩) hW (fun r_ u_ H locs hp hW => ?_)
      obtain ⟨er, rfl⟩ := hp
      subst er
      refine g_topi (y := nI (48 + xs.getD pl 0)) (by rw [txt_get hp9]) ?_
      refine lv_bipush (v := 48) hx hb dX3_reduction_41 (by decide) ?_
      refine lv_isub hx hb dX3_reduction_43 ?_
      refine g_topi (y := nI (xs.getD pl 0)) (by rw [show (48 : Int32) = nI 48 from rfl, pk_sub (by omega), Nat.add_sub_cancel_left]) ?_
      refine lv_isub hx hb dX3_reduction_44 ?_
      refine g_topi (y := nI (lf - xs.getD pl 0)) (pk_sub (by omega)) ?_
      refine lv_istore_n (lv' := [(2, .int (nI (lf - xs.getD pl 0))), (3, .int (nI pl)), (0, .ref sp)]) hx hb dX3_reduction_45 rfl hl (by decide) rfl (fun ls hl => ?_)
      refine lv_iinc (v := nI (pl + 1)) (lv' := [(3, .int (nI (pl + 1))), (2, .int (nI (lf - xs.getD pl 0))), (0, .ref sp)]) hx hb dX3_reduction_46 hl (k := 1) rfl (nI_1 pl) (by decide) rfl (fun ls hl => ?_)
      refine lv_goto (tgt := 23) hx hb dX3_reduction_49 (by decide) ?_
      exact ih (lf - xs.getD pl 0) (pl + 1) H locs ls (by omega) (by omega) (by omega) (by rw [← repC_2 hp9 hl9]; exact hy) hW (lv_sub hl [1, 0, 2] rfl)
set_option maxHeartbeats 4000000 in
set_option maxRecDepth 100000 in
/-- Model.reduction -/
theorem mtX3_reduction (l : Launch) (D : va_G) (w : g_H) (sz : Nat) (sp k9 : Nat) (xs ys : List Nat) (hst : g_Str D w sp (txt xs)) (hxs : sDg xs) (hk9 : k9 < 1000) (hys : (redL xs)[k9]? = some ys) : Met l yX3_reduction (ws_ yX3_reduction cX3_reduction 4 (some (.object "java/lang/String"))) ({ frames := 8, cells := 4, slots := 32, locals := 215 }) (g_Pc D [.ref sp, .int (nI k9)] w sz) (g_Qq D w sz (fun r u => ∃ st, r = some st ∧ st ∉ w.1 ∧ g_Str D u st (txt ys) ∧ g_ex (fun _ => False) w u)) (4) (32) (g_A w sz) := by
  refine Met.ofW (cc := cX3_reduction) (maxL := 4) (ret := (some (.object "java/lang/String"))) (by decide) rfl ?_
  intro p e s m args below meth c s₁ B hml hv
  obtain ⟨rfl, hI⟩ := hv
  have hx := B.exec
  have hb := B.bytes
  have hr := B.returns
  have hts := atoms_spec (ws := ws_ yX3_reduction cX3_reduction 4 (some (.object "java/lang/String"))) B.pre
  have hts : ∀ w ∈ lw_all, w.before _ s = true := fun w h => hts w (List.mem_cons_of_mem _ h)
  have hown : s.vm.findClass RX3 = some m.cls := findClass_of_methodNamed B.named
  have hlocks := B.notSynchronized
  have hsz := hI.1
  subst hsz
  have hW := g_W.start hI
  have hK := g_K hI
  have hE := g_E hI
  have hl := lv_entry ([.ref sp, .int (nI k9)]) (n := 4) (by exact Nat.le_of_ble_eq_true rfl)
  rw [lg_entry_eq]
  generalize (lg_sl ([.ref sp, .int (nI k9)]) ++ List.replicate (4 - (lg_sl ([.ref sp, .int (nI k9)])).length) Slot.unset).toArray = ls at hl ⊢
  have hl : lv_has ls 4 [(0, .ref sp), (1, .int (nI k9))] := hl
  have h8 := hxs.1
  have htl : (txt xs).length = xs.length := txt_len
  refine lv_iload_n hx hb dX3_reduction_0 rfl (lv_at hl 1 rfl) ?_
  refine lv_aload_n hx hb dX3_reduction_1 rfl (lv_at hl 0 rfl) ?_
  obtain ⟨v, hr1, hb1⟩ := hst.rd hts hK hE hW
  refine g_calli (va_runV (As := []) (rest := [.int (nI k9)]) ⟨hx, hb, hml, hown, hts⟩ (mtJ16_length l D w s.heap.size sp (txt xs) hst) (cwV 0 hts (lw_V q2004 q740 q741 q63 q742) rfl rfl rfl (by decide +kernel) ⟨Nat.le_of_ble_eq_true rfl, Nat.le_of_ble_eq_true rfl⟩) (g_preVR hW hK hE hr1.2.2.2) rfl rfl hl.1 rfl (lv_room (Nat.le_of_ble_eq_true rfl)) dX3_reduction_2 ⟨Nat.le_of_ble_eq_true rfl, Nat.le_of_ble_eq_true rfl⟩) hW (fun r_ u_ H locs hp hW => ?_)
  obtain ⟨er, rfl⟩ := hp
  subst er
  refine g_topi (y := nI xs.length) (by rw [txt_len]) ?_
  refine g_icmp_ge (x := k9) (y := xs.length) (tgt := 14) hx hb (by omega) (by omega) dX3_reduction_5 (by decide) (fun hc => ?_) (fun hc => ?_)
  · rw [redL_2 hc] at hys
    refine lv_iload_n hx hb dX3_reduction_14 rfl (lv_at hl 1 rfl) ?_
    refine lv_aload_n hx hb dX3_reduction_15 rfl (lv_at hl 0 rfl) ?_
    obtain ⟨v, hr1, hb1⟩ := hst.rd hts hK hE hW
    refine g_calli (va_runV (As := []) (rest := [.int (nI k9)]) ⟨hx, hb, hml, hown, hts⟩ (mtJ16_length l D w H.size sp (txt xs) hst) (cwV 0 hts (lw_V q2004 q740 q741 q63 q742) rfl rfl rfl (by decide +kernel) ⟨Nat.le_of_ble_eq_true rfl, Nat.le_of_ble_eq_true rfl⟩) (g_preVR hW hK hE hr1.2.2.2) rfl rfl hl.1 rfl (lv_room (Nat.le_of_ble_eq_true rfl)) dX3_reduction_16 ⟨Nat.le_of_ble_eq_true rfl, Nat.le_of_ble_eq_true rfl⟩) hW (fun r_ u_ H locs hp hW => ?_)
    obtain ⟨er, rfl⟩ := hp
    subst er
    refine g_topi (y := nI xs.length) (by rw [txt_len]) ?_
    refine lv_isub hx hb dX3_reduction_19 ?_
    refine g_topi (y := nI (k9 - xs.length)) (pk_sub hc) ?_
    refine lv_istore_n (lv' := [(2, .int (nI (k9 - xs.length))), (0, .ref sp), (1, .int (nI k9))]) hx hb dX3_reduction_20 rfl hl (by decide) rfl (fun ls hl => ?_)
    refine lv_iconst (v := 0) hx hb dX3_reduction_21 (by decide) ?_
    refine lv_istore_n (lv' := [(3, .int (0)), (2, .int (nI (k9 - xs.length))), (0, .ref sp), (1, .int (nI k9))]) hx hb dX3_reduction_22 rfl hl (by decide) rfl (fun ls hl => ?_)
    refine lpX3_reduction (D := D) hx hb hts hown hK hE hml (Nat.le_of_ble_eq_true rfl) (Nat.le_of_ble_eq_true rfl) ?_ ?_ w sp xs ys hst hxs (fun lf pl H locs ls hp9 hl9 ey hW hl => ?_) (xs.length + 1) (k9 - xs.length) 0 _ _ ls (by omega) (Nat.zero_le _) (by omega) hys hW (lv_sub hl [1, 0, 2] rfl)
    · (try simp only [headSpec]); omega
    · (try simp only [headSpec]); omega
    have g8 := getD8 hxs pl
    refine lv_aload_n hx hb dX3_reduction_52 rfl (lv_at hl 2 rfl) ?_
    refine lv_iload_n hx hb dX3_reduction_53 rfl (lv_at hl 1 rfl) ?_
    refine lv_bipush (v := 48) hx hb dX3_reduction_54 (by decide) ?_
    refine lv_iload_n hx hb dX3_reduction_56 rfl (lv_at hl 0 rfl) ?_
    refine lv_iadd hx hb dX3_reduction_57 ?_
    refine g_topi (y := nI (48 + lf)) (nI_add 48 lf) ?_
    refine lv_i2c (v := nI (48 + lf)) hx hb dX3_reduction_58 (sb_byte _ (by omega)).2.1 ?_
    refine g_callq (va_runS (As := [.ref sp, .int (nI pl), .int (nI (48 + lf))]) (rest := []) ⟨hx, hb, hml, hown, hts⟩ (mtX3_with l D w H.size sp pl (48 + lf) (txt xs) hst (by omega) (by omega) (by omega)) (va_cwS 3 hts (lw_S q2074 q2075 q47 q2076) rfl rfl rfl (by decide +kernel) ⟨Nat.le_of_ble_eq_true rfl, Nat.le_of_ble_eq_true rfl⟩) (g_preS hW hK hE) rfl rfl hl.1 rfl (lv_room (Nat.le_of_ble_eq_true rfl)) dX3_reduction_59 ⟨?_, ?_⟩) hW (fun r_ u1 H locs hp hW => ?_)
    · (try simp only [headSpec]); omega
    · (try simp only [headSpec]); omega
    obtain ⟨s9, er, fs, hs9, hx9⟩ := hp
    subst er
    rw [txt_set, ← ey] at hs9
    exact g_qret (v := some s9) hx hb hr (Or.inl ⟨_, rfl⟩) hlocks hW (⟨s9, rfl, fs, hs9, hx9⟩) (by omega) (by omega) dX3_reduction_62
  · rw [redL_1 hc] at hys
    have ey := Option.some.inj hys
    refine lv_aload_n hx hb dX3_reduction_8 rfl (lv_at hl 0 rfl) ?_
    refine lv_iload_n hx hb dX3_reduction_9 rfl (lv_at hl 1 rfl) ?_
    refine g_callq (va_runS (As := [.ref sp, .int (nI k9)]) (rest := []) ⟨hx, hb, hml, hown, hts⟩ (mtX3_without l D w H.size sp k9 (txt xs) hst (by omega) (by omega)) (va_cwS 2 hts (lw_S q2071 q2072 q47 q2073) rfl rfl rfl (by decide +kernel) ⟨Nat.le_of_ble_eq_true rfl, Nat.le_of_ble_eq_true rfl⟩) (g_preS hW hK hE) rfl rfl hl.1 rfl (lv_room (Nat.le_of_ble_eq_true rfl)) dX3_reduction_10 ⟨?_, ?_⟩) hW (fun r_ u1 H locs hp hW => ?_)
    · (try simp only [headSpec]); omega
    · (try simp only [headSpec]); omega
    obtain ⟨s9, er, fs, hs9, hx9⟩ := hp
    subst er
    rw [txt_del, ey] at hs9
    exact g_qret (v := some s9) hx hb hr (Or.inl ⟨_, rfl⟩) hlocks hW (⟨s9, rfl, fs, hs9, hx9⟩) (by omega) (by omega) dX3_reduction_13
