/-! ArrayList.add of an ArrayList; ShrinkYard's constructor *
-/
set_option maxRecDepth 100000
set_option maxHeartbeats 4000000 in
set_option maxRecDepth 100000 in
theorem mtJ2_addX_2 (l : Launch) (D : va_G) (w : g_H) (sz : Nat) (a ar cap : Nat) (xs : List Nat) (hal : g_AL D w a ar xs cap) (ci N y : Nat) (C : String) (T : u_T) (hnil : xs.length = cap → xs = []) (hy : g_Ob D w ci y) (hcl : gCl[ci]? = some (C, T, N)) (hca : (C, "java/lang/Object") ∈ gNC) (hya : y ≠ a) (h6 : xs.length < 600) : Met l yJ2_add_2 (ws_ yJ2_add_2 cJ2_add_2 4 none) ({ frames := 10, cells := g_ac xs.length cap, slots := g_as xs.length cap, locals := 260 }) (g_Pc D [.ref a, .ref y, .ref ar, .int (nI xs.length)] w sz) (g_Qv D w sz (fun u => ∃ ar2, g_AL D u a ar2 (xs ++ [y]) (g_an xs.length cap) ∧ (ar2 = ar ∨ ar2 ∉ w.1) ∧ g_ex (fun q => q = a ∨ (xs.length < cap ∧ q = ar)) w u)) (g_ac xs.length cap) (g_as xs.length cap) (g_A w sz) := by
  refine Met.ofW (cc := cJ2_add_2) (maxL := 4) (ret := none) (by decide) rfl ?_
  intro p e s m args below meth c s₁ B hml hv
  obtain ⟨rfl, hI⟩ := hv
  have hx := B.exec
  have hb := B.bytes
  have hr := B.returns
  have hts := atoms_spec (ws := ws_ yJ2_add_2 cJ2_add_2 4 none) B.pre
  have hts : ∀ w ∈ lw_all, w.before _ s = true := fun w h => hts w (List.mem_cons_of_mem _ h)
  have hown : s.vm.findClass RJ2 = some m.cls := findClass_of_methodNamed B.named
  have hlocks := B.notSynchronized
  have hsz := hI.1
  subst hsz
  have hW := g_W.start hI
  have hK := g_K hI
  have hE := g_E hI
  have hl := lv_entry ([.ref a, .ref y, .ref ar, .int (nI xs.length)]) (n := 4) (by exact Nat.le_of_ble_eq_true rfl)
  rw [lg_entry_eq]
  generalize (lg_sl ([.ref a, .ref y, .ref ar, .int (nI xs.length)]) ++ List.replicate (4 - (lg_sl ([.ref a, .ref y, .ref ar, .int (nI xs.length)])).length) Slot.unset).toArray = ls at hl ⊢
  have hl : lv_has ls 4 [(0, .ref a), (1, .ref y), (2, .ref ar), (3, .int (nI xs.length))] := hl
  have hal9 := hal
  obtain ⟨mo, ha, hlen, hcap, hcs⟩ := hal
  have hl6 : xs.length < 2 ^ 31 := by omega
  rcases hcs with ⟨hc0, har⟩ | ⟨hc0, f, hf, his⟩
  · have he : xs.length = cap := by omega
    refine lv_iload_n hx hb dJ2_add_2_0 rfl (lv_at hl 3 rfl) ?_
    refine lv_aload_n hx hb dJ2_add_2_1 rfl (lv_at hl 2 rfl) ?_
    refine g_lenR hx hb (by rw [har]; exact (hE.2.2.2.1.kept hW.2.2.1.2.1).narrow (fun _ z => z.elim)) dJ2_add_2_2 ?_
    refine lv_icmp_ne (tgt := 11) hx hb dJ2_add_2_3 (by decide) (fun hd => ?_) (fun hd => ?_)
    · exact absurd (show nI xs.length = nI 0 by rw [he, hc0]) hd
    · have e1 : g_ac xs.length cap = 1 := if_pos he
      have e2 : g_as xs.length cap = g_gr cap := if_pos he
      have e3 : g_an xs.length cap = g_gr cap := if_pos he
      refine lv_aload_n hx hb dJ2_add_2_6 rfl (lv_at hl 0 rfl) ?_
      refine g_callq (va_runV (As := []) (rest := []) ⟨hx, hb, hml, hown, hts⟩ (mtJ2_grow l D w s.heap.size a ar cap xs hal9 ci N C T (fun y hy => by rw [hnil he] at hy; cases hy) hcl hca he (by omega)) (cwV 0 hts (lw_V q252 q254 qs2 q37 q255) rfl rfl rfl (by decide +kernel) ⟨Nat.le_of_ble_eq_true rfl, Nat.le_of_ble_eq_true rfl⟩) (g_preV hW hK hE ha rfl) rfl rfl hl.1 rfl (lv_room (Nat.le_of_ble_eq_true rfl)) dJ2_add_2_7 ⟨?_, ?_⟩) hW (fun r_ u1 H locs hp hW => ?_)
      · (try simp only [headSpec]); (try simp only [e1, e2]); omega
      · (try simp only [headSpec]); (try simp only [e1, e2]); omega
      obtain ⟨x, er, hx1, ⟨mo1, ha1⟩, ⟨g, hg1, hg2⟩, hex1⟩ := hp
      subst er
      have hgr : cap < g_gr cap ∧ g_gr cap < 1000 := by unfold g_gr; split <;> omega
      have hy1 : g_Ob D u1 ci y := by
        rcases hy with ⟨fs, hy⟩ | hy
        · exact Or.inl ⟨fs, hex1.at hy hya⟩
        · exact Or.inr hy
      have hex2 : g_ex (fun q => q = a ∨ (xs.length < cap ∧ q = ar)) w u1 := hex1.mono (fun _ _ z => Or.inl z)
      refine lv_astore_n (lv' := [(2, .ref x), (0, .ref a), (1, .ref y), (3, .int (nI xs.length))]) hx hb dJ2_add_2_10 rfl hl (by decide) rfl (fun ls hl => ?_)
      refine lv_aload_n hx hb dJ2_add_2_11 rfl (lv_at hl 0 rfl) ?_
      refine lv_iload_n hx hb dJ2_add_2_12 rfl (lv_at hl 3 rfl) ?_
      refine lv_aload_n hx hb dJ2_add_2_13 rfl (lv_at hl 2 rfl) ?_
      refine g_astOb (i := xs.length) hx hb hK hE hW hg1 hy1 hcl hca (by omega) (by omega) dJ2_add_2_14 (fun H locs hW => ?_)
      obtain ⟨f_1, ef_1⟩ : ∃ z__, z__ = va_up (g) xs.length (some y) := ⟨_, rfl⟩
      rw [← ef_1] at hW
      obtain ⟨w_2, ew_2⟩ : ∃ z__, z__ = g_put u1 x (.inl (D.1 104, (g_gr cap), .inr (.inr (.inr (.inr (f_1)))))) := ⟨_, rfl⟩
      have hW := g_W.ren hW ew_2 rfl
      have h_3 : g_at w_2 a (.inr (11, [.int (mo1), .ref x, .int (nI xs.length)])) := by rw [ew_2]; exact ha1.put (g_neOA ha1 hg1)
      have h_4 : g_at w_2 x (.inl (D.1 104, (g_gr cap), .inr (.inr (.inr (.inr (f_1)))))) := by rw [ew_2]; exact g_at.put_self hg1.1
      have x_5 : g_ex (fun q => q = a ∨ (xs.length < cap ∧ q = ar)) w w_2 := by rw [ew_2]; exact hex2.put (fun hz9 => (absurd hz9 hx1))
      refine lv_aload_n hx hb dJ2_add_2_15 rfl (lv_at hl 1 rfl) ?_
      refine lv_iload_n hx hb dJ2_add_2_16 rfl (lv_at hl 3 rfl) ?_
      refine lv_iconst (v := 1) hx hb dJ2_add_2_17 (by decide) ?_
      refine lv_iadd hx hb dJ2_add_2_18 ?_
      refine g_topi (y := nI (xs ++ [y]).length) (by rw [List.length_append]; exact nI_1 _) ?_
      refine g_putf (ci := 11) (v := .int (nI (xs ++ [y]).length)) (ty := .int) (C := RJ2) (T := TJ2) (N := 3) hx hb hts in_J2 tyJ2 tyJ2_ok nmJ2 hown hK hW h_3 rfl 2 (by decide) q142 (fun _ h9 => h9) rfl (by decide +kernel) rfl rfl (Nat.le_of_ble_eq_true rfl) dJ2_add_2_19 (fun H locs hW => ?_)
      obtain ⟨w_6, ew_6⟩ : ∃ z__, z__ = g_put w_2 a (.inr (11, [.int (mo1), .ref x, .int (nI (xs ++ [y]).length)])) := ⟨_, rfl⟩
      have hW := g_W.ren hW ew_6 rfl
      have h_7 : g_at w_6 a (.inr (11, [.int (mo1), .ref x, .int (nI (xs ++ [y]).length)])) := by rw [ew_6]; exact g_at.put_self h_3.1
      have h_8 : g_at w_6 x (.inl (D.1 104, (g_gr cap), .inr (.inr (.inr (.inr (f_1)))))) := by rw [ew_6]; exact h_4.put (g_neAO h_4 h_3)
      have x_9 : g_ex (fun q => q = a ∨ (xs.length < cap ∧ q = ar)) w w_6 := by rw [ew_6]; exact x_5.put (fun hz9 => (Or.inl rfl))
      exact g_vret hx hb hr hlocks hW (⟨x, ⟨mo1, h_7, by rw [e3, List.length_append, List.length_singleton]; omega, by rw [e3]; omega, Or.inr ⟨by omega, f_1, by rw [e3]; exact h_8, g_isq_snoc hg2 (fun j hj => by rw [ef_1]; exact va_up_ne _ _ (by omega)) (by rw [ef_1]; exact va_up_self _ _ _)⟩⟩, Or.inr hx1, x_9⟩) (by rw [e1]; omega) (by rw [e2]; omega) dJ2_add_2_22
  · refine lv_iload_n hx hb dJ2_add_2_0 rfl (lv_at hl 3 rfl) ?_
    refine lv_aload_n hx hb dJ2_add_2_1 rfl (lv_at hl 2 rfl) ?_
    refine g_alen hx hb hK hW 4 hf rfl dJ2_add_2_2 ?_
    refine lv_icmp_ne (tgt := 11) hx hb dJ2_add_2_3 (by decide) (fun hd => ?_) (fun hd => ?_)
    · have he : ¬ xs.length = cap := fun z => hd (by rw [z])
      have e1 : g_ac xs.length cap = 0 := if_neg he
      have e2 : g_as xs.length cap = 0 := if_neg he
      have e3 : g_an xs.length cap = cap := if_neg he
      have x_10 : g_ex (fun q => q = a ∨ (xs.length < cap ∧ q = ar)) w w := g_ex.rf
      refine lv_aload_n hx hb dJ2_add_2_11 rfl (lv_at hl 2 rfl) ?_
      refine lv_iload_n hx hb dJ2_add_2_12 rfl (lv_at hl 3 rfl) ?_
      refine lv_aload_n hx hb dJ2_add_2_13 rfl (lv_at hl 1 rfl) ?_
      refine g_astOb (i := xs.length) hx hb hK hE hW hf hy hcl hca (by omega) (by omega) dJ2_add_2_14 (fun H locs hW => ?_)
      obtain ⟨f_11, ef_11⟩ : ∃ z__, z__ = va_up (f) xs.length (some y) := ⟨_, rfl⟩
      rw [← ef_11] at hW
      obtain ⟨w_12, ew_12⟩ : ∃ z__, z__ = g_put w ar (.inl (D.1 104, cap, .inr (.inr (.inr (.inr (f_11)))))) := ⟨_, rfl⟩
      have hW := g_W.ren hW ew_12 rfl
      have h_13 : g_at w_12 a (.inr (11, [.int (mo), .ref ar, .int (nI xs.length)])) := by rw [ew_12]; exact ha.put (g_neOA ha hf)
      have h_14 : g_at w_12 ar (.inl (D.1 104, cap, .inr (.inr (.inr (.inr (f_11)))))) := by rw [ew_12]; exact g_at.put_self hf.1
      have x_15 : g_ex (fun q => q = a ∨ (xs.length < cap ∧ q = ar)) w w_12 := by rw [ew_12]; exact x_10.put (fun hz9 => (Or.inr ⟨by omega, rfl⟩))
      refine lv_aload_n hx hb dJ2_add_2_15 rfl (lv_at hl 0 rfl) ?_
      refine lv_iload_n hx hb dJ2_add_2_16 rfl (lv_at hl 3 rfl) ?_
      refine lv_iconst (v := 1) hx hb dJ2_add_2_17 (by decide) ?_
      refine lv_iadd hx hb dJ2_add_2_18 ?_
      refine g_topi (y := nI (xs ++ [y]).length) (by rw [List.length_append]; exact nI_1 _) ?_
      refine g_putf (ci := 11) (v := .int (nI (xs ++ [y]).length)) (ty := .int) (C := RJ2) (T := TJ2) (N := 3) hx hb hts in_J2 tyJ2 tyJ2_ok nmJ2 hown hK hW h_13 rfl 2 (by decide) q142 (fun _ h9 => h9) rfl (by decide +kernel) rfl rfl (Nat.le_of_ble_eq_true rfl) dJ2_add_2_19 (fun H locs hW => ?_)
      obtain ⟨w_16, ew_16⟩ : ∃ z__, z__ = g_put w_12 a (.inr (11, [.int (mo), .ref ar, .int (nI (xs ++ [y]).length)])) := ⟨_, rfl⟩
      have hW := g_W.ren hW ew_16 rfl
      have h_17 : g_at w_16 a (.inr (11, [.int (mo), .ref ar, .int (nI (xs ++ [y]).length)])) := by rw [ew_16]; exact g_at.put_self h_13.1
      have h_18 : g_at w_16 ar (.inl (D.1 104, cap, .inr (.inr (.inr (.inr (f_11)))))) := by rw [ew_16]; exact h_14.put (g_neAO h_14 h_13)
      have x_19 : g_ex (fun q => q = a ∨ (xs.length < cap ∧ q = ar)) w w_16 := by rw [ew_16]; exact x_15.put (fun hz9 => (Or.inl rfl))
      exact g_vret hx hb hr hlocks hW (⟨ar, ⟨mo, h_17, by rw [e3, List.length_append, List.length_singleton]; omega, by rw [e3]; omega, Or.inr ⟨by omega, f_11, by rw [e3]; exact h_18, g_isq_snoc his (fun j hj => by rw [ef_11]; exact va_up_ne _ _ (by omega)) (by rw [ef_11]; exact va_up_self _ _ _)⟩⟩, Or.inl rfl, x_19⟩) (by rw [e1]; omega) (by rw [e2]; omega) dJ2_add_2_22
    · have he : xs.length = cap := by
        refine Classical.byContradiction fun z => ?_
        exact absurd hd (nI_ne (by omega) (by omega) z)
      have e1 : g_ac xs.length cap = 1 := if_pos he
      have e2 : g_as xs.length cap = g_gr cap := if_pos he
      have e3 : g_an xs.length cap = g_gr cap := if_pos he
      refine lv_aload_n hx hb dJ2_add_2_6 rfl (lv_at hl 0 rfl) ?_
      refine g_callq (va_runV (As := []) (rest := []) ⟨hx, hb, hml, hown, hts⟩ (mtJ2_grow l D w s.heap.size a ar cap xs hal9 ci N C T (fun y hy => by rw [hnil he] at hy; cases hy) hcl hca he (by omega)) (cwV 0 hts (lw_V q252 q254 qs2 q37 q255) rfl rfl rfl (by decide +kernel) ⟨Nat.le_of_ble_eq_true rfl, Nat.le_of_ble_eq_true rfl⟩) (g_preV hW hK hE ha rfl) rfl rfl hl.1 rfl (lv_room (Nat.le_of_ble_eq_true rfl)) dJ2_add_2_7 ⟨?_, ?_⟩) hW (fun r_ u1 H locs hp hW => ?_)
      · (try simp only [headSpec]); (try simp only [e1, e2]); omega
      · (try simp only [headSpec]); (try simp only [e1, e2]); omega
      obtain ⟨x, er, hx1, ⟨mo1, ha1⟩, ⟨g, hg1, hg2⟩, hex1⟩ := hp
      subst er
      have hgr : cap < g_gr cap ∧ g_gr cap < 1000 := by unfold g_gr; split <;> omega
      have hy1 : g_Ob D u1 ci y := by
        rcases hy with ⟨fs, hy⟩ | hy
        · exact Or.inl ⟨fs, hex1.at hy hya⟩
        · exact Or.inr hy
      have hex2 : g_ex (fun q => q = a ∨ (xs.length < cap ∧ q = ar)) w u1 := hex1.mono (fun _ _ z => Or.inl z)
      refine lv_astore_n (lv' := [(2, .ref x), (0, .ref a), (1, .ref y), (3, .int (nI xs.length))]) hx hb dJ2_add_2_10 rfl hl (by decide) rfl (fun ls hl => ?_)
      refine lv_aload_n hx hb dJ2_add_2_11 rfl (lv_at hl 0 rfl) ?_
      refine lv_iload_n hx hb dJ2_add_2_12 rfl (lv_at hl 3 rfl) ?_
      refine lv_aload_n hx hb dJ2_add_2_13 rfl (lv_at hl 2 rfl) ?_
      refine g_astOb (i := xs.length) hx hb hK hE hW hg1 hy1 hcl hca (by omega) (by omega) dJ2_add_2_14 (fun H locs hW => ?_)
      obtain ⟨f_20, ef_20⟩ : ∃ z__, z__ = va_up (g) xs.length (some y) := ⟨_, rfl⟩
      rw [← ef_20] at hW
      obtain ⟨w_21, ew_21⟩ : ∃ z__, z__ = g_put u1 x (.inl (D.1 104, (g_gr cap), .inr (.inr (.inr (.inr (f_20)))))) := ⟨_, rfl⟩
      have hW := g_W.ren hW ew_21 rfl
      have h_22 : g_at w_21 a (.inr (11, [.int (mo1), .ref x, .int (nI xs.length)])) := by rw [ew_21]; exact ha1.put (g_neOA ha1 hg1)
      have h_23 : g_at w_21 x (.inl (D.1 104, (g_gr cap), .inr (.inr (.inr (.inr (f_20)))))) := by rw [ew_21]; exact g_at.put_self hg1.1
      have x_24 : g_ex (fun q => q = a ∨ (xs.length < cap ∧ q = ar)) w w_21 := by rw [ew_21]; exact hex2.put (fun hz9 => (absurd hz9 hx1))
      refine lv_aload_n hx hb dJ2_add_2_15 rfl (lv_at hl 1 rfl) ?_
      refine lv_iload_n hx hb dJ2_add_2_16 rfl (lv_at hl 3 rfl) ?_
      refine lv_iconst (v := 1) hx hb dJ2_add_2_17 (by decide) ?_
      refine lv_iadd hx hb dJ2_add_2_18 ?_
      refine g_topi (y := nI (xs ++ [y]).length) (by rw [List.length_append]; exact nI_1 _) ?_
      refine g_putf (ci := 11) (v := .int (nI (xs ++ [y]).length)) (ty := .int) (C := RJ2) (T := TJ2) (N := 3) hx hb hts in_J2 tyJ2 tyJ2_ok nmJ2 hown hK hW h_22 rfl 2 (by decide) q142 (fun _ h9 => h9) rfl (by decide +kernel) rfl rfl (Nat.le_of_ble_eq_true rfl) dJ2_add_2_19 (fun H locs hW => ?_)
      obtain ⟨w_25, ew_25⟩ : ∃ z__, z__ = g_put w_21 a (.inr (11, [.int (mo1), .ref x, .int (nI (xs ++ [y]).length)])) := ⟨_, rfl⟩
      have hW := g_W.ren hW ew_25 rfl
      have h_26 : g_at w_25 a (.inr (11, [.int (mo1), .ref x, .int (nI (xs ++ [y]).length)])) := by rw [ew_25]; exact g_at.put_self h_22.1
      have h_27 : g_at w_25 x (.inl (D.1 104, (g_gr cap), .inr (.inr (.inr (.inr (f_20)))))) := by rw [ew_25]; exact h_23.put (g_neAO h_23 h_22)
      have x_28 : g_ex (fun q => q = a ∨ (xs.length < cap ∧ q = ar)) w w_25 := by rw [ew_25]; exact x_24.put (fun hz9 => (Or.inl rfl))
      exact g_vret hx hb hr hlocks hW (⟨x, ⟨mo1, h_26, by rw [e3, List.length_append, List.length_singleton]; omega, by rw [e3]; omega, Or.inr ⟨by omega, f_20, by rw [e3]; exact h_27, g_isq_snoc hg2 (fun j hj => by rw [ef_20]; exact va_up_ne _ _ (by omega)) (by rw [ef_20]; exact va_up_self _ _ _)⟩⟩, Or.inr hx1, x_28⟩) (by rw [e1]; omega) (by rw [e2]; omega) dJ2_add_2_22
set_option maxHeartbeats 4000000 in
set_option maxRecDepth 100000 in
theorem mtJ2_addX (l : Launch) (D : va_G) (w : g_H) (sz : Nat) (a ar cap : Nat) (xs : List Nat) (hal : g_AL D w a ar xs cap) (ci N y : Nat) (C : String) (T : u_T) (hnil : xs.length = cap → xs = []) (hy : g_Ob D w ci y) (hcl : gCl[ci]? = some (C, T, N)) (hca : (C, "java/lang/Object") ∈ gNC) (hya : y ≠ a) (h6 : xs.length < 600) : Met l yJ2_add (ws_ yJ2_add cJ2_add 2 (some .boolean)) ({ frames := 11, cells := g_ac xs.length cap, slots := g_as xs.length cap, locals := 283 }) (g_Pc D [.ref a, .ref y] w sz) (g_Qi D w sz (fun r u => r = 1 ∧ ∃ ar2, g_AL D u a ar2 (xs ++ [y]) (g_an xs.length cap) ∧ (ar2 = ar ∨ ar2 ∉ w.1) ∧ g_ex (fun q => q = a ∨ (xs.length < cap ∧ q = ar)) w u)) (g_ac xs.length cap) (g_as xs.length cap) (g_A w sz) := by
  refine Met.ofW (cc := cJ2_add) (maxL := 2) (ret := (some .boolean)) (by decide) rfl ?_
  intro p e s m args below meth c s₁ B hml hv
  obtain ⟨rfl, hI⟩ := hv
  have hx := B.exec
  have hb := B.bytes
  have hr := B.returns
  have hts := atoms_spec (ws := ws_ yJ2_add cJ2_add 2 (some .boolean)) B.pre
  have hts : ∀ w ∈ lw_all, w.before _ s = true := fun w h => hts w (List.mem_cons_of_mem _ h)
  have hown : s.vm.findClass RJ2 = some m.cls := findClass_of_methodNamed B.named
  have hlocks := B.notSynchronized
  have hsz := hI.1
  subst hsz
  have hW := g_W.start hI
  have hK := g_K hI
  have hE := g_E hI
  have hl := lv_entry ([.ref a, .ref y]) (n := 2) (by exact Nat.le_of_ble_eq_true rfl)
  rw [lg_entry_eq]
  generalize (lg_sl ([.ref a, .ref y]) ++ List.replicate (2 - (lg_sl ([.ref a, .ref y])).length) Slot.unset).toArray = ls at hl ⊢
  have hl : lv_has ls 2 [(0, .ref a), (1, .ref y)] := hl
  obtain ⟨mo, ha, hlen, hcap, hcs⟩ := hal
  have x_1 : g_ex (fun q => q = a) w w := g_ex.rf
  have hx00 : g_ex (fun q => q = a) w w := g_ex.rf
  refine lv_aload_n hx hb dJ2_add_0 rfl (lv_at hl 0 rfl) ?_
  refine lv_dup hx hb dJ2_add_1 rfl ?_
  refine g_get (ci := 11) (v := .int (mo)) (C := RJ2) (T := TJ2) (N := 3) hx hb hts in_J2 hown hK hW ha rfl 0 (by decide) q150 (fun x9 h9 => u_same (hts _ q147) x9 h9) rfl dJ2_add_2 ?_
  refine lv_iconst (v := 1) hx hb dJ2_add_5 (by decide) ?_
  refine lv_iadd hx hb dJ2_add_6 ?_
  refine g_putf (ci := 11) (v := .int ((mo) + (1))) (ty := .int) (C := RJ2) (T := TJ2) (N := 3) hx hb hts in_J2 tyJ2 tyJ2_ok nmJ2 hown hK hW ha rfl 0 (by decide) q150 (fun x9 h9 => u_same (hts _ q147) x9 h9) rfl (by decide +kernel) rfl rfl (Nat.le_of_ble_eq_true rfl) dJ2_add_7 (fun H locs hW => ?_)
  obtain ⟨w_2, ew_2⟩ : ∃ z__, z__ = g_put w a (.inr (11, [.int ((mo) + (1)), .ref ar, .int (nI xs.length)])) := ⟨_, rfl⟩
  have hW := g_W.ren hW ew_2 rfl
  have h_3 : g_at w_2 a (.inr (11, [.int ((mo) + (1)), .ref ar, .int (nI xs.length)])) := by rw [ew_2]; exact g_at.put_self ha.1
  have x_4 : g_ex (fun q => q = a) w w_2 := by rw [ew_2]; exact x_1.put (fun hz9 => rfl)
  refine lv_aload_n hx hb dJ2_add_10 rfl (lv_at hl 0 rfl) ?_
  refine lv_aload_n hx hb dJ2_add_11 rfl (lv_at hl 1 rfl) ?_
  refine lv_aload_n hx hb dJ2_add_12 rfl (lv_at hl 0 rfl) ?_
  refine g_get (ci := 11) (v := .ref ar) (C := RJ2) (T := TJ2) (N := 3) hx hb hts in_J2 hown hK hW h_3 rfl 1 (by decide) q139 (fun _ h9 => h9) rfl dJ2_add_13 ?_
  refine lv_aload_n hx hb dJ2_add_16 rfl (lv_at hl 0 rfl) ?_
  refine g_get (ci := 11) (v := .int (nI xs.length)) (C := RJ2) (T := TJ2) (N := 3) hx hb hts in_J2 hown hK hW h_3 rfl 2 (by decide) q142 (fun _ h9 => h9) rfl dJ2_add_17 ?_
  have hal2 : g_AL D w_2 a ar xs cap := by
    refine ⟨_, h_3, hlen, hcap, ?_⟩
    rcases hcs with h9 | ⟨h9, f, hf, his⟩
    · exact Or.inl h9
    · exact Or.inr ⟨h9, f, by rw [ew_2]; exact hf.put (g_neAO hf ha), his⟩
  have hy2 : g_Ob D w_2 ci y := by
    rw [ew_2]
    rcases hy with ⟨fs, hy⟩ | hy
    · exact Or.inl ⟨fs, hy.put hya⟩
    · exact Or.inr hy
  refine g_callv (va_runV (As := [.ref y, .ref ar, .int (nI xs.length)]) (rest := []) ⟨hx, hb, hml, hown, hts⟩ (mtJ2_addX_2 l D w_2 H.size a ar cap xs hal2 ci N y C T hnil hy2 hcl hca hya h6) (cwV 3 hts (lw_V q248 q250 qs1 q37 q251) rfl rfl rfl (by decide +kernel) ⟨Nat.le_of_ble_eq_true rfl, Nat.le_of_ble_eq_true rfl⟩) (g_preV hW hK hE h_3 rfl) rfl rfl hl.1 rfl (lv_room (Nat.le_of_ble_eq_true rfl)) dJ2_add_20 ⟨?_, ?_⟩) hW (fun u1 H locs hp hW => ?_)
  · (try simp only [headSpec]); omega
  · (try simp only [headSpec]); omega
  obtain ⟨ar2, h1, h2, h3⟩ := hp
  refine lv_iconst (v := 1) hx hb dJ2_add_23 (by decide) ?_
  exact g_zret (v := 1) hx hb hr hlocks (by rfl) hW (⟨rfl, ar2, h1, h2.elim Or.inl (fun z => Or.inr (fun q => z (x_4.1 _ q))), (x_4.mono (fun _ _ z => Or.inl z)).tr h3⟩) (by omega) (by omega) dJ2_add_24
def cp00 : Nat → Nat := fun k => if k = 4 then 10 else if k = 9 ∨ k = 10 then 1 else 0
set_option maxHeartbeats 4000000 in
set_option maxRecDepth 100000 in
/-- ShrinkYard's constructor -/
theorem mtX1_init (l : Launch) (D : va_G) (w : g_H) (sz : Nat) (x : Nat) (l0 : Nat → Nat) (hlx : l0 x = 1) (fz4 : ∀ z, z ∈ w.1 → l0 z ≠ 4) (hxO : g_at w x (.inr (0, [.null, .null, .null, .null, .null, .null, .null, .null, .int 0, .long 0, .int 0]))) : Met l yX1_init (ws_ yX1_init cX1_init 2 none) ({ frames := 12, cells := 18, slots := 70, locals := 304 }) (g_Pc D [.ref x] w sz) (g_Qv D w sz (fun u => ∃ (l2 : Nat → Nat) (rf : Nat → Nat), g_SZ D u l2 x rf [] [] (fun _ => []) (fun _ => false) [] [] 0 [] 0 0 cp00 ∧ (∀ z, z ∈ w.1 → l2 z = l0 z) ∧ g_ex (fun q => q = x) w u)) (18) (70) (g_A w sz) := by
  refine Met.ofW (cc := cX1_init) (maxL := 2) (ret := none) (by decide) rfl ?_
  intro p e s m args below meth c s₁ B hml hv
  obtain ⟨rfl, hI⟩ := hv
  have hx := B.exec
  have hb := B.bytes
  have hr := B.returns
  have hts := atoms_spec (ws := ws_ yX1_init cX1_init 2 none) B.pre
  have hts : ∀ w ∈ lw_all, w.before _ s = true := fun w h => hts w (List.mem_cons_of_mem _ h)
  have hown : s.vm.findClass RX1 = some m.cls := findClass_of_methodNamed B.named
  have hlocks := B.notSynchronized
  have hin : meth.name = "<init>" := (name_of_methodNamed B.named B.method).1
  have hsz := hI.1
  subst hsz
  have hW := g_W.start hI
  have hK := g_K hI
  have hE := g_E hI
  have hl := lv_entry ([.ref x]) (n := 2) (by exact Nat.le_of_ble_eq_true rfl)
  rw [lg_entry_eq]
  generalize (lg_sl ([.ref x]) ++ List.replicate (2 - (lg_sl ([.ref x])).length) Slot.unset).toArray = ls at hl ⊢
  have hl : lv_has ls 2 [(0, .ref x)] := hl
  refine lv_aload_n hx hb dX1_init_0 rfl (lv_at hl 0 rfl) ?_
  refine W.objInit hx hb hown (hts _ q124) (hts _ q104) (hts _ q105) rfl (by rw [hml]; exact hl.1) rfl dX1_init_1 (Nat.le_of_ble_eq_true rfl) (Nat.le_of_ble_eq_true rfl) ?_
  refine W.eq (g2 := F0 m 4 ls []) rfl ?_
  have hxx : x ∈ w.1 := hxO.1
  have hl0 : ∀ z, z ∈ w.1 → l0 z = l0 z := fun _ _ => rfl
  have hq0 : g_ex (fun q => q = x) w w := g_ex.rf
  have x_1 : g_ex (fun q => q = x) w w := g_ex.rf
  refine lv_aload_n hx hb dX1_init_4 rfl (lv_at hl 0 rfl) ?_
  refine g_newo (ci := 11) (C := RJ2) (T := TJ2) (N := 3) hx hb hts in_J2 tyJ2 tyJ2_ok hown q125 q126 q37 hK hW rfl [.int (0), .null, .int (0)] (by decide +kernel) ?_ ?_ dX1_init_5 (fun o_2 H hq hW => ?_)
  · show _ ≤ 18; omega
  · show _ ≤ 70; omega
  have ho_2 := hq
  obtain ⟨w_3, ew_3⟩ : ∃ z__, z__ = g_push w o_2 (.inr (11, [.int (0), .null, .int (0)])) := ⟨_, rfl⟩
  have hW := g_W.ren hW ew_3 rfl
  have h_4 : g_at w_3 x (.inr (0, [.null, .null, .null, .null, .null, .null, .null, .null, .int (0), .long (0), .int (0)])) := by rw [ew_3]; exact hxO.push hq
  have h_5 : g_at w_3 o_2 (.inr (11, [.int (0), .null, .int (0)])) := by rw [ew_3]; exact g_at.push_self
  have x_6 : g_ex (fun q => q = x) w w_3 := by rw [ew_3]; exact x_1.push hq
  refine lv_dup hx hb dX1_init_8 rfl ?_
  have nox1 : x ≠ o_2 := fun z => ho_2 (z ▸ hxO.1)
  refine g_callv (va_runI (As := []) (rest := [.ref o_2, .ref x]) ⟨hx, hb, hml, hown, hts⟩ (mtJ2_init l D w_3 H.size o_2 h_5) (cwI 0 hts (lw_meth q129) rfl rfl rfl (hts _ q37) (hts _ q127) (hts _ q128) rfl (by decide +kernel) ⟨Nat.le_of_ble_eq_true rfl, Nat.le_of_ble_eq_true rfl⟩) (g_preS hW hK hE) rfl rfl hl.1 rfl (lv_room (Nat.le_of_ble_eq_true rfl)) dX1_init_9 ⟨?_, ?_⟩) hW (fun u1 H locs hp hW => ?_)
  · (try simp only [headSpec]); omega
  · (try simp only [headSpec]); omega
  obtain ⟨hp1, hi1⟩ := hp
  have hxa1 : g_ex (fun q => q = x) w u1 := x_6.trM hi1 (fun z hz hq => absurd (hq ▸ hz) ho_2)
  have hxb1 := hi1.at h_4 nox1
  have x_7 : g_ex (fun q => q = x) u1 u1 := g_ex.rf
  refine g_putF (ci := 0) (v := .ref o_2) (ty := (.object "java/util/List")) (C := RX1) (T := TX1) (N := 11) hx hb hts in_X1 tyX1 tyX1_ok nmX1 hown hK hW hxb1 rfl 0 (by decide) q354 (fun _ h9 => h9) rfl hin rfl (by decide +kernel) rfl rfl (Nat.le_of_ble_eq_true rfl) dX1_init_12 (fun H locs hW => ?_)
  obtain ⟨w_8, ew_8⟩ : ∃ z__, z__ = g_put u1 x (.inr (0, [.ref o_2, .null, .null, .null, .null, .null, .null, .null, .int (0), .long (0), .int (0)])) := ⟨_, rfl⟩
  have hW := g_W.ren hW ew_8 rfl
  have h_9 : g_at w_8 x (.inr (0, [.ref o_2, .null, .null, .null, .null, .null, .null, .null, .int (0), .long (0), .int (0)])) := by rw [ew_8]; exact g_at.put_self hxb1.1
  have x_10 : g_ex (fun q => q = x) u1 w_8 := by rw [ew_8]; exact x_7.put (fun hz9 => rfl)
  have hxc1 := hxa1.tr x_10
  have hxl : l0 x = 1 := (hl0 x hxx).trans hlx
  have pt1 : cAL D w_8 (lb l0 w 2) 2 o_2 [] 0 := ⟨_, hp1.ex x_10 (fun z => nox1 z.symm) (fun z => absurd z (by decide)), lb_out ho_2, fun z => absurd z (by decide)⟩
  have hl21 : ∀ z, z ∈ w.1 → (lb l0 w 2) z = l0 z := fun z hz => (lb_in z (hq0.1 z hz)).trans (hl0 z hz)
  have hq21 : g_ex (fun q => q = x) w w_8 := hq0.tr hxc1
  have x_11 : g_ex (fun q => q = x) w_8 w_8 := g_ex.rf
  refine lv_aload_n hx hb dX1_init_15 rfl (lv_at hl 0 rfl) ?_
  refine g_newo (ci := 11) (C := RJ2) (T := TJ2) (N := 3) hx hb hts in_J2 tyJ2 tyJ2_ok hown q125 q126 q37 hK hW rfl [.int (0), .null, .int (0)] (by decide +kernel) ?_ ?_ dX1_init_16 (fun o_12 H hq hW => ?_)
  · show _ ≤ 18; omega
  · show _ ≤ 70; omega
  have ho_12 := hq
  obtain ⟨w_13, ew_13⟩ : ∃ z__, z__ = g_push w_8 o_12 (.inr (11, [.int (0), .null, .int (0)])) := ⟨_, rfl⟩
  have hW := g_W.ren hW ew_13 rfl
  have h_14 : g_at w_13 x (.inr (0, [.ref o_2, .null, .null, .null, .null, .null, .null, .null, .int (0), .long (0), .int (0)])) := by rw [ew_13]; exact h_9.push hq
  have h_15 : g_at w_13 o_12 (.inr (11, [.int (0), .null, .int (0)])) := by rw [ew_13]; exact g_at.push_self
  have x_16 : g_ex (fun q => q = x) w_8 w_13 := by rw [ew_13]; exact x_11.push hq
  refine lv_dup hx hb dX1_init_19 rfl ?_
  have nox2 : x ≠ o_12 := fun z => ho_12 (z ▸ h_9.1)
  refine g_callv (va_runI (As := []) (rest := [.ref o_12, .ref x]) ⟨hx, hb, hml, hown, hts⟩ (mtJ2_init l D w_13 H.size o_12 h_15) (cwI 0 hts (lw_meth q129) rfl rfl rfl (hts _ q37) (hts _ q127) (hts _ q128) rfl (by decide +kernel) ⟨Nat.le_of_ble_eq_true rfl, Nat.le_of_ble_eq_true rfl⟩) (g_preS hW hK hE) rfl rfl hl.1 rfl (lv_room (Nat.le_of_ble_eq_true rfl)) dX1_init_20 ⟨?_, ?_⟩) hW (fun u2 H locs hp hW => ?_)
  · (try simp only [headSpec]); omega
  · (try simp only [headSpec]); omega
  obtain ⟨hp2, hi2⟩ := hp
  have hxa2 : g_ex (fun q => q = x) w_8 u2 := x_16.trM hi2 (fun z hz hq => absurd (hq ▸ hz) ho_12)
  have hxb2 := hi2.at h_14 nox2
  have x_17 : g_ex (fun q => q = x) u2 u2 := g_ex.rf
  refine g_putF (ci := 0) (v := .ref o_12) (ty := (.object "java/util/List")) (C := RX1) (T := TX1) (N := 11) hx hb hts in_X1 tyX1 tyX1_ok nmX1 hown hK hW hxb2 rfl 1 (by decide) q355 (fun _ h9 => h9) rfl hin rfl (by decide +kernel) rfl rfl (Nat.le_of_ble_eq_true rfl) dX1_init_23 (fun H locs hW => ?_)
  obtain ⟨w_18, ew_18⟩ : ∃ z__, z__ = g_put u2 x (.inr (0, [.ref o_2, .ref o_12, .null, .null, .null, .null, .null, .null, .int (0), .long (0), .int (0)])) := ⟨_, rfl⟩
  have hW := g_W.ren hW ew_18 rfl
  have h_19 : g_at w_18 x (.inr (0, [.ref o_2, .ref o_12, .null, .null, .null, .null, .null, .null, .int (0), .long (0), .int (0)])) := by rw [ew_18]; exact g_at.put_self hxb2.1
  have x_20 : g_ex (fun q => q = x) u2 w_18 := by rw [ew_18]; exact x_17.put (fun hz9 => rfl)
  have hxc2 := hxa2.tr x_20
  have hxl : (lb l0 w 2) x = 1 := (hl21 x hxx).trans hlx
  have k_21 := pt1.keep (lab' := (lb (lb l0 w 2) w_8 3)) hxc2 lb_in (fun z _ hz => by rw [hz, hxl]; decide)
  have pt2 : cAL D w_18 (lb (lb l0 w 2) w_8 3) 3 o_12 [] 0 := ⟨_, hp2.ex x_20 (fun z => nox2 z.symm) (fun z => absurd z (by decide)), lb_out ho_12, fun z => absurd z (by decide)⟩
  have hl22 : ∀ z, z ∈ w.1 → (lb (lb l0 w 2) w_8 3) z = l0 z := fun z hz => (lb_in z (hq21.1 z hz)).trans (hl21 z hz)
  have hq22 : g_ex (fun q => q = x) w w_18 := hq21.tr hxc2
  have x_22 : g_ex (fun q => q = x) w_18 w_18 := g_ex.rf
  refine lv_aload_n hx hb dX1_init_26 rfl (lv_at hl 0 rfl) ?_
  refine g_newo (ci := 11) (C := RJ2) (T := TJ2) (N := 3) hx hb hts in_J2 tyJ2 tyJ2_ok hown q125 q126 q37 hK hW rfl [.int (0), .null, .int (0)] (by decide +kernel) ?_ ?_ dX1_init_27 (fun o_23 H hq hW => ?_)
  · show _ ≤ 18; omega
  · show _ ≤ 70; omega
  have ho_23 := hq
  obtain ⟨w_24, ew_24⟩ : ∃ z__, z__ = g_push w_18 o_23 (.inr (11, [.int (0), .null, .int (0)])) := ⟨_, rfl⟩
  have hW := g_W.ren hW ew_24 rfl
  have h_25 : g_at w_24 x (.inr (0, [.ref o_2, .ref o_12, .null, .null, .null, .null, .null, .null, .int (0), .long (0), .int (0)])) := by rw [ew_24]; exact h_19.push hq
  have h_26 : g_at w_24 o_23 (.inr (11, [.int (0), .null, .int (0)])) := by rw [ew_24]; exact g_at.push_self
  have x_27 : g_ex (fun q => q = x) w_18 w_24 := by rw [ew_24]; exact x_22.push hq
  refine lv_dup hx hb dX1_init_30 rfl ?_
  have nox3 : x ≠ o_23 := fun z => ho_23 (z ▸ h_19.1)
  refine g_callv (va_runI (As := []) (rest := [.ref o_23, .ref x]) ⟨hx, hb, hml, hown, hts⟩ (mtJ2_init l D w_24 H.size o_23 h_26) (cwI 0 hts (lw_meth q129) rfl rfl rfl (hts _ q37) (hts _ q127) (hts _ q128) rfl (by decide +kernel) ⟨Nat.le_of_ble_eq_true rfl, Nat.le_of_ble_eq_true rfl⟩) (g_preS hW hK hE) rfl rfl hl.1 rfl (lv_room (Nat.le_of_ble_eq_true rfl)) dX1_init_31 ⟨?_, ?_⟩) hW (fun u3 H locs hp hW => ?_)
  · (try simp only [headSpec]); omega
  · (try simp only [headSpec]); omega
  obtain ⟨hp3, hi3⟩ := hp
  have hxa3 : g_ex (fun q => q = x) w_18 u3 := x_27.trM hi3 (fun z hz hq => absurd (hq ▸ hz) ho_23)
  have hxb3 := hi3.at h_25 nox3
  have x_28 : g_ex (fun q => q = x) u3 u3 := g_ex.rf
  refine g_putF (ci := 0) (v := .ref o_23) (ty := (.object "java/util/List")) (C := RX1) (T := TX1) (N := 11) hx hb hts in_X1 tyX1 tyX1_ok nmX1 hown hK hW hxb3 rfl 2 (by decide) q356 (fun _ h9 => h9) rfl hin rfl (by decide +kernel) rfl rfl (Nat.le_of_ble_eq_true rfl) dX1_init_34 (fun H locs hW => ?_)
  obtain ⟨w_29, ew_29⟩ : ∃ z__, z__ = g_put u3 x (.inr (0, [.ref o_2, .ref o_12, .ref o_23, .null, .null, .null, .null, .null, .int (0), .long (0), .int (0)])) := ⟨_, rfl⟩
  have hW := g_W.ren hW ew_29 rfl
  have h_30 : g_at w_29 x (.inr (0, [.ref o_2, .ref o_12, .ref o_23, .null, .null, .null, .null, .null, .int (0), .long (0), .int (0)])) := by rw [ew_29]; exact g_at.put_self hxb3.1
  have x_31 : g_ex (fun q => q = x) u3 w_29 := by rw [ew_29]; exact x_28.put (fun hz9 => rfl)
  have hxc3 := hxa3.tr x_31
  have hxl : (lb (lb l0 w 2) w_8 3) x = 1 := (hl22 x hxx).trans hlx
  have k_32 := k_21.keep (lab' := (lb (lb (lb l0 w 2) w_8 3) w_18 4)) hxc3 lb_in (fun z _ hz => by rw [hz, hxl]; decide)
  have k_33 := pt2.keep (lab' := (lb (lb (lb l0 w 2) w_8 3) w_18 4)) hxc3 lb_in (fun z _ hz => by rw [hz, hxl]; decide)
  have pt3 : cAL D w_29 (lb (lb (lb l0 w 2) w_8 3) w_18 4) 4 o_23 [] 0 := ⟨_, hp3.ex x_31 (fun z => nox3 z.symm) (fun z => absurd z (by decide)), lb_out ho_23, fun z => absurd z (by decide)⟩
  have hl23 : ∀ z, z ∈ w.1 → (lb (lb (lb l0 w 2) w_8 3) w_18 4) z = l0 z := fun z hz => (lb_in z (hq22.1 z hz)).trans (hl22 z hz)
  have hq23 : g_ex (fun q => q = x) w w_29 := hq22.tr hxc3
  have x_34 : g_ex (fun q => q = x) w_29 w_29 := g_ex.rf
  refine lv_aload_n hx hb dX1_init_37 rfl (lv_at hl 0 rfl) ?_
  refine g_newo (ci := 1) (C := RX2) (T := TX2) (N := 7) hx hb hts in_X2 tyX2 tyX2_ok hown q158 q159 q38 hK hW rfl [.null, .null, .null, .int (0), .int (0), .int (0), .null] (by decide +kernel) ?_ ?_ dX1_init_38 (fun o_35 H hq hW => ?_)
  · show _ ≤ 18; omega
  · show _ ≤ 70; omega
  have ho_35 := hq
  obtain ⟨w_36, ew_36⟩ : ∃ z__, z__ = g_push w_29 o_35 (.inr (1, [.null, .null, .null, .int (0), .int (0), .int (0), .null])) := ⟨_, rfl⟩
  have hW := g_W.ren hW ew_36 rfl
  have h_37 : g_at w_36 x (.inr (0, [.ref o_2, .ref o_12, .ref o_23, .null, .null, .null, .null, .null, .int (0), .long (0), .int (0)])) := by rw [ew_36]; exact h_30.push hq
  have h_38 : g_at w_36 o_35 (.inr (1, [.null, .null, .null, .int (0), .int (0), .int (0), .null])) := by rw [ew_36]; exact g_at.push_self
  have x_39 : g_ex (fun q => q = x) w_29 w_36 := by rw [ew_36]; exact x_34.push hq
  refine lv_dup hx hb dX1_init_41 rfl ?_
  refine lv_aload_n hx hb dX1_init_42 rfl (lv_at hl 0 rfl) ?_
  have nox4 : x ≠ o_35 := fun z => ho_35 (z ▸ h_30.1)
  refine g_callv (va_runIN (As := [.ref x]) (rest := [.ref o_35, .ref x]) ⟨hx, hb, hml, hown, hts⟩ (mtX2_init l D w_36 H.size o_35 x h_38) ⟨(va_cnB 1 hts (lw_meth q162) rfl rfl rfl (nm_q160 hE) (hts _ q38) (by decide +kernel) ⟨Nat.le_of_ble_eq_true rfl, Nat.le_of_ble_eq_true rfl⟩), rfl, hts _ q161⟩ (g_preS hW hK hE) rfl rfl hl.1 rfl (lv_room (Nat.le_of_ble_eq_true rfl)) dX1_init_43 ⟨?_, ?_⟩) hW (fun u4 H locs hp hW => ?_)
  · (try simp only [headSpec]); omega
  · (try simp only [headSpec]); omega
  obtain ⟨ra4, eb4, wb4, fra4, feb4, fwb4, hp4, hi4⟩ := hp
  have hxa4 : g_ex (fun q => q = x) w_29 u4 := x_39.trM hi4 (fun z hz hq => absurd (hq ▸ hz) ho_35)
  have hxb4 := hi4.at h_37 nox4
  have x_40 : g_ex (fun q => q = x) u4 u4 := g_ex.rf
  refine g_putF (ci := 0) (v := .ref o_35) (ty := (.object "ShrinkYard$Machine")) (C := RX1) (T := TX1) (N := 11) hx hb hts in_X1 tyX1 tyX1_ok nmX1 hown hK hW hxb4 rfl 3 (by decide) q357 (fun _ h9 => h9) rfl hin rfl (by decide +kernel) rfl rfl (Nat.le_of_ble_eq_true rfl) dX1_init_46 (fun H locs hW => ?_)
  obtain ⟨w_41, ew_41⟩ : ∃ z__, z__ = g_put u4 x (.inr (0, [.ref o_2, .ref o_12, .ref o_23, .ref o_35, .null, .null, .null, .null, .int (0), .long (0), .int (0)])) := ⟨_, rfl⟩
  have hW := g_W.ren hW ew_41 rfl
  have h_42 : g_at w_41 x (.inr (0, [.ref o_2, .ref o_12, .ref o_23, .ref o_35, .null, .null, .null, .null, .int (0), .long (0), .int (0)])) := by rw [ew_41]; exact g_at.put_self hxb4.1
  have x_43 : g_ex (fun q => q = x) u4 w_41 := by rw [ew_41]; exact x_40.put (fun hz9 => rfl)
  have hxc4 := hxa4.tr x_43
  have hxl : (lb (lb (lb l0 w 2) w_8 3) w_18 4) x = 1 := (hl23 x hxx).trans hlx
  have k_44 := k_32.keep (lab' := (lb (lb (lb (lb l0 w 2) w_8 3) w_18 4) w_29 9)) hxc4 lb_in (fun z _ hz => by rw [hz, hxl]; decide)
  have k_45 := k_33.keep (lab' := (lb (lb (lb (lb l0 w 2) w_8 3) w_18 4) w_29 9)) hxc4 lb_in (fun z _ hz => by rw [hz, hxl]; decide)
  have k_46 := pt3.keep (lab' := (lb (lb (lb (lb l0 w 2) w_8 3) w_18 4) w_29 9)) hxc4 lb_in (fun z _ hz => by rw [hz, hxl]; decide)
  have nra4 : ra4 ∉ w_29.1 := fun z => fra4 (x_39.1 _ z)
  have neb4 : eb4 ∉ w_29.1 := fun z => feb4 (x_39.1 _ z)
  have nwb4 : wb4 ∉ w_29.1 := fun z => fwb4 (x_39.1 _ z)
  have hxW4 : x ∈ w_29.1 := h_30.1
  have pt4 : cMa D w_41 (lb (lb (lb (lb l0 w 2) w_8 3) w_18 4) w_29 9) 9 o_35 x 1 := ⟨ra4, eb4, wb4, _, _, _, _, _, hp4.ex x_43 (fun z => nox4 z.symm) (fun z => nra4 (z ▸ hxW4)) (fun z => neb4 (z ▸ hxW4)) (fun z => nwb4 (z ▸ hxW4)), lb_out ho_35, lb_out nra4, lb_out neb4, lb_out nwb4⟩
  have hl24 : ∀ z, z ∈ w.1 → (lb (lb (lb (lb l0 w 2) w_8 3) w_18 4) w_29 9) z = l0 z := fun z hz => (lb_in z (hq23.1 z hz)).trans (hl23 z hz)
  have hq24 : g_ex (fun q => q = x) w w_41 := hq23.tr hxc4
  have x_47 : g_ex (fun q => q = x) w_41 w_41 := g_ex.rf
  refine lv_aload_n hx hb dX1_init_49 rfl (lv_at hl 0 rfl) ?_
  refine g_newo (ci := 14) (C := RJ3) (T := TJ3) (N := 3) hx hb hts in_J3 tyJ3 tyJ3_ok hown q215 q165 q39 hK hW rfl [.null, .int (0), .int (0)] (by decide +kernel) ?_ ?_ dX1_init_50 (fun o_48 H hq hW => ?_)
  · show _ ≤ 18; omega
  · show _ ≤ 70; omega
  have ho_48 := hq
  obtain ⟨w_49, ew_49⟩ : ∃ z__, z__ = g_push w_41 o_48 (.inr (14, [.null, .int (0), .int (0)])) := ⟨_, rfl⟩
  have hW := g_W.ren hW ew_49 rfl
  have h_50 : g_at w_49 x (.inr (0, [.ref o_2, .ref o_12, .ref o_23, .ref o_35, .null, .null, .null, .null, .int (0), .long (0), .int (0)])) := by rw [ew_49]; exact h_42.push hq
  have h_51 : g_at w_49 o_48 (.inr (14, [.null, .int (0), .int (0)])) := by rw [ew_49]; exact g_at.push_self
  have x_52 : g_ex (fun q => q = x) w_41 w_49 := by rw [ew_49]; exact x_47.push hq
  refine lv_dup hx hb dX1_init_53 rfl ?_
  have nox5 : x ≠ o_48 := fun z => ho_48 (z ▸ h_42.1)
  refine g_callv (va_runI (As := []) (rest := [.ref o_48, .ref x]) ⟨hx, hb, hml, hown, hts⟩ (mtJ3_init l D w_49 H.size o_48 h_51) (cwI 0 hts (lw_meth q168) rfl rfl rfl (hts _ q39) (hts _ q216) (hts _ q167) rfl (by decide +kernel) ⟨Nat.le_of_ble_eq_true rfl, Nat.le_of_ble_eq_true rfl⟩) (g_preS hW hK hE) rfl rfl hl.1 rfl (lv_room (Nat.le_of_ble_eq_true rfl)) dX1_init_54 ⟨?_, ?_⟩) hW (fun u5 H locs hp hW => ?_)
  · (try simp only [headSpec]); omega
  · (try simp only [headSpec]); omega
  obtain ⟨wa5, fwa5, hp5, hi5⟩ := hp
  have hxa5 : g_ex (fun q => q = x) w_41 u5 := x_52.trM hi5 (fun z hz hq => absurd (hq ▸ hz) ho_48)
  have hxb5 := hi5.at h_50 nox5
  have x_53 : g_ex (fun q => q = x) u5 u5 := g_ex.rf
  refine g_putF (ci := 0) (v := .ref o_48) (ty := (.object "java/util/BitSet")) (C := RX1) (T := TX1) (N := 11) hx hb hts in_X1 tyX1 tyX1_ok nmX1 hown hK hW hxb5 rfl 4 (by decide) q358 (fun _ h9 => h9) rfl hin rfl (by decide +kernel) rfl rfl (Nat.le_of_ble_eq_true rfl) dX1_init_57 (fun H locs hW => ?_)
  obtain ⟨w_54, ew_54⟩ : ∃ z__, z__ = g_put u5 x (.inr (0, [.ref o_2, .ref o_12, .ref o_23, .ref o_35, .ref o_48, .null, .null, .null, .int (0), .long (0), .int (0)])) := ⟨_, rfl⟩
  have hW := g_W.ren hW ew_54 rfl
  have h_55 : g_at w_54 x (.inr (0, [.ref o_2, .ref o_12, .ref o_23, .ref o_35, .ref o_48, .null, .null, .null, .int (0), .long (0), .int (0)])) := by rw [ew_54]; exact g_at.put_self hxb5.1
  have x_56 : g_ex (fun q => q = x) u5 w_54 := by rw [ew_54]; exact x_53.put (fun hz9 => rfl)
  have hxc5 := hxa5.tr x_56
  have hxl : (lb (lb (lb (lb l0 w 2) w_8 3) w_18 4) w_29 9) x = 1 := (hl24 x hxx).trans hlx
  have k_57 := k_44.keep (lab' := (lb (lb (lb (lb (lb l0 w 2) w_8 3) w_18 4) w_29 9) w_41 10)) hxc5 lb_in (fun z _ hz => by rw [hz, hxl]; decide)
  have k_58 := k_45.keep (lab' := (lb (lb (lb (lb (lb l0 w 2) w_8 3) w_18 4) w_29 9) w_41 10)) hxc5 lb_in (fun z _ hz => by rw [hz, hxl]; decide)
  have k_59 := k_46.keep (lab' := (lb (lb (lb (lb (lb l0 w 2) w_8 3) w_18 4) w_29 9) w_41 10)) hxc5 lb_in (fun z _ hz => by rw [hz, hxl]; decide)
  have k_60 := pt4.keep (lab' := (lb (lb (lb (lb (lb l0 w 2) w_8 3) w_18 4) w_29 9) w_41 10)) hxc5 lb_in (fun z _ hz => by rw [hz, hxl]; decide)
  have nwa5 : wa5 ∉ w_41.1 := fun z => fwa5 (x_52.1 _ z)
  have hxW5 : x ∈ w_41.1 := h_42.1
  have pt5 : cBS D w_54 (lb (lb (lb (lb (lb l0 w 2) w_8 3) w_18 4) w_29 9) w_41 10) 10 o_48 (fun _ => false) 1 := ⟨wa5, 0, hp5.ex x_56 (fun z => nox5 z.symm) (fun z => nwa5 (by rw [z]; exact hxW5)), lb_out ho_48, lb_out nwa5⟩
  have hl25 : ∀ z, z ∈ w.1 → (lb (lb (lb (lb (lb l0 w 2) w_8 3) w_18 4) w_29 9) w_41 10) z = l0 z := fun z hz => (lb_in z (hq24.1 z hz)).trans (hl24 z hz)
  have hq25 : g_ex (fun q => q = x) w w_54 := hq24.tr hxc5
  have x_61 : g_ex (fun q => q = x) w_54 w_54 := g_ex.rf
  refine lv_aload_n hx hb dX1_init_60 rfl (lv_at hl 0 rfl) ?_
  refine g_newo (ci := 11) (C := RJ2) (T := TJ2) (N := 3) hx hb hts in_J2 tyJ2 tyJ2_ok hown q125 q126 q37 hK hW rfl [.int (0), .null, .int (0)] (by decide +kernel) ?_ ?_ dX1_init_61 (fun o_62 H hq hW => ?_)
  · show _ ≤ 18; omega
  · show _ ≤ 70; omega
  have ho_62 := hq
  obtain ⟨w_63, ew_63⟩ : ∃ z__, z__ = g_push w_54 o_62 (.inr (11, [.int (0), .null, .int (0)])) := ⟨_, rfl⟩
  have hW := g_W.ren hW ew_63 rfl
  have h_64 : g_at w_63 x (.inr (0, [.ref o_2, .ref o_12, .ref o_23, .ref o_35, .ref o_48, .null, .null, .null, .int (0), .long (0), .int (0)])) := by rw [ew_63]; exact h_55.push hq
  have h_65 : g_at w_63 o_62 (.inr (11, [.int (0), .null, .int (0)])) := by rw [ew_63]; exact g_at.push_self
  have x_66 : g_ex (fun q => q = x) w_54 w_63 := by rw [ew_63]; exact x_61.push hq
  refine lv_dup hx hb dX1_init_64 rfl ?_
  have nox6 : x ≠ o_62 := fun z => ho_62 (z ▸ h_55.1)
  refine g_callv (va_runI (As := []) (rest := [.ref o_62, .ref x]) ⟨hx, hb, hml, hown, hts⟩ (mtJ2_init l D w_63 H.size o_62 h_65) (cwI 0 hts (lw_meth q129) rfl rfl rfl (hts _ q37) (hts _ q127) (hts _ q128) rfl (by decide +kernel) ⟨Nat.le_of_ble_eq_true rfl, Nat.le_of_ble_eq_true rfl⟩) (g_preS hW hK hE) rfl rfl hl.1 rfl (lv_room (Nat.le_of_ble_eq_true rfl)) dX1_init_65 ⟨?_, ?_⟩) hW (fun u6 H locs hp hW => ?_)
  · (try simp only [headSpec]); omega
  · (try simp only [headSpec]); omega
  obtain ⟨hp6, hi6⟩ := hp
  have hxa6 : g_ex (fun q => q = x) w_54 u6 := x_66.trM hi6 (fun z hz hq => absurd (hq ▸ hz) ho_62)
  have hxb6 := hi6.at h_64 nox6
  have x_67 : g_ex (fun q => q = x) u6 u6 := g_ex.rf
  refine g_putF (ci := 0) (v := .ref o_62) (ty := (.object "java/util/List")) (C := RX1) (T := TX1) (N := 11) hx hb hts in_X1 tyX1 tyX1_ok nmX1 hown hK hW hxb6 rfl 5 (by decide) q359 (fun _ h9 => h9) rfl hin rfl (by decide +kernel) rfl rfl (Nat.le_of_ble_eq_true rfl) dX1_init_68 (fun H locs hW => ?_)
  obtain ⟨w_68, ew_68⟩ : ∃ z__, z__ = g_put u6 x (.inr (0, [.ref o_2, .ref o_12, .ref o_23, .ref o_35, .ref o_48, .ref o_62, .null, .null, .int (0), .long (0), .int (0)])) := ⟨_, rfl⟩
  have hW := g_W.ren hW ew_68 rfl
  have h_69 : g_at w_68 x (.inr (0, [.ref o_2, .ref o_12, .ref o_23, .ref o_35, .ref o_48, .ref o_62, .null, .null, .int (0), .long (0), .int (0)])) := by rw [ew_68]; exact g_at.put_self hxb6.1
  have x_70 : g_ex (fun q => q = x) u6 w_68 := by rw [ew_68]; exact x_67.put (fun hz9 => rfl)
  have hxc6 := hxa6.tr x_70
  have hxl : (lb (lb (lb (lb (lb l0 w 2) w_8 3) w_18 4) w_29 9) w_41 10) x = 1 := (hl25 x hxx).trans hlx
  have k_71 := k_57.keep (lab' := (lb (lb (lb (lb (lb (lb l0 w 2) w_8 3) w_18 4) w_29 9) w_41 10) w_54 11)) hxc6 lb_in (fun z _ hz => by rw [hz, hxl]; decide)
  have k_72 := k_58.keep (lab' := (lb (lb (lb (lb (lb (lb l0 w 2) w_8 3) w_18 4) w_29 9) w_41 10) w_54 11)) hxc6 lb_in (fun z _ hz => by rw [hz, hxl]; decide)
  have k_73 := k_59.keep (lab' := (lb (lb (lb (lb (lb (lb l0 w 2) w_8 3) w_18 4) w_29 9) w_41 10) w_54 11)) hxc6 lb_in (fun z _ hz => by rw [hz, hxl]; decide)
  have k_74 := k_60.keep (lab' := (lb (lb (lb (lb (lb (lb l0 w 2) w_8 3) w_18 4) w_29 9) w_41 10) w_54 11)) hxc6 lb_in (fun z _ hz => by rw [hz, hxl]; decide)
  have k_75 := pt5.keep (lab' := (lb (lb (lb (lb (lb (lb l0 w 2) w_8 3) w_18 4) w_29 9) w_41 10) w_54 11)) hxc6 lb_in (fun z _ hz => by rw [hz, hxl]; decide)
  have pt6 : cAL D w_68 (lb (lb (lb (lb (lb (lb l0 w 2) w_8 3) w_18 4) w_29 9) w_41 10) w_54 11) 11 o_62 [] 0 := ⟨_, hp6.ex x_70 (fun z => nox6 z.symm) (fun z => absurd z (by decide)), lb_out ho_62, fun z => absurd z (by decide)⟩
  have hl26 : ∀ z, z ∈ w.1 → (lb (lb (lb (lb (lb (lb l0 w 2) w_8 3) w_18 4) w_29 9) w_41 10) w_54 11) z = l0 z := fun z hz => (lb_in z (hq25.1 z hz)).trans (hl25 z hz)
  have hq26 : g_ex (fun q => q = x) w w_68 := hq25.tr hxc6
  have x_76 : g_ex (fun q => q = x) w_68 w_68 := g_ex.rf
  refine lv_aload_n hx hb dX1_init_71 rfl (lv_at hl 0 rfl) ?_
  refine g_newo (ci := 12) (C := RJ5) (T := TJ5) (N := 4) hx hb hts in_J5 tyJ5 tyJ5_ok hown q217 q218 q41 hK hW rfl [.int (0), .int (0), .null, .null] (by decide +kernel) ?_ ?_ dX1_init_72 (fun o_77 H hq hW => ?_)
  · show _ ≤ 18; omega
  · show _ ≤ 70; omega
  have ho_77 := hq
  obtain ⟨w_78, ew_78⟩ : ∃ z__, z__ = g_push w_68 o_77 (.inr (12, [.int (0), .int (0), .null, .null])) := ⟨_, rfl⟩
  have hW := g_W.ren hW ew_78 rfl
  have h_79 : g_at w_78 x (.inr (0, [.ref o_2, .ref o_12, .ref o_23, .ref o_35, .ref o_48, .ref o_62, .null, .null, .int (0), .long (0), .int (0)])) := by rw [ew_78]; exact h_69.push hq
  have h_80 : g_at w_78 o_77 (.inr (12, [.int (0), .int (0), .null, .null])) := by rw [ew_78]; exact g_at.push_self
  have x_81 : g_ex (fun q => q = x) w_68 w_78 := by rw [ew_78]; exact x_76.push hq
  refine lv_dup hx hb dX1_init_75 rfl ?_
  have nox7 : x ≠ o_77 := fun z => ho_77 (z ▸ h_69.1)
  refine g_callv (va_runI (As := []) (rest := [.ref o_77, .ref x]) ⟨hx, hb, hml, hown, hts⟩ (mtJ5_init l D w_78 H.size o_77 h_80) (cwI 0 hts (lw_meth q221) rfl rfl rfl (hts _ q41) (hts _ q219) (hts _ q220) rfl (by decide +kernel) ⟨Nat.le_of_ble_eq_true rfl, Nat.le_of_ble_eq_true rfl⟩) (g_preS hW hK hE) rfl rfl hl.1 rfl (lv_room (Nat.le_of_ble_eq_true rfl)) dX1_init_76 ⟨?_, ?_⟩) hW (fun u7 H locs hp hW => ?_)
  · (try simp only [headSpec]); omega
  · (try simp only [headSpec]); omega
  obtain ⟨hp7, hi7⟩ := hp
  have hxa7 : g_ex (fun q => q = x) w_68 u7 := x_81.trM hi7 (fun z hz hq => absurd (hq ▸ hz) ho_77)
  have hxb7 := hi7.at h_79 nox7
  have x_82 : g_ex (fun q => q = x) u7 u7 := g_ex.rf
  refine g_putF (ci := 0) (v := .ref o_77) (ty := (.object "java/util/LinkedList")) (C := RX1) (T := TX1) (N := 11) hx hb hts in_X1 tyX1 tyX1_ok nmX1 hown hK hW hxb7 rfl 6 (by decide) q360 (fun _ h9 => h9) rfl hin rfl (by decide +kernel) rfl rfl (Nat.le_of_ble_eq_true rfl) dX1_init_79 (fun H locs hW => ?_)
  obtain ⟨w_83, ew_83⟩ : ∃ z__, z__ = g_put u7 x (.inr (0, [.ref o_2, .ref o_12, .ref o_23, .ref o_35, .ref o_48, .ref o_62, .ref o_77, .null, .int (0), .long (0), .int (0)])) := ⟨_, rfl⟩
  have hW := g_W.ren hW ew_83 rfl
  have h_84 : g_at w_83 x (.inr (0, [.ref o_2, .ref o_12, .ref o_23, .ref o_35, .ref o_48, .ref o_62, .ref o_77, .null, .int (0), .long (0), .int (0)])) := by rw [ew_83]; exact g_at.put_self hxb7.1
  have x_85 : g_ex (fun q => q = x) u7 w_83 := by rw [ew_83]; exact x_82.put (fun hz9 => rfl)
  have hxc7 := hxa7.tr x_85
  have hxl : (lb (lb (lb (lb (lb (lb l0 w 2) w_8 3) w_18 4) w_29 9) w_41 10) w_54 11) x = 1 := (hl26 x hxx).trans hlx
  have k_86 := k_71.keep (lab' := (lb (lb (lb (lb (lb (lb (lb l0 w 2) w_8 3) w_18 4) w_29 9) w_41 10) w_54 11) w_68 12)) hxc7 lb_in (fun z _ hz => by rw [hz, hxl]; decide)
  have k_87 := k_72.keep (lab' := (lb (lb (lb (lb (lb (lb (lb l0 w 2) w_8 3) w_18 4) w_29 9) w_41 10) w_54 11) w_68 12)) hxc7 lb_in (fun z _ hz => by rw [hz, hxl]; decide)
  have k_88 := k_73.keep (lab' := (lb (lb (lb (lb (lb (lb (lb l0 w 2) w_8 3) w_18 4) w_29 9) w_41 10) w_54 11) w_68 12)) hxc7 lb_in (fun z _ hz => by rw [hz, hxl]; decide)
  have k_89 := k_74.keep (lab' := (lb (lb (lb (lb (lb (lb (lb l0 w 2) w_8 3) w_18 4) w_29 9) w_41 10) w_54 11) w_68 12)) hxc7 lb_in (fun z _ hz => by rw [hz, hxl]; decide)
  have k_90 := k_75.keep (lab' := (lb (lb (lb (lb (lb (lb (lb l0 w 2) w_8 3) w_18 4) w_29 9) w_41 10) w_54 11) w_68 12)) hxc7 lb_in (fun z _ hz => by rw [hz, hxl]; decide)
  have k_91 := pt6.keep (lab' := (lb (lb (lb (lb (lb (lb (lb l0 w 2) w_8 3) w_18 4) w_29 9) w_41 10) w_54 11) w_68 12)) hxc7 lb_in (fun z _ hz => by rw [hz, hxl]; decide)
  have pt7 : cLL D w_83 (lb (lb (lb (lb (lb (lb (lb l0 w 2) w_8 3) w_18 4) w_29 9) w_41 10) w_54 11) w_68 12) 12 o_77 [] := ⟨[], hp7.ex x_85 (fun z => nox7 z.symm) (fun _ z => by cases z), lb_out ho_77, fun _ z => by cases z⟩
  have hl27 : ∀ z, z ∈ w.1 → (lb (lb (lb (lb (lb (lb (lb l0 w 2) w_8 3) w_18 4) w_29 9) w_41 10) w_54 11) w_68 12) z = l0 z := fun z hz => (lb_in z (hq26.1 z hz)).trans (hl26 z hz)
  have hq27 : g_ex (fun q => q = x) w w_83 := hq26.tr hxc7
  have x_92 : g_ex (fun q => q = x) w_83 w_83 := g_ex.rf
  refine lv_aload_n hx hb dX1_init_82 rfl (lv_at hl 0 rfl) ?_
  refine g_newo (ci := 11) (C := RJ2) (T := TJ2) (N := 3) hx hb hts in_J2 tyJ2 tyJ2_ok hown q125 q126 q37 hK hW rfl [.int (0), .null, .int (0)] (by decide +kernel) ?_ ?_ dX1_init_83 (fun o_93 H hq hW => ?_)
  · show _ ≤ 18; omega
  · show _ ≤ 70; omega
  have ho_93 := hq
  obtain ⟨w_94, ew_94⟩ : ∃ z__, z__ = g_push w_83 o_93 (.inr (11, [.int (0), .null, .int (0)])) := ⟨_, rfl⟩
  have hW := g_W.ren hW ew_94 rfl
  have h_95 : g_at w_94 x (.inr (0, [.ref o_2, .ref o_12, .ref o_23, .ref o_35, .ref o_48, .ref o_62, .ref o_77, .null, .int (0), .long (0), .int (0)])) := by rw [ew_94]; exact h_84.push hq
  have h_96 : g_at w_94 o_93 (.inr (11, [.int (0), .null, .int (0)])) := by rw [ew_94]; exact g_at.push_self
  have x_97 : g_ex (fun q => q = x) w_83 w_94 := by rw [ew_94]; exact x_92.push hq
  refine lv_dup hx hb dX1_init_86 rfl ?_
  have nox8 : x ≠ o_93 := fun z => ho_93 (z ▸ h_84.1)
  refine g_callv (va_runI (As := []) (rest := [.ref o_93, .ref x]) ⟨hx, hb, hml, hown, hts⟩ (mtJ2_init l D w_94 H.size o_93 h_96) (cwI 0 hts (lw_meth q129) rfl rfl rfl (hts _ q37) (hts _ q127) (hts _ q128) rfl (by decide +kernel) ⟨Nat.le_of_ble_eq_true rfl, Nat.le_of_ble_eq_true rfl⟩) (g_preS hW hK hE) rfl rfl hl.1 rfl (lv_room (Nat.le_of_ble_eq_true rfl)) dX1_init_87 ⟨?_, ?_⟩) hW (fun u8 H locs hp hW => ?_)
  · (try simp only [headSpec]); omega
  · (try simp only [headSpec]); omega
  obtain ⟨hp8, hi8⟩ := hp
  have hxa8 : g_ex (fun q => q = x) w_83 u8 := x_97.trM hi8 (fun z hz hq => absurd (hq ▸ hz) ho_93)
  have hxb8 := hi8.at h_95 nox8
  have x_98 : g_ex (fun q => q = x) u8 u8 := g_ex.rf
  refine g_putF (ci := 0) (v := .ref o_93) (ty := (.object "java/util/List")) (C := RX1) (T := TX1) (N := 11) hx hb hts in_X1 tyX1 tyX1_ok nmX1 hown hK hW hxb8 rfl 7 (by decide) q361 (fun _ h9 => h9) rfl hin rfl (by decide +kernel) rfl rfl (Nat.le_of_ble_eq_true rfl) dX1_init_90 (fun H locs hW => ?_)
  obtain ⟨w_99, ew_99⟩ : ∃ z__, z__ = g_put u8 x (.inr (0, [.ref o_2, .ref o_12, .ref o_23, .ref o_35, .ref o_48, .ref o_62, .ref o_77, .ref o_93, .int (0), .long (0), .int (0)])) := ⟨_, rfl⟩
  have hW := g_W.ren hW ew_99 rfl
  have h_100 : g_at w_99 x (.inr (0, [.ref o_2, .ref o_12, .ref o_23, .ref o_35, .ref o_48, .ref o_62, .ref o_77, .ref o_93, .int (0), .long (0), .int (0)])) := by rw [ew_99]; exact g_at.put_self hxb8.1
  have x_101 : g_ex (fun q => q = x) u8 w_99 := by rw [ew_99]; exact x_98.put (fun hz9 => rfl)
  have hxc8 := hxa8.tr x_101
  have hxl : (lb (lb (lb (lb (lb (lb (lb l0 w 2) w_8 3) w_18 4) w_29 9) w_41 10) w_54 11) w_68 12) x = 1 := (hl27 x hxx).trans hlx
  have k_102 := k_86.keep (lab' := (lb (lb (lb (lb (lb (lb (lb (lb l0 w 2) w_8 3) w_18 4) w_29 9) w_41 10) w_54 11) w_68 12) w_83 13)) hxc8 lb_in (fun z _ hz => by rw [hz, hxl]; decide)
  have k_103 := k_87.keep (lab' := (lb (lb (lb (lb (lb (lb (lb (lb l0 w 2) w_8 3) w_18 4) w_29 9) w_41 10) w_54 11) w_68 12) w_83 13)) hxc8 lb_in (fun z _ hz => by rw [hz, hxl]; decide)
  have k_104 := k_88.keep (lab' := (lb (lb (lb (lb (lb (lb (lb (lb l0 w 2) w_8 3) w_18 4) w_29 9) w_41 10) w_54 11) w_68 12) w_83 13)) hxc8 lb_in (fun z _ hz => by rw [hz, hxl]; decide)
  have k_105 := k_89.keep (lab' := (lb (lb (lb (lb (lb (lb (lb (lb l0 w 2) w_8 3) w_18 4) w_29 9) w_41 10) w_54 11) w_68 12) w_83 13)) hxc8 lb_in (fun z _ hz => by rw [hz, hxl]; decide)
  have k_106 := k_90.keep (lab' := (lb (lb (lb (lb (lb (lb (lb (lb l0 w 2) w_8 3) w_18 4) w_29 9) w_41 10) w_54 11) w_68 12) w_83 13)) hxc8 lb_in (fun z _ hz => by rw [hz, hxl]; decide)
  have k_107 := k_91.keep (lab' := (lb (lb (lb (lb (lb (lb (lb (lb l0 w 2) w_8 3) w_18 4) w_29 9) w_41 10) w_54 11) w_68 12) w_83 13)) hxc8 lb_in (fun z _ hz => by rw [hz, hxl]; decide)
  have k_108 := pt7.keep (lab' := (lb (lb (lb (lb (lb (lb (lb (lb l0 w 2) w_8 3) w_18 4) w_29 9) w_41 10) w_54 11) w_68 12) w_83 13)) hxc8 lb_in (fun z _ hz => by rw [hz, hxl]; decide)
  have pt8 : cAL D w_99 (lb (lb (lb (lb (lb (lb (lb (lb l0 w 2) w_8 3) w_18 4) w_29 9) w_41 10) w_54 11) w_68 12) w_83 13) 13 o_93 [] 0 := ⟨_, hp8.ex x_101 (fun z => nox8 z.symm) (fun z => absurd z (by decide)), lb_out ho_93, fun z => absurd z (by decide)⟩
  have hl28 : ∀ z, z ∈ w.1 → (lb (lb (lb (lb (lb (lb (lb (lb l0 w 2) w_8 3) w_18 4) w_29 9) w_41 10) w_54 11) w_68 12) w_83 13) z = l0 z := fun z hz => (lb_in z (hq27.1 z hz)).trans (hl27 z hz)
  have hq28 : g_ex (fun q => q = x) w w_99 := hq27.tr hxc8
  refine lv_iconst (v := 0) hx hb dX1_init_93 (by decide) ?_
  refine lv_istore_n (lv' := [(1, .int (0)), (0, .ref x)]) hx hb dX1_init_94 rfl hl (by decide) rfl (fun ls hl => ?_)
  refine lv_iload_n hx hb dX1_init_95 rfl (lv_at hl 0 rfl) ?_
  refine lv_iconst (v := 4) hx hb dX1_init_96 (by decide) ?_
  refine lv_icmp_ge (tgt := 123) hx hb dX1_init_97 (by decide) (fun hz => absurd hz (by decide)) (fun _ => ?_)
  refine lv_aload_n hx hb dX1_init_100 rfl (lv_at hl 1 rfl) ?_
  refine g_get (ci := 0) (v := .ref o_23) (C := RX1) (T := TX1) (N := 11) hx hb hts in_X1 hown hK hW h_100 rfl 2 (by decide) q356 (fun _ h9 => h9) rfl dX1_init_101 ?_
  have x_109 : g_ex (fun _ => False) w_99 w_99 := g_ex.rf
  refine g_newo (ci := 11) (C := RJ2) (T := TJ2) (N := 3) hx hb hts in_J2 tyJ2 tyJ2_ok hown q125 q126 q37 hK hW rfl [.int (0), .null, .int (0)] (by decide +kernel) ?_ ?_ dX1_init_104 (fun o_110 H hq hW => ?_)
  · show _ ≤ 18; omega
  · show _ ≤ 70; omega
  have ho_110 := hq
  obtain ⟨w_111, ew_111⟩ : ∃ z__, z__ = g_push w_99 o_110 (.inr (11, [.int (0), .null, .int (0)])) := ⟨_, rfl⟩
  have hW := g_W.ren hW ew_111 rfl
  have h_112 : g_at w_111 x (.inr (0, [.ref o_2, .ref o_12, .ref o_23, .ref o_35, .ref o_48, .ref o_62, .ref o_77, .ref o_93, .int (0), .long (0), .int (0)])) := by rw [ew_111]; exact h_100.push hq
  have h_113 : g_at w_111 o_110 (.inr (11, [.int (0), .null, .int (0)])) := by rw [ew_111]; exact g_at.push_self
  have x_114 : g_ex (fun _ => False) w_99 w_111 := by rw [ew_111]; exact x_109.push hq
  refine lv_dup hx hb dX1_init_107 rfl ?_
  refine g_callv (va_runI (As := []) (rest := [.ref o_110, .ref o_23]) ⟨hx, hb, hml, hown, hts⟩ (mtJ2_init l D w_111 H.size o_110 h_113) (cwI 0 hts (lw_meth q129) rfl rfl rfl (hts _ q37) (hts _ q127) (hts _ q128) rfl (by decide +kernel) ⟨Nat.le_of_ble_eq_true rfl, Nat.le_of_ble_eq_true rfl⟩) (g_preS hW hK hE) rfl rfl hl.1 rfl (lv_room (Nat.le_of_ble_eq_true rfl)) dX1_init_108 ⟨?_, ?_⟩) hW (fun u9 H locs hp hW => ?_)
  · (try simp only [headSpec]); omega
  · (try simp only [headSpec]); omega
  obtain ⟨hp9, hi9⟩ := hp
  have hxa9 : g_ex (fun _ => False) w_99 u9 := x_114.trM hi9 (fun z hz hq => absurd (hq ▸ hz) ho_110)
  have pt9 : cAL D u9 (lb (lb (lb (lb (lb (lb (lb (lb (lb l0 w 2) w_8 3) w_18 4) w_29 9) w_41 10) w_54 11) w_68 12) w_83 13) w_99 5) 5 o_110 [] 0 := ⟨_, hp9, lb_out ho_110, fun z => absurd z (by decide)⟩
  have k_115 := k_102.keep (lab' := (lb (lb (lb (lb (lb (lb (lb (lb (lb l0 w 2) w_8 3) w_18 4) w_29 9) w_41 10) w_54 11) w_68 12) w_83 13) w_99 5)) hxa9 lb_in (fun z _ hz => hz.elim)
  have k_116 := k_103.keep (lab' := (lb (lb (lb (lb (lb (lb (lb (lb (lb l0 w 2) w_8 3) w_18 4) w_29 9) w_41 10) w_54 11) w_68 12) w_83 13) w_99 5)) hxa9 lb_in (fun z _ hz => hz.elim)
  have k_117 := k_104.keep (lab' := (lb (lb (lb (lb (lb (lb (lb (lb (lb l0 w 2) w_8 3) w_18 4) w_29 9) w_41 10) w_54 11) w_68 12) w_83 13) w_99 5)) hxa9 lb_in (fun z _ hz => hz.elim)
  have k_118 := k_105.keep (lab' := (lb (lb (lb (lb (lb (lb (lb (lb (lb l0 w 2) w_8 3) w_18 4) w_29 9) w_41 10) w_54 11) w_68 12) w_83 13) w_99 5)) hxa9 lb_in (fun z _ hz => hz.elim)
  have k_119 := k_106.keep (lab' := (lb (lb (lb (lb (lb (lb (lb (lb (lb l0 w 2) w_8 3) w_18 4) w_29 9) w_41 10) w_54 11) w_68 12) w_83 13) w_99 5)) hxa9 lb_in (fun z _ hz => hz.elim)
  have k_120 := k_107.keep (lab' := (lb (lb (lb (lb (lb (lb (lb (lb (lb l0 w 2) w_8 3) w_18 4) w_29 9) w_41 10) w_54 11) w_68 12) w_83 13) w_99 5)) hxa9 lb_in (fun z _ hz => hz.elim)
  have k_121 := k_108.keep (lab' := (lb (lb (lb (lb (lb (lb (lb (lb (lb l0 w 2) w_8 3) w_18 4) w_29 9) w_41 10) w_54 11) w_68 12) w_83 13) w_99 5)) hxa9 lb_in (fun z _ hz => hz.elim)
  have k_122 := pt8.keep (lab' := (lb (lb (lb (lb (lb (lb (lb (lb (lb l0 w 2) w_8 3) w_18 4) w_29 9) w_41 10) w_54 11) w_68 12) w_83 13) w_99 5)) hxa9 lb_in (fun z _ hz => hz.elim)
  have hxb9 := hxa9.at h_100 (fun z => z.elim)
  have hWp9 := hW
  obtain ⟨ar9, hal9, la9, lar9⟩ := k_117
  obtain ⟨mo9, hat9, -⟩ := id hal9
  obtain ⟨mp9, hao9, -⟩ := id hp9
  have nya9 : o_110 ≠ o_23 := fun z => by have h9 : (lb (lb (lb (lb (lb (lb (lb (lb (lb l0 w 2) w_8 3) w_18 4) w_29 9) w_41 10) w_54 11) w_68 12) w_83 13) w_99 5) o_110 = 5 := lb_out ho_110; rw [z, la9] at h9; exact absurd h9 (by decide)
  refine g_callFi (va_runF (cC := D.1 11) (hK.1 11 _ rfl).2 (As := [.ref o_110]) (rest := []) ⟨hx, hb, hml, hown, hts⟩ (mtJ2_addX l D u9 H.size o_23 ar9 0 ([] : List Nat) hal9 11 _ o_110 _ _ (fun _ => rfl) (Or.inl ⟨_, hao9⟩) rfl (by decide) nya9 (show (0 : Nat) < 600 by decide)) (va_cwF 1 hts (lw_app (lw_in _ [239, 243, 245, 37] (by decide +kernel) (by decide +kernel)) (lw_meth q247)) rfl rfl rfl (fw_20 hE) (by decide +kernel) ⟨Nat.le_of_ble_eq_true rfl, Nat.le_of_ble_eq_true rfl⟩) (g_preV hW hK hE hat9 rfl) rfl rfl hl.1 rfl (lv_room (Nat.le_of_ble_eq_true rfl)) dX1_init_111 ⟨?_, ?_⟩) hW (fun r_ v9 H locs hp hW => ?_)
  · (try simp only [headSpec]); exact Nat.le_of_ble_eq_true rfl
  · (try simp only [headSpec]); exact Nat.le_of_ble_eq_true rfl
  rw [show g_ac (([] : List Nat) : List Nat).length 0 = 1 from rfl, show g_as (([] : List Nat) : List Nat).length 0 = 10 from rfl]
  obtain ⟨er, ar29, halb9, har9, hex9⟩ := hp
  subst er
  have hM9 : ∀ z, z ∈ u9.1 → (z = o_23 ∨ ((([] : List Nat) : List Nat).length < 0 ∧ z = ar9)) → (lb (lb (lb (lb (lb (lb (lb (lb (lb l0 w 2) w_8 3) w_18 4) w_29 9) w_41 10) w_54 11) w_68 12) w_83 13) w_99 5) z = 4 := fun z _ hz => by rcases hz with hz | hz; rw [hz]; exact la9; rw [hz.2]; exact lar9 (Nat.lt_of_le_of_lt (Nat.zero_le _) hz.1)
  have k_123 := k_115.keep (lab' := (lb (lb (lb (lb (lb (lb (lb (lb (lb (lb l0 w 2) w_8 3) w_18 4) w_29 9) w_41 10) w_54 11) w_68 12) w_83 13) w_99 5) u9 4)) hex9 lb_in (fun z hz hq => by rw [hM9 z hz hq]; decide)
  have k_124 := k_116.keep (lab' := (lb (lb (lb (lb (lb (lb (lb (lb (lb (lb l0 w 2) w_8 3) w_18 4) w_29 9) w_41 10) w_54 11) w_68 12) w_83 13) w_99 5) u9 4)) hex9 lb_in (fun z hz hq => by rw [hM9 z hz hq]; decide)
  have k_125 := k_118.keep (lab' := (lb (lb (lb (lb (lb (lb (lb (lb (lb (lb l0 w 2) w_8 3) w_18 4) w_29 9) w_41 10) w_54 11) w_68 12) w_83 13) w_99 5) u9 4)) hex9 lb_in (fun z hz hq => by rw [hM9 z hz hq]; decide)
  have k_126 := k_119.keep (lab' := (lb (lb (lb (lb (lb (lb (lb (lb (lb (lb l0 w 2) w_8 3) w_18 4) w_29 9) w_41 10) w_54 11) w_68 12) w_83 13) w_99 5) u9 4)) hex9 lb_in (fun z hz hq => by rw [hM9 z hz hq]; decide)
  have k_127 := k_120.keep (lab' := (lb (lb (lb (lb (lb (lb (lb (lb (lb (lb l0 w 2) w_8 3) w_18 4) w_29 9) w_41 10) w_54 11) w_68 12) w_83 13) w_99 5) u9 4)) hex9 lb_in (fun z hz hq => by rw [hM9 z hz hq]; decide)
  have k_128 := k_121.keep (lab' := (lb (lb (lb (lb (lb (lb (lb (lb (lb (lb l0 w 2) w_8 3) w_18 4) w_29 9) w_41 10) w_54 11) w_68 12) w_83 13) w_99 5) u9 4)) hex9 lb_in (fun z hz hq => by rw [hM9 z hz hq]; decide)
  have k_129 := k_122.keep (lab' := (lb (lb (lb (lb (lb (lb (lb (lb (lb (lb l0 w 2) w_8 3) w_18 4) w_29 9) w_41 10) w_54 11) w_68 12) w_83 13) w_99 5) u9 4)) hex9 lb_in (fun z hz hq => by rw [hM9 z hz hq]; decide)
  have k_130 := pt9.keep (lab' := (lb (lb (lb (lb (lb (lb (lb (lb (lb (lb l0 w 2) w_8 3) w_18 4) w_29 9) w_41 10) w_54 11) w_68 12) w_83 13) w_99 5) u9 4)) hex9 lb_in (fun z hz hq => by rw [hM9 z hz hq]; decide)
  have p49 : cAL D v9 (lb (lb (lb (lb (lb (lb (lb (lb (lb (lb l0 w 2) w_8 3) w_18 4) w_29 9) w_41 10) w_54 11) w_68 12) w_83 13) w_99 5) u9 4) 4 o_23 [o_110] 10 := cAL.new hal9 la9 lar9 (g_e0 hE hWp9) halb9 har9
  have lx9 : (lb (lb (lb (lb (lb (lb (lb (lb (lb l0 w 2) w_8 3) w_18 4) w_29 9) w_41 10) w_54 11) w_68 12) w_83 13) w_99 5) x = 1 := (lb_in _ h_100.1).trans ((hl28 x hxx).trans hlx)
  have hxd9 := hex9.at hxb9 (fun z => by have h9 := hM9 x hxb9.1 z; rw [lx9] at h9; exact absurd h9 (by decide))
  have hl29 : ∀ z, z ∈ w.1 → (lb (lb (lb (lb (lb (lb (lb (lb (lb (lb l0 w 2) w_8 3) w_18 4) w_29 9) w_41 10) w_54 11) w_68 12) w_83 13) w_99 5) u9 4) z = l0 z := fun z hz => (lb_in z (hxa9.1 z (hq28.1 z hz))).trans ((lb_in z (hq28.1 z hz)).trans (hl28 z hz))
  have n49 : ∀ z, z ∈ w.1 → ¬ (z = o_23 ∨ ((([] : List Nat) : List Nat).length < 0 ∧ z = ar9)) := fun z hz hq => fz4 z hz ((hM9 z (hxa9.1 z (hq28.1 z hz)) hq).symm.trans ((lb_in z (hq28.1 z hz)).trans (hl28 z hz)) |>.symm) 
  have hq29 : g_ex (fun q => q = x) w v9 := (hq28.trM hxa9 (fun _ _ z => z.elim)).trM hex9 (fun z hz hq => absurd hq (n49 z hz))
  refine lv_pop hx hb dX1_init_116 rfl ?_
  refine lv_iinc (v := 1) (lv' := [(1, .int (1)), (0, .ref x)]) hx hb dX1_init_117 hl (k := 0) rfl (rfl) (by decide) rfl (fun ls hl => ?_)
  refine lv_goto (tgt := 95) hx hb dX1_init_120 (by decide) ?_
  refine lv_iload_n hx hb dX1_init_95 rfl (lv_at hl 0 rfl) ?_
  refine lv_iconst (v := 4) hx hb dX1_init_96 (by decide) ?_
  refine lv_icmp_ge (tgt := 123) hx hb dX1_init_97 (by decide) (fun hz => absurd hz (by decide)) (fun _ => ?_)
  refine lv_aload_n hx hb dX1_init_100 rfl (lv_at hl 1 rfl) ?_
  refine g_get (ci := 0) (v := .ref o_23) (C := RX1) (T := TX1) (N := 11) hx hb hts in_X1 hown hK hW hxd9 rfl 2 (by decide) q356 (fun _ h9 => h9) rfl dX1_init_101 ?_
  have x_131 : g_ex (fun _ => False) v9 v9 := g_ex.rf
  refine g_newo (ci := 11) (C := RJ2) (T := TJ2) (N := 3) hx hb hts in_J2 tyJ2 tyJ2_ok hown q125 q126 q37 hK hW rfl [.int (0), .null, .int (0)] (by decide +kernel) ?_ ?_ dX1_init_104 (fun o_132 H hq hW => ?_)
  · show _ ≤ 18; omega
  · show _ ≤ 70; omega
  have ho_132 := hq
  obtain ⟨w_133, ew_133⟩ : ∃ z__, z__ = g_push v9 o_132 (.inr (11, [.int (0), .null, .int (0)])) := ⟨_, rfl⟩
  have hW := g_W.ren hW ew_133 rfl
  have h_134 : g_at w_133 x (.inr (0, [.ref o_2, .ref o_12, .ref o_23, .ref o_35, .ref o_48, .ref o_62, .ref o_77, .ref o_93, .int (0), .long (0), .int (0)])) := by rw [ew_133]; exact hxd9.push hq
  have h_135 : g_at w_133 o_132 (.inr (11, [.int (0), .null, .int (0)])) := by rw [ew_133]; exact g_at.push_self
  have x_136 : g_ex (fun _ => False) v9 w_133 := by rw [ew_133]; exact x_131.push hq
  refine lv_dup hx hb dX1_init_107 rfl ?_
  refine g_callv (va_runI (As := []) (rest := [.ref o_132, .ref o_23]) ⟨hx, hb, hml, hown, hts⟩ (mtJ2_init l D w_133 H.size o_132 h_135) (cwI 0 hts (lw_meth q129) rfl rfl rfl (hts _ q37) (hts _ q127) (hts _ q128) rfl (by decide +kernel) ⟨Nat.le_of_ble_eq_true rfl, Nat.le_of_ble_eq_true rfl⟩) (g_preS hW hK hE) rfl rfl hl.1 rfl (lv_room (Nat.le_of_ble_eq_true rfl)) dX1_init_108 ⟨?_, ?_⟩) hW (fun u10 H locs hp hW => ?_)
  · (try simp only [headSpec]); omega
  · (try simp only [headSpec]); omega
  obtain ⟨hp10, hi10⟩ := hp
  have hxa10 : g_ex (fun _ => False) v9 u10 := x_136.trM hi10 (fun z hz hq => absurd (hq ▸ hz) ho_132)
  have pt10 : cAL D u10 (lb (lb (lb (lb (lb (lb (lb (lb (lb (lb (lb l0 w 2) w_8 3) w_18 4) w_29 9) w_41 10) w_54 11) w_68 12) w_83 13) w_99 5) u9 4) v9 6) 6 o_132 [] 0 := ⟨_, hp10, lb_out ho_132, fun z => absurd z (by decide)⟩
  have k_137 := k_123.keep (lab' := (lb (lb (lb (lb (lb (lb (lb (lb (lb (lb (lb l0 w 2) w_8 3) w_18 4) w_29 9) w_41 10) w_54 11) w_68 12) w_83 13) w_99 5) u9 4) v9 6)) hxa10 lb_in (fun z _ hz => hz.elim)
  have k_138 := k_124.keep (lab' := (lb (lb (lb (lb (lb (lb (lb (lb (lb (lb (lb l0 w 2) w_8 3) w_18 4) w_29 9) w_41 10) w_54 11) w_68 12) w_83 13) w_99 5) u9 4) v9 6)) hxa10 lb_in (fun z _ hz => hz.elim)
  have k_139 := p49.keep (lab' := (lb (lb (lb (lb (lb (lb (lb (lb (lb (lb (lb l0 w 2) w_8 3) w_18 4) w_29 9) w_41 10) w_54 11) w_68 12) w_83 13) w_99 5) u9 4) v9 6)) hxa10 lb_in (fun z _ hz => hz.elim)
  have k_140 := k_125.keep (lab' := (lb (lb (lb (lb (lb (lb (lb (lb (lb (lb (lb l0 w 2) w_8 3) w_18 4) w_29 9) w_41 10) w_54 11) w_68 12) w_83 13) w_99 5) u9 4) v9 6)) hxa10 lb_in (fun z _ hz => hz.elim)
  have k_141 := k_126.keep (lab' := (lb (lb (lb (lb (lb (lb (lb (lb (lb (lb (lb l0 w 2) w_8 3) w_18 4) w_29 9) w_41 10) w_54 11) w_68 12) w_83 13) w_99 5) u9 4) v9 6)) hxa10 lb_in (fun z _ hz => hz.elim)
  have k_142 := k_127.keep (lab' := (lb (lb (lb (lb (lb (lb (lb (lb (lb (lb (lb l0 w 2) w_8 3) w_18 4) w_29 9) w_41 10) w_54 11) w_68 12) w_83 13) w_99 5) u9 4) v9 6)) hxa10 lb_in (fun z _ hz => hz.elim)
  have k_143 := k_128.keep (lab' := (lb (lb (lb (lb (lb (lb (lb (lb (lb (lb (lb l0 w 2) w_8 3) w_18 4) w_29 9) w_41 10) w_54 11) w_68 12) w_83 13) w_99 5) u9 4) v9 6)) hxa10 lb_in (fun z _ hz => hz.elim)
  have k_144 := k_129.keep (lab' := (lb (lb (lb (lb (lb (lb (lb (lb (lb (lb (lb l0 w 2) w_8 3) w_18 4) w_29 9) w_41 10) w_54 11) w_68 12) w_83 13) w_99 5) u9 4) v9 6)) hxa10 lb_in (fun z _ hz => hz.elim)
  have k_145 := k_130.keep (lab' := (lb (lb (lb (lb (lb (lb (lb (lb (lb (lb (lb l0 w 2) w_8 3) w_18 4) w_29 9) w_41 10) w_54 11) w_68 12) w_83 13) w_99 5) u9 4) v9 6)) hxa10 lb_in (fun z _ hz => hz.elim)
  have hxb10 := hxa10.at hxd9 (fun z => z.elim)
  have hWp10 := hW
  obtain ⟨ar10, hal10, la10, lar10⟩ := k_139
  obtain ⟨mo10, hat10, -⟩ := id hal10
  obtain ⟨mp10, hao10, -⟩ := id hp10
  have nya10 : o_132 ≠ o_23 := fun z => by have h9 : (lb (lb (lb (lb (lb (lb (lb (lb (lb (lb (lb l0 w 2) w_8 3) w_18 4) w_29 9) w_41 10) w_54 11) w_68 12) w_83 13) w_99 5) u9 4) v9 6) o_132 = 6 := lb_out ho_132; rw [z, la10] at h9; exact absurd h9 (by decide)
  refine g_callFi (va_runF (cC := D.1 11) (hK.1 11 _ rfl).2 (As := [.ref o_132]) (rest := []) ⟨hx, hb, hml, hown, hts⟩ (mtJ2_addX l D u10 H.size o_23 ar10 10 [o_110] hal10 11 _ o_132 _ _ (fun z => absurd z (show ¬ (1 : Nat) = 10 by decide)) (Or.inl ⟨_, hao10⟩) rfl (by decide) nya10 (show (1 : Nat) < 600 by decide)) (va_cwF 1 hts (lw_app (lw_in _ [239, 243, 245, 37] (by decide +kernel) (by decide +kernel)) (lw_meth q247)) rfl rfl rfl (fw_20 hE) (by decide +kernel) ⟨Nat.le_of_ble_eq_true rfl, Nat.le_of_ble_eq_true rfl⟩) (g_preV hW hK hE hat10 rfl) rfl rfl hl.1 rfl (lv_room (Nat.le_of_ble_eq_true rfl)) dX1_init_111 ⟨?_, ?_⟩) hW (fun r_ v10 H locs hp hW => ?_)
  · (try simp only [headSpec]); exact Nat.le_of_ble_eq_true rfl
  · (try simp only [headSpec]); exact Nat.le_of_ble_eq_true rfl
  rw [show g_ac ([o_110] : List Nat).length 10 = 0 from rfl, show g_as ([o_110] : List Nat).length 10 = 0 from rfl]
  obtain ⟨er, ar210, halb10, har10, hex10⟩ := hp
  subst er
  have hM10 : ∀ z, z ∈ u10.1 → (z = o_23 ∨ (([o_110] : List Nat).length < 10 ∧ z = ar10)) → (lb (lb (lb (lb (lb (lb (lb (lb (lb (lb (lb l0 w 2) w_8 3) w_18 4) w_29 9) w_41 10) w_54 11) w_68 12) w_83 13) w_99 5) u9 4) v9 6) z = 4 := fun z _ hz => by rcases hz with hz | hz; rw [hz]; exact la10; rw [hz.2]; exact lar10 (Nat.lt_of_le_of_lt (Nat.zero_le _) hz.1)
  have k_146 := k_137.keep (lab' := (lb (lb (lb (lb (lb (lb (lb (lb (lb (lb (lb (lb l0 w 2) w_8 3) w_18 4) w_29 9) w_41 10) w_54 11) w_68 12) w_83 13) w_99 5) u9 4) v9 6) u10 4)) hex10 lb_in (fun z hz hq => by rw [hM10 z hz hq]; decide)
  have k_147 := k_138.keep (lab' := (lb (lb (lb (lb (lb (lb (lb (lb (lb (lb (lb (lb l0 w 2) w_8 3) w_18 4) w_29 9) w_41 10) w_54 11) w_68 12) w_83 13) w_99 5) u9 4) v9 6) u10 4)) hex10 lb_in (fun z hz hq => by rw [hM10 z hz hq]; decide)
  have k_148 := k_140.keep (lab' := (lb (lb (lb (lb (lb (lb (lb (lb (lb (lb (lb (lb l0 w 2) w_8 3) w_18 4) w_29 9) w_41 10) w_54 11) w_68 12) w_83 13) w_99 5) u9 4) v9 6) u10 4)) hex10 lb_in (fun z hz hq => by rw [hM10 z hz hq]; decide)
  have k_149 := k_141.keep (lab' := (lb (lb (lb (lb (lb (lb (lb (lb (lb (lb (lb (lb l0 w 2) w_8 3) w_18 4) w_29 9) w_41 10) w_54 11) w_68 12) w_83 13) w_99 5) u9 4) v9 6) u10 4)) hex10 lb_in (fun z hz hq => by rw [hM10 z hz hq]; decide)
  have k_150 := k_142.keep (lab' := (lb (lb (lb (lb (lb (lb (lb (lb (lb (lb (lb (lb l0 w 2) w_8 3) w_18 4) w_29 9) w_41 10) w_54 11) w_68 12) w_83 13) w_99 5) u9 4) v9 6) u10 4)) hex10 lb_in (fun z hz hq => by rw [hM10 z hz hq]; decide)
  have k_151 := k_143.keep (lab' := (lb (lb (lb (lb (lb (lb (lb (lb (lb (lb (lb (lb l0 w 2) w_8 3) w_18 4) w_29 9) w_41 10) w_54 11) w_68 12) w_83 13) w_99 5) u9 4) v9 6) u10 4)) hex10 lb_in (fun z hz hq => by rw [hM10 z hz hq]; decide)
  have k_152 := k_144.keep (lab' := (lb (lb (lb (lb (lb (lb (lb (lb (lb (lb (lb (lb l0 w 2) w_8 3) w_18 4) w_29 9) w_41 10) w_54 11) w_68 12) w_83 13) w_99 5) u9 4) v9 6) u10 4)) hex10 lb_in (fun z hz hq => by rw [hM10 z hz hq]; decide)
  have k_153 := k_145.keep (lab' := (lb (lb (lb (lb (lb (lb (lb (lb (lb (lb (lb (lb l0 w 2) w_8 3) w_18 4) w_29 9) w_41 10) w_54 11) w_68 12) w_83 13) w_99 5) u9 4) v9 6) u10 4)) hex10 lb_in (fun z hz hq => by rw [hM10 z hz hq]; decide)
  have k_154 := pt10.keep (lab' := (lb (lb (lb (lb (lb (lb (lb (lb (lb (lb (lb (lb l0 w 2) w_8 3) w_18 4) w_29 9) w_41 10) w_54 11) w_68 12) w_83 13) w_99 5) u9 4) v9 6) u10 4)) hex10 lb_in (fun z hz hq => by rw [hM10 z hz hq]; decide)
  have p410 : cAL D v10 (lb (lb (lb (lb (lb (lb (lb (lb (lb (lb (lb (lb l0 w 2) w_8 3) w_18 4) w_29 9) w_41 10) w_54 11) w_68 12) w_83 13) w_99 5) u9 4) v9 6) u10 4) 4 o_23 [o_110, o_132] 10 := cAL.new hal10 la10 lar10 (g_e0 hE hWp10) halb10 har10
  have lx10 : (lb (lb (lb (lb (lb (lb (lb (lb (lb (lb (lb l0 w 2) w_8 3) w_18 4) w_29 9) w_41 10) w_54 11) w_68 12) w_83 13) w_99 5) u9 4) v9 6) x = 1 := (lb_in _ hxd9.1).trans ((hl29 x hxx).trans hlx)
  have hxd10 := hex10.at hxb10 (fun z => by have h9 := hM10 x hxb10.1 z; rw [lx10] at h9; exact absurd h9 (by decide))
  have hl30 : ∀ z, z ∈ w.1 → (lb (lb (lb (lb (lb (lb (lb (lb (lb (lb (lb (lb l0 w 2) w_8 3) w_18 4) w_29 9) w_41 10) w_54 11) w_68 12) w_83 13) w_99 5) u9 4) v9 6) u10 4) z = l0 z := fun z hz => (lb_in z (hxa10.1 z (hq29.1 z hz))).trans ((lb_in z (hq29.1 z hz)).trans (hl29 z hz))
  have n410 : ∀ z, z ∈ w.1 → ¬ (z = o_23 ∨ (([o_110] : List Nat).length < 10 ∧ z = ar10)) := fun z hz hq => fz4 z hz ((hM10 z (hxa10.1 z (hq29.1 z hz)) hq).symm.trans ((lb_in z (hq29.1 z hz)).trans (hl29 z hz)) |>.symm) 
  have hq30 : g_ex (fun q => q = x) w v10 := (hq29.trM hxa10 (fun _ _ z => z.elim)).trM hex10 (fun z hz hq => absurd hq (n410 z hz))
  refine lv_pop hx hb dX1_init_116 rfl ?_
  refine lv_iinc (v := 2) (lv' := [(1, .int (2)), (0, .ref x)]) hx hb dX1_init_117 hl (k := 0) rfl (rfl) (by decide) rfl (fun ls hl => ?_)
  refine lv_goto (tgt := 95) hx hb dX1_init_120 (by decide) ?_
  refine lv_iload_n hx hb dX1_init_95 rfl (lv_at hl 0 rfl) ?_
  refine lv_iconst (v := 4) hx hb dX1_init_96 (by decide) ?_
  refine lv_icmp_ge (tgt := 123) hx hb dX1_init_97 (by decide) (fun hz => absurd hz (by decide)) (fun _ => ?_)
  refine lv_aload_n hx hb dX1_init_100 rfl (lv_at hl 1 rfl) ?_
  refine g_get (ci := 0) (v := .ref o_23) (C := RX1) (T := TX1) (N := 11) hx hb hts in_X1 hown hK hW hxd10 rfl 2 (by decide) q356 (fun _ h9 => h9) rfl dX1_init_101 ?_
  have x_155 : g_ex (fun _ => False) v10 v10 := g_ex.rf
  refine g_newo (ci := 11) (C := RJ2) (T := TJ2) (N := 3) hx hb hts in_J2 tyJ2 tyJ2_ok hown q125 q126 q37 hK hW rfl [.int (0), .null, .int (0)] (by decide +kernel) ?_ ?_ dX1_init_104 (fun o_156 H hq hW => ?_)
  · show _ ≤ 18; omega
  · show _ ≤ 70; omega
  have ho_156 := hq
  obtain ⟨w_157, ew_157⟩ : ∃ z__, z__ = g_push v10 o_156 (.inr (11, [.int (0), .null, .int (0)])) := ⟨_, rfl⟩
  have hW := g_W.ren hW ew_157 rfl
  have h_158 : g_at w_157 x (.inr (0, [.ref o_2, .ref o_12, .ref o_23, .ref o_35, .ref o_48, .ref o_62, .ref o_77, .ref o_93, .int (0), .long (0), .int (0)])) := by rw [ew_157]; exact hxd10.push hq
  have h_159 : g_at w_157 o_156 (.inr (11, [.int (0), .null, .int (0)])) := by rw [ew_157]; exact g_at.push_self
  have x_160 : g_ex (fun _ => False) v10 w_157 := by rw [ew_157]; exact x_155.push hq
  refine lv_dup hx hb dX1_init_107 rfl ?_
  refine g_callv (va_runI (As := []) (rest := [.ref o_156, .ref o_23]) ⟨hx, hb, hml, hown, hts⟩ (mtJ2_init l D w_157 H.size o_156 h_159) (cwI 0 hts (lw_meth q129) rfl rfl rfl (hts _ q37) (hts _ q127) (hts _ q128) rfl (by decide +kernel) ⟨Nat.le_of_ble_eq_true rfl, Nat.le_of_ble_eq_true rfl⟩) (g_preS hW hK hE) rfl rfl hl.1 rfl (lv_room (Nat.le_of_ble_eq_true rfl)) dX1_init_108 ⟨?_, ?_⟩) hW (fun u11 H locs hp hW => ?_)
  · (try simp only [headSpec]); omega
  · (try simp only [headSpec]); omega
  obtain ⟨hp11, hi11⟩ := hp
  have hxa11 : g_ex (fun _ => False) v10 u11 := x_160.trM hi11 (fun z hz hq => absurd (hq ▸ hz) ho_156)
  have pt11 : cAL D u11 (lb (lb (lb (lb (lb (lb (lb (lb (lb (lb (lb (lb (lb l0 w 2) w_8 3) w_18 4) w_29 9) w_41 10) w_54 11) w_68 12) w_83 13) w_99 5) u9 4) v9 6) u10 4) v10 7) 7 o_156 [] 0 := ⟨_, hp11, lb_out ho_156, fun z => absurd z (by decide)⟩
  have k_161 := k_146.keep (lab' := (lb (lb (lb (lb (lb (lb (lb (lb (lb (lb (lb (lb (lb l0 w 2) w_8 3) w_18 4) w_29 9) w_41 10) w_54 11) w_68 12) w_83 13) w_99 5) u9 4) v9 6) u10 4) v10 7)) hxa11 lb_in (fun z _ hz => hz.elim)
  have k_162 := k_147.keep (lab' := (lb (lb (lb (lb (lb (lb (lb (lb (lb (lb (lb (lb (lb l0 w 2) w_8 3) w_18 4) w_29 9) w_41 10) w_54 11) w_68 12) w_83 13) w_99 5) u9 4) v9 6) u10 4) v10 7)) hxa11 lb_in (fun z _ hz => hz.elim)
  have k_163 := p410.keep (lab' := (lb (lb (lb (lb (lb (lb (lb (lb (lb (lb (lb (lb (lb l0 w 2) w_8 3) w_18 4) w_29 9) w_41 10) w_54 11) w_68 12) w_83 13) w_99 5) u9 4) v9 6) u10 4) v10 7)) hxa11 lb_in (fun z _ hz => hz.elim)
  have k_164 := k_148.keep (lab' := (lb (lb (lb (lb (lb (lb (lb (lb (lb (lb (lb (lb (lb l0 w 2) w_8 3) w_18 4) w_29 9) w_41 10) w_54 11) w_68 12) w_83 13) w_99 5) u9 4) v9 6) u10 4) v10 7)) hxa11 lb_in (fun z _ hz => hz.elim)
  have k_165 := k_149.keep (lab' := (lb (lb (lb (lb (lb (lb (lb (lb (lb (lb (lb (lb (lb l0 w 2) w_8 3) w_18 4) w_29 9) w_41 10) w_54 11) w_68 12) w_83 13) w_99 5) u9 4) v9 6) u10 4) v10 7)) hxa11 lb_in (fun z _ hz => hz.elim)
  have k_166 := k_150.keep (lab' := (lb (lb (lb (lb (lb (lb (lb (lb (lb (lb (lb (lb (lb l0 w 2) w_8 3) w_18 4) w_29 9) w_41 10) w_54 11) w_68 12) w_83 13) w_99 5) u9 4) v9 6) u10 4) v10 7)) hxa11 lb_in (fun z _ hz => hz.elim)
  have k_167 := k_151.keep (lab' := (lb (lb (lb (lb (lb (lb (lb (lb (lb (lb (lb (lb (lb l0 w 2) w_8 3) w_18 4) w_29 9) w_41 10) w_54 11) w_68 12) w_83 13) w_99 5) u9 4) v9 6) u10 4) v10 7)) hxa11 lb_in (fun z _ hz => hz.elim)
  have k_168 := k_152.keep (lab' := (lb (lb (lb (lb (lb (lb (lb (lb (lb (lb (lb (lb (lb l0 w 2) w_8 3) w_18 4) w_29 9) w_41 10) w_54 11) w_68 12) w_83 13) w_99 5) u9 4) v9 6) u10 4) v10 7)) hxa11 lb_in (fun z _ hz => hz.elim)
  have k_169 := k_153.keep (lab' := (lb (lb (lb (lb (lb (lb (lb (lb (lb (lb (lb (lb (lb l0 w 2) w_8 3) w_18 4) w_29 9) w_41 10) w_54 11) w_68 12) w_83 13) w_99 5) u9 4) v9 6) u10 4) v10 7)) hxa11 lb_in (fun z _ hz => hz.elim)
  have k_170 := k_154.keep (lab' := (lb (lb (lb (lb (lb (lb (lb (lb (lb (lb (lb (lb (lb l0 w 2) w_8 3) w_18 4) w_29 9) w_41 10) w_54 11) w_68 12) w_83 13) w_99 5) u9 4) v9 6) u10 4) v10 7)) hxa11 lb_in (fun z _ hz => hz.elim)
  have hxb11 := hxa11.at hxd10 (fun z => z.elim)
  have hWp11 := hW
  obtain ⟨ar11, hal11, la11, lar11⟩ := k_163
  obtain ⟨mo11, hat11, -⟩ := id hal11
  obtain ⟨mp11, hao11, -⟩ := id hp11
  have nya11 : o_156 ≠ o_23 := fun z => by have h9 : (lb (lb (lb (lb (lb (lb (lb (lb (lb (lb (lb (lb (lb l0 w 2) w_8 3) w_18 4) w_29 9) w_41 10) w_54 11) w_68 12) w_83 13) w_99 5) u9 4) v9 6) u10 4) v10 7) o_156 = 7 := lb_out ho_156; rw [z, la11] at h9; exact absurd h9 (by decide)
  refine g_callFi (va_runF (cC := D.1 11) (hK.1 11 _ rfl).2 (As := [.ref o_156]) (rest := []) ⟨hx, hb, hml, hown, hts⟩ (mtJ2_addX l D u11 H.size o_23 ar11 10 [o_110, o_132] hal11 11 _ o_156 _ _ (fun z => absurd z (show ¬ (2 : Nat) = 10 by decide)) (Or.inl ⟨_, hao11⟩) rfl (by decide) nya11 (show (2 : Nat) < 600 by decide)) (va_cwF 1 hts (lw_app (lw_in _ [239, 243, 245, 37] (by decide +kernel) (by decide +kernel)) (lw_meth q247)) rfl rfl rfl (fw_20 hE) (by decide +kernel) ⟨Nat.le_of_ble_eq_true rfl, Nat.le_of_ble_eq_true rfl⟩) (g_preV hW hK hE hat11 rfl) rfl rfl hl.1 rfl (lv_room (Nat.le_of_ble_eq_true rfl)) dX1_init_111 ⟨?_, ?_⟩) hW (fun r_ v11 H locs hp hW => ?_)
  · (try simp only [headSpec]); exact Nat.le_of_ble_eq_true rfl
  · (try simp only [headSpec]); exact Nat.le_of_ble_eq_true rfl
  rw [show g_ac ([o_110, o_132] : List Nat).length 10 = 0 from rfl, show g_as ([o_110, o_132] : List Nat).length 10 = 0 from rfl]
  obtain ⟨er, ar211, halb11, har11, hex11⟩ := hp
  subst er
  have hM11 : ∀ z, z ∈ u11.1 → (z = o_23 ∨ (([o_110, o_132] : List Nat).length < 10 ∧ z = ar11)) → (lb (lb (lb (lb (lb (lb (lb (lb (lb (lb (lb (lb (lb l0 w 2) w_8 3) w_18 4) w_29 9) w_41 10) w_54 11) w_68 12) w_83 13) w_99 5) u9 4) v9 6) u10 4) v10 7) z = 4 := fun z _ hz => by rcases hz with hz | hz; rw [hz]; exact la11; rw [hz.2]; exact lar11 (Nat.lt_of_le_of_lt (Nat.zero_le _) hz.1)
  have k_171 := k_161.keep (lab' := (lb (lb (lb (lb (lb (lb (lb (lb (lb (lb (lb (lb (lb (lb l0 w 2) w_8 3) w_18 4) w_29 9) w_41 10) w_54 11) w_68 12) w_83 13) w_99 5) u9 4) v9 6) u10 4) v10 7) u11 4)) hex11 lb_in (fun z hz hq => by rw [hM11 z hz hq]; decide)
  have k_172 := k_162.keep (lab' := (lb (lb (lb (lb (lb (lb (lb (lb (lb (lb (lb (lb (lb (lb l0 w 2) w_8 3) w_18 4) w_29 9) w_41 10) w_54 11) w_68 12) w_83 13) w_99 5) u9 4) v9 6) u10 4) v10 7) u11 4)) hex11 lb_in (fun z hz hq => by rw [hM11 z hz hq]; decide)
  have k_173 := k_164.keep (lab' := (lb (lb (lb (lb (lb (lb (lb (lb (lb (lb (lb (lb (lb (lb l0 w 2) w_8 3) w_18 4) w_29 9) w_41 10) w_54 11) w_68 12) w_83 13) w_99 5) u9 4) v9 6) u10 4) v10 7) u11 4)) hex11 lb_in (fun z hz hq => by rw [hM11 z hz hq]; decide)
  have k_174 := k_165.keep (lab' := (lb (lb (lb (lb (lb (lb (lb (lb (lb (lb (lb (lb (lb (lb l0 w 2) w_8 3) w_18 4) w_29 9) w_41 10) w_54 11) w_68 12) w_83 13) w_99 5) u9 4) v9 6) u10 4) v10 7) u11 4)) hex11 lb_in (fun z hz hq => by rw [hM11 z hz hq]; decide)
  have k_175 := k_166.keep (lab' := (lb (lb (lb (lb (lb (lb (lb (lb (lb (lb (lb (lb (lb (lb l0 w 2) w_8 3) w_18 4) w_29 9) w_41 10) w_54 11) w_68 12) w_83 13) w_99 5) u9 4) v9 6) u10 4) v10 7) u11 4)) hex11 lb_in (fun z hz hq => by rw [hM11 z hz hq]; decide)
  have k_176 := k_167.keep (lab' := (lb (lb (lb (lb (lb (lb (lb (lb (lb (lb (lb (lb (lb (lb l0 w 2) w_8 3) w_18 4) w_29 9) w_41 10) w_54 11) w_68 12) w_83 13) w_99 5) u9 4) v9 6) u10 4) v10 7) u11 4)) hex11 lb_in (fun z hz hq => by rw [hM11 z hz hq]; decide)
  have k_177 := k_168.keep (lab' := (lb (lb (lb (lb (lb (lb (lb (lb (lb (lb (lb (lb (lb (lb l0 w 2) w_8 3) w_18 4) w_29 9) w_41 10) w_54 11) w_68 12) w_83 13) w_99 5) u9 4) v9 6) u10 4) v10 7) u11 4)) hex11 lb_in (fun z hz hq => by rw [hM11 z hz hq]; decide)
  have k_178 := k_169.keep (lab' := (lb (lb (lb (lb (lb (lb (lb (lb (lb (lb (lb (lb (lb (lb l0 w 2) w_8 3) w_18 4) w_29 9) w_41 10) w_54 11) w_68 12) w_83 13) w_99 5) u9 4) v9 6) u10 4) v10 7) u11 4)) hex11 lb_in (fun z hz hq => by rw [hM11 z hz hq]; decide)
  have k_179 := k_170.keep (lab' := (lb (lb (lb (lb (lb (lb (lb (lb (lb (lb (lb (lb (lb (lb l0 w 2) w_8 3) w_18 4) w_29 9) w_41 10) w_54 11) w_68 12) w_83 13) w_99 5) u9 4) v9 6) u10 4) v10 7) u11 4)) hex11 lb_in (fun z hz hq => by rw [hM11 z hz hq]; decide)
  have k_180 := pt11.keep (lab' := (lb (lb (lb (lb (lb (lb (lb (lb (lb (lb (lb (lb (lb (lb l0 w 2) w_8 3) w_18 4) w_29 9) w_41 10) w_54 11) w_68 12) w_83 13) w_99 5) u9 4) v9 6) u10 4) v10 7) u11 4)) hex11 lb_in (fun z hz hq => by rw [hM11 z hz hq]; decide)
  have p411 : cAL D v11 (lb (lb (lb (lb (lb (lb (lb (lb (lb (lb (lb (lb (lb (lb l0 w 2) w_8 3) w_18 4) w_29 9) w_41 10) w_54 11) w_68 12) w_83 13) w_99 5) u9 4) v9 6) u10 4) v10 7) u11 4) 4 o_23 [o_110, o_132, o_156] 10 := cAL.new hal11 la11 lar11 (g_e0 hE hWp11) halb11 har11
  have lx11 : (lb (lb (lb (lb (lb (lb (lb (lb (lb (lb (lb (lb (lb l0 w 2) w_8 3) w_18 4) w_29 9) w_41 10) w_54 11) w_68 12) w_83 13) w_99 5) u9 4) v9 6) u10 4) v10 7) x = 1 := (lb_in _ hxd10.1).trans ((hl30 x hxx).trans hlx)
  have hxd11 := hex11.at hxb11 (fun z => by have h9 := hM11 x hxb11.1 z; rw [lx11] at h9; exact absurd h9 (by decide))
  have hl31 : ∀ z, z ∈ w.1 → (lb (lb (lb (lb (lb (lb (lb (lb (lb (lb (lb (lb (lb (lb l0 w 2) w_8 3) w_18 4) w_29 9) w_41 10) w_54 11) w_68 12) w_83 13) w_99 5) u9 4) v9 6) u10 4) v10 7) u11 4) z = l0 z := fun z hz => (lb_in z (hxa11.1 z (hq30.1 z hz))).trans ((lb_in z (hq30.1 z hz)).trans (hl30 z hz))
  have n411 : ∀ z, z ∈ w.1 → ¬ (z = o_23 ∨ (([o_110, o_132] : List Nat).length < 10 ∧ z = ar11)) := fun z hz hq => fz4 z hz ((hM11 z (hxa11.1 z (hq30.1 z hz)) hq).symm.trans ((lb_in z (hq30.1 z hz)).trans (hl30 z hz)) |>.symm) 
  have hq31 : g_ex (fun q => q = x) w v11 := (hq30.trM hxa11 (fun _ _ z => z.elim)).trM hex11 (fun z hz hq => absurd hq (n411 z hz))
  refine lv_pop hx hb dX1_init_116 rfl ?_
  refine lv_iinc (v := 3) (lv' := [(1, .int (3)), (0, .ref x)]) hx hb dX1_init_117 hl (k := 0) rfl (rfl) (by decide) rfl (fun ls hl => ?_)
  refine lv_goto (tgt := 95) hx hb dX1_init_120 (by decide) ?_
  refine lv_iload_n hx hb dX1_init_95 rfl (lv_at hl 0 rfl) ?_
  refine lv_iconst (v := 4) hx hb dX1_init_96 (by decide) ?_
  refine lv_icmp_ge (tgt := 123) hx hb dX1_init_97 (by decide) (fun hz => absurd hz (by decide)) (fun _ => ?_)
  refine lv_aload_n hx hb dX1_init_100 rfl (lv_at hl 1 rfl) ?_
  refine g_get (ci := 0) (v := .ref o_23) (C := RX1) (T := TX1) (N := 11) hx hb hts in_X1 hown hK hW hxd11 rfl 2 (by decide) q356 (fun _ h9 => h9) rfl dX1_init_101 ?_
  have x_181 : g_ex (fun _ => False) v11 v11 := g_ex.rf
  refine g_newo (ci := 11) (C := RJ2) (T := TJ2) (N := 3) hx hb hts in_J2 tyJ2 tyJ2_ok hown q125 q126 q37 hK hW rfl [.int (0), .null, .int (0)] (by decide +kernel) ?_ ?_ dX1_init_104 (fun o_182 H hq hW => ?_)
  · show _ ≤ 18; omega
  · show _ ≤ 70; omega
  have ho_182 := hq
  obtain ⟨w_183, ew_183⟩ : ∃ z__, z__ = g_push v11 o_182 (.inr (11, [.int (0), .null, .int (0)])) := ⟨_, rfl⟩
  have hW := g_W.ren hW ew_183 rfl
  have h_184 : g_at w_183 x (.inr (0, [.ref o_2, .ref o_12, .ref o_23, .ref o_35, .ref o_48, .ref o_62, .ref o_77, .ref o_93, .int (0), .long (0), .int (0)])) := by rw [ew_183]; exact hxd11.push hq
  have h_185 : g_at w_183 o_182 (.inr (11, [.int (0), .null, .int (0)])) := by rw [ew_183]; exact g_at.push_self
  have x_186 : g_ex (fun _ => False) v11 w_183 := by rw [ew_183]; exact x_181.push hq
  refine lv_dup hx hb dX1_init_107 rfl ?_
  refine g_callv (va_runI (As := []) (rest := [.ref o_182, .ref o_23]) ⟨hx, hb, hml, hown, hts⟩ (mtJ2_init l D w_183 H.size o_182 h_185) (cwI 0 hts (lw_meth q129) rfl rfl rfl (hts _ q37) (hts _ q127) (hts _ q128) rfl (by decide +kernel) ⟨Nat.le_of_ble_eq_true rfl, Nat.le_of_ble_eq_true rfl⟩) (g_preS hW hK hE) rfl rfl hl.1 rfl (lv_room (Nat.le_of_ble_eq_true rfl)) dX1_init_108 ⟨?_, ?_⟩) hW (fun u12 H locs hp hW => ?_)
  · (try simp only [headSpec]); omega
  · (try simp only [headSpec]); omega
  obtain ⟨hp12, hi12⟩ := hp
  have hxa12 : g_ex (fun _ => False) v11 u12 := x_186.trM hi12 (fun z hz hq => absurd (hq ▸ hz) ho_182)
  have pt12 : cAL D u12 (lb (lb (lb (lb (lb (lb (lb (lb (lb (lb (lb (lb (lb (lb (lb l0 w 2) w_8 3) w_18 4) w_29 9) w_41 10) w_54 11) w_68 12) w_83 13) w_99 5) u9 4) v9 6) u10 4) v10 7) u11 4) v11 8) 8 o_182 [] 0 := ⟨_, hp12, lb_out ho_182, fun z => absurd z (by decide)⟩
  have k_187 := k_171.keep (lab' := (lb (lb (lb (lb (lb (lb (lb (lb (lb (lb (lb (lb (lb (lb (lb l0 w 2) w_8 3) w_18 4) w_29 9) w_41 10) w_54 11) w_68 12) w_83 13) w_99 5) u9 4) v9 6) u10 4) v10 7) u11 4) v11 8)) hxa12 lb_in (fun z _ hz => hz.elim)
  have k_188 := k_172.keep (lab' := (lb (lb (lb (lb (lb (lb (lb (lb (lb (lb (lb (lb (lb (lb (lb l0 w 2) w_8 3) w_18 4) w_29 9) w_41 10) w_54 11) w_68 12) w_83 13) w_99 5) u9 4) v9 6) u10 4) v10 7) u11 4) v11 8)) hxa12 lb_in (fun z _ hz => hz.elim)
  have k_189 := p411.keep (lab' := (lb (lb (lb (lb (lb (lb (lb (lb (lb (lb (lb (lb (lb (lb (lb l0 w 2) w_8 3) w_18 4) w_29 9) w_41 10) w_54 11) w_68 12) w_83 13) w_99 5) u9 4) v9 6) u10 4) v10 7) u11 4) v11 8)) hxa12 lb_in (fun z _ hz => hz.elim)
  have k_190 := k_173.keep (lab' := (lb (lb (lb (lb (lb (lb (lb (lb (lb (lb (lb (lb (lb (lb (lb l0 w 2) w_8 3) w_18 4) w_29 9) w_41 10) w_54 11) w_68 12) w_83 13) w_99 5) u9 4) v9 6) u10 4) v10 7) u11 4) v11 8)) hxa12 lb_in (fun z _ hz => hz.elim)
  have k_191 := k_174.keep (lab' := (lb (lb (lb (lb (lb (lb (lb (lb (lb (lb (lb (lb (lb (lb (lb l0 w 2) w_8 3) w_18 4) w_29 9) w_41 10) w_54 11) w_68 12) w_83 13) w_99 5) u9 4) v9 6) u10 4) v10 7) u11 4) v11 8)) hxa12 lb_in (fun z _ hz => hz.elim)
  have k_192 := k_175.keep (lab' := (lb (lb (lb (lb (lb (lb (lb (lb (lb (lb (lb (lb (lb (lb (lb l0 w 2) w_8 3) w_18 4) w_29 9) w_41 10) w_54 11) w_68 12) w_83 13) w_99 5) u9 4) v9 6) u10 4) v10 7) u11 4) v11 8)) hxa12 lb_in (fun z _ hz => hz.elim)
  have k_193 := k_176.keep (lab' := (lb (lb (lb (lb (lb (lb (lb (lb (lb (lb (lb (lb (lb (lb (lb l0 w 2) w_8 3) w_18 4) w_29 9) w_41 10) w_54 11) w_68 12) w_83 13) w_99 5) u9 4) v9 6) u10 4) v10 7) u11 4) v11 8)) hxa12 lb_in (fun z _ hz => hz.elim)
  have k_194 := k_177.keep (lab' := (lb (lb (lb (lb (lb (lb (lb (lb (lb (lb (lb (lb (lb (lb (lb l0 w 2) w_8 3) w_18 4) w_29 9) w_41 10) w_54 11) w_68 12) w_83 13) w_99 5) u9 4) v9 6) u10 4) v10 7) u11 4) v11 8)) hxa12 lb_in (fun z _ hz => hz.elim)
  have k_195 := k_178.keep (lab' := (lb (lb (lb (lb (lb (lb (lb (lb (lb (lb (lb (lb (lb (lb (lb l0 w 2) w_8 3) w_18 4) w_29 9) w_41 10) w_54 11) w_68 12) w_83 13) w_99 5) u9 4) v9 6) u10 4) v10 7) u11 4) v11 8)) hxa12 lb_in (fun z _ hz => hz.elim)
  have k_196 := k_179.keep (lab' := (lb (lb (lb (lb (lb (lb (lb (lb (lb (lb (lb (lb (lb (lb (lb l0 w 2) w_8 3) w_18 4) w_29 9) w_41 10) w_54 11) w_68 12) w_83 13) w_99 5) u9 4) v9 6) u10 4) v10 7) u11 4) v11 8)) hxa12 lb_in (fun z _ hz => hz.elim)
  have k_197 := k_180.keep (lab' := (lb (lb (lb (lb (lb (lb (lb (lb (lb (lb (lb (lb (lb (lb (lb l0 w 2) w_8 3) w_18 4) w_29 9) w_41 10) w_54 11) w_68 12) w_83 13) w_99 5) u9 4) v9 6) u10 4) v10 7) u11 4) v11 8)) hxa12 lb_in (fun z _ hz => hz.elim)
  have hxb12 := hxa12.at hxd11 (fun z => z.elim)
  have hWp12 := hW
  obtain ⟨ar12, hal12, la12, lar12⟩ := k_189
  obtain ⟨mo12, hat12, -⟩ := id hal12
  obtain ⟨mp12, hao12, -⟩ := id hp12
  have nya12 : o_182 ≠ o_23 := fun z => by have h9 : (lb (lb (lb (lb (lb (lb (lb (lb (lb (lb (lb (lb (lb (lb (lb l0 w 2) w_8 3) w_18 4) w_29 9) w_41 10) w_54 11) w_68 12) w_83 13) w_99 5) u9 4) v9 6) u10 4) v10 7) u11 4) v11 8) o_182 = 8 := lb_out ho_182; rw [z, la12] at h9; exact absurd h9 (by decide)
  refine g_callFi (va_runF (cC := D.1 11) (hK.1 11 _ rfl).2 (As := [.ref o_182]) (rest := []) ⟨hx, hb, hml, hown, hts⟩ (mtJ2_addX l D u12 H.size o_23 ar12 10 [o_110, o_132, o_156] hal12 11 _ o_182 _ _ (fun z => absurd z (show ¬ (3 : Nat) = 10 by decide)) (Or.inl ⟨_, hao12⟩) rfl (by decide) nya12 (show (3 : Nat) < 600 by decide)) (va_cwF 1 hts (lw_app (lw_in _ [239, 243, 245, 37] (by decide +kernel) (by decide +kernel)) (lw_meth q247)) rfl rfl rfl (fw_20 hE) (by decide +kernel) ⟨Nat.le_of_ble_eq_true rfl, Nat.le_of_ble_eq_true rfl⟩) (g_preV hW hK hE hat12 rfl) rfl rfl hl.1 rfl (lv_room (Nat.le_of_ble_eq_true rfl)) dX1_init_111 ⟨?_, ?_⟩) hW (fun r_ v12 H locs hp hW => ?_)
  · (try simp only [headSpec]); exact Nat.le_of_ble_eq_true rfl
  · (try simp only [headSpec]); exact Nat.le_of_ble_eq_true rfl
  rw [show g_ac ([o_110, o_132, o_156] : List Nat).length 10 = 0 from rfl, show g_as ([o_110, o_132, o_156] : List Nat).length 10 = 0 from rfl]
  obtain ⟨er, ar212, halb12, har12, hex12⟩ := hp
  subst er
  have hM12 : ∀ z, z ∈ u12.1 → (z = o_23 ∨ (([o_110, o_132, o_156] : List Nat).length < 10 ∧ z = ar12)) → (lb (lb (lb (lb (lb (lb (lb (lb (lb (lb (lb (lb (lb (lb (lb l0 w 2) w_8 3) w_18 4) w_29 9) w_41 10) w_54 11) w_68 12) w_83 13) w_99 5) u9 4) v9 6) u10 4) v10 7) u11 4) v11 8) z = 4 := fun z _ hz => by rcases hz with hz | hz; rw [hz]; exact la12; rw [hz.2]; exact lar12 (Nat.lt_of_le_of_lt (Nat.zero_le _) hz.1)
  have k_198 := k_187.keep (lab' := (lb (lb (lb (lb (lb (lb (lb (lb (lb (lb (lb (lb (lb (lb (lb (lb l0 w 2) w_8 3) w_18 4) w_29 9) w_41 10) w_54 11) w_68 12) w_83 13) w_99 5) u9 4) v9 6) u10 4) v10 7) u11 4) v11 8) u12 4)) hex12 lb_in (fun z hz hq => by rw [hM12 z hz hq]; decide)
  have k_199 := k_188.keep (lab' := (lb (lb (lb (lb (lb (lb (lb (lb (lb (lb (lb (lb (lb (lb (lb (lb l0 w 2) w_8 3) w_18 4) w_29 9) w_41 10) w_54 11) w_68 12) w_83 13) w_99 5) u9 4) v9 6) u10 4) v10 7) u11 4) v11 8) u12 4)) hex12 lb_in (fun z hz hq => by rw [hM12 z hz hq]; decide)
  have k_200 := k_190.keep (lab' := (lb (lb (lb (lb (lb (lb (lb (lb (lb (lb (lb (lb (lb (lb (lb (lb l0 w 2) w_8 3) w_18 4) w_29 9) w_41 10) w_54 11) w_68 12) w_83 13) w_99 5) u9 4) v9 6) u10 4) v10 7) u11 4) v11 8) u12 4)) hex12 lb_in (fun z hz hq => by rw [hM12 z hz hq]; decide)
  have k_201 := k_191.keep (lab' := (lb (lb (lb (lb (lb (lb (lb (lb (lb (lb (lb (lb (lb (lb (lb (lb l0 w 2) w_8 3) w_18 4) w_29 9) w_41 10) w_54 11) w_68 12) w_83 13) w_99 5) u9 4) v9 6) u10 4) v10 7) u11 4) v11 8) u12 4)) hex12 lb_in (fun z hz hq => by rw [hM12 z hz hq]; decide)
  have k_202 := k_192.keep (lab' := (lb (lb (lb (lb (lb (lb (lb (lb (lb (lb (lb (lb (lb (lb (lb (lb l0 w 2) w_8 3) w_18 4) w_29 9) w_41 10) w_54 11) w_68 12) w_83 13) w_99 5) u9 4) v9 6) u10 4) v10 7) u11 4) v11 8) u12 4)) hex12 lb_in (fun z hz hq => by rw [hM12 z hz hq]; decide)
  have k_203 := k_193.keep (lab' := (lb (lb (lb (lb (lb (lb (lb (lb (lb (lb (lb (lb (lb (lb (lb (lb l0 w 2) w_8 3) w_18 4) w_29 9) w_41 10) w_54 11) w_68 12) w_83 13) w_99 5) u9 4) v9 6) u10 4) v10 7) u11 4) v11 8) u12 4)) hex12 lb_in (fun z hz hq => by rw [hM12 z hz hq]; decide)
  have k_204 := k_194.keep (lab' := (lb (lb (lb (lb (lb (lb (lb (lb (lb (lb (lb (lb (lb (lb (lb (lb l0 w 2) w_8 3) w_18 4) w_29 9) w_41 10) w_54 11) w_68 12) w_83 13) w_99 5) u9 4) v9 6) u10 4) v10 7) u11 4) v11 8) u12 4)) hex12 lb_in (fun z hz hq => by rw [hM12 z hz hq]; decide)
  have k_205 := k_195.keep (lab' := (lb (lb (lb (lb (lb (lb (lb (lb (lb (lb (lb (lb (lb (lb (lb (lb l0 w 2) w_8 3) w_18 4) w_29 9) w_41 10) w_54 11) w_68 12) w_83 13) w_99 5) u9 4) v9 6) u10 4) v10 7) u11 4) v11 8) u12 4)) hex12 lb_in (fun z hz hq => by rw [hM12 z hz hq]; decide)
  have k_206 := k_196.keep (lab' := (lb (lb (lb (lb (lb (lb (lb (lb (lb (lb (lb (lb (lb (lb (lb (lb l0 w 2) w_8 3) w_18 4) w_29 9) w_41 10) w_54 11) w_68 12) w_83 13) w_99 5) u9 4) v9 6) u10 4) v10 7) u11 4) v11 8) u12 4)) hex12 lb_in (fun z hz hq => by rw [hM12 z hz hq]; decide)
  have k_207 := k_197.keep (lab' := (lb (lb (lb (lb (lb (lb (lb (lb (lb (lb (lb (lb (lb (lb (lb (lb l0 w 2) w_8 3) w_18 4) w_29 9) w_41 10) w_54 11) w_68 12) w_83 13) w_99 5) u9 4) v9 6) u10 4) v10 7) u11 4) v11 8) u12 4)) hex12 lb_in (fun z hz hq => by rw [hM12 z hz hq]; decide)
  have k_208 := pt12.keep (lab' := (lb (lb (lb (lb (lb (lb (lb (lb (lb (lb (lb (lb (lb (lb (lb (lb l0 w 2) w_8 3) w_18 4) w_29 9) w_41 10) w_54 11) w_68 12) w_83 13) w_99 5) u9 4) v9 6) u10 4) v10 7) u11 4) v11 8) u12 4)) hex12 lb_in (fun z hz hq => by rw [hM12 z hz hq]; decide)
  have p412 : cAL D v12 (lb (lb (lb (lb (lb (lb (lb (lb (lb (lb (lb (lb (lb (lb (lb (lb l0 w 2) w_8 3) w_18 4) w_29 9) w_41 10) w_54 11) w_68 12) w_83 13) w_99 5) u9 4) v9 6) u10 4) v10 7) u11 4) v11 8) u12 4) 4 o_23 [o_110, o_132, o_156, o_182] 10 := cAL.new hal12 la12 lar12 (g_e0 hE hWp12) halb12 har12
  have lx12 : (lb (lb (lb (lb (lb (lb (lb (lb (lb (lb (lb (lb (lb (lb (lb l0 w 2) w_8 3) w_18 4) w_29 9) w_41 10) w_54 11) w_68 12) w_83 13) w_99 5) u9 4) v9 6) u10 4) v10 7) u11 4) v11 8) x = 1 := (lb_in _ hxd11.1).trans ((hl31 x hxx).trans hlx)
  have hxd12 := hex12.at hxb12 (fun z => by have h9 := hM12 x hxb12.1 z; rw [lx12] at h9; exact absurd h9 (by decide))
  have hl32 : ∀ z, z ∈ w.1 → (lb (lb (lb (lb (lb (lb (lb (lb (lb (lb (lb (lb (lb (lb (lb (lb l0 w 2) w_8 3) w_18 4) w_29 9) w_41 10) w_54 11) w_68 12) w_83 13) w_99 5) u9 4) v9 6) u10 4) v10 7) u11 4) v11 8) u12 4) z = l0 z := fun z hz => (lb_in z (hxa12.1 z (hq31.1 z hz))).trans ((lb_in z (hq31.1 z hz)).trans (hl31 z hz))
  have n412 : ∀ z, z ∈ w.1 → ¬ (z = o_23 ∨ (([o_110, o_132, o_156] : List Nat).length < 10 ∧ z = ar12)) := fun z hz hq => fz4 z hz ((hM12 z (hxa12.1 z (hq31.1 z hz)) hq).symm.trans ((lb_in z (hq31.1 z hz)).trans (hl31 z hz)) |>.symm) 
  have hq32 : g_ex (fun q => q = x) w v12 := (hq31.trM hxa12 (fun _ _ z => z.elim)).trM hex12 (fun z hz hq => absurd hq (n412 z hz))
  refine lv_pop hx hb dX1_init_116 rfl ?_
  refine lv_iinc (v := 4) (lv' := [(1, .int (4)), (0, .ref x)]) hx hb dX1_init_117 hl (k := 0) rfl (rfl) (by decide) rfl (fun ls hl => ?_)
  refine lv_goto (tgt := 95) hx hb dX1_init_120 (by decide) ?_
  refine lv_iload_n hx hb dX1_init_95 rfl (lv_at hl 0 rfl) ?_
  refine lv_iconst (v := 4) hx hb dX1_init_96 (by decide) ?_
  refine lv_icmp_ge (tgt := 123) hx hb dX1_init_97 (by decide) (fun _ => ?_) (fun hz => absurd (by decide) hz)
  have hxu12 : x ∈ u12.1 := hxb12.1
  have h4 : ∀ j, j < 4 → cAL D v12 (lb (lb (lb (lb (lb (lb (lb (lb (lb (lb (lb (lb (lb (lb (lb (lb l0 w 2) w_8 3) w_18 4) w_29 9) w_41 10) w_54 11) w_68 12) w_83 13) w_99 5) u9 4) v9 6) u10 4) v10 7) u11 4) v11 8) u12 4) (5 + j) (([o_110, o_132, o_156, o_182] : List Nat).getD j 0) [] (cp00 (5 + j)) := fun j hj => by
    match j, hj with
    | 0, _ => exact k_205
    | 1, _ => exact k_206
    | 2, _ => exact k_207
    | 3, _ => exact k_208
  exact g_vret hx hb hr hlocks hW (⟨(lb (lb (lb (lb (lb (lb (lb (lb (lb (lb (lb (lb (lb (lb (lb (lb l0 w 2) w_8 3) w_18 4) w_29 9) w_41 10) w_54 11) w_68 12) w_83 13) w_99 5) u9 4) v9 6) u10 4) v10 7) u11 4) v11 8) u12 4), (fun k => match k with | 2 => o_2 | 3 => o_12 | 4 => o_23 | 9 => o_35 | 10 => o_48 | 11 => o_62 | 12 => o_77 | _ => o_93), ⟨⟨hxd12, (lb_in _ hxu12).trans lx12⟩, ⟨[], k_198, rfl, by decide, fun _ z => absurd z (Nat.not_lt_zero _)⟩, ⟨[], k_199, rfl, by decide, fun _ z => absurd z (Nat.not_lt_zero _)⟩, ⟨_, fun _ => [], p412, rfl, fun j hj => ⟨h4 j hj, ⟨rfl, fun _ z => absurd z (Nat.not_lt_zero _)⟩, Nat.zero_le _⟩⟩, k_200, k_201, ⟨[], k_202, ⟨rfl, fun _ z => absurd z (Nat.not_lt_zero _)⟩, fun _ z => by cases z⟩, ⟨[], k_203, rfl, fun _ z => absurd z (Nat.not_lt_zero _)⟩, ⟨[], k_204, rfl, fun _ z => absurd z (Nat.not_lt_zero _)⟩, by decide, by decide, by decide, by decide, by decide⟩, hl32, hq32⟩) (by omega) (by omega) dX1_init_123
