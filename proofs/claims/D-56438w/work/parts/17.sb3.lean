/-! the JDK: StringBuilder, part 3; Arrays.copyOfRange -/
set_option maxRecDepth 100000
set_option maxHeartbeats 4000000 in
set_option maxRecDepth 100000 in
/-- StringBuilder.append(char) -/
theorem mtJ23_append_3 (l : Launch) (D : va_G) (w : g_H) (sz : Nat) (b ba cap : Nat) (ml : Int32) (t : List Nat) (hs : g_SB D w b ba ml t cap) (ch : Nat) (hch : ch < 128) (hq : t.length + 1 ≤ 65536) (hq2 : g_cn (t.length + 1) cap ≤ 65536) : Met l yJ23_append_3 (ws_ yJ23_append_3 cJ23_append_3 2 (some (.object "java/lang/StringBuilder"))) ({ frames := 6, cells := g_cc (t.length + 1) cap, slots := g_cs (t.length + 1) cap, locals := 145 }) (g_Pc D [.ref b, .int (nI ch)] w sz) (g_Qq D w sz (fun r u => ∃ bb, r = some b ∧ g_SB D u b bb ml (t ++ [ch]) (g_cn (t.length + 1) cap) ∧ (bb = ba ∨ bb ∉ w.1) ∧ g_ex (fun z => z = b ∨ z = ba) w u)) (g_cc (t.length + 1) cap) (g_cs (t.length + 1) cap) (g_A w sz) := by
  refine Met.ofW (cc := cJ23_append_3) (maxL := 2) (ret := (some (.object "java/lang/StringBuilder"))) (by decide) rfl ?_
  intro p e s m args below meth c s₁ B hml hv
  obtain ⟨rfl, hI⟩ := hv
  have hx := B.exec
  have hb := B.bytes
  have hr := B.returns
  have hts := atoms_spec (ws := ws_ yJ23_append_3 cJ23_append_3 2 (some (.object "java/lang/StringBuilder"))) B.pre
  have hts : ∀ w ∈ lw_all, w.before _ s = true := fun w h => hts w (List.mem_cons_of_mem _ h)
  have hown : s.vm.findClass RJ23 = some m.cls := findClass_of_methodNamed B.named
  have hlocks := B.notSynchronized
  have hsz := hI.1
  subst hsz
  have hW := g_W.start hI
  have hK := g_K hI
  have hE := g_E hI
  have hl := lv_entry ([.ref b, .int (nI ch)]) (n := 2) (by exact Nat.le_of_ble_eq_true rfl)
  rw [lg_entry_eq]
  generalize (lg_sl ([.ref b, .int (nI ch)]) ++ List.replicate (2 - (lg_sl ([.ref b, .int (nI ch)])).length) Slot.unset).toArray = ls at hl ⊢
  have hl : lv_has ls 2 [(0, .ref b), (1, .int (nI ch))] := hl
  have hs0 := hs
  obtain ⟨hs1, ⟨f, hs2, hs3, hs4⟩, hs5, hs6, hs7⟩ := hs0
  refine lv_aload_n hx hb dJ23_append_3_0 rfl (lv_at hl 0 rfl) ?_
  refine lv_iload_n hx hb dJ23_append_3_1 rfl (lv_at hl 1 rfl) ?_
  refine g_callq (va_runSU (cC := D.1 15) (hK.1 15 _ rfl).2 (As := [.int (nI ch)]) (rest := []) ⟨hx, hb, hml, hown, hts⟩ (mtJ22_append_3 l D w s.heap.size b ba cap ml t hs ch hch hq hq2) (va_cwSU 1 hts (lw_app (lw_in _ [1117, 2232, 859, 1118, 69] (by decide +kernel) (by decide +kernel)) (lw_meth q1119)) rfl rfl rfl (by decide +kernel) ⟨Nat.le_of_ble_eq_true rfl, Nat.le_of_ble_eq_true rfl⟩) (g_preV hW hK hE hs1 rfl) rfl rfl hl.1 rfl (lv_room (Nat.le_of_ble_eq_true rfl)) dJ23_append_3_2 ⟨?_, ?_⟩) hW (fun r_ u1 H locs hp hW => ?_)
  · show _ ≤ g_cc (t.length + 1) cap; omega
  · show _ ≤ g_cs (t.length + 1) cap; omega
  obtain ⟨bb, er, hsb, hbb, hex⟩ := hp
  subst er
  refine lv_pop hx hb dJ23_append_3_5 rfl ?_
  refine lv_aload_n hx hb dJ23_append_3_6 rfl (lv_at hl 0 rfl) ?_
  exact g_qret (v := some b) hx hb hr (Or.inl ⟨_, rfl⟩) hlocks hW ⟨bb, rfl, hsb, hbb, hex⟩ (by omega) (by omega) dJ23_append_3_7
set_option maxHeartbeats 4000000 in
set_option maxRecDepth 100000 in
/-- new StringBuilder() -/
theorem mtJ23_init (l : Launch) (D : va_G) (w : g_H) (sz : Nat) (b : Nat) (ml : Int32) (hb0 : g_at w b (.inr (15, [.null, .int 0, .int ml, .int 0]))) : Met l yJ23_init (ws_ yJ23_init cJ23_init 1 none) ({ frames := 2, cells := 1, slots := 16, locals := 33 }) (g_Pc D [.ref b] w sz) (g_Qv D w sz (fun u => ∃ ba, ba ∉ w.1 ∧ g_SB D u b ba ml [] 16 ∧ g_ex (fun z => z = b) w u)) (1) (16) (g_A w sz) := by
  refine Met.ofW (cc := cJ23_init) (maxL := 1) (ret := none) (by decide) rfl ?_
  intro p e s m args below meth c s₁ B hml hv
  obtain ⟨rfl, hI⟩ := hv
  have hx := B.exec
  have hb := B.bytes
  have hr := B.returns
  have hts := atoms_spec (ws := ws_ yJ23_init cJ23_init 1 none) B.pre
  have hts : ∀ w ∈ lw_all, w.before _ s = true := fun w h => hts w (List.mem_cons_of_mem _ h)
  have hown : s.vm.findClass RJ23 = some m.cls := findClass_of_methodNamed B.named
  have hlocks := B.notSynchronized
  have hin : meth.name = "<init>" := (name_of_methodNamed B.named B.method).1
  have hsz := hI.1
  subst hsz
  have hW := g_W.start hI
  have hK := g_K hI
  have hE := g_E hI
  have hl := lv_entry ([.ref b]) (n := 1) (by exact Nat.le_of_ble_eq_true rfl)
  rw [lg_entry_eq]
  generalize (lg_sl ([.ref b]) ++ List.replicate (1 - (lg_sl ([.ref b])).length) Slot.unset).toArray = ls at hl ⊢
  have hl : lv_has ls 1 [(0, .ref b)] := hl
  refine lv_aload_n hx hb dJ23_init_0 rfl (lv_at hl 0 rfl) ?_
  refine lv_bipush (v := 16) hx hb dJ23_init_1 (by decide) ?_
  refine g_topi (y := nI 16) (rfl) ?_
  refine g_callv (va_runI (As := [.int (nI 16)]) (rest := []) ⟨hx, hb, hml, hown, hts⟩ (mtJ22_init l D w s.heap.size b 16 ml hb0 (by omega)) (cwI 1 hts (lw_meth q837) rfl rfl rfl (hts _ q69) (hts _ q835) (hts _ q836) rfl (by decide +kernel) ⟨Nat.le_of_ble_eq_true rfl, Nat.le_of_ble_eq_true rfl⟩) (g_preS hW hK hE) rfl rfl hl.1 rfl (lv_room (Nat.le_of_ble_eq_true rfl)) dJ23_init_3 ⟨?_, ?_⟩) hW (fun u1 H locs hp hW => ?_)
  · show _ ≤ 1; omega
  · show _ ≤ 16; omega
  exact g_vret hx hb hr hlocks hW (hp) (by omega) (by omega) dJ23_init_6
set_option maxHeartbeats 4000000 in
set_option maxRecDepth 100000 in
/-- AbstractStringBuilder.getValue -/
theorem mtJ22_getValue (l : Launch) (D : va_G) (w : g_H) (sz : Nat) (b ba cap : Nat) (ml : Int32) (t : List Nat) (hs : g_SB D w b ba ml t cap) : Met l yJ22_getValue (ws_ yJ22_getValue cJ22_getValue 1 (some (.array .byte))) ({ frames := 1, cells := 0, slots := 0, locals := 12 }) (g_Pc D [.ref b] w sz) (g_Qq D w sz (fun r u => r = some ba ∧ w = u)) (0) (0) (g_A w sz) := by
  refine Met.ofW (cc := cJ22_getValue) (maxL := 1) (ret := (some (.array .byte))) (by decide) rfl ?_
  intro p e s m args below meth c s₁ B hml hv
  obtain ⟨rfl, hI⟩ := hv
  have hx := B.exec
  have hb := B.bytes
  have hr := B.returns
  have hts := atoms_spec (ws := ws_ yJ22_getValue cJ22_getValue 1 (some (.array .byte))) B.pre
  have hts : ∀ w ∈ lw_all, w.before _ s = true := fun w h => hts w (List.mem_cons_of_mem _ h)
  have hown : s.vm.findClass RJ22 = some m.cls := findClass_of_methodNamed B.named
  have hlocks := B.notSynchronized
  have hsz := hI.1
  subst hsz
  have hW := g_W.start hI
  have hK := g_K hI
  have hE := g_E hI
  have hl := lv_entry ([.ref b]) (n := 1) (by exact Nat.le_of_ble_eq_true rfl)
  rw [lg_entry_eq]
  generalize (lg_sl ([.ref b]) ++ List.replicate (1 - (lg_sl ([.ref b])).length) Slot.unset).toArray = ls at hl ⊢
  have hl : lv_has ls 1 [(0, .ref b)] := hl
  have hs0 := hs
  obtain ⟨hs1, ⟨f, hs2, hs3, hs4⟩, hs5, hs6, hs7⟩ := hs0
  refine lv_aload_n hx hb dJ22_getValue_0 rfl (lv_at hl 0 rfl) ?_
  refine g_get (ci := 15) (v := .ref ba) (C := RJ23) (T := TJ23) (N := 4) hx hb hts in_J23 hown hK hW hs1 rfl 0 (by decide) q847 (fun _ h9 => h9) rfl dJ22_getValue_1 ?_
  exact g_qret (v := some ba) hx hb hr (Or.inr ⟨_, rfl⟩) hlocks hW ⟨rfl, rfl⟩ (by omega) (by omega) dJ22_getValue_4
set_option maxHeartbeats 4000000 in
set_option maxRecDepth 100000 in
/-- AbstractStringBuilder.length -/
theorem mtJ22_length (l : Launch) (D : va_G) (w : g_H) (sz : Nat) (b ba cap : Nat) (ml : Int32) (t : List Nat) (hs : g_SB D w b ba ml t cap) : Met l yJ22_length (ws_ yJ22_length cJ22_length 1 (some .int)) ({ frames := 1, cells := 0, slots := 0, locals := 12 }) (g_Pc D [.ref b] w sz) (g_Qi D w sz (fun r u => r = nI t.length ∧ w = u)) (0) (0) (g_A w sz) := by
  refine Met.ofW (cc := cJ22_length) (maxL := 1) (ret := (some .int)) (by decide) rfl ?_
  intro p e s m args below meth c s₁ B hml hv
  obtain ⟨rfl, hI⟩ := hv
  have hx := B.exec
  have hb := B.bytes
  have hr := B.returns
  have hts := atoms_spec (ws := ws_ yJ22_length cJ22_length 1 (some .int)) B.pre
  have hts : ∀ w ∈ lw_all, w.before _ s = true := fun w h => hts w (List.mem_cons_of_mem _ h)
  have hown : s.vm.findClass RJ22 = some m.cls := findClass_of_methodNamed B.named
  have hlocks := B.notSynchronized
  have hsz := hI.1
  subst hsz
  have hW := g_W.start hI
  have hK := g_K hI
  have hE := g_E hI
  have hl := lv_entry ([.ref b]) (n := 1) (by exact Nat.le_of_ble_eq_true rfl)
  rw [lg_entry_eq]
  generalize (lg_sl ([.ref b]) ++ List.replicate (1 - (lg_sl ([.ref b])).length) Slot.unset).toArray = ls at hl ⊢
  have hl : lv_has ls 1 [(0, .ref b)] := hl
  have hs0 := hs
  obtain ⟨hs1, ⟨f, hs2, hs3, hs4⟩, hs5, hs6, hs7⟩ := hs0
  refine lv_aload_n hx hb dJ22_length_0 rfl (lv_at hl 0 rfl) ?_
  refine g_get (ci := 15) (v := .int (nI t.length)) (C := RJ23) (T := TJ23) (N := 4) hx hb hts in_J23 hown hK hW hs1 rfl 3 (by decide) q850 (fun _ h9 => h9) rfl dJ22_length_1 ?_
  exact g_iret (v := nI t.length) hx hb hr hlocks hW (⟨rfl, rfl⟩) (by omega) (by omega) dJ22_length_4
set_option maxHeartbeats 4000000 in
set_option maxRecDepth 100000 in
/-- StringBuilder.length -/
theorem mtJ23_length (l : Launch) (D : va_G) (w : g_H) (sz : Nat) (b ba cap : Nat) (ml : Int32) (t : List Nat) (hs : g_SB D w b ba ml t cap) : Met l yJ23_length (ws_ yJ23_length cJ23_length 1 (some .int)) ({ frames := 2, cells := 0, slots := 0, locals := 32 }) (g_Pc D [.ref b] w sz) (g_Qi D w sz (fun r u => r = nI t.length ∧ w = u)) (0) (0) (g_A w sz) := by
  refine Met.ofW (cc := cJ23_length) (maxL := 1) (ret := (some .int)) (by decide) rfl ?_
  intro p e s m args below meth c s₁ B hml hv
  obtain ⟨rfl, hI⟩ := hv
  have hx := B.exec
  have hb := B.bytes
  have hr := B.returns
  have hts := atoms_spec (ws := ws_ yJ23_length cJ23_length 1 (some .int)) B.pre
  have hts : ∀ w ∈ lw_all, w.before _ s = true := fun w h => hts w (List.mem_cons_of_mem _ h)
  have hown : s.vm.findClass RJ23 = some m.cls := findClass_of_methodNamed B.named
  have hlocks := B.notSynchronized
  have hsz := hI.1
  subst hsz
  have hW := g_W.start hI
  have hK := g_K hI
  have hE := g_E hI
  have hl := lv_entry ([.ref b]) (n := 1) (by exact Nat.le_of_ble_eq_true rfl)
  rw [lg_entry_eq]
  generalize (lg_sl ([.ref b]) ++ List.replicate (1 - (lg_sl ([.ref b])).length) Slot.unset).toArray = ls at hl ⊢
  have hl : lv_has ls 1 [(0, .ref b)] := hl
  have hs0 := hs
  obtain ⟨hs1, ⟨f, hs2, hs3, hs4⟩, hs5, hs6, hs7⟩ := hs0
  refine lv_aload_n hx hb dJ23_length_0 rfl (lv_at hl 0 rfl) ?_
  refine g_calli (va_runSU (cC := D.1 15) (hK.1 15 _ rfl).2 (As := []) (rest := []) ⟨hx, hb, hml, hown, hts⟩ (mtJ22_length l D w s.heap.size b ba cap ml t hs) (va_cwSU 0 hts (lw_app (lw_in _ [997, 993, 859, 992, 69] (by decide +kernel) (by decide +kernel)) (lw_meth q998)) rfl rfl rfl (by decide +kernel) ⟨Nat.le_of_ble_eq_true rfl, Nat.le_of_ble_eq_true rfl⟩) (g_preV hW hK hE hs1 rfl) rfl rfl hl.1 rfl (lv_room (Nat.le_of_ble_eq_true rfl)) dJ23_length_1 ⟨?_, ?_⟩) hW (fun r_ u_ H locs hp hW => ?_)
  · show _ ≤ 0; omega
  · show _ ≤ 0; omega
  obtain ⟨er, rfl⟩ := hp
  subst er
  exact g_iret (v := nI t.length) hx hb hr hlocks hW (⟨rfl, rfl⟩) (by omega) (by omega) dJ23_length_4
set_option maxHeartbeats 4000000 in
set_option maxRecDepth 100000 in
/-- Arrays.checkLength from 0 -/
theorem mtJ8_checkLength (l : Launch) (D : va_G) (w : g_H) (sz : Nat) (n : Nat) (hn : n < 2 ^ 31) : Met l yJ8_checkLength (ws_ yJ8_checkLength cJ8_checkLength 2 none) ({ frames := 1, cells := 0, slots := 0, locals := 12 }) (g_Pc D [.int (0), .int (nI n)] w sz) (g_Qv D w sz (fun u => w = u)) (0) (0) (g_A w sz) := by
  refine Met.ofW (cc := cJ8_checkLength) (maxL := 2) (ret := none) (by decide) rfl ?_
  intro p e s m args below meth c s₁ B hml hv
  obtain ⟨rfl, hI⟩ := hv
  have hx := B.exec
  have hb := B.bytes
  have hr := B.returns
  have hts := atoms_spec (ws := ws_ yJ8_checkLength cJ8_checkLength 2 none) B.pre
  have hts : ∀ w ∈ lw_all, w.before _ s = true := fun w h => hts w (List.mem_cons_of_mem _ h)
  have hown : s.vm.findClass RJ8 = some m.cls := findClass_of_methodNamed B.named
  have hlocks := B.notSynchronized
  have hsz := hI.1
  subst hsz
  have hW := g_W.start hI
  have hK := g_K hI
  have hE := g_E hI
  have hl := lv_entry ([.int (0), .int (nI n)]) (n := 2) (by exact Nat.le_of_ble_eq_true rfl)
  rw [lg_entry_eq]
  generalize (lg_sl ([.int (0), .int (nI n)]) ++ List.replicate (2 - (lg_sl ([.int (0), .int (nI n)])).length) Slot.unset).toArray = ls at hl ⊢
  have hl : lv_has ls 2 [(0, .int (0)), (1, .int (nI n))] := hl
  refine lv_iload_n hx hb dJ8_checkLength_0 rfl (lv_at hl 1 rfl) ?_
  refine lv_iload_n hx hb dJ8_checkLength_1 rfl (lv_at hl 0 rfl) ?_
  refine lv_icmp_ge (tgt := 37) hx hb dJ8_checkLength_2 (by decide) (fun hc => ?_) (fun hc => ?_)
  · exact g_vret hx hb hr hlocks hW (rfl) (by omega) (by omega) dJ8_checkLength_37
  · exact absurd ((nI_leI (a := 0) (by omega) hn).mpr (Nat.zero_le _)) hc
set_option maxHeartbeats 4000000 in
set_option maxRecDepth 100000 in
/-- Arrays.copyOfRangeByte from 0 -/
theorem mtJ8_copyOfRangeByte (l : Launch) (D : va_G) (w : g_H) (sz : Nat) (v n0 q : Nat) (f : Nat → Int32) (hv : g_at w v (.inl (D.1 101, n0, .inl f))) (hf : g_fit n0 f) (hq : q ≤ n0) (hq2 : n0 ≤ 65536) : Met l yJ8_copyOfRangeByte (ws_ yJ8_copyOfRangeByte cJ8_copyOfRangeByte 5 (some (.array .byte))) ({ frames := 2, cells := 1, slots := q, locals := 80 }) (g_Pc D [.ref v, .int (0), .int (nI q)] w sz) (g_Qq D w sz (fun r u => ∃ x, r = some x ∧ x ∉ w.1 ∧ (∃ g : Nat → Int32, g_at u x (.inl (D.1 101, q, .inl g)) ∧ ∀ j, j < q → g j = f j) ∧ g_ex (fun _ => False) w u)) (1) (q) (g_A w sz) := by
  refine Met.ofW (cc := cJ8_copyOfRangeByte) (maxL := 5) (ret := (some (.array .byte))) (by decide) rfl ?_
  intro p e s m args below meth c s₁ B hml hv
  obtain ⟨rfl, hI⟩ := hv
  have hx := B.exec
  have hb := B.bytes
  have hr := B.returns
  have hts := atoms_spec (ws := ws_ yJ8_copyOfRangeByte cJ8_copyOfRangeByte 5 (some (.array .byte))) B.pre
  have hts : ∀ w ∈ lw_all, w.before _ s = true := fun w h => hts w (List.mem_cons_of_mem _ h)
  have hown : s.vm.findClass RJ8 = some m.cls := findClass_of_methodNamed B.named
  have hlocks := B.notSynchronized
  have hsz := hI.1
  subst hsz
  have hW := g_W.start hI
  have hK := g_K hI
  have hE := g_E hI
  have hl := lv_entry ([.ref v, .int (0), .int (nI q)]) (n := 5) (by exact Nat.le_of_ble_eq_true rfl)
  rw [lg_entry_eq]
  generalize (lg_sl ([.ref v, .int (0), .int (nI q)]) ++ List.replicate (5 - (lg_sl ([.ref v, .int (0), .int (nI q)])).length) Slot.unset).toArray = ls at hl ⊢
  have hl : lv_has ls 5 [(0, .ref v), (1, .int (0)), (2, .int (nI q))] := hl
  have x_1 : g_ex (fun _ => False) w w := g_ex.rf
  refine lv_iload_n hx hb dJ8_copyOfRangeByte_0 rfl (lv_at hl 1 rfl) ?_
  refine lv_iload_n hx hb dJ8_copyOfRangeByte_1 rfl (lv_at hl 2 rfl) ?_
  refine g_callv (va_runS (As := [.int (0), .int (nI q)]) (rest := []) ⟨hx, hb, hml, hown, hts⟩ (mtJ8_checkLength l D w s.heap.size q (by omega)) (va_cwS 2 hts (lw_S q1006 q1007 q44 q1008) rfl rfl rfl (by decide +kernel) ⟨Nat.le_of_ble_eq_true rfl, Nat.le_of_ble_eq_true rfl⟩) (g_preS hW hK hE) rfl rfl hl.1 rfl (lv_room (Nat.le_of_ble_eq_true rfl)) dJ8_copyOfRangeByte_2 ⟨?_, ?_⟩) hW (fun u_ H locs hp hW => ?_)
  · show _ ≤ 1; omega
  · show _ ≤ q; omega
  subst hp
  refine lv_iload_n hx hb dJ8_copyOfRangeByte_5 rfl (lv_at hl 2 rfl) ?_
  refine lv_iload_n hx hb dJ8_copyOfRangeByte_6 rfl (lv_at hl 1 rfl) ?_
  refine lv_isub hx hb dJ8_copyOfRangeByte_7 ?_
  refine g_topi (y := nI q) (Int32.sub_zero _) ?_
  refine lv_istore_n (lv' := [(3, .int (nI q)), (0, .ref v), (1, .int (0)), (2, .int (nI q))]) hx hb dJ8_copyOfRangeByte_8 rfl hl (by decide) rfl (fun ls hl => ?_)
  refine lv_iload_n hx hb dJ8_copyOfRangeByte_9 rfl (lv_at hl 0 rfl) ?_
  have hq8 := hq
  refine g_newa (k := 1) (atype := .byte) (ty := .byte) (cB := D.1 101) hx hb rfl (hts _ q502) hK hW rfl q (q, .inl (fun _ => 0)) (fun _ => rfl) (nI_pos (by omega)) (nI_clamp (by omega)) (by show q * 1 ≤ _; omega) (by show _ ≤ 1; omega) (by show _ ≤ q; omega) dJ8_copyOfRangeByte_10 (fun q_2 H hq hW => ?_)
  have hq_2 := hq
  obtain ⟨w_3, ew_3⟩ : ∃ z__, z__ = g_push w q_2 (.inl (D.1 101, q, .inl ((fun _ => 0)))) := ⟨_, rfl⟩
  have hW := g_W.ren hW ew_3 rfl
  have h_4 : g_at w_3 v (.inl (D.1 101, n0, .inl (f))) := by rw [ew_3]; exact hv.push hq
  have h_5 : g_at w_3 q_2 (.inl (D.1 101, q, .inl ((fun _ => 0)))) := by rw [ew_3]; exact g_at.push_self
  have x_6 : g_ex (fun _ => False) w w_3 := by rw [ew_3]; exact x_1.push hq
  refine lv_astore (lv' := [(4, .ref q_2), (3, .int (nI q)), (0, .ref v), (1, .int (0)), (2, .int (nI q))]) hx hb dJ8_copyOfRangeByte_12 hl (by decide) rfl (fun ls hl => ?_)
  refine lv_aload_n hx hb dJ8_copyOfRangeByte_14 rfl (lv_at hl 2 rfl) ?_
  refine lv_iload_n hx hb dJ8_copyOfRangeByte_15 rfl (lv_at hl 3 rfl) ?_
  refine lv_aload hx hb dJ8_copyOfRangeByte_16 (lv_at hl 0 rfl) ?_
  refine lv_iconst (v := 0) hx hb dJ8_copyOfRangeByte_18 (by decide) ?_
  refine lv_aload_n hx hb dJ8_copyOfRangeByte_19 rfl (lv_at hl 2 rfl) ?_
  refine g_alen hx hb hK hW 1 h_4 rfl dJ8_copyOfRangeByte_20 ?_
  refine g_topi (y := nI n0) (rfl) ?_
  refine lv_iload_n hx hb dJ8_copyOfRangeByte_21 rfl (lv_at hl 3 rfl) ?_
  refine lv_isub hx hb dJ8_copyOfRangeByte_22 ?_
  refine g_topi (y := nI n0) (Int32.sub_zero _) ?_
  refine lv_iload_n hx hb dJ8_copyOfRangeByte_23 rfl (lv_at hl 1 rfl) ?_
  refine g_calli (va_runS (As := [.int (nI n0), .int (nI q)]) (rest := [.int (0), .ref q_2, .int (0), .ref v]) ⟨hx, hb, hml, hown, hts⟩ (mtJ7_min l D w_3 H.size n0 q (by omega) (by omega)) (va_cwS 2 hts (lw_S q314 q315 q43 q316) rfl rfl rfl (by decide +kernel) ⟨Nat.le_of_ble_eq_true rfl, Nat.le_of_ble_eq_true rfl⟩) (g_preS hW hK hE) rfl rfl hl.1 rfl (lv_room (Nat.le_of_ble_eq_true rfl)) dJ8_copyOfRangeByte_24 ⟨?_, ?_⟩) hW (fun r_ u_ H locs hp hW => ?_)
  · show _ ≤ 1; omega
  · show _ ≤ q; omega
  obtain ⟨er, rfl⟩ := hp
  subst er
  refine g_topi (y := nI q) (by rw [show min n0 q = q by omega]) ?_
  refine g_copyi hx hb (hml.trans hl.1.symm) hts hown q317 hK hW h_4 h_5 0 0 q (by omega) (by omega) (by omega) (by omega) hf (Nat.le_of_ble_eq_true rfl) (Nat.le_of_ble_eq_true rfl) dJ8_copyOfRangeByte_27 (fun H locs hW => ?_)
  obtain ⟨f_7, ef_7⟩ : ∃ z__, z__ = va_cpy f (fun _ => 0) 0 0 q := ⟨_, rfl⟩
  rw [← ef_7] at hW
  obtain ⟨w_8, ew_8⟩ : ∃ z__, z__ = g_put w_3 q_2 (.inl (D.1 101, q, .inl (f_7))) := ⟨_, rfl⟩
  have hW := g_W.ren hW ew_8 rfl
  have hx9 : g_at w_8 q_2 (.inl (D.1 101, q, .inl (f_7))) := by rw [ew_8]; exact g_at.put_self h_5.1
  have hex9 : g_ex (fun _ => False) w w_8 := by rw [ew_8]; exact x_6.put (fun z => absurd z hq_2)
  refine lv_aload hx hb dJ8_copyOfRangeByte_30 (lv_at hl 0 rfl) ?_
  refine g_qret (v := some q_2) hx hb hr (Or.inr ⟨_, rfl⟩) hlocks hW ⟨q_2, rfl, hq_2, ⟨f_7, hx9, fun j hj => ?_⟩, hex9⟩ (by omega) (by omega) dJ8_copyOfRangeByte_32
  rw [ef_7]; unfold va_cpy; rw [if_pos ⟨Nat.zero_le _, by omega⟩]; simp
