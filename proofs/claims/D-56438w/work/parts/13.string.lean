/-! the JDK: String, StringLatin1, Preconditions: reading -/
set_option maxRecDepth 100000
set_option maxHeartbeats 4000000 in
set_option maxRecDepth 100000 in
/-- Preconditions.checkIndex, in range -/
theorem mtJ18_checkIndex (l : Launch) (D : va_G) (w : g_H) (sz : Nat) (i n : Nat) (v : Option Nat) (hi : i < n) (hn : n < 2 ^ 31) : Met l yJ18_checkIndex (ws_ yJ18_checkIndex cJ18_checkIndex 3 (some .int)) ({ frames := 1, cells := 0, slots := 0, locals := 12 }) (g_Pc D [.int (nI i), .int (nI n), va_rf (v)] w sz) (g_Qi D w sz (fun r u => r = nI i ∧ w = u)) (0) (0) (g_A w sz) := by
  refine Met.ofW (cc := cJ18_checkIndex) (maxL := 3) (ret := (some .int)) (by decide) rfl ?_
  intro p e s m args below meth c s₁ B hml hv
  obtain ⟨rfl, hI⟩ := hv
  have hx := B.exec
  have hb := B.bytes
  have hr := B.returns
  have hts := atoms_spec (ws := ws_ yJ18_checkIndex cJ18_checkIndex 3 (some .int)) B.pre
  have hts : ∀ w ∈ lw_all, w.before _ s = true := fun w h => hts w (List.mem_cons_of_mem _ h)
  have hown : s.vm.findClass RJ18 = some m.cls := findClass_of_methodNamed B.named
  have hlocks := B.notSynchronized
  have hsz := hI.1
  subst hsz
  have hW := g_W.start hI
  have hK := g_K hI
  have hE := g_E hI
  have hl := lv_entry ([.int (nI i), .int (nI n), va_rf (v)]) (n := 3) (by cases v <;> exact Nat.le_of_ble_eq_true rfl)
  rw [lg_entry_eq]
  generalize (lg_sl ([.int (nI i), .int (nI n), va_rf (v)]) ++ List.replicate (3 - (lg_sl ([.int (nI i), .int (nI n), va_rf (v)])).length) Slot.unset).toArray = ls at hl ⊢
  have hl : lv_has ls 3 [(0, .int (nI i)), (1, .int (nI n)), (2, va_rf (v))] := hl
  refine lv_iload_n hx hb dJ18_checkIndex_0 rfl (lv_at hl 0 rfl) ?_
  refine lv_if_lt (tgt := 9) hx hb dJ18_checkIndex_1 (by decide) (fun hc => ?_) (fun hc => ?_)
  · exact absurd hc (nI_pos (by omega))
  · refine lv_iload_n hx hb dJ18_checkIndex_4 rfl (lv_at hl 0 rfl) ?_
    refine lv_iload_n hx hb dJ18_checkIndex_5 rfl (lv_at hl 1 rfl) ?_
    refine lv_icmp_lt (tgt := 16) hx hb dJ18_checkIndex_6 (by decide) (fun hd => ?_) (fun hd => ?_)
    · refine lv_iload_n hx hb dJ18_checkIndex_16 rfl (lv_at hl 0 rfl) ?_
      exact g_iret (v := nI i) hx hb hr hlocks hW (⟨rfl, rfl⟩) (by omega) (by omega) dJ18_checkIndex_17
    · exact absurd (nI_lt hi hn) hd
set_option maxHeartbeats 4000000 in
set_option maxRecDepth 100000 in
/-- String.checkIndex, in range -/
theorem mtJ16_checkIndex (l : Launch) (D : va_G) (w : g_H) (sz : Nat) (i n : Nat) (hi : i < n) (hn : n < 2 ^ 31) : Met l yJ16_checkIndex (ws_ yJ16_checkIndex cJ16_checkIndex 2 none) ({ frames := 2, cells := 0, slots := 0, locals := 34 }) (g_Pc D [.int (nI i), .int (nI n)] w sz) (g_Qv D w sz (fun u => w = u)) (0) (0) (g_A w sz) := by
  refine Met.ofW (cc := cJ16_checkIndex) (maxL := 2) (ret := none) (by decide) rfl ?_
  intro p e s m args below meth c s₁ B hml hv
  obtain ⟨rfl, hI⟩ := hv
  have hx := B.exec
  have hb := B.bytes
  have hr := B.returns
  have hts := atoms_spec (ws := ws_ yJ16_checkIndex cJ16_checkIndex 2 none) B.pre
  have hts : ∀ w ∈ lw_all, w.before _ s = true := fun w h => hts w (List.mem_cons_of_mem _ h)
  have hown : s.vm.findClass RJ16 = some m.cls := findClass_of_methodNamed B.named
  have hlocks := B.notSynchronized
  have hsz := hI.1
  subst hsz
  have hW := g_W.start hI
  have hK := g_K hI
  have hE := g_E hI
  have hl := lv_entry ([.int (nI i), .int (nI n)]) (n := 2) (by exact Nat.le_of_ble_eq_true rfl)
  rw [lg_entry_eq]
  generalize (lg_sl ([.int (nI i), .int (nI n)]) ++ List.replicate (2 - (lg_sl ([.int (nI i), .int (nI n)])).length) Slot.unset).toArray = ls at hl ⊢
  have hl : lv_has ls 2 [(0, .int (nI i)), (1, .int (nI n))] := hl
  obtain ⟨fm, hfm⟩ : ∃ v : Option Nat, va_Z "jdk/internal/util/Preconditions" "SIOOBE_FORMATTER" "Ljava/util/function/BiFunction;" (va_rf v) (g_A w s.heap.size) s s.heap := by
    rcases hE.2.1 with z | ⟨t, z⟩
    · exact ⟨none, z⟩
    · exact ⟨some t, z⟩
  refine lv_iload_n hx hb dJ16_checkIndex_0 rfl (lv_at hl 0 rfl) ?_
  refine lv_iload_n hx hb dJ16_checkIndex_1 rfl (lv_at hl 1 rfl) ?_
  refine va_gets hx hb (hfm) hW.2.2.1 hown (hts _ q763) (fun _ h9 => h9) dJ16_checkIndex_2 ?_
  refine g_calli (va_runS (As := [.int (nI i), .int (nI n), va_rf (fm)]) (rest := []) ⟨hx, hb, hml, hown, hts⟩ (mtJ18_checkIndex l D w s.heap.size i n fm hi hn) (va_cwS 3 hts (lw_S q765 q766 q65 q767) rfl rfl rfl (by decide +kernel) ⟨Nat.le_of_ble_eq_true rfl, Nat.le_of_ble_eq_true rfl⟩) (g_preS hW hK hE) rfl rfl hl.1 rfl (lv_room (Nat.le_of_ble_eq_true rfl)) dJ16_checkIndex_5 ⟨Nat.le_of_ble_eq_true rfl, Nat.le_of_ble_eq_true rfl⟩) hW (fun r_ u_ H locs hp hW => ?_)
  obtain ⟨er, rfl⟩ := hp
  refine lv_pop hx hb dJ16_checkIndex_8 rfl ?_
  exact g_vret hx hb hr hlocks hW (rfl) (by omega) (by omega) dJ16_checkIndex_9
set_option maxHeartbeats 4000000 in
set_option maxRecDepth 100000 in
/-- String.coder -/
theorem mtJ16_coder (l : Launch) (D : va_G) (w : g_H) (sz : Nat) (a : Nat) (t : List Nat) (hs : g_Str D w a t) : Met l yJ16_coder (ws_ yJ16_coder cJ16_coder 1 (some .byte)) ({ frames := 1, cells := 0, slots := 0, locals := 12 }) (g_Pc D [.ref a] w sz) (g_Qi D w sz (fun r u => r = 0 ∧ w = u)) (0) (0) (g_A w sz) := by
  refine Met.ofW (cc := cJ16_coder) (maxL := 1) (ret := (some .byte)) (by decide) rfl ?_
  intro p e s m args below meth c s₁ B hml hv
  obtain ⟨rfl, hI⟩ := hv
  have hx := B.exec
  have hb := B.bytes
  have hr := B.returns
  have hts := atoms_spec (ws := ws_ yJ16_coder cJ16_coder 1 (some .byte)) B.pre
  have hts : ∀ w ∈ lw_all, w.before _ s = true := fun w h => hts w (List.mem_cons_of_mem _ h)
  have hown : s.vm.findClass RJ16 = some m.cls := findClass_of_methodNamed B.named
  have hlocks := B.notSynchronized
  have hsz := hI.1
  subst hsz
  have hW := g_W.start hI
  have hK := g_K hI
  have hE := g_E hI
  have hl := lv_entry ([.ref a]) (n := 1) (by exact Nat.le_of_ble_eq_true rfl)
  rw [lg_entry_eq]
  generalize (lg_sl ([.ref a]) ++ List.replicate (1 - (lg_sl ([.ref a])).length) Slot.unset).toArray = ls at hl ⊢
  have hl : lv_has ls 1 [(0, .ref a)] := hl
  obtain ⟨v, ⟨hv, hco, hby, hrc⟩, -⟩ := hs.rd hts hK hE hW
  refine va_gets hx hb (hE.1) hW.2.2.1 hown (hts _ q747) (fun _ h9 => h9) dJ16_coder_0 ?_
  refine lv_if_eq (tgt := 13) hx hb dJ16_coder_3 (by decide) (fun hc => ?_) (fun hc => ?_)
  · exact absurd hc (by decide)
  · refine lv_aload_n hx hb dJ16_coder_6 rfl (lv_at hl 0 rfl) ?_
    refine g_getR hx hb (hco) hts hown q1039 (fun _ h9 => h9) dJ16_coder_7 ?_
    refine lv_goto (tgt := 14) hx hb dJ16_coder_10 (by decide) ?_
    exact g_zret (v := 0) hx hb hr hlocks (by rfl) hW (⟨rfl, rfl⟩) (by omega) (by omega) dJ16_coder_14
set_option maxHeartbeats 4000000 in
set_option maxRecDepth 100000 in
/-- String.isLatin1 -/
theorem mtJ16_isLatin1 (l : Launch) (D : va_G) (w : g_H) (sz : Nat) (a : Nat) (t : List Nat) (hs : g_Str D w a t) : Met l yJ16_isLatin1 (ws_ yJ16_isLatin1 cJ16_isLatin1 1 (some .boolean)) ({ frames := 1, cells := 0, slots := 0, locals := 12 }) (g_Pc D [.ref a] w sz) (g_Qi D w sz (fun r u => r = 1 ∧ w = u)) (0) (0) (g_A w sz) := by
  refine Met.ofW (cc := cJ16_isLatin1) (maxL := 1) (ret := (some .boolean)) (by decide) rfl ?_
  intro p e s m args below meth c s₁ B hml hv
  obtain ⟨rfl, hI⟩ := hv
  have hx := B.exec
  have hb := B.bytes
  have hr := B.returns
  have hts := atoms_spec (ws := ws_ yJ16_isLatin1 cJ16_isLatin1 1 (some .boolean)) B.pre
  have hts : ∀ w ∈ lw_all, w.before _ s = true := fun w h => hts w (List.mem_cons_of_mem _ h)
  have hown : s.vm.findClass RJ16 = some m.cls := findClass_of_methodNamed B.named
  have hlocks := B.notSynchronized
  have hsz := hI.1
  subst hsz
  have hW := g_W.start hI
  have hK := g_K hI
  have hE := g_E hI
  have hl := lv_entry ([.ref a]) (n := 1) (by exact Nat.le_of_ble_eq_true rfl)
  rw [lg_entry_eq]
  generalize (lg_sl ([.ref a]) ++ List.replicate (1 - (lg_sl ([.ref a])).length) Slot.unset).toArray = ls at hl ⊢
  have hl : lv_has ls 1 [(0, .ref a)] := hl
  obtain ⟨v, ⟨hv, hco, hby, hrc⟩, -⟩ := hs.rd hts hK hE hW
  refine va_gets hx hb (hE.1) hW.2.2.1 hown (hts _ q747) (fun _ h9 => h9) dJ16_isLatin1_0 ?_
  refine lv_if_eq (tgt := 17) hx hb dJ16_isLatin1_3 (by decide) (fun hc => ?_) (fun hc => ?_)
  · exact absurd hc (by decide)
  · refine lv_aload_n hx hb dJ16_isLatin1_6 rfl (lv_at hl 0 rfl) ?_
    refine g_getR hx hb (hco) hts hown q1039 (fun _ h9 => h9) dJ16_isLatin1_7 ?_
    refine lv_if_ne (tgt := 17) hx hb dJ16_isLatin1_10 (by decide) (fun hd => ?_) (fun hd => ?_)
    · exact absurd rfl hd
    · refine lv_iconst (v := 1) hx hb dJ16_isLatin1_13 (by decide) ?_
      refine lv_goto (tgt := 18) hx hb dJ16_isLatin1_14 (by decide) ?_
      exact g_zret (v := 1) hx hb hr hlocks (by rfl) hW (⟨rfl, rfl⟩) (by omega) (by omega) dJ16_isLatin1_18
set_option maxHeartbeats 4000000 in
set_option maxRecDepth 100000 in
/-- String.length -/
theorem mtJ16_length (l : Launch) (D : va_G) (w : g_H) (sz : Nat) (a : Nat) (t : List Nat) (hs : g_Str D w a t) : Met l yJ16_length (ws_ yJ16_length cJ16_length 1 (some .int)) ({ frames := 2, cells := 0, slots := 0, locals := 32 }) (g_Pc D [.ref a] w sz) (g_Qi D w sz (fun r u => r = nI t.length ∧ w = u)) (0) (0) (g_A w sz) := by
  refine Met.ofW (cc := cJ16_length) (maxL := 1) (ret := (some .int)) (by decide) rfl ?_
  intro p e s m args below meth c s₁ B hml hv
  obtain ⟨rfl, hI⟩ := hv
  have hx := B.exec
  have hb := B.bytes
  have hr := B.returns
  have hts := atoms_spec (ws := ws_ yJ16_length cJ16_length 1 (some .int)) B.pre
  have hts : ∀ w ∈ lw_all, w.before _ s = true := fun w h => hts w (List.mem_cons_of_mem _ h)
  have hown : s.vm.findClass RJ16 = some m.cls := findClass_of_methodNamed B.named
  have hlocks := B.notSynchronized
  have hsz := hI.1
  subst hsz
  have hW := g_W.start hI
  have hK := g_K hI
  have hE := g_E hI
  have hl := lv_entry ([.ref a]) (n := 1) (by exact Nat.le_of_ble_eq_true rfl)
  rw [lg_entry_eq]
  generalize (lg_sl ([.ref a]) ++ List.replicate (1 - (lg_sl ([.ref a])).length) Slot.unset).toArray = ls at hl ⊢
  have hl : lv_has ls 1 [(0, .ref a)] := hl
  obtain ⟨v, ⟨hv, hco, hby, hrc⟩, -⟩ := hs.rd hts hK hE hW
  refine lv_aload_n hx hb dJ16_length_0 rfl (lv_at hl 0 rfl) ?_
  refine g_getR hx hb (hv) hts hown q1038 (fun _ h9 => h9) dJ16_length_1 ?_
  refine g_lenR hx hb hby dJ16_length_4 ?_
  refine lv_aload_n hx hb dJ16_length_5 rfl (lv_at hl 0 rfl) ?_
  refine g_calli (va_runV (As := []) (rest := [.int (nI t.length)]) ⟨hx, hb, hml, hown, hts⟩ (mtJ16_coder l D w s.heap.size a t hs) (cwV 0 hts (lw_V q743 q744 q745 q63 q746) rfl rfl rfl (by decide +kernel) ⟨Nat.le_of_ble_eq_true rfl, Nat.le_of_ble_eq_true rfl⟩) (g_preVR hW hK hE hrc) rfl rfl hl.1 rfl (lv_room (Nat.le_of_ble_eq_true rfl)) dJ16_length_6 ⟨Nat.le_of_ble_eq_true rfl, Nat.le_of_ble_eq_true rfl⟩) hW (fun r_ u_ H locs hp hW => ?_)
  obtain ⟨er, rfl⟩ := hp
  subst er
  refine lv_ishr hx hb dJ16_length_9 ?_
  refine g_topi (y := nI t.length) (sb_shr0 _) ?_
  exact g_iret (v := nI t.length) hx hb hr hlocks hW (⟨rfl, rfl⟩) (by omega) (by omega) dJ16_length_10
set_option maxHeartbeats 4000000 in
set_option maxRecDepth 100000 in
/-- StringLatin1.charAt -/
theorem mtJ17_charAt (l : Launch) (D : va_G) (w : g_H) (sz : Nat) (v i : Nat) (t : List Nat) (ht : g_tx t) (hv : g_by D w v t) (hi : i < t.length) : Met l yJ17_charAt (ws_ yJ17_charAt cJ17_charAt 2 (some .char)) ({ frames := 3, cells := 0, slots := 0, locals := 55 }) (g_Pc D [.ref v, .int (nI i)] w sz) (g_Qi D w sz (fun r u => r = nI (t.getD i 0) ∧ w = u)) (0) (0) (g_A w sz) := by
  refine Met.ofW (cc := cJ17_charAt) (maxL := 2) (ret := (some .char)) (by decide) rfl ?_
  intro p e s m args below meth c s₁ B hml hv
  obtain ⟨rfl, hI⟩ := hv
  have hx := B.exec
  have hb := B.bytes
  have hr := B.returns
  have hts := atoms_spec (ws := ws_ yJ17_charAt cJ17_charAt 2 (some .char)) B.pre
  have hts : ∀ w ∈ lw_all, w.before _ s = true := fun w h => hts w (List.mem_cons_of_mem _ h)
  have hown : s.vm.findClass RJ17 = some m.cls := findClass_of_methodNamed B.named
  have hlocks := B.notSynchronized
  have hsz := hI.1
  subst hsz
  have hW := g_W.start hI
  have hK := g_K hI
  have hE := g_E hI
  have hl := lv_entry ([.ref v, .int (nI i)]) (n := 2) (by exact Nat.le_of_ble_eq_true rfl)
  rw [lg_entry_eq]
  generalize (lg_sl ([.ref v, .int (nI i)]) ++ List.replicate (2 - (lg_sl ([.ref v, .int (nI i)])).length) Slot.unset).toArray = ls at hl ⊢
  have hl : lv_has ls 2 [(0, .ref v), (1, .int (nI i))] := hl
  have hby := hv.rd ht hK hE hW
  have hl1 := ht.1
  refine lv_iload_n hx hb dJ17_charAt_0 rfl (lv_at hl 1 rfl) ?_
  refine lv_aload_n hx hb dJ17_charAt_1 rfl (lv_at hl 0 rfl) ?_
  refine g_lenR hx hb hby dJ17_charAt_2 ?_
  refine g_callv (va_runS (As := [.int (nI i), .int (nI t.length)]) (rest := []) ⟨hx, hb, hml, hown, hts⟩ (mtJ16_checkIndex l D w s.heap.size i t.length hi (by omega)) (va_cwS 2 hts (lw_S q760 q761 q63 q762) rfl rfl rfl (by decide +kernel) ⟨Nat.le_of_ble_eq_true rfl, Nat.le_of_ble_eq_true rfl⟩) (g_preS hW hK hE) rfl rfl hl.1 rfl (lv_room (Nat.le_of_ble_eq_true rfl)) dJ17_charAt_3 ⟨Nat.le_of_ble_eq_true rfl, Nat.le_of_ble_eq_true rfl⟩) hW (fun u_ H locs hp hW => ?_)
  subst hp
  have hby := hv.rd ht hK hE hW
  refine lv_aload_n hx hb dJ17_charAt_6 rfl (lv_at hl 0 rfl) ?_
  refine lv_iload_n hx hb dJ17_charAt_7 rfl (lv_at hl 1 rfl) ?_
  refine g_baldR hx hb hby hi (by omega) rfl dJ17_charAt_8 ?_
  refine lv_sipush (v := 255) hx hb dJ17_charAt_9 (by decide) ?_
  refine lv_iand hx hb dJ17_charAt_12 ?_
  have hc1 := ht.lt (j := i)
  generalize t.getD i 0 = ch at hc1 ⊢
  refine g_topi (y := nI ch) (c_and ch hc1) ?_
  refine lv_i2c (v := nI ch) hx hb dJ17_charAt_13 (sb_byte ch (by omega)).2.1 ?_
  exact g_zret (v := nI ch) hx hb hr hlocks (pk_charN (by omega)).1 hW (⟨rfl, rfl⟩) (by omega) (by omega) dJ17_charAt_14
set_option maxHeartbeats 4000000 in
set_option maxRecDepth 100000 in
/-- String.charAt -/
theorem mtJ16_charAt (l : Launch) (D : va_G) (w : g_H) (sz : Nat) (a i : Nat) (t : List Nat) (hs : g_Str D w a t) (hi : i < t.length) : Met l yJ16_charAt (ws_ yJ16_charAt cJ16_charAt 2 (some .char)) ({ frames := 4, cells := 0, slots := 0, locals := 76 }) (g_Pc D [.ref a, .int (nI i)] w sz) (g_Qi D w sz (fun r u => r = nI (t.getD i 0) ∧ w = u)) (0) (0) (g_A w sz) := by
  refine Met.ofW (cc := cJ16_charAt) (maxL := 2) (ret := (some .char)) (by decide) rfl ?_
  intro p e s m args below meth c s₁ B hml hv
  obtain ⟨rfl, hI⟩ := hv
  have hx := B.exec
  have hb := B.bytes
  have hr := B.returns
  have hts := atoms_spec (ws := ws_ yJ16_charAt cJ16_charAt 2 (some .char)) B.pre
  have hts : ∀ w ∈ lw_all, w.before _ s = true := fun w h => hts w (List.mem_cons_of_mem _ h)
  have hown : s.vm.findClass RJ16 = some m.cls := findClass_of_methodNamed B.named
  have hlocks := B.notSynchronized
  have hsz := hI.1
  subst hsz
  have hW := g_W.start hI
  have hK := g_K hI
  have hE := g_E hI
  have hl := lv_entry ([.ref a, .int (nI i)]) (n := 2) (by exact Nat.le_of_ble_eq_true rfl)
  rw [lg_entry_eq]
  generalize (lg_sl ([.ref a, .int (nI i)]) ++ List.replicate (2 - (lg_sl ([.ref a, .int (nI i)])).length) Slot.unset).toArray = ls at hl ⊢
  have hl : lv_has ls 2 [(0, .ref a), (1, .int (nI i))] := hl
  obtain ⟨v, ⟨hv, hco, hby, hrc⟩, hbv⟩ := hs.rd hts hK hE hW
  refine lv_aload_n hx hb dJ16_charAt_0 rfl (lv_at hl 0 rfl) ?_
  refine g_calli (va_runV (As := []) (rest := []) ⟨hx, hb, hml, hown, hts⟩ (mtJ16_isLatin1 l D w s.heap.size a t hs) (cwV 0 hts (lw_V q753 q754 q755 q63 q756) rfl rfl rfl (by decide +kernel) ⟨Nat.le_of_ble_eq_true rfl, Nat.le_of_ble_eq_true rfl⟩) (g_preVR hW hK hE hrc) rfl rfl hl.1 rfl (lv_room (Nat.le_of_ble_eq_true rfl)) dJ16_charAt_1 ⟨Nat.le_of_ble_eq_true rfl, Nat.le_of_ble_eq_true rfl⟩) hW (fun r_ u_ H locs hp hW => ?_)
  obtain ⟨er, rfl⟩ := hp
  subst er
  obtain ⟨v, ⟨hv, hco, hby, hrc⟩, hbv⟩ := hs.rd hts hK hE hW
  refine lv_if_eq (tgt := 16) hx hb dJ16_charAt_4 (by decide) (fun hc => ?_) (fun hc => ?_)
  · exact absurd hc (by decide)
  · refine lv_aload_n hx hb dJ16_charAt_7 rfl (lv_at hl 0 rfl) ?_
    refine g_getR hx hb (hv) hts hown q1038 (fun _ h9 => h9) dJ16_charAt_8 ?_
    refine lv_iload_n hx hb dJ16_charAt_11 rfl (lv_at hl 1 rfl) ?_
    refine g_calli (va_runS (As := [.ref v, .int (nI i)]) (rest := []) ⟨hx, hb, hml, hown, hts⟩ (mtJ17_charAt l D w H.size v i t hs.1 hbv hi) (va_cwS 2 hts (lw_S q757 q758 q64 q759) rfl rfl rfl (by decide +kernel) ⟨Nat.le_of_ble_eq_true rfl, Nat.le_of_ble_eq_true rfl⟩) (g_preS hW hK hE) rfl rfl hl.1 rfl (lv_room (Nat.le_of_ble_eq_true rfl)) dJ16_charAt_12 ⟨Nat.le_of_ble_eq_true rfl, Nat.le_of_ble_eq_true rfl⟩) hW (fun r_ u_ H locs hp hW => ?_)
    obtain ⟨er, rfl⟩ := hp
    subst er
    have hc1 := hs.1.lt (j := i)
    exact g_zret (v := nI (t.getD i 0)) hx hb hr hlocks (pk_charN (by omega)).1 hW (⟨rfl, rfl⟩) (by omega) (by omega) dJ16_charAt_15
