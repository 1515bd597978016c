/-! the JDK: StringBuilder -/
set_option maxRecDepth 100000
theorem c_subLe {a b : Nat} (ha : a < 2 ^ 30) (hb : b < 2 ^ 30) : nI a - nI b ≤ 0 ↔ a ≤ b := by
  rw [Int32.le_iff_toInt_le, pk_sub_toInt ha hb]
  show (a : Int) - b ≤ 0 ↔ _
  omega
set_option maxHeartbeats 4000000 in
set_option maxRecDepth 100000 in
/-- Math.min of naturals -/
theorem mtJ7_min (l : Launch) (D : va_G) (w : g_H) (sz : Nat) (a b : Nat) (ha : a < 2 ^ 31) (hb2 : b < 2 ^ 31) : Met l yJ7_min (ws_ yJ7_min cJ7_min 2 (some .int)) ({ frames := 1, cells := 0, slots := 0, locals := 12 }) (g_Pc D [.int (nI a), .int (nI b)] w sz) (g_Qi D w sz (fun r u => r = nI (min a b) ∧ w = u)) (0) (0) (g_A w sz) := by
  refine va_MetF (cc := cJ7_min) (maxL := 2) (ret := (some .int)) (by decide +kernel) rfl ?_
  intro p e s m args below meth c s₁ B hml hv
  obtain ⟨rfl, hI⟩ := hv
  have hx := B.exec
  have hb := B.bytes
  have hr := B.returns
  have hts := atoms_spec (ws := ws_ yJ7_min cJ7_min 2 (some .int)) B.pre
  have hts : ∀ w ∈ lw_all, w.before _ s = true := fun w h => hts w (List.mem_cons_of_mem _ h)
  have hown : s.vm.findClass RJ7 = some m.cls := findClass_of_methodNamed B.named
  have hlocks := B.notSynchronized
  have hsz := hI.1
  subst hsz
  have hW := g_W.start hI
  have hK := g_K hI
  have hE := g_E hI
  have hl := lv_entry ([.int (nI a), .int (nI b)]) (n := 2) (by exact Nat.le_of_ble_eq_true rfl)
  rw [lg_entry_eq]
  generalize (lg_sl ([.int (nI a), .int (nI b)]) ++ List.replicate (2 - (lg_sl ([.int (nI a), .int (nI b)])).length) Slot.unset).toArray = ls at hl ⊢
  have hl : lv_has ls 2 [(0, .int (nI a)), (1, .int (nI b))] := hl
  refine lv_iload_n hx hb dJ7_min_0 rfl (lv_at hl 0 rfl) ?_
  refine lv_iload_n hx hb dJ7_min_1 rfl (lv_at hl 1 rfl) ?_
  have hlt := (nI_ltI hb2 ha)
  refine lv_icmp_gt (tgt := 9) hx hb dJ7_min_2 (by decide) (fun hc => ?_) (fun hc => ?_)
  · have hd := hlt.mp hc
    refine lv_iload_n hx hb dJ7_min_9 rfl (lv_at hl 1 rfl) ?_
    exact g_iret (v := nI b) hx hb hr hlocks hW (⟨by rw [show min a b = b by omega], rfl⟩) (by omega) (by omega) dJ7_min_10
  · have hd := Nat.not_lt.mp (fun z => hc (hlt.mpr z))
    refine lv_iload_n hx hb dJ7_min_5 rfl (lv_at hl 0 rfl) ?_
    refine lv_goto (tgt := 10) hx hb dJ7_min_6 (by decide) ?_
    exact g_iret (v := nI a) hx hb hr hlocks hW (⟨by rw [show min a b = a by omega], rfl⟩) (by omega) (by omega) dJ7_min_10
set_option maxHeartbeats 4000000 in
set_option maxRecDepth 100000 in
/-- Math.max of naturals -/
theorem mtJ7_max (l : Launch) (D : va_G) (w : g_H) (sz : Nat) (a b : Nat) (ha : a < 2 ^ 31) (hb2 : b < 2 ^ 31) : Met l yJ7_max (ws_ yJ7_max cJ7_max 2 (some .int)) ({ frames := 1, cells := 0, slots := 0, locals := 12 }) (g_Pc D [.int (nI a), .int (nI b)] w sz) (g_Qi D w sz (fun r u => r = nI (max a b) ∧ w = u)) (0) (0) (g_A w sz) := by
  refine va_MetF (cc := cJ7_max) (maxL := 2) (ret := (some .int)) (by decide +kernel) rfl ?_
  intro p e s m args below meth c s₁ B hml hv
  obtain ⟨rfl, hI⟩ := hv
  have hx := B.exec
  have hb := B.bytes
  have hr := B.returns
  have hts := atoms_spec (ws := ws_ yJ7_max cJ7_max 2 (some .int)) B.pre
  have hts : ∀ w ∈ lw_all, w.before _ s = true := fun w h => hts w (List.mem_cons_of_mem _ h)
  have hown : s.vm.findClass RJ7 = some m.cls := findClass_of_methodNamed B.named
  have hlocks := B.notSynchronized
  have hsz := hI.1
  subst hsz
  have hW := g_W.start hI
  have hK := g_K hI
  have hE := g_E hI
  have hl := lv_entry ([.int (nI a), .int (nI b)]) (n := 2) (by exact Nat.le_of_ble_eq_true rfl)
  rw [lg_entry_eq]
  generalize (lg_sl ([.int (nI a), .int (nI b)]) ++ List.replicate (2 - (lg_sl ([.int (nI a), .int (nI b)])).length) Slot.unset).toArray = ls at hl ⊢
  have hl : lv_has ls 2 [(0, .int (nI a)), (1, .int (nI b))] := hl
  refine lv_iload_n hx hb dJ7_max_0 rfl (lv_at hl 0 rfl) ?_
  refine lv_iload_n hx hb dJ7_max_1 rfl (lv_at hl 1 rfl) ?_
  have hlt := (nI_ltI ha hb2)
  refine lv_icmp_lt (tgt := 9) hx hb dJ7_max_2 (by decide) (fun hc => ?_) (fun hc => ?_)
  · have hd := hlt.mp hc
    refine lv_iload_n hx hb dJ7_max_9 rfl (lv_at hl 1 rfl) ?_
    exact g_iret (v := nI b) hx hb hr hlocks hW (⟨by rw [show max a b = b by omega], rfl⟩) (by omega) (by omega) dJ7_max_10
  · have hd := Nat.not_lt.mp (fun z => hc (hlt.mpr z))
    refine lv_iload_n hx hb dJ7_max_5 rfl (lv_at hl 0 rfl) ?_
    refine lv_goto (tgt := 10) hx hb dJ7_max_6 (by decide) ?_
    exact g_iret (v := nI a) hx hb hr hlocks hW (⟨by rw [show max a b = a by omega], rfl⟩) (by omega) (by omega) dJ7_max_10
set_option maxHeartbeats 4000000 in
set_option maxRecDepth 100000 in
/-- ArraysSupport.newLength, far from the limit -/
theorem mtJ6_newLength (l : Launch) (D : va_G) (w : g_H) (sz : Nat) (a b k : Nat) (h0 : 0 < a + max b k) (h1 : a + max b k < 1000000) : Met l yJ6_newLength (ws_ yJ6_newLength cJ6_newLength 4 (some .int)) ({ frames := 2, cells := 0, slots := 0, locals := 33 }) (g_Pc D [.int (nI a), .int (nI b), .int (nI k)] w sz) (g_Qi D w sz (fun r u => r = nI (a + max b k) ∧ w = u)) (0) (0) (g_A w sz) := by
  refine Met.ofW (cc := cJ6_newLength) (maxL := 4) (ret := (some .int)) (by decide) rfl ?_
  intro p e s m args below meth c s₁ B hml hv
  obtain ⟨rfl, hI⟩ := hv
  have hx := B.exec
  have hb := B.bytes
  have hr := B.returns
  have hts := atoms_spec (ws := ws_ yJ6_newLength cJ6_newLength 4 (some .int)) B.pre
  have hts : ∀ w ∈ lw_all, w.before _ s = true := fun w h => hts w (List.mem_cons_of_mem _ h)
  have hown : s.vm.findClass RJ6 = some m.cls := findClass_of_methodNamed B.named
  have hlocks := B.notSynchronized
  have hsz := hI.1
  subst hsz
  have hW := g_W.start hI
  have hK := g_K hI
  have hE := g_E hI
  have hl := lv_entry ([.int (nI a), .int (nI b), .int (nI k)]) (n := 4) (by exact Nat.le_of_ble_eq_true rfl)
  rw [lg_entry_eq]
  generalize (lg_sl ([.int (nI a), .int (nI b), .int (nI k)]) ++ List.replicate (4 - (lg_sl ([.int (nI a), .int (nI b), .int (nI k)])).length) Slot.unset).toArray = ls at hl ⊢
  have hl : lv_has ls 4 [(0, .int (nI a)), (1, .int (nI b)), (2, .int (nI k))] := hl
  refine lv_iload_n hx hb dJ6_newLength_0 rfl (lv_at hl 0 rfl) ?_
  refine lv_iload_n hx hb dJ6_newLength_1 rfl (lv_at hl 1 rfl) ?_
  refine lv_iload_n hx hb dJ6_newLength_2 rfl (lv_at hl 2 rfl) ?_
  refine g_calli (va_runS (As := [.int (nI b), .int (nI k)]) (rest := [.int (nI a)]) ⟨hx, hb, hml, hown, hts⟩ (mtJ7_max l D w s.heap.size b k (by omega) (by omega)) (va_cwS 2 hts (lw_S q263 q264 q43 q265) rfl rfl rfl (by decide +kernel) ⟨Nat.le_of_ble_eq_true rfl, Nat.le_of_ble_eq_true rfl⟩) (g_preS hW hK hE) rfl rfl hl.1 rfl (lv_room (Nat.le_of_ble_eq_true rfl)) dJ6_newLength_3 ⟨Nat.le_of_ble_eq_true rfl, Nat.le_of_ble_eq_true rfl⟩) hW (fun r_ u_ H locs hp hW => ?_)
  obtain ⟨er, rfl⟩ := hp
  subst er
  refine lv_iadd hx hb dJ6_newLength_6 ?_
  refine g_topi (y := nI (a + max b k)) (nI_add a _) ?_
  refine lv_istore_n (lv' := [(3, .int (nI (a + max b k))), (0, .int (nI a)), (1, .int (nI b)), (2, .int (nI k))]) hx hb dJ6_newLength_7 rfl hl (by decide) rfl (fun ls hl => ?_)
  refine lv_iconst (v := 0) hx hb dJ6_newLength_8 (by decide) ?_
  refine lv_iload_n hx hb dJ6_newLength_9 rfl (lv_at hl 0 rfl) ?_
  refine lv_icmp_ge (tgt := 21) hx hb dJ6_newLength_10 (by decide) (fun hc => ?_) (fun hc => ?_)
  · exact absurd hc (by rw [show (0 : Int32) = nI 0 from rfl, nI_leI (by omega) (by omega)]; omega)
  · refine lv_iload_n hx hb dJ6_newLength_13 rfl (lv_at hl 0 rfl) ?_
    refine lv_ldc hx hb hown (hts _ q266) dJ6_newLength_14 ?_
    refine lv_icmp_gt (tgt := 21) hx hb dJ6_newLength_16 (by decide) (fun hd => ?_) (fun hd => ?_)
    · exact absurd hd (by rw [show (2147483639 : Int32) = nI 2147483639 from rfl, nI_ltI (by omega) (by omega)]; omega)
    · refine lv_iload_n hx hb dJ6_newLength_19 rfl (lv_at hl 0 rfl) ?_
      exact g_iret (v := nI (a + max b k)) hx hb hr hlocks hW (⟨rfl, rfl⟩) (by omega) (by omega) dJ6_newLength_20
set_option maxHeartbeats 4000000 in
set_option maxRecDepth 100000 in
/-- AbstractStringBuilder.isLatin1 -/
theorem mtJ22_isLatin1 (l : Launch) (D : va_G) (w : g_H) (sz : Nat) (b ba cap : Nat) (ml : Int32) (t : List Nat) (hs : g_SB D w b ba ml t cap) : Met l yJ22_isLatin1 (ws_ yJ22_isLatin1 cJ22_isLatin1 1 (some .boolean)) ({ frames := 1, cells := 0, slots := 0, locals := 12 }) (g_Pc D [.ref b] w sz) (g_Qi D w sz (fun r u => r = 1 ∧ w = u)) (0) (0) (g_A w sz) := by
  refine Met.ofW (cc := cJ22_isLatin1) (maxL := 1) (ret := (some .boolean)) (by decide) rfl ?_
  intro p e s m args below meth c s₁ B hml hv
  obtain ⟨rfl, hI⟩ := hv
  have hx := B.exec
  have hb := B.bytes
  have hr := B.returns
  have hts := atoms_spec (ws := ws_ yJ22_isLatin1 cJ22_isLatin1 1 (some .boolean)) B.pre
  have hts : ∀ w ∈ lw_all, w.before _ s = true := fun w h => hts w (List.mem_cons_of_mem _ h)
  have hown : s.vm.findClass RJ22 = some m.cls := findClass_of_methodNamed B.named
  have hlocks := B.notSynchronized
  have hsz := hI.1
  subst hsz
  have hW := g_W.start hI
  have hK := g_K hI
  have hE := g_E hI
  have hl := lv_entry ([.ref b]) (n := 1) (by exact Nat.le_of_ble_eq_true rfl)
  rw [lg_entry_eq]
  generalize (lg_sl ([.ref b]) ++ List.replicate (1 - (lg_sl ([.ref b])).length) Slot.unset).toArray = ls at hl ⊢
  have hl : lv_has ls 1 [(0, .ref b)] := hl
  have hs0 := hs
  obtain ⟨hs1, ⟨f, hs2, hs3, hs4⟩, hs5, hs6, hs7⟩ := hs0
  refine va_gets hx hb (hE.1) hW.2.2.1 hown (hts _ q839) (fun _ h9 => h9) dJ22_isLatin1_0 ?_
  refine lv_if_eq (tgt := 17) hx hb dJ22_isLatin1_3 (by decide) (fun hc => ?_) (fun hc => ?_)
  · exact absurd hc (by decide)
  · refine lv_aload_n hx hb dJ22_isLatin1_6 rfl (lv_at hl 0 rfl) ?_
    refine g_get (ci := 15) (v := .int (0)) (C := RJ23) (T := TJ23) (N := 4) hx hb hts in_J23 hown hK hW hs1 rfl 1 (by decide) q848 (fun _ h9 => h9) rfl dJ22_isLatin1_7 ?_
    refine lv_if_ne (tgt := 17) hx hb dJ22_isLatin1_10 (by decide) (fun hd => ?_) (fun hd => ?_)
    · exact absurd rfl hd
    · refine lv_iconst (v := 1) hx hb dJ22_isLatin1_13 (by decide) ?_
      refine lv_goto (tgt := 18) hx hb dJ22_isLatin1_14 (by decide) ?_
      exact g_zret (v := 1) hx hb hr hlocks (by rfl) hW (⟨rfl, rfl⟩) (by omega) (by omega) dJ22_isLatin1_18
set_option maxHeartbeats 4000000 in
set_option maxRecDepth 100000 in
/-- StringLatin1.canEncode -/
theorem mtJ17_canEncode (l : Launch) (D : va_G) (w : g_H) (sz : Nat) (ch : Nat) (hch : ch < 128) : Met l yJ17_canEncode (ws_ yJ17_canEncode cJ17_canEncode 1 (some .boolean)) ({ frames := 1, cells := 0, slots := 0, locals := 12 }) (g_Pc D [.int (nI ch)] w sz) (g_Qi D w sz (fun r u => r = 1 ∧ w = u)) (0) (0) (g_A w sz) := by
  refine Met.ofW (cc := cJ17_canEncode) (maxL := 1) (ret := (some .boolean)) (by decide) rfl ?_
  intro p e s m args below meth c s₁ B hml hv
  obtain ⟨rfl, hI⟩ := hv
  have hx := B.exec
  have hb := B.bytes
  have hr := B.returns
  have hts := atoms_spec (ws := ws_ yJ17_canEncode cJ17_canEncode 1 (some .boolean)) B.pre
  have hts : ∀ w ∈ lw_all, w.before _ s = true := fun w h => hts w (List.mem_cons_of_mem _ h)
  have hown : s.vm.findClass RJ17 = some m.cls := findClass_of_methodNamed B.named
  have hlocks := B.notSynchronized
  have hsz := hI.1
  subst hsz
  have hW := g_W.start hI
  have hK := g_K hI
  have hE := g_E hI
  have hl := lv_entry ([.int (nI ch)]) (n := 1) (by exact Nat.le_of_ble_eq_true rfl)
  rw [lg_entry_eq]
  generalize (lg_sl ([.int (nI ch)]) ++ List.replicate (1 - (lg_sl ([.int (nI ch)])).length) Slot.unset).toArray = ls at hl ⊢
  have hl : lv_has ls 1 [(0, .int (nI ch))] := hl
  refine lv_iload_n hx hb dJ17_canEncode_0 rfl (lv_at hl 0 rfl) ?_
  refine lv_sipush (v := 255) hx hb dJ17_canEncode_1 (by decide) ?_
  refine lv_icmp_gt (tgt := 11) hx hb dJ17_canEncode_4 (by decide) (fun hc => ?_) (fun hc => ?_)
  · exact absurd hc (by rw [show (255 : Int32) = nI 255 from rfl, nI_ltI (by omega) (by omega)]; omega)
  · refine lv_iconst (v := 1) hx hb dJ17_canEncode_7 (by decide) ?_
    refine lv_goto (tgt := 12) hx hb dJ17_canEncode_8 (by decide) ?_
    exact g_zret (v := 1) hx hb hr hlocks (by rfl) hW (⟨rfl, rfl⟩) (by omega) (by omega) dJ17_canEncode_12
set_option maxHeartbeats 4000000 in
set_option maxRecDepth 100000 in
/-- AbstractStringBuilder.newCapacity -/
theorem mtJ22_newCapacity (l : Launch) (D : va_G) (w : g_H) (sz : Nat) (b ba cap : Nat) (ml : Int32) (t : List Nat) (hs : g_SB D w b ba ml t cap) (q : Nat) (hq : cap < q) (hq2 : q ≤ 65536) : Met l yJ22_newCapacity (ws_ yJ22_newCapacity cJ22_newCapacity 6 (some .int)) ({ frames := 3, cells := 0, slots := 0, locals := 56 }) (g_Pc D [.ref b, .int (nI q)] w sz) (g_Qi D w sz (fun r u => r = nI (cap + max (q - cap) (cap + 2)) ∧ w = u)) (0) (0) (g_A w sz) := by
  refine Met.ofW (cc := cJ22_newCapacity) (maxL := 6) (ret := (some .int)) (by decide) rfl ?_
  intro p e s m args below meth c s₁ B hml hv
  obtain ⟨rfl, hI⟩ := hv
  have hx := B.exec
  have hb := B.bytes
  have hr := B.returns
  have hts := atoms_spec (ws := ws_ yJ22_newCapacity cJ22_newCapacity 6 (some .int)) B.pre
  have hts : ∀ w ∈ lw_all, w.before _ s = true := fun w h => hts w (List.mem_cons_of_mem _ h)
  have hown : s.vm.findClass RJ22 = some m.cls := findClass_of_methodNamed B.named
  have hlocks := B.notSynchronized
  have hsz := hI.1
  subst hsz
  have hW := g_W.start hI
  have hK := g_K hI
  have hE := g_E hI
  have hl := lv_entry ([.ref b, .int (nI q)]) (n := 6) (by exact Nat.le_of_ble_eq_true rfl)
  rw [lg_entry_eq]
  generalize (lg_sl ([.ref b, .int (nI q)]) ++ List.replicate (6 - (lg_sl ([.ref b, .int (nI q)])).length) Slot.unset).toArray = ls at hl ⊢
  have hl : lv_has ls 6 [(0, .ref b), (1, .int (nI q))] := hl
  have hs0 := hs
  obtain ⟨hs1, ⟨f, hs2, hs3, hs4⟩, hs5, hs6, hs7⟩ := hs0
  refine lv_aload_n hx hb dJ22_newCapacity_0 rfl (lv_at hl 0 rfl) ?_
  refine g_get (ci := 15) (v := .ref ba) (C := RJ23) (T := TJ23) (N := 4) hx hb hts in_J23 hown hK hW hs1 rfl 0 (by decide) q847 (fun _ h9 => h9) rfl dJ22_newCapacity_1 ?_
  refine g_alen hx hb hK hW 1 hs2 rfl dJ22_newCapacity_4 ?_
  refine g_topi (y := nI cap) (rfl) ?_
  refine lv_istore_n (lv' := [(2, .int (nI cap)), (0, .ref b), (1, .int (nI q))]) hx hb dJ22_newCapacity_5 rfl hl (by decide) rfl (fun ls hl => ?_)
  refine lv_iload_n hx hb dJ22_newCapacity_6 rfl (lv_at hl 2 rfl) ?_
  refine lv_aload_n hx hb dJ22_newCapacity_7 rfl (lv_at hl 1 rfl) ?_
  refine g_get (ci := 15) (v := .int (0)) (C := RJ23) (T := TJ23) (N := 4) hx hb hts in_J23 hown hK hW hs1 rfl 1 (by decide) q848 (fun _ h9 => h9) rfl dJ22_newCapacity_8 ?_
  refine lv_ishl hx hb dJ22_newCapacity_11 ?_
  refine g_topi (y := nI q) (sb_shl0 _) ?_
  refine lv_istore_n (lv' := [(3, .int (nI q)), (2, .int (nI cap)), (0, .ref b), (1, .int (nI q))]) hx hb dJ22_newCapacity_12 rfl hl (by decide) rfl (fun ls hl => ?_)
  refine lv_iload_n hx hb dJ22_newCapacity_13 rfl (lv_at hl 0 rfl) ?_
  refine lv_iload_n hx hb dJ22_newCapacity_14 rfl (lv_at hl 1 rfl) ?_
  refine lv_isub hx hb dJ22_newCapacity_15 ?_
  refine g_topi (y := nI (q - cap)) (pk_sub (by omega)) ?_
  refine lv_istore (lv' := [(4, .int (nI (q - cap))), (3, .int (nI q)), (2, .int (nI cap)), (0, .ref b), (1, .int (nI q))]) hx hb dJ22_newCapacity_16 hl (by decide) rfl (fun ls hl => ?_)
  refine lv_iload_n hx hb dJ22_newCapacity_18 rfl (lv_at hl 2 rfl) ?_
  refine lv_iload hx hb dJ22_newCapacity_19 (lv_at hl 0 rfl) ?_
  refine lv_iload_n hx hb dJ22_newCapacity_21 rfl (lv_at hl 2 rfl) ?_
  refine lv_iconst (v := 2) hx hb dJ22_newCapacity_22 (by decide) ?_
  refine lv_aload_n hx hb dJ22_newCapacity_23 rfl (lv_at hl 3 rfl) ?_
  refine g_get (ci := 15) (v := .int (0)) (C := RJ23) (T := TJ23) (N := 4) hx hb hts in_J23 hown hK hW hs1 rfl 1 (by decide) q848 (fun _ h9 => h9) rfl dJ22_newCapacity_24 ?_
  refine lv_ishl hx hb dJ22_newCapacity_27 ?_
  refine g_topi (y := 2) (sb_shl0 _) ?_
  refine lv_iadd hx hb dJ22_newCapacity_28 ?_
  refine g_topi (y := nI (cap + 2)) (nI_add cap 2) ?_
  refine g_calli (va_runS (As := [.int (nI cap), .int (nI (q - cap)), .int (nI (cap + 2))]) (rest := []) ⟨hx, hb, hml, hown, hts⟩ (mtJ6_newLength l D w s.heap.size cap (q - cap) (cap + 2) (by omega) (by omega)) (va_cwS 3 hts (lw_S q880 q261 q42 q262) rfl rfl rfl (by decide +kernel) ⟨Nat.le_of_ble_eq_true rfl, Nat.le_of_ble_eq_true rfl⟩) (g_preS hW hK hE) rfl rfl hl.1 rfl (lv_room (Nat.le_of_ble_eq_true rfl)) dJ22_newCapacity_29 ⟨Nat.le_of_ble_eq_true rfl, Nat.le_of_ble_eq_true rfl⟩) hW (fun r_ u_ H locs hp hW => ?_)
  obtain ⟨er, rfl⟩ := hp
  subst er
  refine lv_istore (lv' := [(5, .int (nI (cap + max (q - cap) (cap + 2)))), (4, .int (nI (q - cap))), (3, .int (nI q)), (2, .int (nI cap)), (0, .ref b), (1, .int (nI q))]) hx hb dJ22_newCapacity_32 hl (by decide) rfl (fun ls hl => ?_)
  refine lv_iload hx hb dJ22_newCapacity_34 (lv_at hl 0 rfl) ?_
  refine lv_ldc hx hb hown (hts _ q881) dJ22_newCapacity_36 ?_
  refine lv_icmp_ne (tgt := 51) hx hb dJ22_newCapacity_38 (by decide) (fun hd => ?_) (fun hd => ?_)
  · refine lv_iload hx hb dJ22_newCapacity_51 (lv_at hl 0 rfl) ?_
    refine lv_aload_n hx hb dJ22_newCapacity_53 rfl (lv_at hl 4 rfl) ?_
    refine g_get (ci := 15) (v := .int (0)) (C := RJ23) (T := TJ23) (N := 4) hx hb hts in_J23 hown hK hW hs1 rfl 1 (by decide) q848 (fun _ h9 => h9) rfl dJ22_newCapacity_54 ?_
    refine lv_ishr hx hb dJ22_newCapacity_57 ?_
    refine g_topi (y := nI (cap + max (q - cap) (cap + 2))) (sb_shr0 _) ?_
    exact g_iret (v := nI (cap + max (q - cap) (cap + 2))) hx hb hr hlocks hW (⟨rfl, rfl⟩) (by omega) (by omega) dJ22_newCapacity_58
  · have hz := nI_lt (a := cap + max (q - cap) (cap + 2)) (b := 2147483647) (by omega) (by decide)
    rw [hd] at hz
    exact absurd hz (by decide)
set_option maxHeartbeats 4000000 in
set_option maxRecDepth 100000 in
/-- Arrays.copyOf of bytes, to more -/
theorem mtJ8_copyOf_3 (l : Launch) (D : va_G) (w : g_H) (sz : Nat) (v n0 q : Nat) (f : Nat → Int32) (hv : g_at w v (.inl (D.1 101, n0, .inl f))) (hf : g_fit n0 f) (hq : n0 < q) (hq2 : q ≤ 262144) : Met l yJ8_copyOf_3 (ws_ yJ8_copyOf_3 cJ8_copyOf_3 3 (some (.array .byte))) ({ frames := 2, cells := 1, slots := q, locals := 80 }) (g_Pc D [.ref v, .int (nI q)] w sz) (g_Qq D w sz (fun r u => ∃ x, r = some x ∧ x ∉ w.1 ∧ (∃ g : Nat → Int32, g_at u x (.inl (D.1 101, q, .inl g)) ∧ (∀ j, j < n0 → g j = f j) ∧ ∀ j, n0 ≤ j → g j = 0) ∧ g_ex (fun _ => False) w u)) (1) (q) (g_A w sz) := by
  refine Met.ofW (cc := cJ8_copyOf_3) (maxL := 3) (ret := (some (.array .byte))) (by decide) rfl ?_
  intro p e s m args below meth c s₁ B hml hv
  obtain ⟨rfl, hI⟩ := hv
  have hx := B.exec
  have hb := B.bytes
  have hr := B.returns
  have hts := atoms_spec (ws := ws_ yJ8_copyOf_3 cJ8_copyOf_3 3 (some (.array .byte))) B.pre
  have hts : ∀ w ∈ lw_all, w.before _ s = true := fun w h => hts w (List.mem_cons_of_mem _ h)
  have hown : s.vm.findClass RJ8 = some m.cls := findClass_of_methodNamed B.named
  have hlocks := B.notSynchronized
  have hsz := hI.1
  subst hsz
  have hW := g_W.start hI
  have hK := g_K hI
  have hE := g_E hI
  have hl := lv_entry ([.ref v, .int (nI q)]) (n := 3) (by exact Nat.le_of_ble_eq_true rfl)
  rw [lg_entry_eq]
  generalize (lg_sl ([.ref v, .int (nI q)]) ++ List.replicate (3 - (lg_sl ([.ref v, .int (nI q)])).length) Slot.unset).toArray = ls at hl ⊢
  have hl : lv_has ls 3 [(0, .ref v), (1, .int (nI q))] := hl
  have x_1 : g_ex (fun _ => False) w w := g_ex.rf
  refine lv_iload_n hx hb dJ8_copyOf_3_0 rfl (lv_at hl 1 rfl) ?_
  refine lv_aload_n hx hb dJ8_copyOf_3_1 rfl (lv_at hl 0 rfl) ?_
  refine g_alen hx hb hK hW 1 hv rfl dJ8_copyOf_3_2 ?_
  refine g_topi (y := nI n0) (rfl) ?_
  refine lv_icmp_ne (tgt := 14) hx hb dJ8_copyOf_3_3 (by decide) (fun hd => ?_) (fun hd => ?_)
  · refine lv_iload_n hx hb dJ8_copyOf_3_14 rfl (lv_at hl 1 rfl) ?_
    refine g_newa (k := 1) (atype := .byte) (ty := .byte) (cB := D.1 101) hx hb rfl (hts _ q502) hK hW rfl q (q, .inl (fun _ => 0)) (fun _ => rfl) (nI_pos (by omega)) (nI_clamp (by omega)) (by show q * 1 ≤ _; omega) (by show _ ≤ 1; omega) (by show _ ≤ q; omega) dJ8_copyOf_3_15 (fun q_2 H hq hW => ?_)
    have hq_2 := hq
    obtain ⟨w_3, ew_3⟩ : ∃ z__, z__ = g_push w q_2 (.inl (D.1 101, q, .inl ((fun _ => 0)))) := ⟨_, rfl⟩
    have hW := g_W.ren hW ew_3 rfl
    have h_4 : g_at w_3 v (.inl (D.1 101, n0, .inl (f))) := by rw [ew_3]; exact hv.push hq
    have h_5 : g_at w_3 q_2 (.inl (D.1 101, q, .inl ((fun _ => 0)))) := by rw [ew_3]; exact g_at.push_self
    have x_6 : g_ex (fun _ => False) w w_3 := by rw [ew_3]; exact x_1.push hq
    refine lv_astore_n (lv' := [(2, .ref q_2), (0, .ref v), (1, .int (nI q))]) hx hb dJ8_copyOf_3_17 rfl hl (by decide) rfl (fun ls hl => ?_)
    refine lv_aload_n hx hb dJ8_copyOf_3_18 rfl (lv_at hl 1 rfl) ?_
    refine lv_iconst (v := 0) hx hb dJ8_copyOf_3_19 (by decide) ?_
    refine lv_aload_n hx hb dJ8_copyOf_3_20 rfl (lv_at hl 0 rfl) ?_
    refine lv_iconst (v := 0) hx hb dJ8_copyOf_3_21 (by decide) ?_
    refine lv_aload_n hx hb dJ8_copyOf_3_22 rfl (lv_at hl 1 rfl) ?_
    refine g_alen hx hb hK hW 1 h_4 rfl dJ8_copyOf_3_23 ?_
    refine g_topi (y := nI n0) (rfl) ?_
    refine lv_iload_n hx hb dJ8_copyOf_3_24 rfl (lv_at hl 2 rfl) ?_
    refine g_calli (va_runS (As := [.int (nI n0), .int (nI q)]) (rest := [.int (0), .ref q_2, .int (0), .ref v]) ⟨hx, hb, hml, hown, hts⟩ (mtJ7_min l D w_3 H.size n0 q (by omega) (by omega)) (va_cwS 2 hts (lw_S q314 q315 q43 q316) rfl rfl rfl (by decide +kernel) ⟨Nat.le_of_ble_eq_true rfl, Nat.le_of_ble_eq_true rfl⟩) (g_preS hW hK hE) rfl rfl hl.1 rfl (lv_room (Nat.le_of_ble_eq_true rfl)) dJ8_copyOf_3_25 ⟨?_, ?_⟩) hW (fun r_ u_ H locs hp hW => ?_)
    · show _ ≤ 1; omega
    · show _ ≤ q; omega
    obtain ⟨er, rfl⟩ := hp
    subst er
    refine g_topi (y := nI n0) (by rw [show min n0 q = n0 by omega]) ?_
    refine g_copyi hx hb (hml.trans hl.1.symm) hts hown q317 hK hW h_4 h_5 0 0 n0 (by omega) (by omega) (by omega) (by omega) hf (Nat.le_of_ble_eq_true rfl) (Nat.le_of_ble_eq_true rfl) dJ8_copyOf_3_28 (fun H locs hW => ?_)
    obtain ⟨f_7, ef_7⟩ : ∃ z__, z__ = va_cpy f (fun _ => 0) 0 0 n0 := ⟨_, rfl⟩
    rw [← ef_7] at hW
    have hq9 := hq
    obtain ⟨w_8, ew_8⟩ : ∃ z__, z__ = g_put w_3 q_2 (.inl (D.1 101, q, .inl (f_7))) := ⟨_, rfl⟩
    have hW := g_W.ren hW ew_8 rfl
    have hx9 : g_at w_8 q_2 (.inl (D.1 101, q, .inl (f_7))) := by rw [ew_8]; exact g_at.put_self h_5.1
    have hex9 : g_ex (fun _ => False) w w_8 := by rw [ew_8]; exact x_6.put (fun z => absurd z hq_2)
    refine lv_aload_n hx hb dJ8_copyOf_3_31 rfl (lv_at hl 0 rfl) ?_
    refine g_qret (v := some q_2) hx hb hr (Or.inr ⟨_, rfl⟩) hlocks hW ⟨q_2, rfl, hq_2, ⟨f_7, hx9, fun j hj => ?_, fun j hj => ?_⟩, hex9⟩ (by omega) (by omega) dJ8_copyOf_3_32
    · rw [ef_7]; unfold va_cpy; rw [if_pos ⟨Nat.zero_le _, by omega⟩]; simp
    · rw [ef_7]; unfold va_cpy; rw [if_neg (by omega)]
  · have hz := nI_lt (a := n0) (b := q) hq (by omega)
    rw [hd] at hz
    exact (Int32.lt_irrefl hz).elim
