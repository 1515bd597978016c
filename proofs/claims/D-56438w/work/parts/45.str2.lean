/-! String.equals, StringBuilder.append(String), Enum.ordinal -/
set_option maxRecDepth 100000
theorem nI_inj {a b : Nat} (ha : a < 2 ^ 31) (hb : b < 2 ^ 31) (h : nI a = nI b) : a = b := by
  refine Classical.byContradiction fun z => nI_ne ha hb z h
theorem g_rS.inj {a v1 v2 : Nat} {t1 t2 : List Nat} {s : State} {H : Heap} (h1 : g_rS a v1 t1 s H) (h2 : g_rS a v2 t2 s H) (k1 : g_tx t1) (k2 : g_tx t2) : t1 = t2 := by
  obtain ⟨⟨cf, k, i, f, cell, e1, -, e2, -, e3, -⟩, -, ⟨cb, b1, -, -, b4, b5, b6, -⟩, -⟩ := h1
  obtain ⟨⟨cf', k', i', f', cell', e1', -, e2', -, e3', -⟩, -, ⟨cb', b1', -, -, b4', b5', b6', -⟩, -⟩ := h2
  cases e1.symm.trans e1'
  cases e2.symm.trans e2'
  cases e3.symm.trans e3'
  cases b1.symm.trans b1'
  have hn : t1.length = t2.length := nI_inj (Nat.lt_trans k1.1 (by decide)) (Nat.lt_trans k2.1 (by decide)) (b5.symm.trans b5')
  refine List.ext_getElem hn fun j hj1 hj2 => ?_
  have q := (b6 j hj1).symm.trans (b6' j hj2)
  have q1 : nI (t1.getD j 0) = nI (t2.getD j 0) := by cases q' : nI (t1.getD j 0) == nI (t2.getD j 0) <;> simp_all
  have q2 := nI_inj (Nat.lt_trans k1.lt (by decide)) (Nat.lt_trans k2.lt (by decide)) q1
  rw [List.getD_eq_getElem?_getD, List.getD_eq_getElem?_getD, List.getElem?_eq_getElem hj1, List.getElem?_eq_getElem hj2] at q2
  exact q2
theorem g_ext {t1 t2 : List Nat} (hn : t1.length = t2.length) (h : ∀ j, j < t1.length → t1.getD j 0 = t2.getD j 0) : t1 = t2 := by
  refine List.ext_getElem hn fun j hj1 hj2 => ?_
  have q2 := h j hj1
  rw [List.getD_eq_getElem?_getD, List.getD_eq_getElem?_getD, List.getElem?_eq_getElem hj1, List.getElem?_eq_getElem hj2] at q2
  exact q2
theorem g_SB.str {f g : Nat → Int32} {t s : List Nat} (h : g_is f t) (hg : ∀ j, g j = if t.length ≤ j ∧ j < t.length + s.length then nI (s.getD (j - t.length) 0) else f j) : g_is g (t ++ s) := by
  intro j hj
  rw [List.length_append] at hj
  rw [hg j, show (t ++ s).getD j 0 = ((t ++ s)[j]?).getD 0 from List.getD_eq_getElem?_getD ..]
  by_cases q : j < t.length
  · rw [if_neg (by omega), List.getElem?_append_left q, h j q, List.getD_eq_getElem?_getD]
  · rw [if_pos ⟨by omega, by omega⟩, List.getElem?_append_right (by omega), List.getD_eq_getElem?_getD]
set_option maxHeartbeats 4000000 in
set_option maxRecDepth 100000 in
/-- StringLatin1.equals: its loop -/
theorem lpJ17_equals {p : Program} {l : Launch} {e : Env} {R : Room} {s : State} {m : MethodId} {args : Array Value} {below : List Frame} {meth : Method} {c : Code} {cells slots : Nat} {Q : State → Prop} {D : va_G} {A : Nat → Prop} (hx : p.tables.exec = Jvm.exec) (hb : c.code = cJ17_equals) (hts : ∀ w ∈ lw_all, w.before args s = true) (hown : s.vm.findClass RJ17 = some m.cls) (hK : va_K D gCl (gT D) s) (hE : g_Env D A s) (w : g_H) (v1 v2 : Nat) (t1 t2 : List Nat) (k1 : g_tx t1) (k2 : g_tx t2) (h1 : g_by D w v1 t1) (h2 : g_by D w v2 t2) (hn : t1.length = t2.length) (kk2 : ∀ (H : Heap) (locs : List Loc) (ls : Array Slot), g_W D A s.heap H locs w → t1 ≠ t2 → W p l e R s m args below meth c H locs cells slots Q (F0 m 24 ls []))
    (kk : ∀ (H : Heap) (locs : List Loc) (ls : Array Slot), g_W D A s.heap H locs w → t1 = t2 → W p l e R s m args below meth c H locs cells slots Q (F0 m 32 ls [])) :
    ∀ (k : Nat) (i : Nat) (H : Heap) (locs : List Loc) (ls : Array Slot), t1.length < i + k → i ≤ t1.length → (∀ j, j < i → t1.getD j 0 = t2.getD j 0) → g_W D A s.heap H locs w → lv_has ls 3 [(2, .int (nI i)), (0, .ref v1), (1, .ref v2)] → W p l e R s m args below meth c H locs cells slots Q (F0 m 9 ls []) := by
  intro k
  induction k with
  | zero => intro i H locs ls hfuel hi heq hW hl; exact absurd hfuel (by omega)
  | succ k ih =>
    intro i H locs ls hfuel hi heq hW hl
    have hb1 := h1.rd k1 hK hE hW
    have hb2 := h2.rd k2 hK hE hW
    have hl1 := k1.1
    have hl2 := k2.1
    refine lv_iload_n hx hb dJ17_equals_9 rfl (lv_at hl 0 rfl) ?_
    refine lv_aload_n hx hb dJ17_equals_10 rfl (lv_at hl 1 rfl) ?_
    refine g_lenR hx hb (hb1) dJ17_equals_11 ?_
    refine g_icmp_ge (tgt := 32) hx hb (by omega) (by omega) dJ17_equals_12 (by decide) (fun hc => ?_) (fun hc => ?_)
    · have e0 : i = t1.length := by omega
      subst e0
      exact kk H locs ls hW (g_ext hn heq)
    · refine lv_aload_n hx hb dJ17_equals_15 rfl (lv_at hl 1 rfl) ?_
      refine lv_iload_n hx hb dJ17_equals_16 rfl (lv_at hl 0 rfl) ?_
      refine g_baldR hx hb hb1 (i := i) hc (by omega) rfl dJ17_equals_17 ?_
      refine lv_aload_n hx hb dJ17_equals_18 rfl (lv_at hl 2 rfl) ?_
      refine lv_iload_n hx hb dJ17_equals_19 rfl (lv_at hl 0 rfl) ?_
      refine g_baldR hx hb hb2 (i := i) (by omega) (by omega) rfl dJ17_equals_20 ?_
      have q1 := k1.lt (j := i)
      have q2 := k2.lt (j := i)
      refine lv_icmp_eq (tgt := 26) hx hb dJ17_equals_21 (by decide) (fun hd => ?_) (fun hd => ?_)
      · have e1 : t1.getD i 0 = t2.getD i 0 := nI_inj (by omega) (by omega) hd
        refine lv_iinc (v := nI (i + 1)) (lv' := [(2, .int (nI (i + 1))), (0, .ref v1), (1, .ref v2)]) hx hb dJ17_equals_26 hl (k := 0) rfl (nI_1 i) (by decide) rfl (fun ls hl => ?_)
        refine lv_goto (tgt := 9) hx hb dJ17_equals_29 (by decide) ?_
        refine ih (i + 1) H locs ls (by omega) (by omega) (fun j hj => ?_) hW hl
        rcases Nat.lt_or_ge j i with r | r
        · exact heq j r
        · rw [show j = i by omega]; exact e1
      · exact kk2 H locs ls hW (fun z => hd (by rw [z]))
set_option maxHeartbeats 4000000 in
set_option maxRecDepth 100000 in
/-- StringLatin1.equals -/
theorem mtJ17_equals (l : Launch) (D : va_G) (w : g_H) (sz : Nat) (v1 v2 : Nat) (t1 t2 : List Nat) (k1 : g_tx t1) (k2 : g_tx t2) (h1 : g_by D w v1 t1) (h2 : g_by D w v2 t2) : Met l yJ17_equals (ws_ yJ17_equals cJ17_equals 3 (some .boolean)) ({ frames := 1, cells := 0, slots := 0, locals := 12 }) (g_Pc D [.ref v1, .ref v2] w sz) (g_Qi D w sz (fun r u => r = (if t1 = t2 then 1 else 0) ∧ w = u)) (0) (0) (g_A w sz) := by
  refine Met.ofW (cc := cJ17_equals) (maxL := 3) (ret := (some .boolean)) (by decide) rfl ?_
  intro p e s m args below meth c s₁ B hml hv
  obtain ⟨rfl, hI⟩ := hv
  have hx := B.exec
  have hb := B.bytes
  have hr := B.returns
  have hts := atoms_spec (ws := ws_ yJ17_equals cJ17_equals 3 (some .boolean)) B.pre
  have hts : ∀ w ∈ lw_all, w.before _ s = true := fun w h => hts w (List.mem_cons_of_mem _ h)
  have hown : s.vm.findClass RJ17 = some m.cls := findClass_of_methodNamed B.named
  have hlocks := B.notSynchronized
  have hsz := hI.1
  subst hsz
  have hW := g_W.start hI
  have hK := g_K hI
  have hE := g_E hI
  have hl := lv_entry ([.ref v1, .ref v2]) (n := 3) (by exact Nat.le_of_ble_eq_true rfl)
  rw [lg_entry_eq]
  generalize (lg_sl ([.ref v1, .ref v2]) ++ List.replicate (3 - (lg_sl ([.ref v1, .ref v2])).length) Slot.unset).toArray = ls at hl ⊢
  have hl : lv_has ls 3 [(0, .ref v1), (1, .ref v2)] := hl
  have hb1 := h1.rd k1 hK hE hW
  have hb2 := h2.rd k2 hK hE hW
  have hl1 := k1.1
  have hl2 := k2.1
  refine lv_aload_n hx hb dJ17_equals_0 rfl (lv_at hl 0 rfl) ?_
  refine g_lenR hx hb (hb1) dJ17_equals_1 ?_
  refine lv_aload_n hx hb dJ17_equals_2 rfl (lv_at hl 1 rfl) ?_
  refine g_lenR hx hb (hb2) dJ17_equals_3 ?_
  refine lv_icmp_ne (tgt := 34) hx hb dJ17_equals_4 (by decide) (fun hd => ?_) (fun hd => ?_)
  · have hz : t1 ≠ t2 := fun z => hd (by rw [z])
    refine lv_iconst (v := 0) hx hb dJ17_equals_34 (by decide) ?_
    exact g_zret (v := 0) hx hb hr hlocks (by rfl) hW (⟨by rw [if_neg hz], rfl⟩) (by omega) (by omega) dJ17_equals_35
  · have hz : t1.length = t2.length := nI_inj (by omega) (by omega) hd
    refine lv_iconst (v := 0) hx hb dJ17_equals_7 (by decide) ?_
    refine lv_istore_n (lv' := [(2, .int (0)), (0, .ref v1), (1, .ref v2)]) hx hb dJ17_equals_8 rfl hl (by decide) rfl (fun ls hl => ?_)
    refine lpJ17_equals (D := D) hx hb hts hown hK hE w v1 v2 t1 t2 k1 k2 h1 h2 hz (fun H locs ls hW hne => ?_) (fun H locs ls hW heq => ?_) (t1.length + 1) 0 _ _ ls (by omega) (by omega) (fun j hj => absurd hj (by omega)) hW hl
    · refine lv_iconst (v := 0) hx hb dJ17_equals_24 (by decide) ?_
      exact g_zret (v := 0) hx hb hr hlocks (by rfl) hW (⟨by rw [if_neg hne], rfl⟩) (by omega) (by omega) dJ17_equals_25
    · refine lv_iconst (v := 1) hx hb dJ17_equals_32 (by decide) ?_
      exact g_zret (v := 1) hx hb hr hlocks (by rfl) hW (⟨by rw [if_pos heq], rfl⟩) (by omega) (by omega) dJ17_equals_33
set_option maxHeartbeats 4000000 in
set_option maxRecDepth 100000 in
/-- String.equals -/
theorem mtJ16_equals (l : Launch) (D : va_G) (w : g_H) (sz : Nat) (a b : Nat) (t1 t2 : List Nat) (h1 : g_Str D w a t1) (h2 : g_Str D w b t2) : Met l yJ16_equals (ws_ yJ16_equals cJ16_equals 3 (some .boolean)) ({ frames := 2, cells := 0, slots := 0, locals := 34 }) (g_Pc D [.ref a, .ref b] w sz) (g_Qi D w sz (fun r u => r = (if t1 = t2 then 1 else 0) ∧ w = u)) (0) (0) (g_A w sz) := by
  refine Met.ofW (cc := cJ16_equals) (maxL := 3) (ret := (some .boolean)) (by decide) rfl ?_
  intro p e s m args below meth c s₁ B hml hv
  obtain ⟨rfl, hI⟩ := hv
  have hx := B.exec
  have hb := B.bytes
  have hr := B.returns
  have hts := atoms_spec (ws := ws_ yJ16_equals cJ16_equals 3 (some .boolean)) B.pre
  have hts : ∀ w ∈ lw_all, w.before _ s = true := fun w h => hts w (List.mem_cons_of_mem _ h)
  have hown : s.vm.findClass RJ16 = some m.cls := findClass_of_methodNamed B.named
  have hlocks := B.notSynchronized
  have hsz := hI.1
  subst hsz
  have hW := g_W.start hI
  have hK := g_K hI
  have hE := g_E hI
  have hl := lv_entry ([.ref a, .ref b]) (n := 3) (by exact Nat.le_of_ble_eq_true rfl)
  rw [lg_entry_eq]
  generalize (lg_sl ([.ref a, .ref b]) ++ List.replicate (3 - (lg_sl ([.ref a, .ref b])).length) Slot.unset).toArray = ls at hl ⊢
  have hl : lv_has ls 3 [(0, .ref a), (1, .ref b)] := hl
  obtain ⟨v1, hr1, hb1⟩ := h1.rd hts hK hE hW
  obtain ⟨v2, hr2, hb2⟩ := h2.rd hts hK hE hW
  refine lv_aload_n hx hb dJ16_equals_0 rfl (lv_at hl 0 rfl) ?_
  refine lv_aload_n hx hb dJ16_equals_1 rfl (lv_at hl 1 rfl) ?_
  refine lv_acmp_ne (rx := some a) (ry := some b) (tgt := 7) hx hb dJ16_equals_2 (by decide) (fun hd0 => ?_) (fun hd0 => ?_)
  · refine lv_aload_n hx hb dJ16_equals_7 rfl (lv_at hl 1 rfl) ?_
    refine va_instS hx hb hown (hts _ q2217) (hK.1 16 _ rfl).2 hr2.2.2.2 dJ16_equals_8 ?_
    refine lv_if_eq (tgt := 54) hx hb dJ16_equals_11 (by decide) (fun hd => ?_) (fun hd => ?_)
    · exact absurd hd (by decide)
    · refine lv_aload_n hx hb dJ16_equals_14 rfl (lv_at hl 1 rfl) ?_
      refine va_castS hx hb hown (hts _ q2217) (hK.1 16 _ rfl).2 hr2.2.2.2 dJ16_equals_15 ?_
      refine lv_astore_n (lv' := [(2, .ref b), (0, .ref a), (1, .ref b)]) hx hb dJ16_equals_18 rfl hl (by decide) rfl (fun ls hl => ?_)
      refine va_gets hx hb (hE.1) hW.2.2.1 hown (hts _ q747) (fun _ h9 => h9) dJ16_equals_19 ?_
      refine lv_if_eq (tgt := 36) hx hb dJ16_equals_22 (by decide) (fun hd2 => ?_) (fun hd2 => ?_)
      · exact absurd hd2 (by decide)
      · refine lv_aload_n hx hb dJ16_equals_25 rfl (lv_at hl 1 rfl) ?_
        refine g_getR hx hb (hr1.2.1) hts hown q1039 (fun _ h9 => h9) dJ16_equals_26 ?_
        refine lv_aload_n hx hb dJ16_equals_29 rfl (lv_at hl 0 rfl) ?_
        refine g_getR hx hb (hr2.2.1) hts hown q1039 (fun _ h9 => h9) dJ16_equals_30 ?_
        refine lv_icmp_ne (tgt := 54) hx hb dJ16_equals_33 (by decide) (fun hd3 => ?_) (fun hd3 => ?_)
        · exact absurd rfl hd3
        · refine lv_aload_n hx hb dJ16_equals_36 rfl (lv_at hl 1 rfl) ?_
          refine g_getR hx hb (hr1.1) hts hown q1038 (fun _ h9 => h9) dJ16_equals_37 ?_
          refine lv_aload_n hx hb dJ16_equals_40 rfl (lv_at hl 0 rfl) ?_
          refine g_getR hx hb (hr2.1) hts hown q1038 (fun _ h9 => h9) dJ16_equals_41 ?_
          refine g_calli (va_runS (As := [.ref v1, .ref v2]) (rest := []) ⟨hx, hb, hml, hown, hts⟩ (mtJ17_equals l D w s.heap.size v1 v2 t1 t2 h1.1 h2.1 hb1 hb2) (va_cwS 2 hts (lw_S q2218 q2219 q64 q2220) rfl rfl rfl (by decide +kernel) ⟨Nat.le_of_ble_eq_true rfl, Nat.le_of_ble_eq_true rfl⟩) (g_preS hW hK hE) rfl rfl hl.1 rfl (lv_room (Nat.le_of_ble_eq_true rfl)) dJ16_equals_44 ⟨Nat.le_of_ble_eq_true rfl, Nat.le_of_ble_eq_true rfl⟩) hW (fun r_ u_ H locs hp hW => ?_)
          obtain ⟨er, rfl⟩ := hp
          subst er
          by_cases hq : t1 = t2
          · rw [if_pos hq]
            refine lv_if_eq (tgt := 54) hx hb dJ16_equals_47 (by decide) (fun hd4 => ?_) (fun hd4 => ?_)
            · exact absurd hd4 (by decide)
            · refine lv_iconst (v := 1) hx hb dJ16_equals_50 (by decide) ?_
              refine lv_goto (tgt := 55) hx hb dJ16_equals_51 (by decide) ?_
              exact g_zret (v := 1) hx hb hr hlocks (by rfl) hW (⟨rfl, rfl⟩) (by omega) (by omega) dJ16_equals_55
          · rw [if_neg hq]
            refine lv_if_eq (tgt := 54) hx hb dJ16_equals_47 (by decide) (fun hd4 => ?_) (fun hd4 => ?_)
            · refine lv_iconst (v := 0) hx hb dJ16_equals_54 (by decide) ?_
              exact g_zret (v := 0) hx hb hr hlocks (by rfl) hW (⟨rfl, rfl⟩) (by omega) (by omega) dJ16_equals_55
            · exact absurd rfl hd4
  · have hab : a = b := Option.some.inj (by first | exact hd0 | exact Classical.not_not.mp hd0)
    subst hab
    have hq := hr1.inj hr2 h1.1 h2.1
    refine lv_iconst (v := 1) hx hb dJ16_equals_5 (by decide) ?_
    exact g_zret (v := 1) hx hb hr hlocks (by rfl) hW (⟨by rw [if_pos hq], rfl⟩) (by omega) (by omega) dJ16_equals_6
set_option maxHeartbeats 4000000 in
set_option maxRecDepth 100000 in
/-- Enum.ordinal -/
theorem mtJ10_ordinal (l : Launch) (D : va_G) (w : g_H) (sz : Nat) (a : Nat) (v : Int32) (hv : ∀ s : State, g_Env D (g_A w s.heap.size) s → va_OF "java/lang/Enum" "ordinal" "I" (.int v) a g_no s s.heap) : Met l yJ10_ordinal (ws_ yJ10_ordinal cJ10_ordinal 1 (some .int)) ({ frames := 1, cells := 0, slots := 0, locals := 12 }) (g_Pc D [.ref a] w sz) (g_Qi D w sz (fun r u => r = v ∧ w = u)) (0) (0) (g_A w sz) := by
  refine Met.ofW (cc := cJ10_ordinal) (maxL := 1) (ret := (some .int)) (by decide) rfl ?_
  intro p e s m args below meth c s₁ B hml hv
  obtain ⟨rfl, hI⟩ := hv
  have hx := B.exec
  have hb := B.bytes
  have hr := B.returns
  have hts := atoms_spec (ws := ws_ yJ10_ordinal cJ10_ordinal 1 (some .int)) B.pre
  have hts : ∀ w ∈ lw_all, w.before _ s = true := fun w h => hts w (List.mem_cons_of_mem _ h)
  have hown : s.vm.findClass RJ10 = some m.cls := findClass_of_methodNamed B.named
  have hlocks := B.notSynchronized
  have hsz := hI.1
  subst hsz
  have hW := g_W.start hI
  have hK := g_K hI
  have hE := g_E hI
  have hl := lv_entry ([.ref a]) (n := 1) (by exact Nat.le_of_ble_eq_true rfl)
  rw [lg_entry_eq]
  generalize (lg_sl ([.ref a]) ++ List.replicate (1 - (lg_sl ([.ref a])).length) Slot.unset).toArray = ls at hl ⊢
  have hl : lv_has ls 1 [(0, .ref a)] := hl
  refine lv_aload_n hx hb dJ10_ordinal_0 rfl (lv_at hl 0 rfl) ?_
  refine g_getR hx hb (hv s hE) hts hown q2278 (fun _ h9 => h9) dJ10_ordinal_1 ?_
  exact g_iret (v := v) hx hb hr hlocks hW (⟨rfl, rfl⟩) (by omega) (by omega) dJ10_ordinal_4
set_option maxHeartbeats 4000000 in
set_option maxRecDepth 100000 in
/-- String.getBytes -/
theorem mtJ16_getBytes (l : Launch) (D : va_G) (w : g_H) (sz : Nat) (st ba cap dp : Nat) (f : Nat → Int32) (x : List Nat) (hst : g_Str D w st x) (hba : g_at w ba (.inl (D.1 101, cap, .inl f))) (hdp : dp + x.length ≤ cap) (hc9 : cap ≤ 65536) : Met l yJ16_getBytes (ws_ yJ16_getBytes cJ16_getBytes 4 none) ({ frames := 2, cells := 0, slots := 0, locals := 80 }) (g_Pc D [.ref st, .ref ba, .int (nI dp), .int (0)] w sz) (g_Qv D w sz (fun u => ∃ g : Nat → Int32, g_at u ba (.inl (D.1 101, cap, .inl g)) ∧ (∀ j, g j = if dp ≤ j ∧ j < dp + x.length then nI (x.getD (j - dp) 0) else f j) ∧ g_ex (fun q => q = ba) w u)) (0) (0) (g_A w sz) := by
  refine Met.ofW (cc := cJ16_getBytes) (maxL := 4) (ret := none) (by decide) rfl ?_
  intro p e s m args below meth c s₁ B hml hv
  obtain ⟨rfl, hI⟩ := hv
  have hx := B.exec
  have hb := B.bytes
  have hr := B.returns
  have hts := atoms_spec (ws := ws_ yJ16_getBytes cJ16_getBytes 4 none) B.pre
  have hts : ∀ w ∈ lw_all, w.before _ s = true := fun w h => hts w (List.mem_cons_of_mem _ h)
  have hown : s.vm.findClass RJ16 = some m.cls := findClass_of_methodNamed B.named
  have hlocks := B.notSynchronized
  have hsz := hI.1
  subst hsz
  have hW := g_W.start hI
  have hK := g_K hI
  have hE := g_E hI
  have hl := lv_entry ([.ref st, .ref ba, .int (nI dp), .int (0)]) (n := 4) (by exact Nat.le_of_ble_eq_true rfl)
  rw [lg_entry_eq]
  generalize (lg_sl ([.ref st, .ref ba, .int (nI dp), .int (0)]) ++ List.replicate (4 - (lg_sl ([.ref st, .ref ba, .int (nI dp), .int (0)])).length) Slot.unset).toArray = ls at hl ⊢
  have hl : lv_has ls 4 [(0, .ref st), (1, .ref ba), (2, .int (nI dp)), (3, .int (0))] := hl
  obtain ⟨v, hr1, hb1⟩ := hst.rd hts hK hE hW
  refine lv_aload_n hx hb dJ16_getBytes_0 rfl (lv_at hl 0 rfl) ?_
  refine g_calli (va_runV (As := []) (rest := []) ⟨hx, hb, hml, hown, hts⟩ (mtJ16_coder l D w s.heap.size st x hst) (cwV 0 hts (lw_V q743 q744 q745 q63 q746) rfl rfl rfl (by decide +kernel) ⟨Nat.le_of_ble_eq_true rfl, Nat.le_of_ble_eq_true rfl⟩) (g_preVR hW hK hE hr1.2.2.2) rfl rfl hl.1 rfl (lv_room (Nat.le_of_ble_eq_true rfl)) dJ16_getBytes_1 ⟨Nat.le_of_ble_eq_true rfl, Nat.le_of_ble_eq_true rfl⟩) hW (fun r_ u_ H locs hp hW => ?_)
  obtain ⟨er, rfl⟩ := hp
  subst er
  obtain ⟨v, hr1, hb1⟩ := hst.rd hts hK hE hW
  refine lv_iload_n hx hb dJ16_getBytes_4 rfl (lv_at hl 3 rfl) ?_
  refine lv_icmp_ne (tgt := 28) hx hb dJ16_getBytes_5 (by decide) (fun hd => ?_) (fun hd => ?_)
  · exact absurd rfl hd
  · refine lv_aload_n hx hb dJ16_getBytes_8 rfl (lv_at hl 0 rfl) ?_
    refine g_getR hx hb (hr1.1) hts hown q1038 (fun _ h9 => h9) dJ16_getBytes_9 ?_
    refine lv_iconst (v := 0) hx hb dJ16_getBytes_12 (by decide) ?_
    refine lv_aload_n hx hb dJ16_getBytes_13 rfl (lv_at hl 1 rfl) ?_
    refine lv_iload_n hx hb dJ16_getBytes_14 rfl (lv_at hl 2 rfl) ?_
    refine lv_iload_n hx hb dJ16_getBytes_15 rfl (lv_at hl 3 rfl) ?_
    refine lv_ishl hx hb dJ16_getBytes_16 ?_
    refine g_topi (y := nI dp) (sb_shl0 _) ?_
    refine lv_aload_n hx hb dJ16_getBytes_17 rfl (lv_at hl 0 rfl) ?_
    refine g_getR hx hb (hr1.1) hts hown q1038 (fun _ h9 => h9) dJ16_getBytes_18 ?_
    refine g_lenR hx hb (hr1.2.2.1) dJ16_getBytes_21 ?_
    refine g_copyB hx hb (hml.trans hl.1.symm) hts hown q945 hK hE hW hst.1 hb1 hba dp hdp (by omega) (Nat.le_of_ble_eq_true rfl) (Nat.le_of_ble_eq_true rfl) dJ16_getBytes_22 (fun g H locs hg hW => ?_)
    obtain ⟨w1, e1⟩ : ∃ z__, z__ = g_put w ba (.inl (D.1 101, cap, .inl g)) := ⟨_, rfl⟩
    have hW := g_W.ren hW e1 rfl
    refine lv_goto (tgt := 43) hx hb dJ16_getBytes_25 (by decide) ?_
    exact g_vret hx hb hr hlocks hW (⟨g, by rw [e1]; exact g_at.put_self hba.1, hg, by rw [e1]; exact g_ex.rf.put (fun _ => rfl)⟩) (by omega) (by omega) dJ16_getBytes_43
set_option maxHeartbeats 4000000 in
set_option maxRecDepth 100000 in
/-- AbstractStringBuilder.inflateIfNeededFor -/
theorem mtJ22_inflateIfNeededFor (l : Launch) (D : va_G) (w : g_H) (sz : Nat) (b ba cap : Nat) (ml : Int32) (t : List Nat) (hs : g_SB D w b ba ml t cap) (st : Nat) (x : List Nat) (hst : g_Str D w st x) : Met l yJ22_inflateIfNeededFor (ws_ yJ22_inflateIfNeededFor cJ22_inflateIfNeededFor 2 none) ({ frames := 2, cells := 0, slots := 0, locals := 32 }) (g_Pc D [.ref b, .ref st] w sz) (g_Qv D w sz (fun u => w = u)) (0) (0) (g_A w sz) := by
  refine Met.ofW (cc := cJ22_inflateIfNeededFor) (maxL := 2) (ret := none) (by decide) rfl ?_
  intro p e s m args below meth c s₁ B hml hv
  obtain ⟨rfl, hI⟩ := hv
  have hx := B.exec
  have hb := B.bytes
  have hr := B.returns
  have hts := atoms_spec (ws := ws_ yJ22_inflateIfNeededFor cJ22_inflateIfNeededFor 2 none) B.pre
  have hts : ∀ w ∈ lw_all, w.before _ s = true := fun w h => hts w (List.mem_cons_of_mem _ h)
  have hown : s.vm.findClass RJ22 = some m.cls := findClass_of_methodNamed B.named
  have hlocks := B.notSynchronized
  have hsz := hI.1
  subst hsz
  have hW := g_W.start hI
  have hK := g_K hI
  have hE := g_E hI
  have hl := lv_entry ([.ref b, .ref st]) (n := 2) (by exact Nat.le_of_ble_eq_true rfl)
  rw [lg_entry_eq]
  generalize (lg_sl ([.ref b, .ref st]) ++ List.replicate (2 - (lg_sl ([.ref b, .ref st])).length) Slot.unset).toArray = ls at hl ⊢
  have hl : lv_has ls 2 [(0, .ref b), (1, .ref st)] := hl
  have hs0 := hs
  obtain ⟨hs1, ⟨f, hs2, hs3, hs4⟩, hs5, hs6, hs7⟩ := hs0
  refine va_gets hx hb (hE.1) hW.2.2.1 hown (hts _ q839) (fun _ h9 => h9) dJ22_inflateIfNeededFor_0 ?_
  refine lv_if_eq (tgt := 21) hx hb dJ22_inflateIfNeededFor_3 (by decide) (fun hd => ?_) (fun hd => ?_)
  · exact absurd hd (by decide)
  · refine lv_aload_n hx hb dJ22_inflateIfNeededFor_6 rfl (lv_at hl 0 rfl) ?_
    refine g_get (ci := 15) (v := .int (0)) (C := RJ23) (T := TJ23) (N := 4) hx hb hts in_J23 hown hK hW hs1 rfl 1 (by decide) q848 (fun _ h9 => h9) rfl dJ22_inflateIfNeededFor_7 ?_
    refine lv_aload_n hx hb dJ22_inflateIfNeededFor_10 rfl (lv_at hl 1 rfl) ?_
    obtain ⟨v, hr1, hb1⟩ := hst.rd hts hK hE hW
    refine g_calli (va_runV (As := []) (rest := [.int (0)]) ⟨hx, hb, hml, hown, hts⟩ (mtJ16_coder l D w s.heap.size st x hst) (cwV 0 hts (lw_V q921 q744 q745 q63 q746) rfl rfl rfl (by decide +kernel) ⟨Nat.le_of_ble_eq_true rfl, Nat.le_of_ble_eq_true rfl⟩) (g_preVR hW hK hE hr1.2.2.2) rfl rfl hl.1 rfl (lv_room (Nat.le_of_ble_eq_true rfl)) dJ22_inflateIfNeededFor_11 ⟨Nat.le_of_ble_eq_true rfl, Nat.le_of_ble_eq_true rfl⟩) hW (fun r_ u_ H locs hp hW => ?_)
    obtain ⟨er, rfl⟩ := hp
    subst er
    refine lv_icmp_eq (tgt := 21) hx hb dJ22_inflateIfNeededFor_14 (by decide) (fun hd2 => ?_) (fun hd2 => ?_)
    · exact g_vret hx hb hr hlocks hW (rfl) (by omega) (by omega) dJ22_inflateIfNeededFor_21
    · exact absurd rfl hd2
set_option maxHeartbeats 4000000 in
set_option maxRecDepth 100000 in
/-- AbstractStringBuilder.putStringAt -/
theorem mtJ22_putStringAt (l : Launch) (D : va_G) (w : g_H) (sz : Nat) (b ba cap : Nat) (ml : Int32) (t : List Nat) (hs : g_SB D w b ba ml t cap) (f : Nat → Int32) (hf : g_at w ba (.inl (D.1 101, cap, .inl f))) (st : Nat) (x : List Nat) (hst : g_Str D w st x) (hq : t.length + x.length ≤ cap) : Met l yJ22_putStringAt (ws_ yJ22_putStringAt cJ22_putStringAt 3 none) ({ frames := 3, cells := 0, slots := 0, locals := 103 }) (g_Pc D [.ref b, .int (nI t.length), .ref st] w sz) (g_Qv D w sz (fun u => ∃ g : Nat → Int32, g_at u ba (.inl (D.1 101, cap, .inl g)) ∧ (∀ j, g j = if t.length ≤ j ∧ j < t.length + x.length then nI (x.getD (j - t.length) 0) else f j) ∧ g_ex (fun q => q = ba) w u)) (0) (0) (g_A w sz) := by
  refine Met.ofW (cc := cJ22_putStringAt) (maxL := 3) (ret := none) (by decide) rfl ?_
  intro p e s m args below meth c s₁ B hml hv
  obtain ⟨rfl, hI⟩ := hv
  have hx := B.exec
  have hb := B.bytes
  have hr := B.returns
  have hts := atoms_spec (ws := ws_ yJ22_putStringAt cJ22_putStringAt 3 none) B.pre
  have hts : ∀ w ∈ lw_all, w.before _ s = true := fun w h => hts w (List.mem_cons_of_mem _ h)
  have hown : s.vm.findClass RJ22 = some m.cls := findClass_of_methodNamed B.named
  have hlocks := B.notSynchronized
  have hsz := hI.1
  subst hsz
  have hW := g_W.start hI
  have hK := g_K hI
  have hE := g_E hI
  have hl := lv_entry ([.ref b, .int (nI t.length), .ref st]) (n := 3) (by exact Nat.le_of_ble_eq_true rfl)
  rw [lg_entry_eq]
  generalize (lg_sl ([.ref b, .int (nI t.length), .ref st]) ++ List.replicate (3 - (lg_sl ([.ref b, .int (nI t.length), .ref st])).length) Slot.unset).toArray = ls at hl ⊢
  have hl : lv_has ls 3 [(0, .ref b), (1, .int (nI t.length)), (2, .ref st)] := hl
  have hs9 := hs
  obtain ⟨hs1, -, hs5, hs6, hs7⟩ := hs
  refine lv_aload_n hx hb dJ22_putStringAt_0 rfl (lv_at hl 0 rfl) ?_
  refine lv_aload_n hx hb dJ22_putStringAt_1 rfl (lv_at hl 2 rfl) ?_
  refine g_callv (va_runV (As := [.ref st]) (rest := []) ⟨hx, hb, hml, hown, hts⟩ (mtJ22_inflateIfNeededFor l D w s.heap.size b ba cap ml t hs9 st x hst) (g_cwP 1 hts q917 q919 q69 q920 (g_selP (by decide) (hts _ q831) (va_Nw.use rfl (pv_q918 hE)) (hts _ q919) (hts _ q895) rfl) rfl rfl (by decide +kernel) ⟨Nat.le_of_ble_eq_true rfl, Nat.le_of_ble_eq_true rfl⟩) (g_preV hW hK hE hs1 rfl) rfl rfl hl.1 rfl (lv_room (Nat.le_of_ble_eq_true rfl)) dJ22_putStringAt_2 ⟨Nat.le_of_ble_eq_true rfl, Nat.le_of_ble_eq_true rfl⟩) hW (fun u_ H locs hp hW => ?_)
  subst hp
  refine lv_aload_n hx hb dJ22_putStringAt_5 rfl (lv_at hl 2 rfl) ?_
  refine lv_aload_n hx hb dJ22_putStringAt_6 rfl (lv_at hl 0 rfl) ?_
  refine g_get (ci := 15) (v := .ref ba) (C := RJ23) (T := TJ23) (N := 4) hx hb hts in_J23 hown hK hW hs1 rfl 0 (by decide) q847 (fun _ h9 => h9) rfl dJ22_putStringAt_7 ?_
  refine lv_iload_n hx hb dJ22_putStringAt_10 rfl (lv_at hl 1 rfl) ?_
  refine lv_aload_n hx hb dJ22_putStringAt_11 rfl (lv_at hl 0 rfl) ?_
  refine g_get (ci := 15) (v := .int (0)) (C := RJ23) (T := TJ23) (N := 4) hx hb hts in_J23 hown hK hW hs1 rfl 1 (by decide) q848 (fun _ h9 => h9) rfl dJ22_putStringAt_12 ?_
  obtain ⟨v, hr1, hb1⟩ := hst.rd hts hK hE hW
  refine g_callv (va_runV (As := [.ref ba, .int (nI t.length), .int (0)]) (rest := []) ⟨hx, hb, hml, hown, hts⟩ (mtJ16_getBytes l D w H.size st ba cap t.length f x hst hf hq hs6) (cwV 3 hts (lw_V q941 q942 q943 q63 q944) rfl rfl rfl (by decide +kernel) ⟨Nat.le_of_ble_eq_true rfl, Nat.le_of_ble_eq_true rfl⟩) (g_preVR hW hK hE hr1.2.2.2) rfl rfl hl.1 rfl (lv_room (Nat.le_of_ble_eq_true rfl)) dJ22_putStringAt_15 ⟨Nat.le_of_ble_eq_true rfl, Nat.le_of_ble_eq_true rfl⟩) hW (fun u_ H locs hp hW => ?_)
  exact g_vret hx hb hr hlocks hW (hp) (by omega) (by omega) dJ22_putStringAt_18
set_option maxHeartbeats 4000000 in
set_option maxRecDepth 100000 in
/-- AbstractStringBuilder.append(String) -/
theorem mtJ22_append (l : Launch) (D : va_G) (w : g_H) (sz : Nat) (b ba cap : Nat) (ml : Int32) (t : List Nat) (hs : g_SB D w b ba ml t cap) (st : Nat) (x : List Nat) (hst : g_Str D w st x) (hq : t.length + x.length ≤ 65536) (hq2 : g_cn (t.length + x.length) cap ≤ 65536) : Met l yJ22_append (ws_ yJ22_append cJ22_append 3 (some (.object "java/lang/AbstractStringBuilder"))) ({ frames := 5, cells := g_cc (t.length + x.length) cap, slots := g_cs (t.length + x.length) cap, locals := 125 }) (g_Pc D [.ref b, .ref st] w sz) (g_Qq D w sz (fun r u => ∃ bb, r = some b ∧ g_SB D u b bb ml (t ++ x) (g_cn (t.length + x.length) cap) ∧ (bb = ba ∨ bb ∉ w.1) ∧ g_ex (fun z => z = b ∨ z = ba) w u)) (g_cc (t.length + x.length) cap) (g_cs (t.length + x.length) cap) (g_A w sz) := by
  refine Met.ofW (cc := cJ22_append) (maxL := 3) (ret := (some (.object "java/lang/AbstractStringBuilder"))) (by decide) rfl ?_
  intro p e s m args below meth c s₁ B hml hv
  obtain ⟨rfl, hI⟩ := hv
  have hx := B.exec
  have hb := B.bytes
  have hr := B.returns
  have hts := atoms_spec (ws := ws_ yJ22_append cJ22_append 3 (some (.object "java/lang/AbstractStringBuilder"))) B.pre
  have hts : ∀ w ∈ lw_all, w.before _ s = true := fun w h => hts w (List.mem_cons_of_mem _ h)
  have hown : s.vm.findClass RJ22 = some m.cls := findClass_of_methodNamed B.named
  have hlocks := B.notSynchronized
  have hsz := hI.1
  subst hsz
  have hW := g_W.start hI
  have hK := g_K hI
  have hE := g_E hI
  have hl := lv_entry ([.ref b, .ref st]) (n := 3) (by exact Nat.le_of_ble_eq_true rfl)
  rw [lg_entry_eq]
  generalize (lg_sl ([.ref b, .ref st]) ++ List.replicate (3 - (lg_sl ([.ref b, .ref st])).length) Slot.unset).toArray = ls at hl ⊢
  have hl : lv_has ls 3 [(0, .ref b), (1, .ref st)] := hl
  have hs0 := hs
  obtain ⟨hs1, ⟨f, hs2, hs3, hs4⟩, hs5, hs6, hs7⟩ := hs0
  refine lv_aload_n hx hb dJ22_append_0 rfl (lv_at hl 1 rfl) ?_
  refine lv_ifnonnull (tgt := 9) hx hb dJ22_append_1 (by decide) ?_
  refine lv_aload_n hx hb dJ22_append_9 rfl (lv_at hl 1 rfl) ?_
  obtain ⟨v, hr1, hb1⟩ := hst.rd hts hK hE hW
  refine g_calli (va_runV (As := []) (rest := []) ⟨hx, hb, hml, hown, hts⟩ (mtJ16_length l D w s.heap.size st x hst) (cwV 0 hts (lw_V q912 q740 q741 q63 q742) rfl rfl rfl (by decide +kernel) ⟨Nat.le_of_ble_eq_true rfl, Nat.le_of_ble_eq_true rfl⟩) (g_preVR hW hK hE hr1.2.2.2) rfl rfl hl.1 rfl (lv_room (Nat.le_of_ble_eq_true rfl)) dJ22_append_10 ⟨?_, ?_⟩) hW (fun r_ u_ H locs hp hW => ?_)
  · (try simp only [headSpec]); omega
  · (try simp only [headSpec]); omega
  obtain ⟨er, rfl⟩ := hp
  subst er
  refine lv_istore_n (lv' := [(2, .int (nI x.length)), (0, .ref b), (1, .ref st)]) hx hb dJ22_append_13 rfl hl (by decide) rfl (fun ls hl => ?_)
  refine lv_aload_n hx hb dJ22_append_14 rfl (lv_at hl 1 rfl) ?_
  refine lv_aload_n hx hb dJ22_append_15 rfl (lv_at hl 1 rfl) ?_
  refine g_get (ci := 15) (v := .int (nI t.length)) (C := RJ23) (T := TJ23) (N := 4) hx hb hts in_J23 hown hK hW hs1 rfl 3 (by decide) q850 (fun _ h9 => h9) rfl dJ22_append_16 ?_
  refine lv_iload_n hx hb dJ22_append_19 rfl (lv_at hl 0 rfl) ?_
  refine lv_iadd hx hb dJ22_append_20 ?_
  refine g_topi (y := nI (t.length + x.length)) (nI_add _ _) ?_
  refine g_callv (va_runV (As := [.int (nI (t.length + x.length))]) (rest := []) ⟨hx, hb, hml, hown, hts⟩ (mtJ22_ensureCapacityInternal l D w H.size b ba cap ml t hs (t.length + x.length) hq hq2) (g_cwP 1 hts q872 q874 q69 q875 (g_selP (by decide) (hts _ q831) (va_Nw.use rfl (pv_q873 hE)) (hts _ q874) (hts _ q895) rfl) rfl rfl (by decide +kernel) ⟨Nat.le_of_ble_eq_true rfl, Nat.le_of_ble_eq_true rfl⟩) (g_preV hW hK hE hs1 rfl) rfl rfl hl.1 rfl (lv_room (Nat.le_of_ble_eq_true rfl)) dJ22_append_21 ⟨?_, ?_⟩) hW (fun u1 H locs hp hW => ?_)
  · (try simp only [headSpec]); omega
  · (try simp only [headSpec]); omega
  obtain ⟨bb, hsb, hbb, hex⟩ := hp
  have hs0 := hsb
  obtain ⟨k1, ⟨g, k2, k3, k4⟩, k5, k6, k7⟩ := hs0
  have k8 := g_cn_le (t.length + x.length) cap
  have hst1 : g_Str D u1 st x := hst.ex hex (fun z _ hz => by subst hz; rw [hs1.2]; exact ⟨(fun _ z => by cases z), (fun _ z => by cases z)⟩)
  refine lv_aload_n hx hb dJ22_append_24 rfl (lv_at hl 1 rfl) ?_
  refine lv_aload_n hx hb dJ22_append_25 rfl (lv_at hl 1 rfl) ?_
  refine g_get (ci := 15) (v := .int (nI t.length)) (C := RJ23) (T := TJ23) (N := 4) hx hb hts in_J23 hown hK hW k1 rfl 3 (by decide) q850 (fun _ h9 => h9) rfl dJ22_append_26 ?_
  refine lv_aload_n hx hb dJ22_append_29 rfl (lv_at hl 2 rfl) ?_
  refine g_callv (va_runV (As := [.int (nI t.length), .ref st]) (rest := []) ⟨hx, hb, hml, hown, hts⟩ (mtJ22_putStringAt l D u1 H.size b bb (g_cn (t.length + x.length) cap) ml t hsb g k2 st x hst1 k8) (g_cwP 2 hts q913 q915 q69 q916 (g_selP (by decide) (hts _ q831) (va_Nw.use rfl (pv_q914 hE)) (hts _ q915) (hts _ q895) rfl) rfl rfl (by decide +kernel) ⟨Nat.le_of_ble_eq_true rfl, Nat.le_of_ble_eq_true rfl⟩) (g_preV hW hK hE k1 rfl) rfl rfl hl.1 rfl (lv_room (Nat.le_of_ble_eq_true rfl)) dJ22_append_30 ⟨?_, ?_⟩) hW (fun u2 H locs hp hW => ?_)
  · (try simp only [headSpec]); omega
  · (try simp only [headSpec]); omega
  obtain ⟨g2, hg2, hg3, hex2⟩ := hp
  have j1 := hex2.at k1 (fun z => g_neOA k1 k2 z)
  have hx0 : g_ex (fun z => z = b ∨ z = ba) w u2 := (hex.mono (fun _ _ z => Or.inl z)).trM hex2 (fun a ha z => Or.inr (hbb.elim (fun q => z.trans q) (fun q => absurd (z ▸ ha) q)))
  refine lv_aload_n hx hb dJ22_append_33 rfl (lv_at hl 1 rfl) ?_
  refine lv_dup hx hb dJ22_append_34 rfl ?_
  refine g_get (ci := 15) (v := .int (nI t.length)) (C := RJ23) (T := TJ23) (N := 4) hx hb hts in_J23 hown hK hW j1 rfl 3 (by decide) q850 (fun _ h9 => h9) rfl dJ22_append_35 ?_
  refine lv_iload_n hx hb dJ22_append_38 rfl (lv_at hl 0 rfl) ?_
  refine lv_iadd hx hb dJ22_append_39 ?_
  refine g_topi (y := nI (t ++ x).length) (by rw [List.length_append]; exact nI_add _ _) ?_
  refine g_putf (ci := 15) (v := .int (nI (t ++ x).length)) (ty := .int) (C := RJ23) (T := TJ23) (N := 4) hx hb hts in_J23 tyJ23 tyJ23_ok nmJ23 hown hK hW j1 rfl 3 (by decide) q850 (fun _ h9 => h9) rfl (by decide +kernel) rfl rfl (Nat.le_of_ble_eq_true rfl) dJ22_append_40 (fun H locs hW => ?_)
  obtain ⟨w_1, ew_1⟩ : ∃ z__, z__ = g_put u2 b (.inr (15, [.ref bb, .int (0), .int (ml), .int (nI (t ++ x).length)])) := ⟨_, rfl⟩
  have hW := g_W.ren hW ew_1 rfl
  have h_2 : g_at w_1 b (.inr (15, [.ref bb, .int (0), .int (ml), .int (nI (t ++ x).length)])) := by rw [ew_1]; exact g_at.put_self j1.1
  have h_3 : g_at w_1 bb (.inl (D.1 101, (g_cn (t.length + x.length) cap), .inl (g2))) := by rw [ew_1]; exact hg2.put (g_neAO hg2 j1)
  have x_4 : g_ex (fun z => z = b ∨ z = ba) w w_1 := by rw [ew_1]; exact hx0.put (fun hz9 => (Or.inl rfl))
  refine lv_aload_n hx hb dJ22_append_43 rfl (lv_at hl 1 rfl) ?_
  refine g_qret (v := some b) hx hb hr (Or.inl ⟨_, rfl⟩) hlocks hW (⟨bb, rfl, ⟨h_2, ⟨g2, h_3, g_SB.str k3 hg3, fun j hj => ?_⟩, by rw [List.length_append]; exact k8, k6, fun z hz => ?_⟩, hbb, x_4⟩) (by omega) (by omega) dJ22_append_44
  · rw [hg3 j]; split
    · exact c_fit _ hst.1.lt
    · exact k4 j hj
  · rcases List.mem_append.mp hz with q | q
    · exact hs7 z q
    · exact hst.1.2 z q
set_option maxHeartbeats 4000000 in
set_option maxRecDepth 100000 in
/-- StringBuilder.append(String) -/
theorem mtJ23_append (l : Launch) (D : va_G) (w : g_H) (sz : Nat) (b ba cap : Nat) (ml : Int32) (t : List Nat) (hs : g_SB D w b ba ml t cap) (st : Nat) (x : List Nat) (hst : g_Str D w st x) (hq : t.length + x.length ≤ 65536) (hq2 : g_cn (t.length + x.length) cap ≤ 65536) : Met l yJ23_append (ws_ yJ23_append cJ23_append 2 (some (.object "java/lang/StringBuilder"))) ({ frames := 6, cells := g_cc (t.length + x.length) cap, slots := g_cs (t.length + x.length) cap, locals := 147 }) (g_Pc D [.ref b, .ref st] w sz) (g_Qq D w sz (fun r u => ∃ bb, r = some b ∧ g_SB D u b bb ml (t ++ x) (g_cn (t.length + x.length) cap) ∧ (bb = ba ∨ bb ∉ w.1) ∧ g_ex (fun z => z = b ∨ z = ba) w u)) (g_cc (t.length + x.length) cap) (g_cs (t.length + x.length) cap) (g_A w sz) := by
  refine Met.ofW (cc := cJ23_append) (maxL := 2) (ret := (some (.object "java/lang/StringBuilder"))) (by decide) rfl ?_
  intro p e s m args below meth c s₁ B hml hv
  obtain ⟨rfl, hI⟩ := hv
  have hx := B.exec
  have hb := B.bytes
  have hr := B.returns
  have hts := atoms_spec (ws := ws_ yJ23_append cJ23_append 2 (some (.object "java/lang/StringBuilder"))) B.pre
  have hts : ∀ w ∈ lw_all, w.before _ s = true := fun w h => hts w (List.mem_cons_of_mem _ h)
  have hown : s.vm.findClass RJ23 = some m.cls := findClass_of_methodNamed B.named
  have hlocks := B.notSynchronized
  have hsz := hI.1
  subst hsz
  have hW := g_W.start hI
  have hK := g_K hI
  have hE := g_E hI
  have hl := lv_entry ([.ref b, .ref st]) (n := 2) (by exact Nat.le_of_ble_eq_true rfl)
  rw [lg_entry_eq]
  generalize (lg_sl ([.ref b, .ref st]) ++ List.replicate (2 - (lg_sl ([.ref b, .ref st])).length) Slot.unset).toArray = ls at hl ⊢
  have hl : lv_has ls 2 [(0, .ref b), (1, .ref st)] := hl
  refine lv_aload_n hx hb dJ23_append_0 rfl (lv_at hl 0 rfl) ?_
  refine lv_aload_n hx hb dJ23_append_1 rfl (lv_at hl 1 rfl) ?_
  refine g_callq (va_runSU (cC := D.1 15) (hK.1 15 _ rfl).2 (As := [.ref st]) (rest := []) ⟨hx, hb, hml, hown, hts⟩ (mtJ22_append l D w s.heap.size b ba cap ml t hs st x hst hq hq2) (va_cwSU 1 hts (lw_app (lw_in _ [865, 2224, 859, 866, 69] (by decide +kernel) (by decide +kernel)) (lw_meth q867)) rfl rfl rfl (by decide +kernel) ⟨Nat.le_of_ble_eq_true rfl, Nat.le_of_ble_eq_true rfl⟩) (g_preV hW hK hE hs.1 rfl) rfl rfl hl.1 rfl (lv_room (Nat.le_of_ble_eq_true rfl)) dJ23_append_2 ⟨?_, ?_⟩) hW (fun r_ u1 H locs hp hW => ?_)
  · (try simp only [headSpec]); omega
  · (try simp only [headSpec]); omega
  obtain ⟨bb, er, h1, h2, h3⟩ := hp
  subst er
  refine lv_pop hx hb dJ23_append_5 rfl ?_
  refine lv_aload_n hx hb dJ23_append_6 rfl (lv_at hl 0 rfl) ?_
  exact g_qret (v := some b) hx hb hr (Or.inl ⟨_, rfl⟩) hlocks hW (⟨bb, rfl, h1, h2, h3⟩) (by omega) (by omega) dJ23_append_7
