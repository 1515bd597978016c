/-! the JDK: StringBuilder, part 2 -/
set_option maxRecDepth 100000
theorem c_i2b : ∀ c, c < 128 → (nI c).toInt8.toInt32 = nI c := by decide +kernel
theorem g_cn_le (q m : Nat) : q ≤ g_cn q m := by
  unfold g_cn
  split <;> omega
theorem g_is_snoc {f : Nat → Int32} {t : List Nat} {ch : Nat} (h : g_is f t) : g_is (upd f t.length (nI ch)) (t ++ [ch]) := by
  intro j hj
  rw [List.length_append] at hj
  by_cases q : j = t.length
  · subst q; rw [pk_us, List.getD_eq_getElem?_getD, List.getElem?_append_right (Nat.le_refl _), Nat.sub_self]; rfl
  · have hl : j < t.length := by simp at hj; omega
    rw [pk_un q, h j hl, List.getD_eq_getElem?_getD, List.getD_eq_getElem?_getD, List.getElem?_append_left hl]
theorem g_fit_upd {n i : Nat} {f : Nat → Int32} {x : Int32} (h : g_fit n f) (hx : fits .byte (.int x) = true) : g_fit n (upd f i x) := by
  intro j hj
  by_cases q : j = i
  · subst q; rw [pk_us]; exact hx
  · rw [pk_un q]; exact h j hj
section GB2
variable {p : Program} {l : Launch} {e : Env} {R : Room} {s : State} {m : MethodId} {args : Array Value} {below : List Frame} {meth : Method} {c : Code} {H : Heap} {locs : List Loc} {cells slots : Nat} {Q : State → Prop}
variable {cc : ByteArray} {pc : Nat} {ls : Array Slot} {rest : List Value} {D : va_G} {A : Nat → Prop} {a : Nat} {w : g_H} {H0 : Heap}
theorem g_bastN (hx : p.tables.exec = Jvm.exec) (hb : c.code = cc) (hK : va_K D gCl (gT D) s) (hW : g_W D A H0 H locs w) {n i : Nat} {f : Nat → Int32} (he : g_at w a (.inl (D.1 101, n, .inl f))) {ch : Nat} (hi : i < n) (hn : n < 2 ^ 31) (hch : ch < 128) (hdg : decode cc pc = .ok (.bastore, 1))
    (kk : ∀ (H1 : Heap) (locs1 : List Loc), g_W D A H0 H1 locs1 (g_put w a (.inl (D.1 101, n, .inl (upd f i (nI ch))))) → W p l e R s m args below meth c H1 locs1 cells slots Q (F0 m (pc + 1) ls rest)) : W p l e R s m args below meth c H locs cells slots Q (F0 m pc ls (.int (nI ch) :: .int (nI i) :: .ref a :: rest)) :=
  g_bast hx hb hK hW he (vp_in_nI hi hn) hdg (by rw [nI_clamp (by omega), c_nb ch hch]; exact kk)
end GB2
set_option maxHeartbeats 4000000 in
set_option maxRecDepth 100000 in
/-- AbstractStringBuilder.<init>(int) -/
theorem mtJ22_init (l : Launch) (D : va_G) (w : g_H) (sz : Nat) (b q : Nat) (ml : Int32) (hb0 : g_at w b (.inr (15, [.null, .int 0, .int ml, .int 0]))) (hq : q ≤ 65536) : Met l yJ22_init (ws_ yJ22_init cJ22_init 2 none) ({ frames := 1, cells := 1, slots := q, locals := 12 }) (g_Pc D [.ref b, .int (nI q)] w sz) (g_Qv D w sz (fun u => ∃ ba, ba ∉ w.1 ∧ g_SB D u b ba ml [] q ∧ g_ex (fun z => z = b) w u)) (1) (q) (g_A w sz) := by
  refine Met.ofW (cc := cJ22_init) (maxL := 2) (ret := none) (by decide) rfl ?_
  intro p e s m args below meth c s₁ B hml hv
  obtain ⟨rfl, hI⟩ := hv
  have hx := B.exec
  have hb := B.bytes
  have hr := B.returns
  have hts := atoms_spec (ws := ws_ yJ22_init cJ22_init 2 none) B.pre
  have hts : ∀ w ∈ lw_all, w.before _ s = true := fun w h => hts w (List.mem_cons_of_mem _ h)
  have hown : s.vm.findClass RJ22 = some m.cls := findClass_of_methodNamed B.named
  have hlocks := B.notSynchronized
  have hin : meth.name = "<init>" := (name_of_methodNamed B.named B.method).1
  have hsz := hI.1
  subst hsz
  have hW := g_W.start hI
  have hK := g_K hI
  have hE := g_E hI
  have hl := lv_entry ([.ref b, .int (nI q)]) (n := 2) (by exact Nat.le_of_ble_eq_true rfl)
  rw [lg_entry_eq]
  generalize (lg_sl ([.ref b, .int (nI q)]) ++ List.replicate (2 - (lg_sl ([.ref b, .int (nI q)])).length) Slot.unset).toArray = ls at hl ⊢
  have hl : lv_has ls 2 [(0, .ref b), (1, .int (nI q))] := hl
  have x_1 : g_ex (fun q => q = b) w w := g_ex.rf
  refine lv_aload_n hx hb dJ22_init_0 rfl (lv_at hl 0 rfl) ?_
  refine W.objInit hx hb hown (hts _ q838) (hts _ q104) (hts _ q105) rfl (by rw [hml]; exact hl.1) rfl dJ22_init_1 (Nat.le_of_ble_eq_true rfl) (Nat.le_of_ble_eq_true rfl) ?_
  refine W.eq (g2 := F0 m 4 ls []) rfl ?_
  refine va_gets hx hb (hE.1) hW.2.2.1 hown (hts _ q839) (fun _ h9 => h9) dJ22_init_4 ?_
  have hq9 := hq
  refine lv_if_eq (tgt := 25) hx hb dJ22_init_7 (by decide) (fun hc => ?_) (fun hc => ?_)
  · exact absurd hc (by decide)
  · refine lv_aload_n hx hb dJ22_init_10 rfl (lv_at hl 0 rfl) ?_
    refine lv_iload_n hx hb dJ22_init_11 rfl (lv_at hl 1 rfl) ?_
    refine g_newa (k := 1) (atype := .byte) (ty := .byte) (cB := D.1 101) hx hb rfl (hts _ q502) hK hW rfl q (q, .inl (fun _ => 0)) (fun _ => rfl) (nI_pos (by omega)) (nI_clamp (by omega)) (by show q * 1 ≤ _; omega) (by show _ ≤ 1; omega) (by show _ ≤ q; omega) dJ22_init_12 (fun q_2 H hq hW => ?_)
    have hq_2 := hq
    obtain ⟨w_3, ew_3⟩ : ∃ z__, z__ = g_push w q_2 (.inl (D.1 101, q, .inl ((fun _ => 0)))) := ⟨_, rfl⟩
    have hW := g_W.ren hW ew_3 rfl
    have h_4 : g_at w_3 b (.inr (15, [.null, .int (0), .int (ml), .int (0)])) := by rw [ew_3]; exact hb0.push hq
    have h_5 : g_at w_3 q_2 (.inl (D.1 101, q, .inl ((fun _ => 0)))) := by rw [ew_3]; exact g_at.push_self
    have x_6 : g_ex (fun q => q = b) w w_3 := by rw [ew_3]; exact x_1.push hq
    refine g_putf (ci := 15) (v := .ref q_2) (ty := (.array .byte)) (C := RJ23) (T := TJ23) (N := 4) hx hb hts in_J23 tyJ23 tyJ23_ok nmJ23 hown hK hW h_4 rfl 0 (by decide) q847 (fun _ h9 => h9) rfl (by decide +kernel) rfl rfl (Nat.le_of_ble_eq_true rfl) dJ22_init_14 (fun H locs hW => ?_)
    obtain ⟨w_7, ew_7⟩ : ∃ z__, z__ = g_put w_3 b (.inr (15, [.ref q_2, .int (0), .int (ml), .int (0)])) := ⟨_, rfl⟩
    have hW := g_W.ren hW ew_7 rfl
    have h_8 : g_at w_7 b (.inr (15, [.ref q_2, .int (0), .int (ml), .int (0)])) := by rw [ew_7]; exact g_at.put_self h_4.1
    have h_9 : g_at w_7 q_2 (.inl (D.1 101, q, .inl ((fun _ => 0)))) := by rw [ew_7]; exact h_5.put (g_neAO h_5 h_4)
    have x_10 : g_ex (fun q => q = b) w w_7 := by rw [ew_7]; exact x_6.put (fun hz9 => rfl)
    refine lv_aload_n hx hb dJ22_init_17 rfl (lv_at hl 0 rfl) ?_
    refine lv_iconst (v := 0) hx hb dJ22_init_18 (by decide) ?_
    refine g_putf (ci := 15) (v := .int (0)) (ty := .byte) (C := RJ23) (T := TJ23) (N := 4) hx hb hts in_J23 tyJ23 tyJ23_ok nmJ23 hown hK hW h_8 rfl 1 (by decide) q848 (fun _ h9 => h9) rfl (by decide +kernel) rfl rfl (Nat.le_of_ble_eq_true rfl) dJ22_init_19 (fun H locs hW => ?_)
    obtain ⟨w_11, ew_11⟩ : ∃ z__, z__ = g_put w_7 b (.inr (15, [.ref q_2, .int (0), .int (ml), .int (0)])) := ⟨_, rfl⟩
    have hW := g_W.ren hW ew_11 rfl
    have h_12 : g_at w_11 b (.inr (15, [.ref q_2, .int (0), .int (ml), .int (0)])) := by rw [ew_11]; exact g_at.put_self h_8.1
    have h_13 : g_at w_11 q_2 (.inl (D.1 101, q, .inl ((fun _ => 0)))) := by rw [ew_11]; exact h_9.put (g_neAO h_9 h_8)
    have x_14 : g_ex (fun q => q = b) w w_11 := by rw [ew_11]; exact x_10.put (fun hz9 => rfl)
    refine lv_goto (tgt := 38) hx hb dJ22_init_22 (by decide) ?_
    exact g_vret hx hb hr hlocks hW (⟨q_2, hq_2, ⟨h_12, ⟨fun _ => 0, h_13, fun j hj => absurd hj (by simp), g_fit0⟩, by simp, hq9, by simp⟩, x_14⟩) (by omega) (by omega) dJ22_init_38
set_option maxHeartbeats 4000000 in
set_option maxRecDepth 100000 in
/-- AbstractStringBuilder.ensureCapacityInternal -/
theorem mtJ22_ensureCapacityInternal (l : Launch) (D : va_G) (w : g_H) (sz : Nat) (b ba cap : Nat) (ml : Int32) (t : List Nat) (hs : g_SB D w b ba ml t cap) (q : Nat) (hq : q ≤ 65536) (hq2 : g_cn q cap ≤ 65536) : Met l yJ22_ensureCapacityInternal (ws_ yJ22_ensureCapacityInternal cJ22_ensureCapacityInternal 3 none) ({ frames := 4, cells := g_cc q cap, slots := g_cs q cap, locals := 102 }) (g_Pc D [.ref b, .int (nI q)] w sz) (g_Qv D w sz (fun u => ∃ bb, g_SB D u b bb ml t (g_cn q cap) ∧ (bb = ba ∨ bb ∉ w.1) ∧ g_ex (fun z => z = b) w u)) (g_cc q cap) (g_cs q cap) (g_A w sz) := by
  refine Met.ofW (cc := cJ22_ensureCapacityInternal) (maxL := 3) (ret := none) (by decide) rfl ?_
  intro p e s m args below meth c s₁ B hml hv
  obtain ⟨rfl, hI⟩ := hv
  have hx := B.exec
  have hb := B.bytes
  have hr := B.returns
  have hts := atoms_spec (ws := ws_ yJ22_ensureCapacityInternal cJ22_ensureCapacityInternal 3 none) B.pre
  have hts : ∀ w ∈ lw_all, w.before _ s = true := fun w h => hts w (List.mem_cons_of_mem _ h)
  have hown : s.vm.findClass RJ22 = some m.cls := findClass_of_methodNamed B.named
  have hlocks := B.notSynchronized
  have hsz := hI.1
  subst hsz
  have hW := g_W.start hI
  have hK := g_K hI
  have hE := g_E hI
  have hl := lv_entry ([.ref b, .int (nI q)]) (n := 3) (by exact Nat.le_of_ble_eq_true rfl)
  rw [lg_entry_eq]
  generalize (lg_sl ([.ref b, .int (nI q)]) ++ List.replicate (3 - (lg_sl ([.ref b, .int (nI q)])).length) Slot.unset).toArray = ls at hl ⊢
  have hl : lv_has ls 3 [(0, .ref b), (1, .int (nI q))] := hl
  have hs0 := hs
  obtain ⟨hs1, ⟨f, hs2, hs3, hs4⟩, hs5, hs6, hs7⟩ := hs0
  refine lv_aload_n hx hb dJ22_ensureCapacityInternal_0 rfl (lv_at hl 0 rfl) ?_
  refine g_get (ci := 15) (v := .ref ba) (C := RJ23) (T := TJ23) (N := 4) hx hb hts in_J23 hown hK hW hs1 rfl 0 (by decide) q847 (fun _ h9 => h9) rfl dJ22_ensureCapacityInternal_1 ?_
  refine g_alen hx hb hK hW 1 hs2 rfl dJ22_ensureCapacityInternal_4 ?_
  refine g_topi (y := nI cap) (rfl) ?_
  refine lv_aload_n hx hb dJ22_ensureCapacityInternal_5 rfl (lv_at hl 0 rfl) ?_
  refine g_get (ci := 15) (v := .int (0)) (C := RJ23) (T := TJ23) (N := 4) hx hb hts in_J23 hown hK hW hs1 rfl 1 (by decide) q848 (fun _ h9 => h9) rfl dJ22_ensureCapacityInternal_6 ?_
  refine lv_ishr hx hb dJ22_ensureCapacityInternal_9 ?_
  refine g_topi (y := nI cap) (sb_shr0 _) ?_
  refine lv_istore_n (lv' := [(2, .int (nI cap)), (0, .ref b), (1, .int (nI q))]) hx hb dJ22_ensureCapacityInternal_10 rfl hl (by decide) rfl (fun ls hl => ?_)
  refine lv_iload_n hx hb dJ22_ensureCapacityInternal_11 rfl (lv_at hl 2 rfl) ?_
  refine lv_iload_n hx hb dJ22_ensureCapacityInternal_12 rfl (lv_at hl 0 rfl) ?_
  refine lv_isub hx hb dJ22_ensureCapacityInternal_13 ?_
  refine lv_if_le (tgt := 38) hx hb dJ22_ensureCapacityInternal_14 (by decide) (fun hc => ?_) (fun hc => ?_)
  · have hqc := (c_subLe (by omega) (by omega)).mp hc
    have hcn : g_cn q cap = cap := if_pos hqc
    exact g_vret hx hb hr hlocks hW (⟨ba, by rw [hcn]; exact hs, Or.inl rfl, g_ex.rf⟩) (by omega) (by omega) dJ22_ensureCapacityInternal_38
  · have hqc : cap < q := Nat.not_le.mp (fun z => hc ((c_subLe (by omega) (by omega)).mpr z))
    have hcn : g_cn q cap = cap + max (q - cap) (cap + 2) := if_neg (by omega)
    have hcc : g_cc q cap = 1 := if_neg (by omega)
    have hcs : g_cs q cap = cap + max (q - cap) (cap + 2) := if_neg (by omega)
    refine lv_aload_n hx hb dJ22_ensureCapacityInternal_17 rfl (lv_at hl 1 rfl) ?_
    refine lv_aload_n hx hb dJ22_ensureCapacityInternal_18 rfl (lv_at hl 1 rfl) ?_
    refine g_get (ci := 15) (v := .ref ba) (C := RJ23) (T := TJ23) (N := 4) hx hb hts in_J23 hown hK hW hs1 rfl 0 (by decide) q847 (fun _ h9 => h9) rfl dJ22_ensureCapacityInternal_19 ?_
    refine lv_aload_n hx hb dJ22_ensureCapacityInternal_22 rfl (lv_at hl 1 rfl) ?_
    refine lv_iload_n hx hb dJ22_ensureCapacityInternal_23 rfl (lv_at hl 2 rfl) ?_
    refine g_calli (va_runV (As := [.int (nI q)]) (rest := [.ref ba, .ref b]) ⟨hx, hb, hml, hown, hts⟩ (mtJ22_newCapacity l D w s.heap.size b ba cap ml t hs q hqc (by omega)) (g_cwP 1 hts q876 q878 q69 q879 (g_selP (by decide) (hts _ q831) (va_Nw.use rfl (pv_q877 hE)) (hts _ q878) (hts _ q895) rfl) rfl rfl (by decide +kernel) ⟨Nat.le_of_ble_eq_true rfl, Nat.le_of_ble_eq_true rfl⟩) (g_preV hW hK hE hs1 rfl) rfl rfl hl.1 rfl (lv_room (Nat.le_of_ble_eq_true rfl)) dJ22_ensureCapacityInternal_24 ⟨?_, ?_⟩) hW (fun r_ u_ H locs hp hW => ?_)
    · show _ ≤ g_cc q cap; omega
    · show _ ≤ g_cs q cap; omega
    obtain ⟨er, rfl⟩ := hp
    subst er
    refine lv_aload_n hx hb dJ22_ensureCapacityInternal_27 rfl (lv_at hl 1 rfl) ?_
    refine g_get (ci := 15) (v := .int (0)) (C := RJ23) (T := TJ23) (N := 4) hx hb hts in_J23 hown hK hW hs1 rfl 1 (by decide) q848 (fun _ h9 => h9) rfl dJ22_ensureCapacityInternal_28 ?_
    refine lv_ishl hx hb dJ22_ensureCapacityInternal_31 ?_
    refine g_topi (y := nI (cap + max (q - cap) (cap + 2))) (sb_shl0 _) ?_
    refine g_callq (va_runS (As := [.ref ba, .int (nI (cap + max (q - cap) (cap + 2)))]) (rest := [.ref b]) ⟨hx, hb, hml, hown, hts⟩ (mtJ8_copyOf_3 l D w H.size ba cap (cap + max (q - cap) (cap + 2)) f hs2 hs4 (by omega) (by omega)) (va_cwS 2 hts (lw_S q882 q883 q44 q884) rfl rfl rfl (by decide +kernel) ⟨Nat.le_of_ble_eq_true rfl, Nat.le_of_ble_eq_true rfl⟩) (g_preS hW hK hE) rfl rfl hl.1 rfl (lv_room (Nat.le_of_ble_eq_true rfl)) dJ22_ensureCapacityInternal_32 ⟨?_, ?_⟩) hW (fun r_ u_ H locs hp hW => ?_)
    · show _ ≤ g_cc q cap; omega
    · show _ ≤ g_cs q cap; omega
    obtain ⟨x, er, hxn, ⟨g, hg1, hg2, hg3⟩, hex⟩ := hp
    subst er
    have k1 := hex.at hs1 (fun z => z)
    have hx0 : g_ex (fun z => z = b) w u_ := hex.mono (fun _ _ z => z.elim)
    refine W.eq (g2 := F0 m 35 ls [.ref x, .ref b]) rfl ?_
    refine g_putf (ci := 15) (v := .ref x) (ty := (.array .byte)) (C := RJ23) (T := TJ23) (N := 4) hx hb hts in_J23 tyJ23 tyJ23_ok nmJ23 hown hK hW k1 rfl 0 (by decide) q847 (fun _ h9 => h9) rfl (by decide +kernel) rfl rfl (Nat.le_of_ble_eq_true rfl) dJ22_ensureCapacityInternal_35 (fun H locs hW => ?_)
    obtain ⟨w_1, ew_1⟩ : ∃ z__, z__ = g_put u_ b (.inr (15, [.ref x, .int (0), .int (ml), .int (nI t.length)])) := ⟨_, rfl⟩
    have hW := g_W.ren hW ew_1 rfl
    have h_2 : g_at w_1 b (.inr (15, [.ref x, .int (0), .int (ml), .int (nI t.length)])) := by rw [ew_1]; exact g_at.put_self k1.1
    have h_3 : g_at w_1 x (.inl (D.1 101, (cap + max (q - cap) (cap + 2)), .inl (g))) := by rw [ew_1]; exact hg1.put (g_neAO hg1 k1)
    have x_4 : g_ex (fun z => z = b) w w_1 := by rw [ew_1]; exact hx0.put (fun hz9 => rfl)
    have hgf : g_fit (cap + max (q - cap) (cap + 2)) g := by
      intro j hj
      by_cases z : j < cap
      · rw [hg2 j z]; exact hs4 j z
      · rw [hg3 j (by omega)]; exact c_fit 0 (by decide)
    exact g_vret hx hb hr hlocks hW (⟨x, by rw [hcn]; exact ⟨h_2, ⟨g, h_3, fun j hj => (hg2 j (by omega)).trans (hs3 j hj), hgf⟩, by omega, by omega, hs7⟩, Or.inr hxn, x_4⟩) (by omega) (by omega) dJ22_ensureCapacityInternal_38
set_option maxHeartbeats 4000000 in
set_option maxRecDepth 100000 in
/-- AbstractStringBuilder.append(char) -/
theorem mtJ22_append_3 (l : Launch) (D : va_G) (w : g_H) (sz : Nat) (b ba cap : Nat) (ml : Int32) (t : List Nat) (hs : g_SB D w b ba ml t cap) (ch : Nat) (hch : ch < 128) (hq : t.length + 1 ≤ 65536) (hq2 : g_cn (t.length + 1) cap ≤ 65536) : Met l yJ22_append_3 (ws_ yJ22_append_3 cJ22_append_3 2 (some (.object "java/lang/AbstractStringBuilder"))) ({ frames := 5, cells := g_cc (t.length + 1) cap, slots := g_cs (t.length + 1) cap, locals := 124 }) (g_Pc D [.ref b, .int (nI ch)] w sz) (g_Qq D w sz (fun r u => ∃ bb, r = some b ∧ g_SB D u b bb ml (t ++ [ch]) (g_cn (t.length + 1) cap) ∧ (bb = ba ∨ bb ∉ w.1) ∧ g_ex (fun z => z = b ∨ z = ba) w u)) (g_cc (t.length + 1) cap) (g_cs (t.length + 1) cap) (g_A w sz) := by
  refine Met.ofW (cc := cJ22_append_3) (maxL := 2) (ret := (some (.object "java/lang/AbstractStringBuilder"))) (by decide) rfl ?_
  intro p e s m args below meth c s₁ B hml hv
  obtain ⟨rfl, hI⟩ := hv
  have hx := B.exec
  have hb := B.bytes
  have hr := B.returns
  have hts := atoms_spec (ws := ws_ yJ22_append_3 cJ22_append_3 2 (some (.object "java/lang/AbstractStringBuilder"))) B.pre
  have hts : ∀ w ∈ lw_all, w.before _ s = true := fun w h => hts w (List.mem_cons_of_mem _ h)
  have hown : s.vm.findClass RJ22 = some m.cls := findClass_of_methodNamed B.named
  have hlocks := B.notSynchronized
  have hsz := hI.1
  subst hsz
  have hW := g_W.start hI
  have hK := g_K hI
  have hE := g_E hI
  have hl := lv_entry ([.ref b, .int (nI ch)]) (n := 2) (by exact Nat.le_of_ble_eq_true rfl)
  rw [lg_entry_eq]
  generalize (lg_sl ([.ref b, .int (nI ch)]) ++ List.replicate (2 - (lg_sl ([.ref b, .int (nI ch)])).length) Slot.unset).toArray = ls at hl ⊢
  have hl : lv_has ls 2 [(0, .ref b), (1, .int (nI ch))] := hl
  have hs0 := hs
  obtain ⟨hs1, ⟨f, hs2, hs3, hs4⟩, hs5, hs6, hs7⟩ := hs0
  refine lv_aload_n hx hb dJ22_append_3_0 rfl (lv_at hl 0 rfl) ?_
  refine lv_aload_n hx hb dJ22_append_3_1 rfl (lv_at hl 0 rfl) ?_
  refine g_get (ci := 15) (v := .int (nI t.length)) (C := RJ23) (T := TJ23) (N := 4) hx hb hts in_J23 hown hK hW hs1 rfl 3 (by decide) q850 (fun _ h9 => h9) rfl dJ22_append_3_2 ?_
  refine lv_iconst (v := 1) hx hb dJ22_append_3_5 (by decide) ?_
  refine lv_iadd hx hb dJ22_append_3_6 ?_
  refine g_topi (y := nI (t.length + 1)) (nI_1 _) ?_
  refine g_callv (va_runV (As := [.int (nI (t.length + 1))]) (rest := []) ⟨hx, hb, hml, hown, hts⟩ (mtJ22_ensureCapacityInternal l D w s.heap.size b ba cap ml t hs (t.length + 1) hq hq2) (g_cwP 1 hts q872 q874 q69 q875 (g_selP (by decide) (hts _ q831) (va_Nw.use rfl (pv_q873 hE)) (hts _ q874) (hts _ q895) rfl) rfl rfl (by decide +kernel) ⟨Nat.le_of_ble_eq_true rfl, Nat.le_of_ble_eq_true rfl⟩) (g_preV hW hK hE hs1 rfl) rfl rfl hl.1 rfl (lv_room (Nat.le_of_ble_eq_true rfl)) dJ22_append_3_7 ⟨?_, ?_⟩) hW (fun u1 H locs hp hW => ?_)
  · show _ ≤ g_cc (t.length + 1) cap; omega
  · show _ ≤ g_cs (t.length + 1) cap; omega
  obtain ⟨bb, hsb, hbb, hex⟩ := hp
  have hs0 := hsb
  obtain ⟨k1, ⟨g, k2, k3, k4⟩, k5, k6, k7⟩ := hs0
  have k8 := g_cn_le (t.length + 1) cap
  refine lv_aload_n hx hb dJ22_append_3_10 rfl (lv_at hl 0 rfl) ?_
  refine g_calli (va_runV (As := []) (rest := []) ⟨hx, hb, hml, hown, hts⟩ (mtJ22_isLatin1 l D u1 H.size b bb (g_cn (t.length + 1) cap) ml t hsb) (g_cwP 0 hts q892 q893 q69 q896 (hts _ q895) rfl rfl (by decide +kernel) ⟨Nat.le_of_ble_eq_true rfl, Nat.le_of_ble_eq_true rfl⟩) (g_preV hW hK hE k1 rfl) rfl rfl hl.1 rfl (lv_room (Nat.le_of_ble_eq_true rfl)) dJ22_append_3_11 ⟨?_, ?_⟩) hW (fun r_ u_ H locs hp hW => ?_)
  · show _ ≤ g_cc (t.length + 1) cap; omega
  · show _ ≤ g_cs (t.length + 1) cap; omega
  obtain ⟨er, rfl⟩ := hp
  subst er
  refine lv_if_eq (tgt := 45) hx hb dJ22_append_3_14 (by decide) (fun hc => ?_) (fun hc => ?_)
  · exact absurd hc (by decide)
  · refine lv_iload_n hx hb dJ22_append_3_17 rfl (lv_at hl 1 rfl) ?_
    refine g_calli (va_runS (As := [.int (nI ch)]) (rest := []) ⟨hx, hb, hml, hown, hts⟩ (mtJ17_canEncode l D u1 H.size ch hch) (va_cwS 1 hts (lw_S q1120 q1121 q64 q1122) rfl rfl rfl (by decide +kernel) ⟨Nat.le_of_ble_eq_true rfl, Nat.le_of_ble_eq_true rfl⟩) (g_preS hW hK hE) rfl rfl hl.1 rfl (lv_room (Nat.le_of_ble_eq_true rfl)) dJ22_append_3_18 ⟨?_, ?_⟩) hW (fun r_ u_ H locs hp hW => ?_)
    · show _ ≤ g_cc (t.length + 1) cap; omega
    · show _ ≤ g_cs (t.length + 1) cap; omega
    obtain ⟨er, rfl⟩ := hp
    subst er
    refine lv_if_eq (tgt := 45) hx hb dJ22_append_3_21 (by decide) (fun hd => ?_) (fun hd => ?_)
    · exact absurd hd (by decide)
    · have hx0 : g_ex (fun z => z = b ∨ z = ba) w u1 := hex.mono (fun _ _ z => Or.inl z)
      refine lv_aload_n hx hb dJ22_append_3_24 rfl (lv_at hl 0 rfl) ?_
      refine g_get (ci := 15) (v := .ref bb) (C := RJ23) (T := TJ23) (N := 4) hx hb hts in_J23 hown hK hW k1 rfl 0 (by decide) q847 (fun _ h9 => h9) rfl dJ22_append_3_25 ?_
      refine lv_aload_n hx hb dJ22_append_3_28 rfl (lv_at hl 0 rfl) ?_
      refine lv_dup hx hb dJ22_append_3_29 rfl ?_
      refine g_get (ci := 15) (v := .int (nI t.length)) (C := RJ23) (T := TJ23) (N := 4) hx hb hts in_J23 hown hK hW k1 rfl 3 (by decide) q850 (fun _ h9 => h9) rfl dJ22_append_3_30 ?_
      refine lv_dup_x1 hx hb dJ22_append_3_33 rfl rfl ?_
      refine lv_iconst (v := 1) hx hb dJ22_append_3_34 (by decide) ?_
      refine lv_iadd hx hb dJ22_append_3_35 ?_
      refine g_topi (y := nI (t.length + 1)) (nI_1 _) ?_
      refine g_putf (ci := 15) (v := .int (nI (t.length + 1))) (ty := .int) (C := RJ23) (T := TJ23) (N := 4) hx hb hts in_J23 tyJ23 tyJ23_ok nmJ23 hown hK hW k1 rfl 3 (by decide) q850 (fun _ h9 => h9) rfl (by decide +kernel) rfl rfl (Nat.le_of_ble_eq_true rfl) dJ22_append_3_36 (fun H locs hW => ?_)
      obtain ⟨w_1, ew_1⟩ : ∃ z__, z__ = g_put u1 b (.inr (15, [.ref bb, .int (0), .int (ml), .int (nI (t.length + 1))])) := ⟨_, rfl⟩
      have hW := g_W.ren hW ew_1 rfl
      have h_2 : g_at w_1 b (.inr (15, [.ref bb, .int (0), .int (ml), .int (nI (t.length + 1))])) := by rw [ew_1]; exact g_at.put_self k1.1
      have h_3 : g_at w_1 bb (.inl (D.1 101, (g_cn (t.length + 1) cap), .inl (g))) := by rw [ew_1]; exact k2.put (g_neAO k2 k1)
      have x_4 : g_ex (fun z => z = b ∨ z = ba) w w_1 := by rw [ew_1]; exact hx0.put (fun hz9 => (Or.inl rfl))
      refine lv_iload_n hx hb dJ22_append_3_39 rfl (lv_at hl 1 rfl) ?_
      refine lv_i2b (v := nI ch) hx hb dJ22_append_3_40 (c_i2b ch hch) ?_
      refine g_bastN (i := t.length) hx hb hK hW h_3 (by omega) (by omega) (hch) dJ22_append_3_41 (fun H locs hW => ?_)
      obtain ⟨f_5, ef_5⟩ : ∃ z__, z__ = upd (g) (t.length) (nI ch) := ⟨_, rfl⟩
      rw [← ef_5] at hW
      obtain ⟨w_6, ew_6⟩ : ∃ z__, z__ = g_put w_1 bb (.inl (D.1 101, (g_cn (t.length + 1) cap), .inl (f_5))) := ⟨_, rfl⟩
      have hW := g_W.ren hW ew_6 rfl
      have h_7 : g_at w_6 b (.inr (15, [.ref bb, .int (0), .int (ml), .int (nI (t.length + 1))])) := by rw [ew_6]; exact h_2.put (g_neOA h_2 h_3)
      have h_8 : g_at w_6 bb (.inl (D.1 101, (g_cn (t.length + 1) cap), .inl (f_5))) := by rw [ew_6]; exact g_at.put_self h_3.1
      have x_9 : g_ex (fun z => z = b ∨ z = ba) w w_6 := by rw [ew_6]; exact x_4.put (fun hz9 => (Or.inr (hbb.resolve_right (fun n9 => n9 hz9))))
      refine lv_goto (tgt := 75) hx hb dJ22_append_3_42 (by decide) ?_
      refine lv_aload_n hx hb dJ22_append_3_75 rfl (lv_at hl 0 rfl) ?_
      have hlen : (t ++ [ch]).length = t.length + 1 := by simp
      refine g_qret (v := some b) hx hb hr (Or.inl ⟨_, rfl⟩) hlocks hW ⟨bb, rfl, ⟨by rw [hlen]; exact h_7, ⟨f_5, h_8, ?_, ?_⟩, by omega, hq2, ?_⟩, hbb, x_9⟩ (by omega) (by omega) dJ22_append_3_76
      · rw [ef_5]; exact g_is_snoc k3
      · rw [ef_5]; exact g_fit_upd k4 (c_fit ch hch)
      · intro z hz
        rcases List.mem_append.mp hz with q | q
        · exact k7 z q
        · rw [List.mem_singleton.mp q]; exact hch
