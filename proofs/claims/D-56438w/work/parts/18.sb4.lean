/-! the JDK: String out of StringBuilder -/
set_option maxRecDepth 100000
section GB4
variable {p : Program} {l : Launch} {e : Env} {R : Room} {s : State} {m : MethodId} {args : Array Value} {below : List Frame} {meth : Method} {c : Code} {H : Heap} {locs : List Loc} {cells slots : Nat} {Q : State → Prop}
variable {cc : ByteArray} {pc : Nat} {ls : Array Slot} {rest : List Value} {D : va_G} {A A' : Nat → Prop} {a : Nat} {w : g_H} {H0 : Heap}
theorem g_cloneB (hx : p.tables.exec = Jvm.exec) (hb : c.code = cc) (hml : c.maxLocals = ls.size) (hts : ∀ w ∈ lw_all, w.before args s = true) (hown : s.vm.findClass "java/util/Arrays" = some m.cls) (hK : va_K D gCl (gT D) s) (hE : g_Env D A' s) (hW : g_W D A H0 H locs w) {n : Nat} {f : Nat → Int32} (he : g_at w a (.inl (D.1 101, n, .inl f))) (hf : g_fit n f) (hframes : 1 ≤ R.frames) (hlocals : (rest.map fun v => v.category).sum + 14 ≤ R.locals) (hcells : cells + 1 ≤ R.cells) (hslots : slots + n ≤ R.slots) (hdg : decode cc pc = .ok (.invokevirtual 310, 3))
    (kk : ∀ (q : Nat) (H1 : Heap), q ∉ w.1 → g_W D A H0 H1 locs (g_push w q (.inl (D.1 101, n, .inl f))) → W p l e R s m args below meth c H1 locs (cells + 1) (slots + n) Q (F0 m (pc + 3) ls (.ref q :: rest))) : W p l e R s m args below meth c H locs cells slots Q (F0 m pc ls (.ref a :: rest)) := by
  obtain ⟨q0, h0⟩ := hW.get he
  refine va_clone hx hb hml hown (hts _ q885) (hts _ q886) (hts _ q887) (hts _ q888) (hts _ q889) (nc_q890 hE) hK hW.1 hW.2.1 hW.2.2.1 hW.2.2.2 q0 1 h0 rfl (va_nm_byte (hK.2 1 _ rfl).2) (fun i v hv => va_fit (F := fun j => .int (f j)) hf i v hv) hframes hlocals hcells hslots hdg (fun q H1 _ h1 h2 h3 => ?_)
  obtain ⟨hq, hW1⟩ := g_pushed hW h1 h2 h3
  exact kk q H1 hq hW1
theorem g_castB (hx : p.tables.exec = Jvm.exec) (hb : c.code = cc) (hts : ∀ w ∈ lw_all, w.before args s = true) (hown : s.vm.findClass "java/util/Arrays" = some m.cls) (hK : va_K D gCl (gT D) s) (hW : g_W D A H0 H locs w) {n : Nat} {f : Nat → Int32} (he : g_at w a (.inl (D.1 101, n, .inl f))) (hdg : decode cc pc = .ok (.checkcast 311, 3))
    (kk : W p l e R s m args below meth c H locs cells slots Q (F0 m (pc + 3) ls (.ref a :: rest))) : W p l e R s m args below meth c H locs cells slots Q (F0 m pc ls (.ref a :: rest)) := by
  obtain ⟨q0, h0⟩ := hW.get he
  exact va_castA hx hb hown (hts _ q891) hW.1 q0 h0 (va_nm_byte (hK.2 1 _ rfl).2) hdg kk
end GB4
set_option maxHeartbeats 4000000 in
set_option maxRecDepth 100000 in
/-- Arrays.copyOfRange of bytes, from 0 -/
theorem mtJ8_copyOfRange (l : Launch) (D : va_G) (w : g_H) (sz : Nat) (v n0 q : Nat) (f : Nat → Int32) (hv : g_at w v (.inl (D.1 101, n0, .inl f))) (hf : g_fit n0 f) (hq : q ≤ n0) (hq2 : n0 ≤ 65536) : Met l yJ8_copyOfRange (ws_ yJ8_copyOfRange cJ8_copyOfRange 3 (some (.array .byte))) ({ frames := 3, cells := 1, slots := q, locals := 104 }) (g_Pc D [.ref v, .int (0), .int (nI q)] w sz) (g_Qq D w sz (fun r u => ∃ x, r = some x ∧ x ∉ w.1 ∧ (∃ g : Nat → Int32, g_at u x (.inl (D.1 101, q, .inl g)) ∧ ∀ j, j < q → g j = f j) ∧ g_ex (fun _ => False) w u)) (1) (q) (g_A w sz) := by
  refine Met.ofW (cc := cJ8_copyOfRange) (maxL := 3) (ret := (some (.array .byte))) (by decide) rfl ?_
  intro p e s m args below meth c s₁ B hml hv
  obtain ⟨rfl, hI⟩ := hv
  have hx := B.exec
  have hb := B.bytes
  have hr := B.returns
  have hts := atoms_spec (ws := ws_ yJ8_copyOfRange cJ8_copyOfRange 3 (some (.array .byte))) B.pre
  have hts : ∀ w ∈ lw_all, w.before _ s = true := fun w h => hts w (List.mem_cons_of_mem _ h)
  have hown : s.vm.findClass RJ8 = some m.cls := findClass_of_methodNamed B.named
  have hlocks := B.notSynchronized
  have hsz := hI.1
  subst hsz
  have hW := g_W.start hI
  have hK := g_K hI
  have hE := g_E hI
  have hl := lv_entry ([.ref v, .int (0), .int (nI q)]) (n := 3) (by exact Nat.le_of_ble_eq_true rfl)
  rw [lg_entry_eq]
  generalize (lg_sl ([.ref v, .int (0), .int (nI q)]) ++ List.replicate (3 - (lg_sl ([.ref v, .int (0), .int (nI q)])).length) Slot.unset).toArray = ls at hl ⊢
  have hl : lv_has ls 3 [(0, .ref v), (1, .int (0)), (2, .int (nI q))] := hl
  have x_1 : g_ex (fun _ => False) w w := g_ex.rf
  refine lv_iload_n hx hb dJ8_copyOfRange_0 rfl (lv_at hl 1 rfl) ?_
  refine lv_if_ne (tgt := 10) hx hb dJ8_copyOfRange_1 (by decide) (fun hc => ?_) (fun hc => ?_)
  · exact absurd rfl hc
  · refine lv_iload_n hx hb dJ8_copyOfRange_4 rfl (lv_at hl 2 rfl) ?_
    refine lv_aload_n hx hb dJ8_copyOfRange_5 rfl (lv_at hl 0 rfl) ?_
    refine g_alen hx hb hK hW 1 hv rfl dJ8_copyOfRange_6 ?_
    refine g_topi (y := nI n0) (rfl) ?_
    refine lv_icmp_eq (tgt := 17) hx hb dJ8_copyOfRange_7 (by decide) (fun hd => ?_) (fun hd => ?_)
    · have e1 : q = n0 := by
        rcases Nat.lt_or_eq_of_le hq with z | z
        · have hz := nI_lt (a := q) (b := n0) z (by omega)
          rw [hd] at hz
          exact (Int32.lt_irrefl hz).elim
        · exact z
      subst e1
      refine lv_aload_n hx hb dJ8_copyOfRange_17 rfl (lv_at hl 0 rfl) ?_
      refine g_cloneB hx hb (hml.trans hl.1.symm) hts hown hK hE hW hv hf (Nat.le_of_ble_eq_true rfl) (Nat.le_of_ble_eq_true rfl) ?_ ?_ dJ8_copyOfRange_18 (fun x H hq9 hW => ?_)
      · show _ ≤ 1; omega
      · show _ ≤ q; omega
      obtain ⟨w_2, ew_2⟩ : ∃ z__, z__ = g_push w x (.inl (D.1 101, q, .inl (f))) := ⟨_, rfl⟩
      have hW := g_W.ren hW ew_2 rfl
      have h_3 : g_at w_2 v (.inl (D.1 101, q, .inl (f))) := by rw [ew_2]; exact hv.push hq9
      have h_4 : g_at w_2 x (.inl (D.1 101, q, .inl (f))) := by rw [ew_2]; exact g_at.push_self
      have x_5 : g_ex (fun _ => False) w w_2 := by rw [ew_2]; exact x_1.push hq9
      refine g_castB hx hb hts hown hK hW h_4 dJ8_copyOfRange_21 ?_
      exact g_qret (v := some x) hx hb hr (Or.inr ⟨_, rfl⟩) hlocks hW ⟨x, rfl, hq9, ⟨f, h_4, fun j hj => rfl⟩, x_5⟩ (by omega) (by omega) dJ8_copyOfRange_24
    · refine lv_aload_n hx hb dJ8_copyOfRange_10 rfl (lv_at hl 0 rfl) ?_
      refine lv_iload_n hx hb dJ8_copyOfRange_11 rfl (lv_at hl 1 rfl) ?_
      refine lv_iload_n hx hb dJ8_copyOfRange_12 rfl (lv_at hl 2 rfl) ?_
      refine g_callq (va_runS (As := [.ref v, .int (0), .int (nI q)]) (rest := []) ⟨hx, hb, hml, hown, hts⟩ (mtJ8_copyOfRangeByte l D w s.heap.size v n0 q f hv hf hq hq2) (va_cwS 3 hts (lw_S q1003 q1004 q44 q1005) rfl rfl rfl (by decide +kernel) ⟨Nat.le_of_ble_eq_true rfl, Nat.le_of_ble_eq_true rfl⟩) (g_preS hW hK hE) rfl rfl hl.1 rfl (lv_room (Nat.le_of_ble_eq_true rfl)) dJ8_copyOfRange_13 ⟨?_, ?_⟩) hW (fun r_ u1 H locs hp hW => ?_)
      · show _ ≤ 1; omega
      · show _ ≤ q; omega
      obtain ⟨x, er, hx9⟩ := hp
      subst er
      exact g_qret (v := some x) hx hb hr (Or.inr ⟨_, rfl⟩) hlocks hW ⟨x, rfl, hx9⟩ (by omega) (by omega) dJ8_copyOfRange_16
set_option maxHeartbeats 4000000 in
set_option maxRecDepth 100000 in
/-- String.<init> out of a builder -/
theorem mtJ16_init_2 (l : Launch) (D : va_G) (w : g_H) (sz : Nat) (a : Nat) (ha : g_at w a (.inr (16, [.null, .int 0, .int 0, .int 0]))) (b ba cap : Nat) (ml : Int32) (t : List Nat) (hs : g_SB D w b ba ml t cap) (ht : t.length < 1000) : Met l yJ16_init_2 (ws_ yJ16_init_2 cJ16_init_2 5 none) ({ frames := 4, cells := 1, slots := t.length, locals := 126 }) (g_Pc D [.ref a, .ref b, .null] w sz) (g_Qv D w sz (fun u => g_Str D u a t ∧ g_ex (fun z => z = a) w u)) (1) (t.length) (g_A w sz) := by
  refine Met.ofW (cc := cJ16_init_2) (maxL := 5) (ret := none) (by decide) rfl ?_
  intro p e s m args below meth c s₁ B hml hv
  obtain ⟨rfl, hI⟩ := hv
  have hx := B.exec
  have hb := B.bytes
  have hr := B.returns
  have hts := atoms_spec (ws := ws_ yJ16_init_2 cJ16_init_2 5 none) B.pre
  have hts : ∀ w ∈ lw_all, w.before _ s = true := fun w h => hts w (List.mem_cons_of_mem _ h)
  have hown : s.vm.findClass RJ16 = some m.cls := findClass_of_methodNamed B.named
  have hlocks := B.notSynchronized
  have hin : meth.name = "<init>" := (name_of_methodNamed B.named B.method).1
  have hsz := hI.1
  subst hsz
  have hW := g_W.start hI
  have hK := g_K hI
  have hE := g_E hI
  have hl := lv_entry ([.ref a, .ref b, .null]) (n := 5) (by exact Nat.le_of_ble_eq_true rfl)
  rw [lg_entry_eq]
  generalize (lg_sl ([.ref a, .ref b, .null]) ++ List.replicate (5 - (lg_sl ([.ref a, .ref b, .null])).length) Slot.unset).toArray = ls at hl ⊢
  have hl : lv_has ls 5 [(0, .ref a), (1, .ref b), (2, .null)] := hl
  have hs0 := hs
  obtain ⟨hs1, ⟨f, hs2, hs3, hs4⟩, hs5, hs6, hs7⟩ := hs0
  have x_1 : g_ex (fun q => q = a) w w := g_ex.rf
  refine lv_aload_n hx hb dJ16_init_2_0 rfl (lv_at hl 0 rfl) ?_
  refine W.objInit hx hb hown (hts _ q985) (hts _ q104) (hts _ q105) rfl (by rw [hml]; exact hl.1) rfl dJ16_init_2_1 (Nat.le_of_ble_eq_true rfl) (Nat.le_of_ble_eq_true rfl) ?_
  refine W.eq (g2 := F0 m 4 ls []) rfl ?_
  refine lv_aload_n hx hb dJ16_init_2_4 rfl (lv_at hl 1 rfl) ?_
  refine g_callq (va_runV (As := []) (rest := []) ⟨hx, hb, hml, hown, hts⟩ (mtJ22_getValue l D w s.heap.size b ba cap ml t hs) (g_cwP 0 hts q986 q987 q69 q990 (hts _ q989) rfl rfl (by decide +kernel) ⟨Nat.le_of_ble_eq_true rfl, Nat.le_of_ble_eq_true rfl⟩) (g_preV hW hK hE hs1 rfl) rfl rfl hl.1 rfl (lv_room (Nat.le_of_ble_eq_true rfl)) dJ16_init_2_5 ⟨?_, ?_⟩) hW (fun r_ u_ H locs hp hW => ?_)
  · show _ ≤ 1; omega
  · show _ ≤ t.length; omega
  obtain ⟨er, rfl⟩ := hp
  subst er
  refine W.eq (g2 := F0 m 8 ls [.ref ba]) rfl ?_
  refine lv_astore_n (lv' := [(3, .ref ba), (0, .ref a), (1, .ref b), (2, .null)]) hx hb dJ16_init_2_8 rfl hl (by decide) rfl (fun ls hl => ?_)
  refine lv_aload_n hx hb dJ16_init_2_9 rfl (lv_at hl 2 rfl) ?_
  refine g_calli (va_runU (As := []) (rest := []) ⟨hx, hb, hml, hown, hts⟩ (mtJ23_length l D w H.size b ba cap ml t hs) (va_cwO (owner := "java/lang/AbstractStringBuilder") (x := ⟨"java/lang/AbstractStringBuilder", "length", "()I"⟩) 0 hts (lw_app (lw_in _ [991, 993, 992, 994, 995, 70] (by decide +kernel) (by decide +kernel)) (lw_meth q996)) rfl rfl rfl q998 (by decide +kernel) ⟨Nat.le_of_ble_eq_true rfl, Nat.le_of_ble_eq_true rfl⟩) (g_preV hW hK hE hs1 rfl) rfl rfl hl.1 rfl (lv_room (Nat.le_of_ble_eq_true rfl)) dJ16_init_2_10 ⟨?_, ?_⟩) hW (fun r_ u_ H locs hp hW => ?_)
  · show _ ≤ 1; omega
  · show _ ≤ t.length; omega
  obtain ⟨er, rfl⟩ := hp
  subst er
  refine lv_istore (lv' := [(4, .int (nI t.length)), (3, .ref ba), (0, .ref a), (1, .ref b), (2, .null)]) hx hb dJ16_init_2_13 hl (by decide) rfl (fun ls hl => ?_)
  refine lv_aload_n hx hb dJ16_init_2_15 rfl (lv_at hl 3 rfl) ?_
  refine g_calli (va_runV (As := []) (rest := []) ⟨hx, hb, hml, hown, hts⟩ (mtJ22_isLatin1 l D w H.size b ba cap ml t hs) (g_cwP 0 hts q999 q893 q69 q896 (hts _ q895) rfl rfl (by decide +kernel) ⟨Nat.le_of_ble_eq_true rfl, Nat.le_of_ble_eq_true rfl⟩) (g_preV hW hK hE hs1 rfl) rfl rfl hl.1 rfl (lv_room (Nat.le_of_ble_eq_true rfl)) dJ16_init_2_16 ⟨?_, ?_⟩) hW (fun r_ u_ H locs hp hW => ?_)
  · show _ ≤ 1; omega
  · show _ ≤ t.length; omega
  obtain ⟨er, rfl⟩ := hp
  subst er
  refine lv_if_eq (tgt := 41) hx hb dJ16_init_2_19 (by decide) (fun hc => ?_) (fun hc => ?_)
  · exact absurd hc (by decide)
  · refine lv_aload_n hx hb dJ16_init_2_22 rfl (lv_at hl 2 rfl) ?_
    refine lv_iconst (v := 0) hx hb dJ16_init_2_23 (by decide) ?_
    refine g_putF (ci := 16) (v := .int (0)) (ty := .byte) (C := RJ16) (T := TJ16) (N := 4) hx hb hts in_J16 tyJ16 tyJ16_ok nmJ16 hown hK hW ha rfl 1 (by decide) q1039 (fun _ h9 => h9) rfl hin rfl (by decide +kernel) rfl rfl (Nat.le_of_ble_eq_true rfl) dJ16_init_2_24 (fun H locs hW => ?_)
    obtain ⟨w_2, ew_2⟩ : ∃ z__, z__ = g_put w a (.inr (16, [.null, .int (0), .int (0), .int (0)])) := ⟨_, rfl⟩
    have hW := g_W.ren hW ew_2 rfl
    have h_3 : g_at w_2 b (.inr (15, [.ref ba, .int (0), .int (ml), .int (nI t.length)])) := by rw [ew_2]; exact hs1.put (g_neO hs1 ha (by decide))
    have h_4 : g_at w_2 ba (.inl (D.1 101, cap, .inl (f))) := by rw [ew_2]; exact hs2.put (g_neAO hs2 ha)
    have h_5 : g_at w_2 a (.inr (16, [.null, .int (0), .int (0), .int (0)])) := by rw [ew_2]; exact g_at.put_self ha.1
    have x_6 : g_ex (fun q => q = a) w w_2 := by rw [ew_2]; exact x_1.put (fun hz9 => rfl)
    refine lv_aload_n hx hb dJ16_init_2_27 rfl (lv_at hl 2 rfl) ?_
    refine lv_aload_n hx hb dJ16_init_2_28 rfl (lv_at hl 1 rfl) ?_
    refine lv_iconst (v := 0) hx hb dJ16_init_2_29 (by decide) ?_
    refine lv_iload hx hb dJ16_init_2_30 (lv_at hl 0 rfl) ?_
    refine g_callq (va_runS (As := [.ref ba, .int (0), .int (nI t.length)]) (rest := [.ref a]) ⟨hx, hb, hml, hown, hts⟩ (mtJ8_copyOfRange l D w_2 H.size ba cap t.length f h_4 hs4 hs5 hs6) (va_cwS 3 hts (lw_S q1000 q1001 q44 q1002) rfl rfl rfl (by decide +kernel) ⟨Nat.le_of_ble_eq_true rfl, Nat.le_of_ble_eq_true rfl⟩) (g_preS hW hK hE) rfl rfl hl.1 rfl (lv_room (Nat.le_of_ble_eq_true rfl)) dJ16_init_2_32 ⟨?_, ?_⟩) hW (fun r_ u1 H locs hp hW => ?_)
    · show _ ≤ 1; omega
    · show _ ≤ t.length; omega
    obtain ⟨x, er, hxn, ⟨g, hg1, hg2⟩, hex⟩ := hp
    subst er
    have k1 := hex.at h_5 (fun z => z)
    have hx0 : g_ex (fun z => z = a) w u1 := x_6.tr (hex.mono (fun _ _ z => z.elim))
    refine W.eq (g2 := F0 m 35 ls [.ref x, .ref a]) rfl ?_
    refine g_putF (ci := 16) (v := .ref x) (ty := (.array .byte)) (C := RJ16) (T := TJ16) (N := 4) hx hb hts in_J16 tyJ16 tyJ16_ok nmJ16 hown hK hW k1 rfl 0 (by decide) q1038 (fun _ h9 => h9) rfl hin rfl (by decide +kernel) rfl rfl (Nat.le_of_ble_eq_true rfl) dJ16_init_2_35 (fun H locs hW => ?_)
    obtain ⟨w_7, ew_7⟩ : ∃ z__, z__ = g_put u1 a (.inr (16, [.ref x, .int (0), .int (0), .int (0)])) := ⟨_, rfl⟩
    have hW := g_W.ren hW ew_7 rfl
    have h_8 : g_at w_7 a (.inr (16, [.ref x, .int (0), .int (0), .int (0)])) := by rw [ew_7]; exact g_at.put_self k1.1
    have h_9 : g_at w_7 x (.inl (D.1 101, t.length, .inl (g))) := by rw [ew_7]; exact hg1.put (g_neAO hg1 k1)
    have x_10 : g_ex (fun q => q = a) w w_7 := by rw [ew_7]; exact hx0.put (fun hz9 => rfl)
    refine lv_goto (tgt := 97) hx hb dJ16_init_2_38 (by decide) ?_
    exact g_vret hx hb hr hlocks hW (⟨⟨⟨ht, hs7⟩, Or.inl ⟨x, 0, 0, g, h_8, h_9, fun j hj => (hg2 j hj).trans (hs3 j hj)⟩⟩, x_10⟩) (by omega) (by omega) dJ16_init_2_97
set_option maxHeartbeats 4000000 in
set_option maxRecDepth 100000 in
/-- String.<init> out of a StringBuilder -/
theorem mtJ16_init (l : Launch) (D : va_G) (w : g_H) (sz : Nat) (a : Nat) (ha : g_at w a (.inr (16, [.null, .int 0, .int 0, .int 0]))) (b ba cap : Nat) (ml : Int32) (t : List Nat) (hs : g_SB D w b ba ml t cap) (ht : t.length < 1000) : Met l yJ16_init (ws_ yJ16_init cJ16_init 2 none) ({ frames := 5, cells := 1, slots := t.length, locals := 150 }) (g_Pc D [.ref a, .ref b] w sz) (g_Qv D w sz (fun u => g_Str D u a t ∧ g_ex (fun z => z = a) w u)) (1) (t.length) (g_A w sz) := by
  refine Met.ofW (cc := cJ16_init) (maxL := 2) (ret := none) (by decide) rfl ?_
  intro p e s m args below meth c s₁ B hml hv
  obtain ⟨rfl, hI⟩ := hv
  have hx := B.exec
  have hb := B.bytes
  have hr := B.returns
  have hts := atoms_spec (ws := ws_ yJ16_init cJ16_init 2 none) B.pre
  have hts : ∀ w ∈ lw_all, w.before _ s = true := fun w h => hts w (List.mem_cons_of_mem _ h)
  have hown : s.vm.findClass RJ16 = some m.cls := findClass_of_methodNamed B.named
  have hlocks := B.notSynchronized
  have hin : meth.name = "<init>" := (name_of_methodNamed B.named B.method).1
  have hsz := hI.1
  subst hsz
  have hW := g_W.start hI
  have hK := g_K hI
  have hE := g_E hI
  have hl := lv_entry ([.ref a, .ref b]) (n := 2) (by exact Nat.le_of_ble_eq_true rfl)
  rw [lg_entry_eq]
  generalize (lg_sl ([.ref a, .ref b]) ++ List.replicate (2 - (lg_sl ([.ref a, .ref b])).length) Slot.unset).toArray = ls at hl ⊢
  have hl : lv_has ls 2 [(0, .ref a), (1, .ref b)] := hl
  refine lv_aload_n hx hb dJ16_init_0 rfl (lv_at hl 0 rfl) ?_
  refine lv_aload_n hx hb dJ16_init_1 rfl (lv_at hl 1 rfl) ?_
  refine lv_null hx hb dJ16_init_2 ?_
  refine g_callv (va_runI (As := [.ref b, .null]) (rest := []) ⟨hx, hb, hml, hown, hts⟩ (mtJ16_init_2 l D w s.heap.size a ha b ba cap ml t hs ht) (cwI 2 hts (lw_meth q984) rfl rfl rfl (hts _ q63) (hts _ q982) (hts _ q983) rfl (by decide +kernel) ⟨Nat.le_of_ble_eq_true rfl, Nat.le_of_ble_eq_true rfl⟩) (g_preS hW hK hE) rfl rfl hl.1 rfl (lv_room (Nat.le_of_ble_eq_true rfl)) dJ16_init_3 ⟨?_, ?_⟩) hW (fun u1 H locs hp hW => ?_)
  · show _ ≤ 1; omega
  · show _ ≤ t.length; omega
  exact g_vret hx hb hr hlocks hW (hp) (by omega) (by omega) dJ16_init_6
