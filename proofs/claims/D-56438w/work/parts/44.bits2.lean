/-! Long.bitCount; BitSet.get, or, cardinality; ArrayList's iterator -/
set_option maxRecDepth 100000
theorem bc_sh {n k : Nat} (hn : n < 2 ^ 64) (hk : k < 64) {p : Nat} (hp : 2 ^ k = p) {i : Int32} (hi : i = nI k) : ((lN n).toUInt64 >>> (i.toInt64.toUInt64 &&& Int64.toUInt64 63)).toInt64 = lN (n / p) := by
  subst hi; subst hp; exact wb_shr hn hk
theorem bc_1 {n : Nat} (hn : n < 2 ^ 64) : lN n - (((lN n).toUInt64 >>> ((1 : Int32).toInt64.toUInt64 &&& Int64.toUInt64 63)).toInt64 &&& 6148914691236517205) = lN (s1 8 n) := by
  rw [bc_sh (i := (1 : Int32)) hn (k := 1) (by decide) rfl rfl, show (6148914691236517205 : Int64) = lN (sM 85 8) from rfl, wb_and (by omega) (by decide), lN_sub (Nat.le_trans Nat.and_le_left (by omega))]
  rfl
theorem bc_2 {n : Nat} (hn : n < 2 ^ 64) : (lN n &&& 3689348814741910323) + (((lN n).toUInt64 >>> ((2 : Int32).toInt64.toUInt64 &&& Int64.toUInt64 63)).toInt64 &&& 3689348814741910323) = lN (s2 8 n) := by
  rw [bc_sh (i := (2 : Int32)) hn (k := 2) (by decide) rfl rfl, show (3689348814741910323 : Int64) = lN (sM 51 8) from rfl, wb_and hn (by decide), wb_and (by omega) (by decide), lN_add]
  rfl
theorem bc_3 {n : Nat} (hn : n < 8000000000000000000) : (lN n + ((lN n).toUInt64 >>> ((4 : Int32).toInt64.toUInt64 &&& Int64.toUInt64 63)).toInt64) &&& 1085102592571150095 = lN (s3 8 n) := by
  rw [bc_sh (n := n) (i := (4 : Int32)) (by omega) (k := 4) (by decide) rfl rfl, lN_add, show (1085102592571150095 : Int64) = lN (sM 15 8) from rfl, wb_and (by omega) (by decide)]
  rfl
theorem bc_s {n k p : Nat} (hn : n < 2 ^ 62) (hk : k < 64) (hp : 2 ^ k = p) {i : Int32} (hi : i = nI k) : lN n + ((lN n).toUInt64 >>> (i.toInt64.toUInt64 &&& Int64.toUInt64 63)).toInt64 = lN (n + n / p) := by
  rw [bc_sh (by omega) hk hp hi, lN_add]
theorem bc_e (n : Nat) : (lN n).toInt32 &&& 127 = nI (n % 128) := by
  have e : (lN n).toInt32 = nI n := by
    apply Int32.toBitVec_inj.1
    show (BitVec.ofNat 64 n).signExtend 32 = BitVec.ofNat 32 n
    apply BitVec.eq_of_getLsbD_eq
    intro i hi
    have h2 : i < 64 := by omega
    simp only [BitVec.getLsbD_signExtend, BitVec.getLsbD_ofNat]
    simp [hi, h2]
  rw [e, show (127 : Int32) = nI 127 from rfl, nx_and, show n &&& 127 = n % 128 from Nat.and_two_pow_sub_one_eq_mod n 7]
theorem s1_lt {n : Nat} (hn : n < 2 ^ 64) : s1 8 n < 2 ^ 64 := by unfold s1; omega
theorem s2_lt (n : Nat) : s2 8 n < 8000000000000000000 := by
  have h1 : n &&& sM 51 8 ≤ sM 51 8 := Nat.and_le_right
  have h2 : (n / 4) &&& sM 51 8 ≤ sM 51 8 := Nat.and_le_right
  have h3 : sM 51 8 = 3689348814741910323 := rfl
  unfold s2
  omega
theorem g_bits_ct {f : Nat → Int64} {cap : Nat} {E : Nat → Bool} (h : g_bits f cap E) {j : Nat} (hj : j < cap) : fb_ct (fun i => (f j).toBitVec.getLsbD i) 64 = fb_ct (fun k => E (64 * j + k)) 64 := fb_ct_cong (fun k hk => h j hj k hk)
theorem g_lcmp0 {x : Int64} (h : lg_cmp x 0 = 0) : x = 0 := by
  unfold lg_cmp at h
  by_cases q : x > 0
  · rw [if_pos q] at h; exact absurd h (by decide)
  · rw [if_neg q] at h
    by_cases r : x = 0
    · exact r
    · rw [if_neg r] at h; exact absurd h (by decide)
section GI
variable {p : Program} {l : Launch} {e : Env} {R : Room} {s : State} {m : MethodId} {args : Array Value} {below : List Frame} {meth : Method} {c : Code} {H : Heap} {locs : List Loc} {cells slots : Nat} {Q : State → Prop} {cc : ByteArray} {pc : Nat} {ls : Array Slot} {rest : List Value}
theorem g_icmp_lt (hx : p.tables.exec = Jvm.exec) (hb : c.code = cc) {x y : Nat} {off : Int} {tgt : Nat} (h1 : x < 2 ^ 31) (h2 : y < 2 ^ 31) (hdg : decode cc pc = .ok (.if_icmp .lt off, 3)) (ht : (pc : Int) + off = (tgt : Int))
    (kt : x < y → W p l e R s m args below meth c H locs cells slots Q (F0 m tgt ls rest)) (kf : y ≤ x → W p l e R s m args below meth c H locs cells slots Q (F0 m (pc + 3) ls rest)) : W p l e R s m args below meth c H locs cells slots Q (F0 m pc ls (.int (nI y) :: .int (nI x) :: rest)) :=
  lv_icmp_lt hx hb hdg ht (fun h => kt ((nI_ltI h1 h2).mp h)) (fun h => kf (Nat.not_lt.mp (fun q => h ((nI_ltI h1 h2).mpr q))))
theorem g_icmp_gt (hx : p.tables.exec = Jvm.exec) (hb : c.code = cc) {x y : Nat} {off : Int} {tgt : Nat} (h1 : x < 2 ^ 31) (h2 : y < 2 ^ 31) (hdg : decode cc pc = .ok (.if_icmp .gt off, 3)) (ht : (pc : Int) + off = (tgt : Int))
    (kt : y < x → W p l e R s m args below meth c H locs cells slots Q (F0 m tgt ls rest)) (kf : x ≤ y → W p l e R s m args below meth c H locs cells slots Q (F0 m (pc + 3) ls rest)) : W p l e R s m args below meth c H locs cells slots Q (F0 m pc ls (.int (nI y) :: .int (nI x) :: rest)) :=
  lv_icmp_gt hx hb hdg ht (fun h => kt ((nI_ltI h2 h1).mp h)) (fun h => kf (Nat.not_lt.mp (fun q => h ((nI_ltI h2 h1).mpr q))))
end GI
set_option maxHeartbeats 4000000 in
set_option maxRecDepth 100000 in
/-- Long.bitCount -/
theorem mtJ27_bitCount (l : Launch) (D : va_G) (w : g_H) (sz : Nat) (v : Int64) : Met l yJ27_bitCount (ws_ yJ27_bitCount cJ27_bitCount 2 (some .int)) ({ frames := 1, cells := 0, slots := 0, locals := 12 }) (g_Pc D [.long (v)] w sz) (g_Qi D w sz (fun r u => r = nI (fb_ct (fun i => v.toBitVec.getLsbD i) 64) ∧ w = u)) (0) (0) (g_A w sz) := by
  refine Met.ofW (cc := cJ27_bitCount) (maxL := 2) (ret := (some .int)) (by decide) rfl ?_
  intro p e s m args below meth c s₁ B hml hv
  obtain ⟨rfl, hI⟩ := hv
  have hx := B.exec
  have hb := B.bytes
  have hr := B.returns
  have hts := atoms_spec (ws := ws_ yJ27_bitCount cJ27_bitCount 2 (some .int)) B.pre
  have hts : ∀ w ∈ lw_all, w.before _ s = true := fun w h => hts w (List.mem_cons_of_mem _ h)
  have hown : s.vm.findClass RJ27 = some m.cls := findClass_of_methodNamed B.named
  have hlocks := B.notSynchronized
  have hsz := hI.1
  subst hsz
  have hW := g_W.start hI
  have hK := g_K hI
  have hE := g_E hI
  have hl := lv_entry ([.long (v)]) (n := 2) (by exact Nat.le_of_ble_eq_true rfl)
  rw [lg_entry_eq]
  generalize (lg_sl ([.long (v)]) ++ List.replicate (2 - (lg_sl ([.long (v)])).length) Slot.unset).toArray = ls at hl ⊢
  have hl : lv_has ls 2 [(0, .long (v))] := hl
  obtain ⟨n, hn, hv9⟩ := wb_of v
  subst hv9
  obtain ⟨a, ha, ha1, ha2⟩ := sw_end hn
  have hbit : fb_ct (fun i => n.testBit i) 64 = fb_ct (fun i => (lN n).toBitVec.getLsbD i) 64 := fb_ct_cong (fun k hk => by show n.testBit k = (BitVec.ofNat 64 n).getLsbD k; rw [BitVec.getLsbD_ofNat]; simp [hk])
  refine lv_lload_n hx hb dJ27_bitCount_0 rfl (lv_at hl 0 rfl) ?_
  refine lv_lload_n hx hb dJ27_bitCount_1 rfl (lv_at hl 0 rfl) ?_
  refine lv_iconst (v := 1) hx hb dJ27_bitCount_2 (by decide) ?_
  refine lv_lushr (v := ((lN n : Int64).toUInt64 >>> ((1 : Int32).toInt64.toUInt64 &&& Int64.toUInt64 63)).toInt64) hx hb dJ27_bitCount_3 rfl ?_
  refine lv_ldc2 hx hb hown (hts _ q430) dJ27_bitCount_4 ?_
  refine lv_land hx hb dJ27_bitCount_7 ?_
  refine lv_lsub hx hb dJ27_bitCount_8 ?_
  refine g_top (v' := .long (lN (s1 8 n))) (congrArg Value.long (bc_1 hn)) ?_
  refine lv_lstore_n (lv' := [(0, .long (lN (s1 8 n)))]) hx hb dJ27_bitCount_9 rfl hl (by decide) rfl (fun ls hl => ?_)
  refine lv_lload_n hx hb dJ27_bitCount_10 rfl (lv_at hl 0 rfl) ?_
  refine lv_ldc2 hx hb hown (hts _ q431) dJ27_bitCount_11 ?_
  refine lv_land hx hb dJ27_bitCount_14 ?_
  refine lv_lload_n hx hb dJ27_bitCount_15 rfl (lv_at hl 0 rfl) ?_
  refine lv_iconst (v := 2) hx hb dJ27_bitCount_16 (by decide) ?_
  refine lv_lushr (v := ((lN (s1 8 n) : Int64).toUInt64 >>> ((2 : Int32).toInt64.toUInt64 &&& Int64.toUInt64 63)).toInt64) hx hb dJ27_bitCount_17 rfl ?_
  refine lv_ldc2 hx hb hown (hts _ q431) dJ27_bitCount_18 ?_
  refine lv_land hx hb dJ27_bitCount_21 ?_
  refine lv_ladd hx hb dJ27_bitCount_22 ?_
  refine g_top (v' := .long (lN (s2 8 (s1 8 n)))) (congrArg Value.long (bc_2 (s1_lt hn))) ?_
  refine lv_lstore_n (lv' := [(0, .long (lN (s2 8 (s1 8 n))))]) hx hb dJ27_bitCount_23 rfl hl (by decide) rfl (fun ls hl => ?_)
  refine lv_lload_n hx hb dJ27_bitCount_24 rfl (lv_at hl 0 rfl) ?_
  refine lv_lload_n hx hb dJ27_bitCount_25 rfl (lv_at hl 0 rfl) ?_
  refine lv_iconst (v := 4) hx hb dJ27_bitCount_26 (by decide) ?_
  refine lv_lushr (v := ((lN (s2 8 (s1 8 n)) : Int64).toUInt64 >>> ((4 : Int32).toInt64.toUInt64 &&& Int64.toUInt64 63)).toInt64) hx hb dJ27_bitCount_27 rfl ?_
  refine lv_ladd hx hb dJ27_bitCount_28 ?_
  refine lv_ldc2 hx hb hown (hts _ q432) dJ27_bitCount_29 ?_
  refine lv_land hx hb dJ27_bitCount_32 ?_
  refine g_top (v' := .long (lN a)) (congrArg Value.long ((bc_3 (s2_lt _)).trans (by rw [ha]))) ?_
  refine lv_lstore_n (lv' := [(0, .long (lN a))]) hx hb dJ27_bitCount_33 rfl hl (by decide) rfl (fun ls hl => ?_)
  refine lv_lload_n hx hb dJ27_bitCount_34 rfl (lv_at hl 0 rfl) ?_
  refine lv_lload_n hx hb dJ27_bitCount_35 rfl (lv_at hl 0 rfl) ?_
  refine lv_bipush (v := 8) hx hb dJ27_bitCount_36 (by decide) ?_
  refine lv_lushr (v := ((lN a : Int64).toUInt64 >>> ((8 : Int32).toInt64.toUInt64 &&& Int64.toUInt64 63)).toInt64) hx hb dJ27_bitCount_38 rfl ?_
  refine lv_ladd hx hb dJ27_bitCount_39 ?_
  refine g_top (v' := .long (lN (a + a / 256))) (congrArg Value.long (bc_s (k := 8) (by omega) (by decide) rfl rfl)) ?_
  refine lv_lstore_n (lv' := [(0, .long (lN (a + a / 256)))]) hx hb dJ27_bitCount_40 rfl hl (by decide) rfl (fun ls hl => ?_)
  refine lv_lload_n hx hb dJ27_bitCount_41 rfl (lv_at hl 0 rfl) ?_
  refine lv_lload_n hx hb dJ27_bitCount_42 rfl (lv_at hl 0 rfl) ?_
  refine lv_bipush (v := 16) hx hb dJ27_bitCount_43 (by decide) ?_
  refine lv_lushr (v := ((lN (a + a / 256) : Int64).toUInt64 >>> ((16 : Int32).toInt64.toUInt64 &&& Int64.toUInt64 63)).toInt64) hx hb dJ27_bitCount_45 rfl ?_
  refine lv_ladd hx hb dJ27_bitCount_46 ?_
  refine g_top (v' := .long (lN (a + a / 256 + (a + a / 256) / 65536))) (congrArg Value.long (bc_s (k := 16) (by omega) (by decide) rfl rfl)) ?_
  refine lv_lstore_n (lv' := [(0, .long (lN (a + a / 256 + (a + a / 256) / 65536)))]) hx hb dJ27_bitCount_47 rfl hl (by decide) rfl (fun ls hl => ?_)
  refine lv_lload_n hx hb dJ27_bitCount_48 rfl (lv_at hl 0 rfl) ?_
  refine lv_lload_n hx hb dJ27_bitCount_49 rfl (lv_at hl 0 rfl) ?_
  refine lv_bipush (v := 32) hx hb dJ27_bitCount_50 (by decide) ?_
  refine lv_lushr (v := ((lN (a + a / 256 + (a + a / 256) / 65536) : Int64).toUInt64 >>> ((32 : Int32).toInt64.toUInt64 &&& Int64.toUInt64 63)).toInt64) hx hb dJ27_bitCount_52 rfl ?_
  refine lv_ladd hx hb dJ27_bitCount_53 ?_
  refine g_top (v' := .long (lN (a + a / 256 + (a + a / 256) / 65536 + (a + a / 256 + (a + a / 256) / 65536) / 4294967296))) (congrArg Value.long (bc_s (k := 32) (by omega) (by decide) rfl rfl)) ?_
  refine lv_lstore_n (lv' := [(0, .long (lN (a + a / 256 + (a + a / 256) / 65536 + (a + a / 256 + (a + a / 256) / 65536) / 4294967296)))]) hx hb dJ27_bitCount_54 rfl hl (by decide) rfl (fun ls hl => ?_)
  refine lv_lload_n hx hb dJ27_bitCount_55 rfl (lv_at hl 0 rfl) ?_
  refine lv_l2i (v := (lN (a + a / 256 + (a + a / 256) / 65536 + (a + a / 256 + (a + a / 256) / 65536) / 4294967296) : Int64).toInt32) hx hb dJ27_bitCount_56 rfl ?_
  refine lv_bipush (v := 127) hx hb dJ27_bitCount_57 (by decide) ?_
  refine lv_iand hx hb dJ27_bitCount_59 ?_
  refine g_topi (y := nI (fb_ct (fun i => (lN n).toBitVec.getLsbD i) 64)) (by rw [← hbit, ← ha2]; exact bc_e _) ?_
  exact g_iret (v := nI (fb_ct (fun i => (lN n).toBitVec.getLsbD i) 64)) hx hb hr hlocks hW (⟨rfl, rfl⟩) (by omega) (by omega) dJ27_bitCount_60
set_option maxHeartbeats 4000000 in
set_option maxRecDepth 100000 in
/-- BitSet.get -/
theorem mtJ3_get (l : Launch) (D : va_G) (w : g_H) (sz : Nat) (b wa n cap : Nat) (E : Nat → Bool) (hbs : g_BS D w b wa E n cap) (x : Nat) (hx9 : x < 320) : Met l yJ3_get (ws_ yJ3_get cJ3_get 3 (some .boolean)) ({ frames := 2, cells := 0, slots := 0, locals := 32 }) (g_Pc D [.ref b, .int (nI x)] w sz) (g_Qi D w sz (fun r u => r = (if E x = true then 1 else 0) ∧ w = u)) (0) (0) (g_A w sz) := by
  refine Met.ofW (cc := cJ3_get) (maxL := 3) (ret := (some .boolean)) (by decide) rfl ?_
  intro p e s m args below meth c s₁ B hml hv
  obtain ⟨rfl, hI⟩ := hv
  have hx := B.exec
  have hb := B.bytes
  have hr := B.returns
  have hts := atoms_spec (ws := ws_ yJ3_get cJ3_get 3 (some .boolean)) B.pre
  have hts : ∀ w ∈ lw_all, w.before _ s = true := fun w h => hts w (List.mem_cons_of_mem _ h)
  have hown : s.vm.findClass RJ3 = some m.cls := findClass_of_methodNamed B.named
  have hlocks := B.notSynchronized
  have hsz := hI.1
  subst hsz
  have hW := g_W.start hI
  have hK := g_K hI
  have hE := g_E hI
  have hl := lv_entry ([.ref b, .int (nI x)]) (n := 3) (by exact Nat.le_of_ble_eq_true rfl)
  rw [lg_entry_eq]
  generalize (lg_sl ([.ref b, .int (nI x)]) ++ List.replicate (3 - (lg_sl ([.ref b, .int (nI x)])).length) Slot.unset).toArray = ls at hl ⊢
  have hl : lv_has ls 3 [(0, .ref b), (1, .int (nI x))] := hl
  obtain ⟨hbo, ⟨f, hf, hbits⟩, hnc, hc0, hc64, hE0⟩ := hbs
  refine lv_iload_n hx hb dJ3_get_0 rfl (lv_at hl 1 rfl) ?_
  refine lv_if_ge (tgt := 31) hx hb dJ3_get_1 (by decide) (fun hc => ?_) (fun hc => ?_)
  · refine lv_aload_n hx hb dJ3_get_31 rfl (lv_at hl 0 rfl) ?_
    refine g_callv (va_runV (As := []) (rest := []) ⟨hx, hb, hml, hown, hts⟩ (mtJ3_checkInvariants l D w s.heap.size b) (cwV 0 hts (lw_V q1251 q1253 qs14 q39 q1254) rfl rfl rfl (by decide +kernel) ⟨Nat.le_of_ble_eq_true rfl, Nat.le_of_ble_eq_true rfl⟩) (g_preV hW hK hE hbo rfl) rfl rfl hl.1 rfl (lv_room (Nat.le_of_ble_eq_true rfl)) dJ3_get_32 ⟨Nat.le_of_ble_eq_true rfl, Nat.le_of_ble_eq_true rfl⟩) hW (fun u_ H locs hp hW => ?_)
    subst hp
    refine lv_iload_n hx hb dJ3_get_35 rfl (lv_at hl 1 rfl) ?_
    refine g_calli (va_runS (As := [.int (nI x)]) (rest := []) ⟨hx, hb, hml, hown, hts⟩ (mtJ3_wordIndex l D w H.size x hx9) (va_cwS 1 hts (lw_S q174 q175 q39 q176) rfl rfl rfl (by decide +kernel) ⟨Nat.le_of_ble_eq_true rfl, Nat.le_of_ble_eq_true rfl⟩) (g_preS hW hK hE) rfl rfl hl.1 rfl (lv_room (Nat.le_of_ble_eq_true rfl)) dJ3_get_36 ⟨Nat.le_of_ble_eq_true rfl, Nat.le_of_ble_eq_true rfl⟩) hW (fun r_ u_ H locs hp hW => ?_)
    obtain ⟨er, rfl⟩ := hp
    subst er
    refine lv_istore_n (lv' := [(2, .int (nI (x / 64))), (0, .ref b), (1, .int (nI x))]) hx hb dJ3_get_39 rfl hl (by decide) rfl (fun ls hl => ?_)
    refine lv_iload_n hx hb dJ3_get_40 rfl (lv_at hl 0 rfl) ?_
    refine lv_aload_n hx hb dJ3_get_41 rfl (lv_at hl 1 rfl) ?_
    refine g_get (ci := 14) (v := .int (nI n)) (C := RJ3) (T := TJ3) (N := 3) hx hb hts in_J3 hown hK hW hbo rfl 1 (by decide) q178 (fun _ h9 => h9) rfl dJ3_get_42 ?_
    refine g_icmp_ge (tgt := 67) hx hb (by omega) (by omega) dJ3_get_45 (by decide) (fun hc2 => ?_) (fun hc2 => ?_)
    · refine lv_iconst (v := 0) hx hb dJ3_get_67 (by decide) ?_
      exact g_zret (v := 0) hx hb hr hlocks (by rfl) hW (⟨by rw [hE0 x (by omega)]; rfl, rfl⟩) (by omega) (by omega) dJ3_get_68
    · refine lv_aload_n hx hb dJ3_get_48 rfl (lv_at hl 1 rfl) ?_
      refine g_get (ci := 14) (v := .ref wa) (C := RJ3) (T := TJ3) (N := 3) hx hb hts in_J3 hown hK hW hbo rfl 0 (by decide) q177 (fun _ h9 => h9) rfl dJ3_get_49 ?_
      refine lv_iload_n hx hb dJ3_get_52 rfl (lv_at hl 0 rfl) ?_
      refine g_laldN (i := x / 64) hx hb hK hW hf (by omega) (by omega) dJ3_get_53 ?_
      refine lv_lconst (v := 1) hx hb dJ3_get_54 rfl ?_
      refine lv_iload_n hx hb dJ3_get_55 rfl (lv_at hl 2 rfl) ?_
      refine lv_lshl (v := (1) <<< ((nI x : Int32).toInt64 &&& 63)) hx hb dJ3_get_56 rfl ?_
      refine lv_land hx hb dJ3_get_57 ?_
      refine lv_lconst (v := 0) hx hb dJ3_get_58 rfl ?_
      refine W.lcmp hx hb dJ3_get_59 ?_
      refine lv_if_eq (tgt := 67) hx hb dJ3_get_60 (by decide) (fun hd => ?_) (fun hd => ?_)
      · have hz : E x = false := (g_bits_get hbits hx9 (by omega)).mp (g_lcmp0 hd)
        refine lv_iconst (v := 0) hx hb dJ3_get_67 (by decide) ?_
        exact g_zret (v := 0) hx hb hr hlocks (by rfl) hW (⟨by rw [hz]; rfl, rfl⟩) (by omega) (by omega) dJ3_get_68
      · have hz : E x = true := by
          cases q : E x
          · exact absurd (by rw [(g_bits_get hbits hx9 (by omega)).mpr q]; rfl) hd
          · rfl
        refine lv_iconst (v := 1) hx hb dJ3_get_63 (by decide) ?_
        refine lv_goto (tgt := 68) hx hb dJ3_get_64 (by decide) ?_
        exact g_zret (v := 1) hx hb hr hlocks (by rfl) hW (⟨by rw [hz]; rfl, rfl⟩) (by omega) (by omega) dJ3_get_68
  · exact absurd (Int32.not_lt.mp (nI_pos (by omega))) hc
set_option maxHeartbeats 4000000 in
set_option maxRecDepth 100000 in
/-- BitSet.cardinality: its loop -/
theorem lpJ3_cardinality {p : Program} {l : Launch} {e : Env} {R : Room} {s : State} {m : MethodId} {args : Array Value} {below : List Frame} {meth : Method} {c : Code} {cells slots : Nat} {Q : State → Prop} {D : va_G} {A : Nat → Prop} (hx : p.tables.exec = Jvm.exec) (hb : c.code = cJ3_cardinality) (hts : ∀ w ∈ lw_all, w.before args s = true) (hown : s.vm.findClass RJ3 = some m.cls) (hK : va_K D gCl (gT D) s) (hE : g_Env D A s) (hml : c.maxLocals = 3) (hRf : 2 ≤ R.frames) (hRl : 33 ≤ R.locals) (hRc : cells ≤ R.cells) (hRs : slots ≤ R.slots) (w : g_H) (b wa n cap : Nat) (E : Nat → Bool) (hbs : g_BS D w b wa E n cap)
    (kk : ∀ (H : Heap) (locs : List Loc) (ls : Array Slot), g_W D A s.heap H locs w → lv_has ls 3 [(1, .int (nI (fb_ct E (64 * n))))] → W p l e R s m args below meth c H locs cells slots Q (F0 m 30 ls [])) :
    ∀ (k : Nat) (i : Nat) (H : Heap) (locs : List Loc) (ls : Array Slot), n < i + k → i ≤ n → g_W D A s.heap H locs w → lv_has ls 3 [(2, .int (nI i)), (1, .int (nI (fb_ct E (64 * i)))), (0, .ref b)] → W p l e R s m args below meth c H locs cells slots Q (F0 m 4 ls []) := by
  intro k
  induction k with
  | zero => intro i H locs ls hfuel hi hW hl; exact absurd hfuel (by omega)
  | succ k ih =>
    intro i H locs ls hfuel hi hW hl
    obtain ⟨hbo, ⟨f, hf, hbits⟩, hnc, hc0, hc64, hE0⟩ := hbs
    refine lv_iload_n hx hb dJ3_cardinality_4 rfl (lv_at hl 0 rfl) ?_
    refine lv_aload_n hx hb dJ3_cardinality_5 rfl (lv_at hl 2 rfl) ?_
    refine g_get (ci := 14) (v := .int (nI n)) (C := RJ3) (T := TJ3) (N := 3) hx hb hts in_J3 hown hK hW hbo rfl 1 (by decide) q178 (fun _ h9 => h9) rfl dJ3_cardinality_6 ?_
    refine g_icmp_ge (tgt := 30) hx hb (by omega) (by omega) dJ3_cardinality_9 (by decide) (fun hc => ?_) (fun hc => ?_)
    · have e0 : i = n := by omega
      subst e0
      exact kk H locs ls hW (lv_sub hl [1] rfl)
    · refine lv_iload_n hx hb dJ3_cardinality_12 rfl (lv_at hl 1 rfl) ?_
      refine lv_aload_n hx hb dJ3_cardinality_13 rfl (lv_at hl 2 rfl) ?_
      refine g_get (ci := 14) (v := .ref wa) (C := RJ3) (T := TJ3) (N := 3) hx hb hts in_J3 hown hK hW hbo rfl 0 (by decide) q177 (fun _ h9 => h9) rfl dJ3_cardinality_14 ?_
      refine lv_iload_n hx hb dJ3_cardinality_17 rfl (lv_at hl 0 rfl) ?_
      refine g_laldN (i := i) hx hb hK hW hf (by omega) (by omega) dJ3_cardinality_18 ?_
      refine g_calli (va_runS (As := [.long (f (i))]) (rest := [.int (nI (fb_ct E (64 * i)))]) ⟨hx, hb, hml, hown, hts⟩ (mtJ27_bitCount l D w H.size (f i)) (va_cwS 1 hts (lw_S q427 q428 q77 q429) rfl rfl rfl (by decide +kernel) ⟨hRf, hRl⟩) (g_preS hW hK hE) rfl rfl hl.1 rfl (lv_room (Nat.le_of_ble_eq_true rfl)) dJ3_cardinality_19 ⟨hRc, hRs⟩) hW (fun r_ u_ H locs hp hW => ?_)
      obtain ⟨er, rfl⟩ := hp
      subst er
      refine lv_iadd hx hb dJ3_cardinality_22 ?_
      refine g_topi (y := nI (fb_ct E (64 * (i + 1)))) (by rw [g_bits_ct hbits (by omega), nI_add, show 64 * (i + 1) = 64 * i + 64 by omega, fb_ct_split]) ?_
      refine lv_istore_n (lv' := [(1, .int (nI (fb_ct E (64 * (i + 1))))), (2, .int (nI i)), (0, .ref b)]) hx hb dJ3_cardinality_23 rfl hl (by decide) rfl (fun ls hl => ?_)
      refine lv_iinc (v := nI (i + 1)) (lv' := [(2, .int (nI (i + 1))), (1, .int (nI (fb_ct E (64 * (i + 1))))), (0, .ref b)]) hx hb dJ3_cardinality_24 hl (k := 1) rfl (nI_1 i) (by decide) rfl (fun ls hl => ?_)
      refine lv_goto (tgt := 4) hx hb dJ3_cardinality_27 (by decide) ?_
      exact ih (i + 1) H locs ls (by omega) (by omega) hW hl
set_option maxHeartbeats 4000000 in
set_option maxRecDepth 100000 in
/-- BitSet.cardinality -/
theorem mtJ3_cardinality (l : Launch) (D : va_G) (w : g_H) (sz : Nat) (b wa n cap : Nat) (E : Nat → Bool) (hbs : g_BS D w b wa E n cap) : Met l yJ3_cardinality (ws_ yJ3_cardinality cJ3_cardinality 3 (some .int)) ({ frames := 3, cells := 0, slots := 0, locals := 80 }) (g_Pc D [.ref b] w sz) (g_Qi D w sz (fun r u => r = nI (fb_ct E (64 * n)) ∧ w = u)) (0) (0) (g_A w sz) := by
  refine Met.ofW (cc := cJ3_cardinality) (maxL := 3) (ret := (some .int)) (by decide) rfl ?_
  intro p e s m args below meth c s₁ B hml hv
  obtain ⟨rfl, hI⟩ := hv
  have hx := B.exec
  have hb := B.bytes
  have hr := B.returns
  have hts := atoms_spec (ws := ws_ yJ3_cardinality cJ3_cardinality 3 (some .int)) B.pre
  have hts : ∀ w ∈ lw_all, w.before _ s = true := fun w h => hts w (List.mem_cons_of_mem _ h)
  have hown : s.vm.findClass RJ3 = some m.cls := findClass_of_methodNamed B.named
  have hlocks := B.notSynchronized
  have hsz := hI.1
  subst hsz
  have hW := g_W.start hI
  have hK := g_K hI
  have hE := g_E hI
  have hl := lv_entry ([.ref b]) (n := 3) (by exact Nat.le_of_ble_eq_true rfl)
  rw [lg_entry_eq]
  generalize (lg_sl ([.ref b]) ++ List.replicate (3 - (lg_sl ([.ref b])).length) Slot.unset).toArray = ls at hl ⊢
  have hl : lv_has ls 3 [(0, .ref b)] := hl
  have hn5 := hbs.2.2.2.2.1.2
  refine lv_iconst (v := 0) hx hb dJ3_cardinality_0 (by decide) ?_
  refine lv_istore_n (lv' := [(1, .int (0)), (0, .ref b)]) hx hb dJ3_cardinality_1 rfl hl (by decide) rfl (fun ls hl => ?_)
  refine lv_iconst (v := 0) hx hb dJ3_cardinality_2 (by decide) ?_
  refine lv_istore_n (lv' := [(2, .int (0)), (1, .int (0)), (0, .ref b)]) hx hb dJ3_cardinality_3 rfl hl (by decide) rfl (fun ls hl => ?_)
  refine lpJ3_cardinality (D := D) hx hb hts hown hK hE hml (Nat.le_of_ble_eq_true rfl) (Nat.le_of_ble_eq_true rfl) (Nat.le_of_ble_eq_true rfl) (Nat.le_of_ble_eq_true rfl) w b wa n cap E hbs (fun H locs ls hW hl => ?_) (n + 1) 0 _ _ ls (by omega) (by omega) hW hl
  refine lv_iload_n hx hb dJ3_cardinality_30 rfl (lv_at hl 0 rfl) ?_
  exact g_iret (v := nI (fb_ct E (64 * n))) hx hb hr hlocks hW (⟨rfl, rfl⟩) (by omega) (by omega) dJ3_cardinality_31
set_option maxHeartbeats 4000000 in
set_option maxRecDepth 100000 in
/-- BitSet.or: its loop -/
theorem lpJ3_or {p : Program} {l : Launch} {e : Env} {R : Room} {s : State} {m : MethodId} {args : Array Value} {below : List Frame} {meth : Method} {c : Code} {cells slots : Nat} {Q : State → Prop} {D : va_G} {A : Nat → Prop} {H0 : Heap} (hx : p.tables.exec = Jvm.exec) (hb : c.code = cJ3_or) (hts : ∀ w ∈ lw_all, w.before args s = true) (hown : s.vm.findClass RJ3 = some m.cls) (hK : va_K D gCl (gT D) s) (w : g_H) (b wb cap N c9 wc cap2 m9 mn : Nat) (f f2 : Nat → Int64) (hm1 : mn ≤ cap) (hm2 : mn ≤ cap2) (hc1 : cap < 100) (hc2 : cap2 < 100) (nbc : b ≠ c9) (nw : wb ≠ wc)
    (kk : ∀ (w1 : g_H) (g : Nat → Int64) (H : Heap) (locs : List Loc) (ls : Array Slot), g_ex (fun z => z = b ∨ z = wb) w w1 → g_at w1 b (.inr (14, [.ref wb, .int (nI N), .int (0)])) → g_at w1 wb (.inl (D.1 103, cap, .inr (.inl (g)))) → g_at w1 c9 (.inr (14, [.ref wc, .int (nI m9), .int (0)])) → g_at w1 wc (.inl (D.1 103, cap2, .inr (.inl (f2)))) → (∀ j, j < mn → g j = f j ||| f2 j) → (∀ j, mn ≤ j → g j = f j) → g_W D A H0 H locs w1 → lv_has ls 4 [(2, .int (nI mn)), (0, .ref b), (1, .ref c9)] → W p l e R s m args below meth c H locs cells slots Q (F0 m 73 ls [])) :
    ∀ (k : Nat) (i : Nat) (w1 : g_H) (g : Nat → Int64) (H : Heap) (locs : List Loc) (ls : Array Slot), mn < i + k → i ≤ mn → g_ex (fun z => z = b ∨ z = wb) w w1 → g_at w1 b (.inr (14, [.ref wb, .int (nI N), .int (0)])) → g_at w1 wb (.inl (D.1 103, cap, .inr (.inl (g)))) → g_at w1 c9 (.inr (14, [.ref wc, .int (nI m9), .int (0)])) → g_at w1 wc (.inl (D.1 103, cap2, .inr (.inl (f2)))) → (∀ j, j < i → g j = f j ||| f2 j) → (∀ j, i ≤ j → g j = f j) → g_W D A H0 H locs w1 → lv_has ls 4 [(3, .int (nI i)), (2, .int (nI mn)), (0, .ref b), (1, .ref c9)] → W p l e R s m args below meth c H locs cells slots Q (F0 m 47 ls []) := by
  intro k
  induction k with
  | zero => intro i w1 g H locs ls hfuel hi hex h1 h2 h3 h4 hg1 hg2 hW hl; exact absurd hfuel (by omega)
  | succ k ih =>
    intro i w1 g H locs ls hfuel hi hex h1 h2 h3 h4 hg1 hg2 hW hl
    refine lv_iload_n hx hb dJ3_or_47 rfl (lv_at hl 0 rfl) ?_
    refine lv_iload_n hx hb dJ3_or_48 rfl (lv_at hl 1 rfl) ?_
    refine g_icmp_ge (tgt := 73) hx hb (by omega) (by omega) dJ3_or_49 (by decide) (fun hc => ?_) (fun hc => ?_)
    · have e0 : i = mn := by omega
      subst e0
      exact kk w1 g H locs ls hex h1 h2 h3 h4 hg1 hg2 hW (lv_sub hl [1, 2, 3] rfl)
    · refine lv_aload_n hx hb dJ3_or_52 rfl (lv_at hl 2 rfl) ?_
      refine g_get (ci := 14) (v := .ref wb) (C := RJ3) (T := TJ3) (N := 3) hx hb hts in_J3 hown hK hW h1 rfl 0 (by decide) q177 (fun _ h9 => h9) rfl dJ3_or_53 ?_
      refine lv_iload_n hx hb dJ3_or_56 rfl (lv_at hl 0 rfl) ?_
      refine lv_dup2_11 hx hb dJ3_or_57 rfl rfl ?_
      refine g_laldN (i := i) hx hb hK hW h2 (by omega) (by omega) dJ3_or_58 ?_
      refine lv_aload_n hx hb dJ3_or_59 rfl (lv_at hl 3 rfl) ?_
      refine g_get (ci := 14) (v := .ref wc) (C := RJ3) (T := TJ3) (N := 3) hx hb hts in_J3 hown hK hW h3 rfl 0 (by decide) q177 (fun _ h9 => h9) rfl dJ3_or_60 ?_
      refine lv_iload_n hx hb dJ3_or_63 rfl (lv_at hl 0 rfl) ?_
      refine g_laldN (i := i) hx hb hK hW h4 (by omega) (by omega) dJ3_or_64 ?_
      refine lv_lor hx hb dJ3_or_65 ?_
      refine g_lastN (i := i) hx hb hK hW h2 (by omega) (by omega) dJ3_or_66 (fun H locs hW => ?_)
      obtain ⟨f_1, ef_1⟩ : ∃ z__, z__ = vp_updL (g) (i) ((g (i)) ||| (f2 (i))) := ⟨_, rfl⟩
      rw [← ef_1] at hW
      obtain ⟨w_2, ew_2⟩ : ∃ z__, z__ = g_put w1 wb (.inl (D.1 103, cap, .inr (.inl (f_1)))) := ⟨_, rfl⟩
      have hW := g_W.ren hW ew_2 rfl
      have h_3 : g_at w_2 b (.inr (14, [.ref wb, .int (nI N), .int (0)])) := by rw [ew_2]; exact h1.put (g_neOA h1 h2)
      have h_4 : g_at w_2 wb (.inl (D.1 103, cap, .inr (.inl (f_1)))) := by rw [ew_2]; exact g_at.put_self h2.1
      have h_5 : g_at w_2 c9 (.inr (14, [.ref wc, .int (nI m9), .int (0)])) := by rw [ew_2]; exact h3.put (g_neOA h3 h2)
      have h_6 : g_at w_2 wc (.inl (D.1 103, cap2, .inr (.inl (f2)))) := by rw [ew_2]; exact h4.put nw.symm
      have x_7 : g_ex (fun z => z = b ∨ z = wb) w w_2 := by rw [ew_2]; exact hex.put (fun hz9 => (Or.inr rfl))
      refine lv_iinc (v := nI (i + 1)) (lv' := [(3, .int (nI (i + 1))), (2, .int (nI mn)), (0, .ref b), (1, .ref c9)]) hx hb dJ3_or_67 hl (k := 0) rfl (nI_1 i) (by decide) rfl (fun ls hl => ?_)
      refine lv_goto (tgt := 47) hx hb dJ3_or_70 (by decide) ?_
      refine ih (i + 1) w_2 f_1 H locs ls (by omega) (by omega) x_7 h_3 h_4 h_5 h_6 (fun j hj => ?_) (fun j hj => ?_) hW hl
      · rw [ef_1]
        by_cases r : j = i
        · subst r; rw [vl_s, hg2 j (Nat.le_refl _)]
        · rw [vl_n r]; exact hg1 j (by omega)
      · rw [ef_1, vl_n (by omega)]; exact hg2 j (by omega)
set_option maxHeartbeats 4000000 in
set_option maxRecDepth 100000 in
/-- BitSet.or -/
theorem mtJ3_or (l : Launch) (D : va_G) (w : g_H) (sz : Nat) (b wa n cap : Nat) (E : Nat → Bool) (hbs : g_BS D w b wa E n cap) (c9 wc m9 cap2 : Nat) (F : Nat → Bool) (hbs2 : g_BS D w c9 wc F m9 cap2) (nbc : b ≠ c9) (nw : wa ≠ wc) : Met l yJ3_or (ws_ yJ3_or cJ3_or 4 none) ({ frames := 4, cells := g_bc m9 cap, slots := g_bs m9 cap, locals := 124 }) (g_Pc D [.ref b, .ref c9] w sz) (g_Qv D w sz (fun u => ∃ wb, g_BS D u b wb (fun x => E x || F x) (max n m9) (g_bn m9 cap) ∧ (wb = wa ∨ wb ∉ w.1) ∧ g_ex (fun z => z = b ∨ z = wa) w u)) (g_bc m9 cap) (g_bs m9 cap) (g_A w sz) := by
  refine Met.ofW (cc := cJ3_or) (maxL := 4) (ret := none) (by decide) rfl ?_
  intro p e s m args below meth c s₁ B hml hv
  obtain ⟨rfl, hI⟩ := hv
  have hx := B.exec
  have hb := B.bytes
  have hr := B.returns
  have hts := atoms_spec (ws := ws_ yJ3_or cJ3_or 4 none) B.pre
  have hts : ∀ w ∈ lw_all, w.before _ s = true := fun w h => hts w (List.mem_cons_of_mem _ h)
  have hown : s.vm.findClass RJ3 = some m.cls := findClass_of_methodNamed B.named
  have hlocks := B.notSynchronized
  have hsz := hI.1
  subst hsz
  have hW := g_W.start hI
  have hK := g_K hI
  have hE := g_E hI
  have hl := lv_entry ([.ref b, .ref c9]) (n := 4) (by exact Nat.le_of_ble_eq_true rfl)
  rw [lg_entry_eq]
  generalize (lg_sl ([.ref b, .ref c9]) ++ List.replicate (4 - (lg_sl ([.ref b, .ref c9])).length) Slot.unset).toArray = ls at hl ⊢
  have hl : lv_has ls 4 [(0, .ref b), (1, .ref c9)] := hl
  have hbs9 := hbs
  obtain ⟨hbo, ⟨f, hf, hbits⟩, hnc, hc0, hc64, hE0⟩ := hbs
  obtain ⟨hco, ⟨f2, hf2, hbits2⟩, hnc2, hc02, hc642, hF0⟩ := hbs2
  refine lv_aload_n hx hb dJ3_or_0 rfl (lv_at hl 0 rfl) ?_
  refine lv_aload_n hx hb dJ3_or_1 rfl (lv_at hl 1 rfl) ?_
  refine lv_acmp_ne (rx := some b) (ry := some c9) (tgt := 6) hx hb dJ3_or_2 (by decide) (fun _ => ?_) (fun hd => absurd (Option.some.inj (by first | exact hd | exact Classical.not_not.mp hd)) nbc)
  refine lv_aload_n hx hb dJ3_or_6 rfl (lv_at hl 0 rfl) ?_
  refine g_get (ci := 14) (v := .int (nI n)) (C := RJ3) (T := TJ3) (N := 3) hx hb hts in_J3 hown hK hW hbo rfl 1 (by decide) q178 (fun _ h9 => h9) rfl dJ3_or_7 ?_
  refine lv_aload_n hx hb dJ3_or_10 rfl (lv_at hl 1 rfl) ?_
  refine g_get (ci := 14) (v := .int (nI m9)) (C := RJ3) (T := TJ3) (N := 3) hx hb hts in_J3 hown hK hW hco rfl 1 (by decide) q178 (fun _ h9 => h9) rfl dJ3_or_11 ?_
  refine g_calli (va_runS (As := [.int (nI n), .int (nI m9)]) (rest := []) ⟨hx, hb, hml, hown, hts⟩ (mtJ7_min l D w s.heap.size n m9 (by omega) (by omega)) (va_cwS 2 hts (lw_S q1265 q315 q43 q316) rfl rfl rfl (by decide +kernel) ⟨Nat.le_of_ble_eq_true rfl, Nat.le_of_ble_eq_true rfl⟩) (g_preS hW hK hE) rfl rfl hl.1 rfl (lv_room (Nat.le_of_ble_eq_true rfl)) dJ3_or_14 ⟨?_, ?_⟩) hW (fun r_ u_ H locs hp hW => ?_)
  · (try simp only [headSpec]); omega
  · (try simp only [headSpec]); omega
  obtain ⟨er, rfl⟩ := hp
  subst er
  refine lv_istore_n (lv' := [(2, .int (nI (min n m9))), (0, .ref b), (1, .ref c9)]) hx hb dJ3_or_17 rfl hl (by decide) rfl (fun ls hl => ?_)
  refine lv_aload_n hx hb dJ3_or_18 rfl (lv_at hl 1 rfl) ?_
  refine g_get (ci := 14) (v := .int (nI n)) (C := RJ3) (T := TJ3) (N := 3) hx hb hts in_J3 hown hK hW hbo rfl 1 (by decide) q178 (fun _ h9 => h9) rfl dJ3_or_19 ?_
  refine lv_aload_n hx hb dJ3_or_22 rfl (lv_at hl 2 rfl) ?_
  refine g_get (ci := 14) (v := .int (nI m9)) (C := RJ3) (T := TJ3) (N := 3) hx hb hts in_J3 hown hK hW hco rfl 1 (by decide) q178 (fun _ h9 => h9) rfl dJ3_or_23 ?_
  refine g_icmp_ge (tgt := 45) hx hb (by omega) (by omega) dJ3_or_26 (by decide) (fun hc => ?_) (fun hc => ?_)
  · have e1 : min n m9 = m9 := by omega
    have e2 : g_bn m9 cap = cap := if_neg (by omega)
    have e3 : max n m9 = n := by omega
    refine lv_iconst (v := 0) hx hb dJ3_or_45 (by decide) ?_
    refine lv_istore_n (lv' := [(3, .int (0)), (2, .int (nI (min n m9))), (0, .ref b), (1, .ref c9)]) hx hb dJ3_or_46 rfl hl (by decide) rfl (fun ls hl => ?_)
    refine lpJ3_or (D := D) hx hb hts hown hK w b wa cap n c9 wc cap2 m9 (min n m9) f f2 (by omega) (by omega) (by omega) (by omega) nbc nw (fun w1 g H locs ls hex h1 h2 h3 h4 hg1 hg2 hW hl => ?_) (min n m9 + 1) 0 _ f _ _ ls (by omega) (by omega) g_ex.rf hbo hf hco hf2 (fun j hj => absurd hj (by omega)) (fun j _ => rfl) hW hl
    refine lv_iload_n hx hb dJ3_or_73 rfl (lv_at hl 0 rfl) ?_
    refine lv_aload_n hx hb dJ3_or_74 rfl (lv_at hl 2 rfl) ?_
    refine g_get (ci := 14) (v := .int (nI m9)) (C := RJ3) (T := TJ3) (N := 3) hx hb hts in_J3 hown hK hW h3 rfl 1 (by decide) q178 (fun _ h9 => h9) rfl dJ3_or_75 ?_
    refine g_icmp_ge (tgt := 100) hx hb (by omega) (by omega) dJ3_or_78 (by decide) (fun hd => ?_) (fun hd => ?_)
    · refine lv_aload_n hx hb dJ3_or_100 rfl (lv_at hl 1 rfl) ?_
      refine g_callv (va_runV (As := []) (rest := []) ⟨hx, hb, hml, hown, hts⟩ (mtJ3_checkInvariants l D w1 H.size b) (cwV 0 hts (lw_V q1251 q1253 qs14 q39 q1254) rfl rfl rfl (by decide +kernel) ⟨Nat.le_of_ble_eq_true rfl, Nat.le_of_ble_eq_true rfl⟩) (g_preV hW hK hE h1 rfl) rfl rfl hl.1 rfl (lv_room (Nat.le_of_ble_eq_true rfl)) dJ3_or_101 ⟨?_, ?_⟩) hW (fun u_ H locs hp hW => ?_)
      · (try simp only [headSpec]); omega
      · (try simp only [headSpec]); omega
      subst hp
      refine g_vret hx hb hr hlocks hW (⟨wa, ?_, Or.inl rfl, hex⟩) (Nat.zero_le _) (Nat.zero_le _) dJ3_or_104
      rw [e2, e3]
      refine ⟨h1, ⟨g, h2, fun j hj i hi => ?_⟩, hnc, hc0, hc64, fun x hx => by show (E x || F x) = false; rw [hE0 x hx, hF0 x (by omega)]; rfl⟩
      show _ = (E _ || F _)
      by_cases r : j < m9
      · rw [hg1 j (by omega), Int64.toBitVec_or, BitVec.getLsbD_or, hbits j hj i hi, hbits2 j (by omega) i hi]
      · rw [hg2 j (by omega), hbits j hj i hi, hF0 _ (by omega), Bool.or_false]
    · exact absurd hd (by omega)
  · have e1 : min n m9 = n := by omega
    have e3 : max n m9 = m9 := by omega
    rw [e1] at hl
    refine lv_aload_n hx hb dJ3_or_29 rfl (lv_at hl 1 rfl) ?_
    refine lv_aload_n hx hb dJ3_or_30 rfl (lv_at hl 2 rfl) ?_
    refine g_get (ci := 14) (v := .int (nI m9)) (C := RJ3) (T := TJ3) (N := 3) hx hb hts in_J3 hown hK hW hco rfl 1 (by decide) q178 (fun _ h9 => h9) rfl dJ3_or_31 ?_
    refine g_callv (va_runV (As := [.int (nI m9)]) (rest := []) ⟨hx, hb, hml, hown, hts⟩ (mtJ3_ensureCapacity l D w H.size b wa n cap E hbs9 m9 hc642.2) (cwV 1 hts (lw_V q1238 q1240 qs13 q39 q1241) rfl rfl rfl (by decide +kernel) ⟨Nat.le_of_ble_eq_true rfl, Nat.le_of_ble_eq_true rfl⟩) (g_preV hW hK hE hbo rfl) rfl rfl hl.1 rfl (lv_room (Nat.le_of_ble_eq_true rfl)) dJ3_or_34 ⟨?_, ?_⟩) hW (fun u1 H locs hp hW => ?_)
    · (try simp only [headSpec]); omega
    · (try simp only [headSpec]); omega
    obtain ⟨wb, ⟨hb1, ⟨g, hg, hgb⟩, h4, h5, h6, h7⟩, h2, hex1⟩ := hp
    have hco1 := hex1.at hco (fun z => nbc z.symm)
    have hf21 := hex1.at hf2 (fun z => g_neAO hf2 hbo z)
    have nw2 : wb ≠ wc := h2.elim (fun q => by rw [q]; exact nw) (fun q z => q (z ▸ hf2.1))
    have hex2 : g_ex (fun z => z = b ∨ z = wb) w u1 := hex1.mono (fun _ _ z => Or.inl z)
    have hm9 : m9 ≤ g_bn m9 cap := by unfold g_bn; split <;> omega
    refine lv_aload_n hx hb dJ3_or_37 rfl (lv_at hl 1 rfl) ?_
    refine lv_aload_n hx hb dJ3_or_38 rfl (lv_at hl 2 rfl) ?_
    refine g_get (ci := 14) (v := .int (nI m9)) (C := RJ3) (T := TJ3) (N := 3) hx hb hts in_J3 hown hK hW hco1 rfl 1 (by decide) q178 (fun _ h9 => h9) rfl dJ3_or_39 ?_
    refine g_putf (ci := 14) (v := .int (nI m9)) (ty := .int) (C := RJ3) (T := TJ3) (N := 3) hx hb hts in_J3 tyJ3 tyJ3_ok nmJ3 hown hK hW hb1 rfl 1 (by decide) q178 (fun _ h9 => h9) rfl (by decide +kernel) rfl rfl (Nat.le_of_ble_eq_true rfl) dJ3_or_42 (fun H locs hW => ?_)
    obtain ⟨w_1, ew_1⟩ : ∃ z__, z__ = g_put u1 b (.inr (14, [.ref wb, .int (nI m9), .int (0)])) := ⟨_, rfl⟩
    have hW := g_W.ren hW ew_1 rfl
    have h_2 : g_at w_1 b (.inr (14, [.ref wb, .int (nI m9), .int (0)])) := by rw [ew_1]; exact g_at.put_self hb1.1
    have h_3 : g_at w_1 wb (.inl (D.1 103, (g_bn m9 cap), .inr (.inl (g)))) := by rw [ew_1]; exact hg.put (g_neAO hg hb1)
    have h_4 : g_at w_1 c9 (.inr (14, [.ref wc, .int (nI m9), .int (0)])) := by rw [ew_1]; exact hco1.put nbc.symm
    have h_5 : g_at w_1 wc (.inl (D.1 103, cap2, .inr (.inl (f2)))) := by rw [ew_1]; exact hf21.put (g_neAO hf21 hb1)
    have x_6 : g_ex (fun z => z = b ∨ z = wb) w w_1 := by rw [ew_1]; exact hex2.put (fun hz9 => (Or.inl rfl))
    refine lv_iconst (v := 0) hx hb dJ3_or_45 (by decide) ?_
    refine lv_istore_n (lv' := [(3, .int (0)), (2, .int (nI n)), (0, .ref b), (1, .ref c9)]) hx hb dJ3_or_46 rfl hl (by decide) rfl (fun ls hl => ?_)
    refine lpJ3_or (D := D) hx hb hts hown hK w b wb (g_bn m9 cap) m9 c9 wc cap2 m9 n g f2 (by omega) (by omega) (by omega) (by omega) nbc nw2 (fun w1 g1 H locs ls hex h1 h2b h3 h4b hg1 hg2 hW hl => ?_) (n + 1) 0 _ g _ _ ls (by omega) (by omega) x_6 h_2 h_3 h_4 h_5 (fun j hj => absurd hj (by omega)) (fun j _ => rfl) hW hl
    refine lv_iload_n hx hb dJ3_or_73 rfl (lv_at hl 0 rfl) ?_
    refine lv_aload_n hx hb dJ3_or_74 rfl (lv_at hl 2 rfl) ?_
    refine g_get (ci := 14) (v := .int (nI m9)) (C := RJ3) (T := TJ3) (N := 3) hx hb hts in_J3 hown hK hW h3 rfl 1 (by decide) q178 (fun _ h9 => h9) rfl dJ3_or_75 ?_
    refine g_icmp_ge (tgt := 100) hx hb (by omega) (by omega) dJ3_or_78 (by decide) (fun hd => ?_) (fun hd => ?_)
    · exact absurd hd (by omega)
    · refine lv_aload_n hx hb dJ3_or_81 rfl (lv_at hl 2 rfl) ?_
      refine g_get (ci := 14) (v := .ref wc) (C := RJ3) (T := TJ3) (N := 3) hx hb hts in_J3 hown hK hW h3 rfl 0 (by decide) q177 (fun _ h9 => h9) rfl dJ3_or_82 ?_
      refine lv_iload_n hx hb dJ3_or_85 rfl (lv_at hl 0 rfl) ?_
      refine lv_aload_n hx hb dJ3_or_86 rfl (lv_at hl 1 rfl) ?_
      refine g_get (ci := 14) (v := .ref wb) (C := RJ3) (T := TJ3) (N := 3) hx hb hts in_J3 hown hK hW h1 rfl 0 (by decide) q177 (fun _ h9 => h9) rfl dJ3_or_87 ?_
      refine lv_iload_n hx hb dJ3_or_90 rfl (lv_at hl 0 rfl) ?_
      refine lv_aload_n hx hb dJ3_or_91 rfl (lv_at hl 1 rfl) ?_
      refine g_get (ci := 14) (v := .int (nI m9)) (C := RJ3) (T := TJ3) (N := 3) hx hb hts in_J3 hown hK hW h1 rfl 1 (by decide) q178 (fun _ h9 => h9) rfl dJ3_or_92 ?_
      refine lv_iload_n hx hb dJ3_or_95 rfl (lv_at hl 0 rfl) ?_
      refine lv_isub hx hb dJ3_or_96 ?_
      refine g_topi (y := nI (m9 - n)) (pk_sub (by omega)) ?_
      refine g_copyl hx hb (hml.trans hl.1.symm) hts hown q1266 hK hW h4b h2b n n (m9 - n) (by omega) (by omega) (by omega) (by omega) (Nat.le_of_ble_eq_true rfl) (Nat.le_of_ble_eq_true rfl) dJ3_or_97 (fun H locs hW => ?_)
      obtain ⟨f_7, ef_7⟩ : ∃ z__, z__ = va_cpy f2 g1 n n (m9 - n) := ⟨_, rfl⟩
      rw [← ef_7] at hW
      obtain ⟨w_8, ew_8⟩ : ∃ z__, z__ = g_put w1 wb (.inl (D.1 103, (g_bn m9 cap), .inr (.inl (f_7)))) := ⟨_, rfl⟩
      have hW := g_W.ren hW ew_8 rfl
      have h_9 : g_at w_8 b (.inr (14, [.ref wb, .int (nI m9), .int (0)])) := by rw [ew_8]; exact h1.put (g_neOA h1 h2b)
      have h_10 : g_at w_8 wb (.inl (D.1 103, (g_bn m9 cap), .inr (.inl (f_7)))) := by rw [ew_8]; exact g_at.put_self h2b.1
      have h_11 : g_at w_8 c9 (.inr (14, [.ref wc, .int (nI m9), .int (0)])) := by rw [ew_8]; exact h3.put (g_neOA h3 h2b)
      have h_12 : g_at w_8 wc (.inl (D.1 103, cap2, .inr (.inl (f2)))) := by rw [ew_8]; exact h4b.put nw2.symm
      have x_13 : g_ex (fun z => z = b ∨ z = wb) w w_8 := by rw [ew_8]; exact hex.put (fun hz9 => (Or.inr rfl))
      refine lv_aload_n hx hb dJ3_or_100 rfl (lv_at hl 1 rfl) ?_
      refine g_callv (va_runV (As := []) (rest := []) ⟨hx, hb, hml, hown, hts⟩ (mtJ3_checkInvariants l D w_8 H.size b) (cwV 0 hts (lw_V q1251 q1253 qs14 q39 q1254) rfl rfl rfl (by decide +kernel) ⟨Nat.le_of_ble_eq_true rfl, Nat.le_of_ble_eq_true rfl⟩) (g_preV hW hK hE h_9 rfl) rfl rfl hl.1 rfl (lv_room (Nat.le_of_ble_eq_true rfl)) dJ3_or_101 ⟨?_, ?_⟩) hW (fun u_ H locs hp hW => ?_)
      · (try simp only [headSpec]); omega
      · (try simp only [headSpec]); omega
      subst hp
      refine g_vret hx hb hr hlocks hW (⟨wb, ?_, h2, x_13.mono (fun a ha z => z.elim Or.inl (fun z => h2.elim (fun q => Or.inr (z.trans q)) (fun q => absurd (z ▸ ha) q)))⟩) (by omega) (by omega) dJ3_or_104
      rw [e3]
      refine ⟨h_9, ⟨f_7, h_10, fun j hj i hi => ?_⟩, hm9, h5, ⟨h6.1, hc642.2⟩, fun x hx => by show (E x || F x) = false; rw [hE0 x (by omega), hF0 x hx]; rfl⟩
      rw [ef_7]
      unfold va_cpy
      show _ = (E _ || F _)
      by_cases r : n ≤ j ∧ j < n + (m9 - n)
      · rw [if_pos r, show n + (j - n) = j by omega, hbits2 j (by omega) i hi, hE0 _ (by omega), Bool.false_or]
      · rw [if_neg r]
        by_cases r2 : j < n
        · rw [hg1 j r2, Int64.toBitVec_or, BitVec.getLsbD_or, hgb j hj i hi, hbits2 j (by omega) i hi]
        · rw [hg2 j (by omega), hgb j hj i hi, hF0 _ (by omega), Bool.or_false]
set_option maxHeartbeats 4000000 in
set_option maxRecDepth 100000 in
/-- new ArrayList.Itr -/
theorem mtJ28_init (l : Launch) (D : va_G) (w : g_H) (sz : Nat) (it a ar n : Nat) (mo : Int32) (ha : g_at w a (.inr (11, [.int mo, .ref ar, .int (nI n)]))) (hit : g_at w it (.inr (17, [.int 0, .int 0, .int 0, .null]))) : Met l yJ28_init (ws_ yJ28_init cJ28_init 2 none) ({ frames := 1, cells := 0, slots := 0, locals := 12 }) (g_Pc D [.ref it, .ref a] w sz) (g_Qv D w sz (fun u => g_at u it (.inr (17, [.int 0, .int (-1), .int mo, .ref a])) ∧ g_ex (fun q => q = it) w u)) (0) (0) (g_A w sz) := by
  refine Met.ofW (cc := cJ28_init) (maxL := 2) (ret := none) (by decide) rfl ?_
  intro p e s m args below meth c s₁ B hml hv
  obtain ⟨rfl, hI⟩ := hv
  have hx := B.exec
  have hb := B.bytes
  have hr := B.returns
  have hts := atoms_spec (ws := ws_ yJ28_init cJ28_init 2 none) B.pre
  have hts : ∀ w ∈ lw_all, w.before _ s = true := fun w h => hts w (List.mem_cons_of_mem _ h)
  have hown : s.vm.findClass RJ28 = some m.cls := findClass_of_methodNamed B.named
  have hlocks := B.notSynchronized
  have hin : meth.name = "<init>" := (name_of_methodNamed B.named B.method).1
  have hsz := hI.1
  subst hsz
  have hW := g_W.start hI
  have hK := g_K hI
  have hE := g_E hI
  have hl := lv_entry ([.ref it, .ref a]) (n := 2) (by exact Nat.le_of_ble_eq_true rfl)
  rw [lg_entry_eq]
  generalize (lg_sl ([.ref it, .ref a]) ++ List.replicate (2 - (lg_sl ([.ref it, .ref a])).length) Slot.unset).toArray = ls at hl ⊢
  have hl : lv_has ls 2 [(0, .ref it), (1, .ref a)] := hl
  have x_1 : g_ex (fun q => q = it) w w := g_ex.rf
  refine lv_aload_n hx hb dJ28_init_0 rfl (lv_at hl 0 rfl) ?_
  refine lv_aload_n hx hb dJ28_init_1 rfl (lv_at hl 1 rfl) ?_
  refine g_putF (ci := 17) (v := .ref a) (ty := (.object "java/util/ArrayList")) (C := RJ28) (T := TJ28) (N := 4) hx hb hts in_J28 tyJ28 tyJ28_ok nmJ28 hown hK hW hit rfl 3 (by decide) q1305 (fun _ h9 => h9) rfl hin rfl (by decide +kernel) rfl rfl (Nat.le_of_ble_eq_true rfl) dJ28_init_2 (fun H locs hW => ?_)
  obtain ⟨w_2, ew_2⟩ : ∃ z__, z__ = g_put w it (.inr (17, [.int (0), .int (0), .int (0), .ref a])) := ⟨_, rfl⟩
  have hW := g_W.ren hW ew_2 rfl
  have h_3 : g_at w_2 it (.inr (17, [.int (0), .int (0), .int (0), .ref a])) := by rw [ew_2]; exact g_at.put_self hit.1
  have h_4 : g_at w_2 a (.inr (11, [.int (mo), .ref ar, .int (nI n)])) := by rw [ew_2]; exact ha.put (g_neO ha hit (by decide))
  have x_5 : g_ex (fun q => q = it) w w_2 := by rw [ew_2]; exact x_1.put (fun hz9 => rfl)
  refine lv_aload_n hx hb dJ28_init_5 rfl (lv_at hl 0 rfl) ?_
  refine W.objInit hx hb hown (hts _ q1299) (hts _ q104) (hts _ q105) rfl (by rw [hml]; exact hl.1) rfl dJ28_init_6 (Nat.le_of_ble_eq_true rfl) (Nat.le_of_ble_eq_true rfl) ?_
  refine W.eq (g2 := F0 m 9 ls []) rfl ?_
  refine lv_aload_n hx hb dJ28_init_9 rfl (lv_at hl 0 rfl) ?_
  refine lv_iconst (v := (-1)) hx hb dJ28_init_10 (by decide) ?_
  refine g_putf (ci := 17) (v := .int ((-1))) (ty := .int) (C := RJ28) (T := TJ28) (N := 4) hx hb hts in_J28 tyJ28 tyJ28_ok nmJ28 hown hK hW h_3 rfl 1 (by decide) q1303 (fun _ h9 => h9) rfl (by decide +kernel) rfl rfl (Nat.le_of_ble_eq_true rfl) dJ28_init_11 (fun H locs hW => ?_)
  obtain ⟨w_6, ew_6⟩ : ∃ z__, z__ = g_put w_2 it (.inr (17, [.int (0), .int ((-1)), .int (0), .ref a])) := ⟨_, rfl⟩
  have hW := g_W.ren hW ew_6 rfl
  have h_7 : g_at w_6 it (.inr (17, [.int (0), .int ((-1)), .int (0), .ref a])) := by rw [ew_6]; exact g_at.put_self h_3.1
  have h_8 : g_at w_6 a (.inr (11, [.int (mo), .ref ar, .int (nI n)])) := by rw [ew_6]; exact h_4.put (g_neO h_4 h_3 (by decide))
  have x_9 : g_ex (fun q => q = it) w w_6 := by rw [ew_6]; exact x_5.put (fun hz9 => rfl)
  refine lv_aload_n hx hb dJ28_init_14 rfl (lv_at hl 0 rfl) ?_
  refine lv_aload_n hx hb dJ28_init_15 rfl (lv_at hl 0 rfl) ?_
  refine g_get (ci := 17) (v := .ref a) (C := RJ28) (T := TJ28) (N := 4) hx hb hts in_J28 hown hK hW h_7 rfl 3 (by decide) q1305 (fun _ h9 => h9) rfl dJ28_init_16 ?_
  refine g_get (ci := 11) (v := .int (mo)) (C := RJ2) (T := TJ2) (N := 3) hx hb hts in_J2 hown hK hW h_8 rfl 0 (by decide) q146 (fun x9 h9 => u_same (hts _ q147) x9 h9) rfl dJ28_init_19 ?_
  refine g_putf (ci := 17) (v := .int (mo)) (ty := .int) (C := RJ28) (T := TJ28) (N := 4) hx hb hts in_J28 tyJ28 tyJ28_ok nmJ28 hown hK hW h_7 rfl 2 (by decide) q1304 (fun _ h9 => h9) rfl (by decide +kernel) rfl rfl (Nat.le_of_ble_eq_true rfl) dJ28_init_22 (fun H locs hW => ?_)
  obtain ⟨w_10, ew_10⟩ : ∃ z__, z__ = g_put w_6 it (.inr (17, [.int (0), .int ((-1)), .int (mo), .ref a])) := ⟨_, rfl⟩
  have hW := g_W.ren hW ew_10 rfl
  have h_11 : g_at w_10 it (.inr (17, [.int (0), .int ((-1)), .int (mo), .ref a])) := by rw [ew_10]; exact g_at.put_self h_7.1
  have h_12 : g_at w_10 a (.inr (11, [.int (mo), .ref ar, .int (nI n)])) := by rw [ew_10]; exact h_8.put (g_neO h_8 h_7 (by decide))
  have x_13 : g_ex (fun q => q = it) w w_10 := by rw [ew_10]; exact x_9.put (fun hz9 => rfl)
  exact g_vret hx hb hr hlocks hW (⟨h_11, x_13⟩) (by omega) (by omega) dJ28_init_25
set_option maxHeartbeats 4000000 in
set_option maxRecDepth 100000 in
/-- ArrayList.iterator -/
theorem mtJ2_iterator (l : Launch) (D : va_G) (w : g_H) (sz : Nat) (a ar n : Nat) (mo : Int32) (ha : g_at w a (.inr (11, [.int mo, .ref ar, .int (nI n)]))) : Met l yJ2_iterator (ws_ yJ2_iterator cJ2_iterator 1 (some (.object "java/util/Iterator"))) ({ frames := 2, cells := 1, slots := 4, locals := 33 }) (g_Pc D [.ref a] w sz) (g_Qq D w sz (fun r u => ∃ it, r = some it ∧ it ∉ w.1 ∧ g_at u it (.inr (17, [.int (nI 0), .int (-1), .int mo, .ref a])) ∧ g_ex (fun _ => False) w u)) (1) (4) (g_A w sz) := by
  refine Met.ofW (cc := cJ2_iterator) (maxL := 1) (ret := (some (.object "java/util/Iterator"))) (by decide) rfl ?_
  intro p e s m args below meth c s₁ B hml hv
  obtain ⟨rfl, hI⟩ := hv
  have hx := B.exec
  have hb := B.bytes
  have hr := B.returns
  have hts := atoms_spec (ws := ws_ yJ2_iterator cJ2_iterator 1 (some (.object "java/util/Iterator"))) B.pre
  have hts : ∀ w ∈ lw_all, w.before _ s = true := fun w h => hts w (List.mem_cons_of_mem _ h)
  have hown : s.vm.findClass RJ2 = some m.cls := findClass_of_methodNamed B.named
  have hlocks := B.notSynchronized
  have hsz := hI.1
  subst hsz
  have hW := g_W.start hI
  have hK := g_K hI
  have hE := g_E hI
  have hl := lv_entry ([.ref a]) (n := 1) (by exact Nat.le_of_ble_eq_true rfl)
  rw [lg_entry_eq]
  generalize (lg_sl ([.ref a]) ++ List.replicate (1 - (lg_sl ([.ref a])).length) Slot.unset).toArray = ls at hl ⊢
  have hl : lv_has ls 1 [(0, .ref a)] := hl
  have x_1 : g_ex (fun _ => False) w w := g_ex.rf
  refine g_newo (ci := 17) (C := RJ28) (T := TJ28) (N := 4) hx hb hts in_J28 tyJ28 tyJ28_ok hown q1294 q1295 q78 hK hW rfl [.int (0), .int (0), .int (0), .null] (by decide +kernel) ?_ ?_ dJ2_iterator_0 (fun o_2 H hq hW => ?_)
  · show _ ≤ 1; omega
  · show _ ≤ 4; omega
  have ho_2 := hq
  obtain ⟨w_3, ew_3⟩ : ∃ z__, z__ = g_push w o_2 (.inr (17, [.int (0), .int (0), .int (0), .null])) := ⟨_, rfl⟩
  have hW := g_W.ren hW ew_3 rfl
  have h_4 : g_at w_3 a (.inr (11, [.int (mo), .ref ar, .int (nI n)])) := by rw [ew_3]; exact ha.push hq
  have h_5 : g_at w_3 o_2 (.inr (17, [.int (0), .int (0), .int (0), .null])) := by rw [ew_3]; exact g_at.push_self
  have x_6 : g_ex (fun _ => False) w w_3 := by rw [ew_3]; exact x_1.push hq
  refine lv_dup hx hb dJ2_iterator_3 rfl ?_
  refine lv_aload_n hx hb dJ2_iterator_4 rfl (lv_at hl 0 rfl) ?_
  refine g_callv (va_runI (As := [.ref a]) (rest := [.ref o_2]) ⟨hx, hb, hml, hown, hts⟩ (mtJ28_init l D w_3 H.size o_2 a ar n mo h_4 h_5) (cwI 1 hts (lw_meth q1298) rfl rfl rfl (hts _ q78) (hts _ q1296) (hts _ q1297) rfl (by decide +kernel) ⟨Nat.le_of_ble_eq_true rfl, Nat.le_of_ble_eq_true rfl⟩) (g_preS hW hK hE) rfl rfl hl.1 rfl (lv_room (Nat.le_of_ble_eq_true rfl)) dJ2_iterator_5 ⟨?_, ?_⟩) hW (fun u1 H locs hp hW => ?_)
  · (try simp only [headSpec]); omega
  · (try simp only [headSpec]); omega
  obtain ⟨h1, h2⟩ := hp
  exact g_qret (v := some o_2) hx hb hr (Or.inl ⟨_, rfl⟩) hlocks hW (⟨o_2, rfl, ho_2, h1, x_6.trM h2 (fun z hz1 hz2 => ho_2 (hz2 ▸ hz1))⟩) (by omega) (by omega) dJ2_iterator_8
set_option maxHeartbeats 4000000 in
set_option maxRecDepth 100000 in
/-- ArrayList.Itr.hasNext -/
theorem mtJ28_hasNext (l : Launch) (D : va_G) (w : g_H) (sz : Nat) (it a ar n i : Nat) (mo lr : Int32) (ha : g_at w a (.inr (11, [.int mo, .ref ar, .int (nI n)]))) (hit : g_at w it (.inr (17, [.int (nI i), .int lr, .int mo, .ref a]))) (hi : i ≤ n) (hn : n < 1000) : Met l yJ28_hasNext (ws_ yJ28_hasNext cJ28_hasNext 1 (some .boolean)) ({ frames := 1, cells := 0, slots := 0, locals := 12 }) (g_Pc D [.ref it] w sz) (g_Qi D w sz (fun r u => r = (if i < n then 1 else 0) ∧ w = u)) (0) (0) (g_A w sz) := by
  refine Met.ofW (cc := cJ28_hasNext) (maxL := 1) (ret := (some .boolean)) (by decide) rfl ?_
  intro p e s m args below meth c s₁ B hml hv
  obtain ⟨rfl, hI⟩ := hv
  have hx := B.exec
  have hb := B.bytes
  have hr := B.returns
  have hts := atoms_spec (ws := ws_ yJ28_hasNext cJ28_hasNext 1 (some .boolean)) B.pre
  have hts : ∀ w ∈ lw_all, w.before _ s = true := fun w h => hts w (List.mem_cons_of_mem _ h)
  have hown : s.vm.findClass RJ28 = some m.cls := findClass_of_methodNamed B.named
  have hlocks := B.notSynchronized
  have hsz := hI.1
  subst hsz
  have hW := g_W.start hI
  have hK := g_K hI
  have hE := g_E hI
  have hl := lv_entry ([.ref it]) (n := 1) (by exact Nat.le_of_ble_eq_true rfl)
  rw [lg_entry_eq]
  generalize (lg_sl ([.ref it]) ++ List.replicate (1 - (lg_sl ([.ref it])).length) Slot.unset).toArray = ls at hl ⊢
  have hl : lv_has ls 1 [(0, .ref it)] := hl
  refine lv_aload_n hx hb dJ28_hasNext_0 rfl (lv_at hl 0 rfl) ?_
  refine g_get (ci := 17) (v := .int (nI i)) (C := RJ28) (T := TJ28) (N := 4) hx hb hts in_J28 hown hK hW hit rfl 0 (by decide) q1302 (fun _ h9 => h9) rfl dJ28_hasNext_1 ?_
  refine lv_aload_n hx hb dJ28_hasNext_4 rfl (lv_at hl 0 rfl) ?_
  refine g_get (ci := 17) (v := .ref a) (C := RJ28) (T := TJ28) (N := 4) hx hb hts in_J28 hown hK hW hit rfl 3 (by decide) q1305 (fun _ h9 => h9) rfl dJ28_hasNext_5 ?_
  refine g_getN (ci := 11) (v := .int (nI n)) (C := RJ2) (T := TJ2) (N := 3) hx hb hts in_J2 hown hK hW ha rfl 2 (by decide) (nf_q141 hE) (fun _ h9 => h9) rfl dJ28_hasNext_8 ?_
  refine lv_icmp_eq (tgt := 18) hx hb dJ28_hasNext_11 (by decide) (fun hd => ?_) (fun hd => ?_)
  · have hz : ¬ i < n := fun z => absurd hd (nI_ne (by omega) (by omega) (by omega))
    refine lv_iconst (v := 0) hx hb dJ28_hasNext_18 (by decide) ?_
    exact g_zret (v := 0) hx hb hr hlocks (by rfl) hW (⟨by rw [if_neg hz], rfl⟩) (by omega) (by omega) dJ28_hasNext_19
  · have hz : i < n := by
      refine Classical.byContradiction fun z => hd ?_
      rw [show i = n by omega]
    refine lv_iconst (v := 1) hx hb dJ28_hasNext_14 (by decide) ?_
    refine lv_goto (tgt := 19) hx hb dJ28_hasNext_15 (by decide) ?_
    exact g_zret (v := 1) hx hb hr hlocks (by rfl) hW (⟨by rw [if_pos hz], rfl⟩) (by omega) (by omega) dJ28_hasNext_19
set_option maxHeartbeats 4000000 in
set_option maxRecDepth 100000 in
/-- ArrayList.Itr.checkForComodification -/
theorem mtJ28_checkForComodification (l : Launch) (D : va_G) (w : g_H) (sz : Nat) (it a ar n i : Nat) (mo lr : Int32) (ha : g_at w a (.inr (11, [.int mo, .ref ar, .int (nI n)]))) (hit : g_at w it (.inr (17, [.int (nI i), .int lr, .int mo, .ref a]))) : Met l yJ28_checkForComodification (ws_ yJ28_checkForComodification cJ28_checkForComodification 1 none) ({ frames := 1, cells := 0, slots := 0, locals := 12 }) (g_Pc D [.ref it] w sz) (g_Qv D w sz (fun u => w = u)) (0) (0) (g_A w sz) := by
  refine Met.ofW (cc := cJ28_checkForComodification) (maxL := 1) (ret := none) (by decide) rfl ?_
  intro p e s m args below meth c s₁ B hml hv
  obtain ⟨rfl, hI⟩ := hv
  have hx := B.exec
  have hb := B.bytes
  have hr := B.returns
  have hts := atoms_spec (ws := ws_ yJ28_checkForComodification cJ28_checkForComodification 1 none) B.pre
  have hts : ∀ w ∈ lw_all, w.before _ s = true := fun w h => hts w (List.mem_cons_of_mem _ h)
  have hown : s.vm.findClass RJ28 = some m.cls := findClass_of_methodNamed B.named
  have hlocks := B.notSynchronized
  have hsz := hI.1
  subst hsz
  have hW := g_W.start hI
  have hK := g_K hI
  have hE := g_E hI
  have hl := lv_entry ([.ref it]) (n := 1) (by exact Nat.le_of_ble_eq_true rfl)
  rw [lg_entry_eq]
  generalize (lg_sl ([.ref it]) ++ List.replicate (1 - (lg_sl ([.ref it])).length) Slot.unset).toArray = ls at hl ⊢
  have hl : lv_has ls 1 [(0, .ref it)] := hl
  refine lv_aload_n hx hb dJ28_checkForComodification_0 rfl (lv_at hl 0 rfl) ?_
  refine g_get (ci := 17) (v := .ref a) (C := RJ28) (T := TJ28) (N := 4) hx hb hts in_J28 hown hK hW hit rfl 3 (by decide) q1305 (fun _ h9 => h9) rfl dJ28_checkForComodification_1 ?_
  refine g_get (ci := 11) (v := .int (mo)) (C := RJ2) (T := TJ2) (N := 3) hx hb hts in_J2 hown hK hW ha rfl 0 (by decide) q146 (fun x9 h9 => u_same (hts _ q147) x9 h9) rfl dJ28_checkForComodification_4 ?_
  refine lv_aload_n hx hb dJ28_checkForComodification_7 rfl (lv_at hl 0 rfl) ?_
  refine g_get (ci := 17) (v := .int (mo)) (C := RJ28) (T := TJ28) (N := 4) hx hb hts in_J28 hown hK hW hit rfl 2 (by decide) q1304 (fun _ h9 => h9) rfl dJ28_checkForComodification_8 ?_
  refine lv_icmp_eq (tgt := 22) hx hb dJ28_checkForComodification_11 (by decide) (fun hd => ?_) (fun hd => ?_)
  · exact g_vret hx hb hr hlocks hW (rfl) (by omega) (by omega) dJ28_checkForComodification_22
  · exact absurd rfl hd
set_option maxHeartbeats 4000000 in
set_option maxRecDepth 100000 in
/-- ArrayList.Itr.next -/
theorem mtJ28_next (l : Launch) (D : va_G) (w : g_H) (sz : Nat) (it a ar cap i : Nat) (xs : List Nat) (f : Nat → Option Nat) (mo lr : Int32) (ha : g_at w a (.inr (11, [.int mo, .ref ar, .int (nI xs.length)]))) (hf : g_at w ar (.inl (D.1 104, cap, .inr (.inr (.inr (.inr f)))))) (his : g_isq f xs) (hit : g_at w it (.inr (17, [.int (nI i), .int lr, .int mo, .ref a]))) (hi : i < xs.length) (hlen : xs.length ≤ cap) (hcap : cap < 1000) : Met l yJ28_next (ws_ yJ28_next cJ28_next 3 (some (.object "java/lang/Object"))) ({ frames := 2, cells := 0, slots := 0, locals := 32 }) (g_Pc D [.ref it] w sz) (g_Qq D w sz (fun r u => r = some (xs.getD i 0) ∧ g_at u it (.inr (17, [.int (nI (i + 1)), .int (nI i), .int mo, .ref a])) ∧ g_ex (fun q => q = it) w u)) (0) (0) (g_A w sz) := by
  refine Met.ofW (cc := cJ28_next) (maxL := 3) (ret := (some (.object "java/lang/Object"))) (by decide) rfl ?_
  intro p e s m args below meth c s₁ B hml hv
  obtain ⟨rfl, hI⟩ := hv
  have hx := B.exec
  have hb := B.bytes
  have hr := B.returns
  have hts := atoms_spec (ws := ws_ yJ28_next cJ28_next 3 (some (.object "java/lang/Object"))) B.pre
  have hts : ∀ w ∈ lw_all, w.before _ s = true := fun w h => hts w (List.mem_cons_of_mem _ h)
  have hown : s.vm.findClass RJ28 = some m.cls := findClass_of_methodNamed B.named
  have hlocks := B.notSynchronized
  have hsz := hI.1
  subst hsz
  have hW := g_W.start hI
  have hK := g_K hI
  have hE := g_E hI
  have hl := lv_entry ([.ref it]) (n := 3) (by exact Nat.le_of_ble_eq_true rfl)
  rw [lg_entry_eq]
  generalize (lg_sl ([.ref it]) ++ List.replicate (3 - (lg_sl ([.ref it])).length) Slot.unset).toArray = ls at hl ⊢
  have hl : lv_has ls 3 [(0, .ref it)] := hl
  have x_1 : g_ex (fun q => q = it) w w := g_ex.rf
  refine lv_aload_n hx hb dJ28_next_0 rfl (lv_at hl 0 rfl) ?_
  refine g_callv (va_runV (As := []) (rest := []) ⟨hx, hb, hml, hown, hts⟩ (mtJ28_checkForComodification l D w s.heap.size it a ar xs.length i mo lr ha hit) (cwV 0 hts (lw_V q1503 q1504 q1505 q78 q1508) rfl rfl rfl (by decide +kernel) ⟨Nat.le_of_ble_eq_true rfl, Nat.le_of_ble_eq_true rfl⟩) (g_preV hW hK hE hit rfl) rfl rfl hl.1 rfl (lv_room (Nat.le_of_ble_eq_true rfl)) dJ28_next_1 ⟨Nat.le_of_ble_eq_true rfl, Nat.le_of_ble_eq_true rfl⟩) hW (fun u_ H locs hp hW => ?_)
  subst hp
  refine lv_aload_n hx hb dJ28_next_4 rfl (lv_at hl 0 rfl) ?_
  refine g_get (ci := 17) (v := .int (nI i)) (C := RJ28) (T := TJ28) (N := 4) hx hb hts in_J28 hown hK hW hit rfl 0 (by decide) q1302 (fun _ h9 => h9) rfl dJ28_next_5 ?_
  refine lv_istore_n (lv' := [(1, .int (nI i)), (0, .ref it)]) hx hb dJ28_next_8 rfl hl (by decide) rfl (fun ls hl => ?_)
  refine lv_iload_n hx hb dJ28_next_9 rfl (lv_at hl 0 rfl) ?_
  refine lv_aload_n hx hb dJ28_next_10 rfl (lv_at hl 1 rfl) ?_
  refine g_get (ci := 17) (v := .ref a) (C := RJ28) (T := TJ28) (N := 4) hx hb hts in_J28 hown hK hW hit rfl 3 (by decide) q1305 (fun _ h9 => h9) rfl dJ28_next_11 ?_
  refine g_getN (ci := 11) (v := .int (nI xs.length)) (C := RJ2) (T := TJ2) (N := 3) hx hb hts in_J2 hown hK hW ha rfl 2 (by decide) (nf_q141 hE) (fun _ h9 => h9) rfl dJ28_next_14 ?_
  refine g_icmp_lt (tgt := 28) hx hb (by omega) (by omega) dJ28_next_17 (by decide) (fun _ => ?_) (fun hd => absurd hd (by omega))
  refine lv_aload_n hx hb dJ28_next_28 rfl (lv_at hl 1 rfl) ?_
  refine g_get (ci := 17) (v := .ref a) (C := RJ28) (T := TJ28) (N := 4) hx hb hts in_J28 hown hK hW hit rfl 3 (by decide) q1305 (fun _ h9 => h9) rfl dJ28_next_29 ?_
  refine g_get (ci := 11) (v := .ref ar) (C := RJ2) (T := TJ2) (N := 3) hx hb hts in_J2 hown hK hW ha rfl 1 (by decide) q140 (fun _ h9 => h9) rfl dJ28_next_32 ?_
  refine lv_astore_n (lv' := [(2, .ref ar), (1, .int (nI i)), (0, .ref it)]) hx hb dJ28_next_35 rfl hl (by decide) rfl (fun ls hl => ?_)
  refine lv_iload_n hx hb dJ28_next_36 rfl (lv_at hl 1 rfl) ?_
  refine lv_aload_n hx hb dJ28_next_37 rfl (lv_at hl 0 rfl) ?_
  refine g_alen hx hb hK hW 4 hf rfl dJ28_next_38 ?_
  refine g_icmp_lt (tgt := 50) hx hb (by omega) (by omega) dJ28_next_39 (by decide) (fun _ => ?_) (fun hd => absurd hd (by omega))
  refine lv_aload_n hx hb dJ28_next_50 rfl (lv_at hl 2 rfl) ?_
  refine lv_iload_n hx hb dJ28_next_51 rfl (lv_at hl 1 rfl) ?_
  refine lv_iconst (v := 1) hx hb dJ28_next_52 (by decide) ?_
  refine lv_iadd hx hb dJ28_next_53 ?_
  refine g_topi (y := nI (i + 1)) (nI_1 i) ?_
  refine g_putf (ci := 17) (v := .int (nI (i + 1))) (ty := .int) (C := RJ28) (T := TJ28) (N := 4) hx hb hts in_J28 tyJ28 tyJ28_ok nmJ28 hown hK hW hit rfl 0 (by decide) q1302 (fun _ h9 => h9) rfl (by decide +kernel) rfl rfl (Nat.le_of_ble_eq_true rfl) dJ28_next_54 (fun H locs hW => ?_)
  obtain ⟨w_2, ew_2⟩ : ∃ z__, z__ = g_put w it (.inr (17, [.int (nI (i + 1)), .int (lr), .int (mo), .ref a])) := ⟨_, rfl⟩
  have hW := g_W.ren hW ew_2 rfl
  have h_3 : g_at w_2 a (.inr (11, [.int (mo), .ref ar, .int (nI xs.length)])) := by rw [ew_2]; exact ha.put (g_neO ha hit (by decide))
  have h_4 : g_at w_2 it (.inr (17, [.int (nI (i + 1)), .int (lr), .int (mo), .ref a])) := by rw [ew_2]; exact g_at.put_self hit.1
  have h_5 : g_at w_2 ar (.inl (D.1 104, cap, .inr (.inr (.inr (.inr (f)))))) := by rw [ew_2]; exact hf.put (g_neAO hf hit)
  have x_6 : g_ex (fun q => q = it) w w_2 := by rw [ew_2]; exact x_1.put (fun hz9 => rfl)
  refine lv_aload_n hx hb dJ28_next_57 rfl (lv_at hl 0 rfl) ?_
  refine lv_aload_n hx hb dJ28_next_58 rfl (lv_at hl 2 rfl) ?_
  refine lv_iload_n hx hb dJ28_next_59 rfl (lv_at hl 1 rfl) ?_
  refine lv_dup_x1 hx hb dJ28_next_60 rfl rfl ?_
  refine g_putf (ci := 17) (v := .int (nI i)) (ty := .int) (C := RJ28) (T := TJ28) (N := 4) hx hb hts in_J28 tyJ28 tyJ28_ok nmJ28 hown hK hW h_4 rfl 1 (by decide) q1303 (fun _ h9 => h9) rfl (by decide +kernel) rfl rfl (Nat.le_of_ble_eq_true rfl) dJ28_next_61 (fun H locs hW => ?_)
  obtain ⟨w_7, ew_7⟩ : ∃ z__, z__ = g_put w_2 it (.inr (17, [.int (nI (i + 1)), .int (nI i), .int (mo), .ref a])) := ⟨_, rfl⟩
  have hW := g_W.ren hW ew_7 rfl
  have h_8 : g_at w_7 a (.inr (11, [.int (mo), .ref ar, .int (nI xs.length)])) := by rw [ew_7]; exact h_3.put (g_neO h_3 h_4 (by decide))
  have h_9 : g_at w_7 it (.inr (17, [.int (nI (i + 1)), .int (nI i), .int (mo), .ref a])) := by rw [ew_7]; exact g_at.put_self h_4.1
  have h_10 : g_at w_7 ar (.inl (D.1 104, cap, .inr (.inr (.inr (.inr (f)))))) := by rw [ew_7]; exact h_5.put (g_neAO h_5 h_4)
  have x_11 : g_ex (fun q => q = it) w w_7 := by rw [ew_7]; exact x_6.put (fun hz9 => rfl)
  refine g_aldX (i := i) (y := xs.getD i 0) hx hb hK hW h_10 (by omega) (by omega) (his i hi) dJ28_next_64 ?_
  exact g_qret (v := some (xs.getD i 0)) hx hb hr (Or.inl ⟨_, rfl⟩) hlocks hW (⟨rfl, h_9, x_11⟩) (by omega) (by omega) dJ28_next_65
