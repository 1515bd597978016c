/-! the model: derive *
-/
set_option maxRecDepth 100000
theorem nI_nm {k : Nat} (h : k < 2 ^ 31) : nI k ≠ -1 := fun z => by
  have h2 := congrArg Int32.toInt z
  rw [nI_toInt h, show (-1 : Int32).toInt = -1 from rfl] at h2
  omega
theorem dv_val {A : Nat → List (List Nat)} : ∀ (k lf : Nat) (t : List Nat) (ad : Nat), (dv A k lf t ad).1 < 4 := by
  intro k
  induction k with
  | zero => intro lf t ad; rw [dv_end (Or.inl rfl)]; split; exact (by decide : (3 : Nat) < 4); exact (by decide : (0 : Nat) < 4)
  | succ k ih =>
    intro lf t ad
    by_cases h : ad < t.length
    · rw [dv, if_pos h]
      split
      · decide
      · exact ih _ _ _
    · rw [dv_end (Or.inr h)]; split; exact (by decide : (3 : Nat) < 4); exact (by decide : (0 : Nat) < 4)
set_option maxHeartbeats 4000000 in
set_option maxRecDepth 100000 in
/-- Model.derive: its loop -/
theorem lpX3_derive {p : Program} {l : Launch} {e : Env} {R : Room} {s : State} {m : MethodId} {args : Array Value} {below : List Frame} {meth : Method} {c : Code} {Q : State → Prop} {D : va_G} {A : Nat → Prop} (hx : p.tables.exec = Jvm.exec) (hb : c.code = cX3_derive) (hts : ∀ w ∈ lw_all, w.before args s = true) (hown : s.vm.findClass RX3 = some m.cls) (hK : va_K D gCl (gT D) s) (hE : g_Env D A s) (hml : c.maxLocals = 8) (hRf : 13 ≤ R.frames) (hRl : 524 ≤ R.locals) (w : g_H) (y : Nat) (mf : Nat → Nat) (lab : Nat → Nat) (P : List mI) (C : List yC) (A9 : Nat → List (List Nat)) (cov : Nat → Bool) (K : List (List Nat)) (fq ac : Nat) (F : List yF) (rn tt cK : Nat) (en td st : Int32) (E : Nat → Bool) (hZ : g_MZ D w lab y mf P C A9 cov K fq ac F rn tt cK en td st E 0) (hA : aOk A9) (n9 : Int32) (c0 s0 : Nat) (Z : Nat × List Nat) (hRc : c0 + 150 ≤ R.cells) (hRs : s0 + 24200 ≤ R.slots) (kt : ∀ (sp : Nat) (w1 : g_H) (cells slots : Nat) (H : Heap) (locs : List Loc) (ls : Array Slot), ((2 : Nat), ([] : List Nat)) = Z → g_at w1 y (.inr (10, mO mf (nI P.length) (nI C.length) (en) (td) (st) (nI rn) (lN tt) (nI K.length) (nI fq) (nI ac) (nI F.length) (2))) → g_ex (fun q => q = y) w w1 → cells ≤ c0 + 144 → slots ≤ s0 + 24000 → g_W D A s.heap H locs w1 → lv_has ls 8 [(0, .ref y), (2, .ref sp)] → W p l e R s m args below meth c H locs cells slots Q (F0 m 122 ls []))
    (kk : ∀ (sp : Nat) (t : List Nat) (w1 : g_H) (cells slots : Nat) (H : Heap) (locs : List Loc) (ls : Array Slot), (if kFirst t < t.length ∨ 8 < t.length then ((3 : Nat), ([] : List Nat)) else (0, t)) = Z → t.length ≤ 85 → kHas t 1 = true → g_Str D w1 sp t → g_at w1 y (.inr (10, mO mf (nI P.length) (nI C.length) (en) (td) (st) (nI rn) (lN tt) (nI K.length) (nI fq) (nI ac) (nI F.length) (0))) → g_ex (fun q => q = y) w w1 → cells ≤ c0 + 144 → slots ≤ s0 + 24000 → g_W D A s.heap H locs w1 → lv_has ls 8 [(0, .ref y), (2, .ref sp)] → W p l e R s m args below meth c H locs cells slots Q (F0 m 122 ls [])) :
    ∀ (k : Nat) (i : Nat) (lf : Nat) (sp : Nat) (t : List Nat) (w1 : g_H) (cells : Nat) (slots : Nat) (H : Heap) (locs : List Loc) (ls : Array Slot), 12 < i + k → i ≤ 12 → dv A9 (12 - i) lf t (kFirst t) = Z → lf < 2 ^ 31 → t.length ≤ 1 + 7 * i → kHas t 1 = true → g_Str D w1 sp t → g_at w1 y (.inr (10, mO mf (nI P.length) (nI C.length) (en) (td) (st) (nI rn) (lN tt) (nI K.length) (nI fq) (nI ac) (nI F.length) (0))) → g_ex (fun q => q = y) w w1 → cells ≤ c0 + 12 * i → slots ≤ s0 + 2000 * i → g_W D A s.heap H locs w1 → lv_has ls 8 [(0, .ref y), (1, .int (n9)), (2, .ref sp), (3, .int (nI lf)), (4, .int (nI i))] → W p l e R s m args below meth c H locs cells slots Q (F0 m 21 ls []) := by
  intro k
  induction k with
  | zero => intro i lf sp t w1 cells slots H locs ls hfuel hi hdv hlf htl hkt hst hy1 hex hcl hsl hW hl; exact absurd hfuel (by omega)
  | succ k ih =>
    intro i lf sp t w1 cells slots H locs ls hfuel hi hdv hlf htl hkt hst hy1 hex hcl hsl hW hl
    obtain ⟨hy, ⟨hly, hL⟩, -, -, -, hA0, -, -, -, hb9⟩ := id hZ
    obtain ⟨f9, f10, a9, a10, hA9⟩ := id hA0
    have hfl := kFirst_le t
    have hmu : g_mut D w (fun q => q = y) := g_mut.obj hy
    have b9 := hex.at a9 (fun z => (g_neOA hy a9) z.symm)
    have b10 := hex.at a10 (fun z => (g_neOA hy a10) z.symm)
    refine lv_aload_n hx hb dX3_derive_21 rfl (lv_at hl 0 rfl) ?_
    refine g_get (ci := 10) (v := .int (0)) (C := RX3) (T := TX3) (N := 28) hx hb hts in_X3 hown hK hW hy1 rfl 27 (by decide) q1911 (fun _ h9 => h9) rfl dX3_derive_22 ?_
    refine lv_if_ne (tgt := 122) hx hb dX3_derive_25 (by decide) (fun hz => absurd rfl hz) (fun _ => ?_)
    refine lv_aload_n hx hb dX3_derive_28 rfl (lv_at hl 2 rfl) ?_
    refine g_calli (va_runS (As := [.ref sp]) (rest := []) ⟨hx, hb, hml, hown, hts⟩ (mtX3_symbolAt l D w1 H.size sp t hst hkt) (va_cwS 1 hts (lw_S q2014 q2015 q47 q2016) rfl rfl rfl (by decide +kernel) ⟨Nat.le_trans (Nat.le_of_ble_eq_true rfl) hRf, Nat.le_trans (Nat.le_of_ble_eq_true rfl) hRl⟩) (g_preS hW hK hE) rfl rfl hl.1 rfl (lv_room (Nat.le_of_ble_eq_true rfl)) dX3_derive_29 ⟨?_, ?_⟩) hW (fun r_ u_ H locs hp hW => ?_)
    · (try simp only [headSpec]); omega
    · (try simp only [headSpec]); omega
    obtain ⟨er, rfl⟩ := hp
    subst er
    refine lv_iconst (v := (-1)) hx hb dX3_derive_32 (by decide) ?_
    by_cases hc2 : kFirst t < t.length
    · rw [if_pos hc2]
      refine lv_icmp_eq (tgt := 122) hx hb dX3_derive_33 (by decide) (fun hz => absurd hz (nI_nm (by omega))) (fun _ => ?_)
      refine lv_iload hx hb dX3_derive_36 (lv_at hl 4 rfl) ?_
      refine lv_bipush (v := 12) hx hb dX3_derive_38 (by decide) ?_
      refine g_icmp_ge (x := i) (y := 12) (tgt := 122) hx hb (by omega) (by decide) dX3_derive_40 (by decide) (fun hc1 => ?_) (fun hc1 => ?_)
      · rw [dv_end (by omega)] at hdv
        exact kk sp t w1 cells slots H locs ls hdv (by omega) hkt hst hy1 hex (by omega) (by omega) hW (lv_sub hl [0, 2] rfl)
      · have hcr := kKind_1 hkt hc2
        obtain ⟨j, ej, hj4⟩ : ∃ j, t.getD (kFirst t) 0 = 65 + j ∧ j < 4 := ⟨t.getD (kFirst t) 0 - 65, by omega, by omega⟩
        rw [show 12 - i = (12 - (i + 1)) + 1 by omega, dv, if_pos hc2, show t.getD (kFirst t) 0 - 65 = j by omega] at hdv
        obtain ⟨hl3, h10, hA8⟩ := hA9 j hj4
        refine lv_aload_n hx hb dX3_derive_43 rfl (lv_at hl 2 rfl) ?_
        refine g_calli (va_runS (As := [.ref sp]) (rest := []) ⟨hx, hb, hml, hown, hts⟩ (mtX3_symbolAt l D w1 H.size sp t hst hkt) (va_cwS 1 hts (lw_S q2014 q2015 q47 q2016) rfl rfl rfl (by decide +kernel) ⟨Nat.le_trans (Nat.le_of_ble_eq_true rfl) hRf, Nat.le_trans (Nat.le_of_ble_eq_true rfl) hRl⟩) (g_preS hW hK hE) rfl rfl hl.1 rfl (lv_room (Nat.le_of_ble_eq_true rfl)) dX3_derive_44 ⟨?_, ?_⟩) hW (fun r_ u_ H locs hp hW => ?_)
        · (try simp only [headSpec]); omega
        · (try simp only [headSpec]); omega
        obtain ⟨er, rfl⟩ := hp
        subst er
        rw [if_pos hc2]
        refine lv_istore (lv' := [(5, .int (nI (kFirst t))), (0, .ref y), (1, .int (n9)), (2, .ref sp), (3, .int (nI lf)), (4, .int (nI i))]) hx hb dX3_derive_47 hl (by decide) rfl (fun ls hl => ?_)
        refine lv_aload_n hx hb dX3_derive_49 rfl (lv_at hl 3 rfl) ?_
        refine lv_iload hx hb dX3_derive_50 (lv_at hl 0 rfl) ?_
        obtain ⟨v, hr1, hb1⟩ := hst.rd hts hK hE hW
        refine g_calli (va_runV (As := [.int (nI (kFirst t))]) (rest := []) ⟨hx, hb, hml, hown, hts⟩ (mtJ16_charAt l D w1 H.size sp (kFirst t) t hst hc2) (cwV 1 hts (lw_V q2005 q750 q751 q63 q752) rfl rfl rfl (by decide +kernel) ⟨Nat.le_trans (Nat.le_of_ble_eq_true rfl) hRf, Nat.le_trans (Nat.le_of_ble_eq_true rfl) hRl⟩) (g_preVR hW hK hE hr1.2.2.2) rfl rfl hl.1 rfl (lv_room (Nat.le_of_ble_eq_true rfl)) dX3_derive_52 ⟨?_, ?_⟩) hW (fun r_ u_ H locs hp hW => ?_)
        · (try simp only [headSpec]); omega
        · (try simp only [headSpec]); omega
        obtain ⟨er, rfl⟩ := hp
        subst er
        refine lv_bipush (v := 65) hx hb dX3_derive_55 (by decide) ?_
        refine lv_isub hx hb dX3_derive_57 ?_
        refine g_topi (y := nI j) (by rw [ej]; exact (by decide : ∀ j, j < 4 → nI (65 + j) - 65 = nI j) j hj4) ?_
        refine lv_istore (lv' := [(6, .int (nI j)), (5, .int (nI (kFirst t))), (0, .ref y), (1, .int (n9)), (2, .ref sp), (3, .int (nI lf)), (4, .int (nI i))]) hx hb dX3_derive_58 hl (by decide) rfl (fun ls hl => ?_)
        refine lv_aload_n hx hb dX3_derive_60 rfl (lv_at hl 2 rfl) ?_
        refine g_get (ci := 10) (v := .ref (mf 10)) (C := RX3) (T := TX3) (N := 28) hx hb hts in_X3 hown hK hW hy1 rfl 10 (by decide) q1894 (fun _ h9 => h9) rfl dX3_derive_61 ?_
        refine lv_iload hx hb dX3_derive_64 (lv_at hl 0 rfl) ?_
        refine g_iald (i := j) hx hb hK hW b10 (hj4) (by decide) dX3_derive_66 ?_
        rw [h10]
        refine lv_istore (lv' := [(7, .int (nI (A9 j).length)), (6, .int (nI j)), (5, .int (nI (kFirst t))), (0, .ref y), (1, .int (n9)), (2, .ref sp), (3, .int (nI lf)), (4, .int (nI i))]) hx hb dX3_derive_67 hl (by decide) rfl (fun ls hl => ?_)
        refine lv_aload_n hx hb dX3_derive_69 rfl (lv_at hl 3 rfl) ?_
        refine lv_iload hx hb dX3_derive_70 (lv_at hl 0 rfl) ?_
        by_cases hm0 : (A9 j).length = 0
        · rw [if_pos hm0] at hdv
          refine lv_if_ne (tgt := 79) hx hb dX3_derive_72 (by decide) (fun hz => absurd (by rw [hm0]; rfl) hz) (fun _ => ?_)
          refine lv_iconst (v := 2) hx hb dX3_derive_75 (by decide) ?_
          refine lv_goto (tgt := 80) hx hb dX3_derive_76 (by decide) ?_
          refine g_putf (ci := 10) (v := .int (2)) (ty := .int) (C := RX3) (T := TX3) (N := 28) hx hb hts in_X3 tyX3 tyX3_ok nmX3 hown hK hW hy1 rfl 27 (by decide) q1911 (fun _ h9 => h9) rfl (by decide +kernel) rfl rfl (Nat.le_of_ble_eq_true rfl) dX3_derive_80 (fun H locs hW => ?_)
          obtain ⟨w_1, ew_1⟩ : ∃ z__, z__ = g_put w1 y (.inr (10, mO mf (nI P.length) (nI C.length) (en) (td) (st) (nI rn) (lN tt) (nI K.length) (nI fq) (nI ac) (nI F.length) (2))) := ⟨_, rfl⟩
          have hW := g_W.ren hW ew_1 rfl
          have h_2 : g_at w_1 y (.inr (10, mO mf (nI P.length) (nI C.length) (en) (td) (st) (nI rn) (lN tt) (nI K.length) (nI fq) (nI ac) (nI F.length) (2))) := by rw [ew_1]; exact g_at.put_self hy1.1
          have x_3 : g_ex (fun q => q = y) w w_1 := by rw [ew_1]; exact hex.put (fun hz9 => rfl)
          refine lv_aload_n hx hb dX3_derive_83 rfl (lv_at hl 3 rfl) ?_
          refine g_get (ci := 10) (v := .int (2)) (C := RX3) (T := TX3) (N := 28) hx hb hts in_X3 hown hK hW h_2 rfl 27 (by decide) q1911 (fun _ h9 => h9) rfl dX3_derive_84 ?_
          refine lv_if_ne (tgt := 119) hx hb dX3_derive_87 (by decide) (fun _ => ?_) (fun hz => absurd (by first | exact hz | exact Classical.not_not.mp hz) (by decide))
          refine lv_goto (tgt := 21) hx hb dX3_derive_119 (by decide) ?_
          refine lv_aload_n hx hb dX3_derive_21 rfl (lv_at hl 3 rfl) ?_
          refine g_get (ci := 10) (v := .int (2)) (C := RX3) (T := TX3) (N := 28) hx hb hts in_X3 hown hK hW h_2 rfl 27 (by decide) q1911 (fun _ h9 => h9) rfl dX3_derive_22 ?_
          refine lv_if_ne (tgt := 122) hx hb dX3_derive_25 (by decide) (fun _ => ?_) (fun hz => absurd (by first | exact hz | exact Classical.not_not.mp hz) (by decide))
          exact kt sp w_1 _ _ H locs ls hdv h_2 x_3 (by omega) (by omega) hW (lv_sub hl [3, 5] rfl)
        · rw [if_neg hm0] at hdv
          have hpos : 0 < (A9 j).length := by omega
          refine lv_if_ne (tgt := 79) hx hb dX3_derive_72 (by decide) (fun _ => ?_) (fun hz => absurd (by first | exact hz | exact Classical.not_not.mp hz) (nI_ne0 hpos (by omega)))
          refine lv_iconst (v := 0) hx hb dX3_derive_79 (by decide) ?_
          refine g_putf (ci := 10) (v := .int (0)) (ty := .int) (C := RX3) (T := TX3) (N := 28) hx hb hts in_X3 tyX3 tyX3_ok nmX3 hown hK hW hy1 rfl 27 (by decide) q1911 (fun _ h9 => h9) rfl (by decide +kernel) rfl rfl (Nat.le_of_ble_eq_true rfl) dX3_derive_80 (fun H locs hW => ?_)
          obtain ⟨w_4, ew_4⟩ : ∃ z__, z__ = g_put w1 y (.inr (10, mO mf (nI P.length) (nI C.length) (en) (td) (st) (nI rn) (lN tt) (nI K.length) (nI fq) (nI ac) (nI F.length) (0))) := ⟨_, rfl⟩
          have hW := g_W.ren hW ew_4 rfl
          have h_5 : g_at w_4 y (.inr (10, mO mf (nI P.length) (nI C.length) (en) (td) (st) (nI rn) (lN tt) (nI K.length) (nI fq) (nI ac) (nI F.length) (0))) := by rw [ew_4]; exact g_at.put_self hy1.1
          have h_6 : g_at w_4 (mf 9) (.inl (D.1 105, 12, .inr (.inr (.inr (.inr (f9)))))) := by rw [ew_4]; exact b9.put (g_neAO b9 hy1)
          have x_7 : g_ex (fun q => q = y) w w_4 := by rw [ew_4]; exact hex.put (fun hz9 => rfl)
          refine lv_aload_n hx hb dX3_derive_83 rfl (lv_at hl 3 rfl) ?_
          refine g_get (ci := 10) (v := .int (0)) (C := RX3) (T := TX3) (N := 28) hx hb hts in_X3 hown hK hW h_5 rfl 27 (by decide) q1911 (fun _ h9 => h9) rfl dX3_derive_84 ?_
          refine lv_if_ne (tgt := 119) hx hb dX3_derive_87 (by decide) (fun hz => absurd rfl hz) (fun _ => ?_)
          have hst2 : g_Str D w_4 sp t := (g_mut.obj hy1).str hst (by rw [ew_4]; exact g_ex.rf.put (fun hz9 => rfl))
          have hlm : lf % (A9 j).length < (A9 j).length := Nat.mod_lt _ hpos
          obtain ⟨sy, es1, es2⟩ := hA8 (lf % (A9 j).length) hlm
          have hsy := hmu.str es2 x_7
          have hyA := hA j hj4 _ (List.mem_of_getElem? (g_getDT hlm))
          refine lv_aload_n hx hb dX3_derive_90 rfl (lv_at hl 5 rfl) ?_
          refine lv_iload hx hb dX3_derive_91 (lv_at hl 2 rfl) ?_
          refine lv_aload_n hx hb dX3_derive_93 rfl (lv_at hl 3 rfl) ?_
          refine g_get (ci := 10) (v := .ref (mf 9)) (C := RX3) (T := TX3) (N := 28) hx hb hts in_X3 hown hK hW h_5 rfl 9 (by decide) q1893 (fun _ h9 => h9) rfl dX3_derive_94 ?_
          refine lv_iconst (v := 3) hx hb dX3_derive_97 (by decide) ?_
          refine lv_iload hx hb dX3_derive_98 (lv_at hl 1 rfl) ?_
          refine lv_imul hx hb dX3_derive_100 ?_
          refine lv_iload_n hx hb dX3_derive_101 rfl (lv_at hl 6 rfl) ?_
          refine lv_iload hx hb dX3_derive_102 (lv_at hl 0 rfl) ?_
          refine lv_irem hx hb dX3_derive_104 (nI_ne0 hpos (by omega)) ?_
          refine g_topi (y := nI (lf % (A9 j).length)) (pk_rem hlf hpos (by omega)) ?_
          refine lv_iadd hx hb dX3_derive_105 ?_
          refine g_topi (y := nI (3 * j + lf % (A9 j).length)) (by rw [show ((3 : Int32) * nI j) = nI (3 * j) from (Int32.ofNat_mul 3 j).symm, nI_add]) ?_
          refine g_aldSt (n := 12) (i := 3 * j + lf % (A9 j).length) (y := sy) hx hb hK hW h_6 (by omega) (by omega) es1 dX3_derive_106 ?_
          obtain ⟨Y, eY⟩ : ∃ z__, z__ = (A9 j).getD (lf % (A9 j).length) [] := ⟨_, rfl⟩
          rw [← eY] at hsy hyA hdv
          have hrl := rpT_len (y := Y) hc2
          have hya2 := hyA.2
          refine g_callq (va_runS (As := [.ref sp, .int (nI (kFirst t)), .ref sy]) (rest := []) ⟨hx, hb, hml, hown, hts⟩ (mtX3_replaced l D w_4 H.size sp sy (kFirst t) t Y hst2 hsy hc2 (by omega)) (va_cwS 3 hts (lw_S q2017 q2018 q47 q2019) rfl rfl rfl (by decide +kernel) ⟨Nat.le_trans (Nat.le_of_ble_eq_true rfl) hRf, Nat.le_trans (Nat.le_of_ble_eq_true rfl) hRl⟩) (g_preS hW hK hE) rfl rfl hl.1 rfl (lv_room (Nat.le_of_ble_eq_true rfl)) dX3_derive_107 ⟨?_, ?_⟩) hW (fun r_ u2 H locs hp hW => ?_)
          · (try simp only [headSpec]); omega
          · (try simp only [headSpec]); omega
          obtain ⟨s9, er, hn9, hst9, hex9⟩ := hp
          subst er
          have hexA : g_ex (fun q => q = y) w u2 := x_7.tr (hex9.mono (fun _ _ z => z.elim))
          have hyu := hex9.at h_5 (fun z => z)
          refine lv_astore_n (lv' := [(2, .ref s9), (7, .int (nI (A9 j).length)), (6, .int (nI j)), (5, .int (nI (kFirst t))), (0, .ref y), (1, .int (n9)), (3, .int (nI lf)), (4, .int (nI i))]) hx hb dX3_derive_110 rfl hl (by decide) rfl (fun ls hl => ?_)
          refine lv_iload_n hx hb dX3_derive_111 rfl (lv_at hl 6 rfl) ?_
          refine lv_iload hx hb dX3_derive_112 (lv_at hl 1 rfl) ?_
          refine lv_idiv hx hb dX3_derive_114 (nI_ne0 hpos (by omega)) ?_
          refine g_topi (y := nI (lf / (A9 j).length)) (pk_div hlf hpos (by omega)) ?_
          refine lv_istore_n (lv' := [(3, .int (nI (lf / (A9 j).length))), (2, .ref s9), (7, .int (nI (A9 j).length)), (6, .int (nI j)), (5, .int (nI (kFirst t))), (0, .ref y), (1, .int (n9)), (4, .int (nI i))]) hx hb dX3_derive_115 rfl hl (by decide) rfl (fun ls hl => ?_)
          refine lv_iinc (v := nI (i + 1)) (lv' := [(4, .int (nI (i + 1))), (3, .int (nI (lf / (A9 j).length))), (2, .ref s9), (7, .int (nI (A9 j).length)), (6, .int (nI j)), (5, .int (nI (kFirst t))), (0, .ref y), (1, .int (n9))]) hx hb dX3_derive_116 hl (k := 7) rfl (nI_1 i) (by decide) rfl (fun ls hl => ?_)
          refine lv_goto (tgt := 21) hx hb dX3_derive_119 (by decide) ?_
          exact ih (i + 1) (lf / (A9 j).length) s9 (rpT t (kFirst t) Y) u2 _ _ H locs ls (by omega) (by omega) hdv (Nat.lt_of_le_of_lt (Nat.div_le_self _ _) hlf) (by omega) (kHas_rp hkt hyA.1) hst9 hyu hexA (by omega) (by omega) hW (lv_sub hl [6, 7, 2, 1, 0] rfl)
    · rw [if_neg hc2]
      refine lv_icmp_eq (tgt := 122) hx hb dX3_derive_33 (by decide) (fun _ => ?_) (fun hz => absurd rfl hz)
      rw [dv_end (by omega)] at hdv
      exact kk sp t w1 cells slots H locs ls hdv (by omega) hkt hst hy1 hex (by omega) (by omega) hW (lv_sub hl [0, 2] rfl)
set_option maxHeartbeats 4000000 in
set_option maxRecDepth 100000 in
/-- Model.derive -/
theorem mtX3_derive (l : Launch) (D : va_G) (w : g_H) (sz : Nat) (y : Nat) (mf : Nat → Nat) (lab : Nat → Nat) (P : List mI) (C : List yC) (A9 : Nat → List (List Nat)) (cov : Nat → Bool) (K : List (List Nat)) (fq ac : Nat) (F : List yF) (rn tt cK : Nat) (en td st : Int32) (E : Nat → Bool) (th : Int32) (hZ : g_MZ D w lab y mf P C A9 cov K fq ac F rn tt cK en td st E th) (hA : aOk A9) (n9 : Int32) : Met l yX3_derive (ws_ yX3_derive cX3_derive 8 (some (.object "java/lang/String"))) ({ frames := 13, cells := 150, slots := 24206, locals := 524 }) (g_Pc D [.ref y, .int (n9)] w sz) (g_Qq D w sz (fun r u => ∃ s9 th2, r = some s9 ∧ g_MZ D u lab y mf P C A9 cov K fq ac F rn tt cK en td st E th2 ∧ zCh w lab u lab ∧ ((n9 < 0 ∧ th2 = 1) ∨ (¬ n9 < 0 ∧ th2 = nI (dvN A9 n9).1 ∧ ((dvN A9 n9).1 = 0 → g_Str D u s9 (dvN A9 n9).2))))) (150) (24206) (g_A w sz) := by
  refine Met.ofW (cc := cX3_derive) (maxL := 8) (ret := (some (.object "java/lang/String"))) (by decide) rfl ?_
  intro p e s m args below meth c s₁ B hml hv
  obtain ⟨rfl, hI⟩ := hv
  have hx := B.exec
  have hb := B.bytes
  have hr := B.returns
  have hts := atoms_spec (ws := ws_ yX3_derive cX3_derive 8 (some (.object "java/lang/String"))) B.pre
  have hts : ∀ w ∈ lw_all, w.before _ s = true := fun w h => hts w (List.mem_cons_of_mem _ h)
  have hown : s.vm.findClass RX3 = some m.cls := findClass_of_methodNamed B.named
  have hlocks := B.notSynchronized
  have hsz := hI.1
  subst hsz
  have hW := g_W.start hI
  have hK := g_K hI
  have hE := g_E hI
  have hl := lv_entry ([.ref y, .int (n9)]) (n := 8) (by exact Nat.le_of_ble_eq_true rfl)
  rw [lg_entry_eq]
  generalize (lg_sl ([.ref y, .int (n9)]) ++ List.replicate (8 - (lg_sl ([.ref y, .int (n9)])).length) Slot.unset).toArray = ls at hl ⊢
  have hl : lv_has ls 8 [(0, .ref y), (1, .int (n9))] := hl
  obtain ⟨hy, ⟨hly, hL⟩, hP, hR, hC0, hA0, hV0, hK0, hF0, hb9⟩ := id hZ
  have x_1 : g_ex (fun q => q = y) w w := g_ex.rf
  refine lv_aload_n hx hb dX3_derive_0 rfl (lv_at hl 0 rfl) ?_
  refine lv_iload_n hx hb dX3_derive_1 rfl (lv_at hl 1 rfl) ?_
  refine lv_if_ge (tgt := 9) hx hb dX3_derive_2 (by decide) (fun hc => ?_) (fun hc => ?_)
  · have hn : ¬ n9 < 0 := Int32.not_lt.mpr hc
    obtain ⟨lf, hlf, rfl⟩ := nI_of hn
    refine lv_iconst (v := 0) hx hb dX3_derive_9 (by decide) ?_
    refine g_putf (ci := 10) (v := .int (0)) (ty := .int) (C := RX3) (T := TX3) (N := 28) hx hb hts in_X3 tyX3 tyX3_ok nmX3 hown hK hW hy rfl 27 (by decide) q1911 (fun _ h9 => h9) rfl (by decide +kernel) rfl rfl (Nat.le_of_ble_eq_true rfl) dX3_derive_10 (fun H locs hW => ?_)
    obtain ⟨w_2, ew_2⟩ : ∃ z__, z__ = g_put w y (.inr (10, mO mf (nI P.length) (nI C.length) (en) (td) (st) (nI rn) (lN tt) (nI K.length) (nI fq) (nI ac) (nI F.length) (0))) := ⟨_, rfl⟩
    have hW := g_W.ren hW ew_2 rfl
    have h_3 : g_at w_2 y (.inr (10, mO mf (nI P.length) (nI C.length) (en) (td) (st) (nI rn) (lN tt) (nI K.length) (nI fq) (nI ac) (nI F.length) (0))) := by rw [ew_2]; exact g_at.put_self hy.1
    have x_4 : g_ex (fun q => q = y) w w_2 := by rw [ew_2]; exact x_1.put (fun hz9 => rfl)
    have hZ1 := hZ.obj (rn2 := rn) (tt2 := tt) (fq2 := fq) (ac2 := ac) h_3 x_4 hb9.2.1 hb9.2.2.1 hb9.2.2.2.1 hb9.2.2.2.2
    have hz1 := hZ.zobj x_4
    refine va_ldcS hx hb hown (rs_15 hE) dX3_derive_13 ?_
    refine lv_astore_n (lv' := [(2, .ref (D.2 1000 14)), (0, .ref y), (1, .int (nI lf))]) hx hb dX3_derive_15 rfl hl (by decide) rfl (fun ls hl => ?_)
    refine lv_iload_n hx hb dX3_derive_16 rfl (lv_at hl 2 rfl) ?_
    refine lv_istore_n (lv' := [(3, .int (nI lf)), (2, .ref (D.2 1000 14)), (0, .ref y), (1, .int (nI lf))]) hx hb dX3_derive_17 rfl hl (by decide) rfl (fun ls hl => ?_)
    refine lv_iconst (v := 0) hx hb dX3_derive_18 (by decide) ?_
    refine lv_istore (lv' := [(4, .int (0)), (3, .int (nI lf)), (2, .ref (D.2 1000 14)), (0, .ref y), (1, .int (nI lf))]) hx hb dX3_derive_19 hl (by decide) rfl (fun ls hl => ?_)
    have hA65 : g_Str D w_2 (D.2 1000 14) [65] := ⟨⟨by decide, by decide⟩, Or.inr ⟨14, by decide, rfl, rfl⟩⟩
    refine lpX3_derive (D := D) hx hb hts hown hK hE hml (Nat.le_of_ble_eq_true rfl) (Nat.le_of_ble_eq_true rfl) w_2 y mf lab P C A9 cov K fq ac F rn tt cK en td st E hZ1 hA (nI lf) 0 0 (dvN A9 (nI lf)) ?_ ?_ (fun s2 w1 cells slots H locs ls hZv hy1 hex hcl hsl hW hl => ?_) (fun s2 t w1 cells slots H locs ls hZv htl hkt hst hy1 hex hcl hsl hW hl => ?_) 13 0 lf (D.2 1000 14) [65] w_2 _ _ _ _ ls (by omega) (by omega) (by unfold dvN; rw [nI_clamp hlf]; rfl) hlf (by decide) rfl hA65 h_3 g_ex.rf (by omega) (by omega) hW (lv_sub hl [3, 4, 2, 1, 0] rfl)
    · (try simp only [headSpec]); omega
    · (try simp only [headSpec]); omega
    · have hZ2 := hZ1.obj (rn2 := rn) (tt2 := tt) (fq2 := fq) (ac2 := ac) hy1 hex hb9.2.1 hb9.2.2.1 hb9.2.2.2.1 hb9.2.2.2.2
      have hz2 := hz1.tr (hZ1.zobj hex)
      refine lv_aload_n hx hb dX3_derive_122 rfl (lv_at hl 0 rfl) ?_
      refine g_get (ci := 10) (v := .int (2)) (C := RX3) (T := TX3) (N := 28) hx hb hts in_X3 hown hK hW hy1 rfl 27 (by decide) q1911 (fun _ h9 => h9) rfl dX3_derive_123 ?_
      refine lv_if_ne (tgt := 151) hx hb dX3_derive_126 (by decide) (fun _ => ?_) (fun hz => absurd (by first | exact hz | exact Classical.not_not.mp hz) (by decide))
      refine lv_aload_n hx hb dX3_derive_151 rfl (lv_at hl 0 rfl) ?_
      refine g_get (ci := 10) (v := .int (2)) (C := RX3) (T := TX3) (N := 28) hx hb hts in_X3 hown hK hW hy1 rfl 27 (by decide) q1911 (fun _ h9 => h9) rfl dX3_derive_152 ?_
      refine lv_if_ne (tgt := 162) hx hb dX3_derive_155 (by decide) (fun _ => ?_) (fun hz => absurd (by first | exact hz | exact Classical.not_not.mp hz) (by decide))
      refine va_ldcS hx hb hown (rs_16 hE) dX3_derive_162 ?_
      exact g_qret (v := some (D.2 1000 0)) hx hb hr (Or.inl ⟨_, rfl⟩) hlocks hW (⟨_, 2, rfl, hZ2, hz2, Or.inr ⟨hn, by rw [← hZv]; rfl, fun z => by rw [← hZv] at z; cases z⟩⟩) (by omega) (by omega) dX3_derive_164
    · have hZ2 := hZ1.obj (rn2 := rn) (tt2 := tt) (fq2 := fq) (ac2 := ac) hy1 hex hb9.2.1 hb9.2.2.1 hb9.2.2.2.1 hb9.2.2.2.2
      have hz2 := hz1.tr (hZ1.zobj hex)
      have hfl := kFirst_le t
      refine lv_aload_n hx hb dX3_derive_122 rfl (lv_at hl 0 rfl) ?_
      refine g_get (ci := 10) (v := .int (0)) (C := RX3) (T := TX3) (N := 28) hx hb hts in_X3 hown hK hW hy1 rfl 27 (by decide) q1911 (fun _ h9 => h9) rfl dX3_derive_123 ?_
      refine lv_if_ne (tgt := 151) hx hb dX3_derive_126 (by decide) (fun hz => absurd rfl hz) (fun _ => ?_)
      refine lv_aload_n hx hb dX3_derive_129 rfl (lv_at hl 1 rfl) ?_
      refine g_calli (va_runS (As := [.ref s2]) (rest := []) ⟨hx, hb, hml, hown, hts⟩ (mtX3_symbolAt l D w1 H.size s2 t hst hkt) (va_cwS 1 hts (lw_S q2014 q2015 q47 q2016) rfl rfl rfl (by decide +kernel) ⟨Nat.le_of_ble_eq_true rfl, Nat.le_of_ble_eq_true rfl⟩) (g_preS hW hK hE) rfl rfl hl.1 rfl (lv_room (Nat.le_of_ble_eq_true rfl)) dX3_derive_130 ⟨?_, ?_⟩) hW (fun r_ u_ H locs hp hW => ?_)
      · (try simp only [headSpec]); omega
      · (try simp only [headSpec]); omega
      obtain ⟨er, rfl⟩ := hp
      subst er
      refine lv_iconst (v := (-1)) hx hb dX3_derive_133 (by decide) ?_
      by_cases hc2 : kFirst t < t.length
      · rw [if_pos hc2]
        refine lv_icmp_ne (tgt := 146) hx hb dX3_derive_134 (by decide) (fun _ => ?_) (fun hz => absurd (by first | exact hz | exact Classical.not_not.mp hz) (nI_nm (by omega)))
        rw [if_pos (Or.inl hc2)] at hZv
        have hx9 : g_ex (fun q => q = y) w1 w1 := g_ex.rf
        refine lv_aload_n hx hb dX3_derive_146 rfl (lv_at hl 0 rfl) ?_
        refine lv_iconst (v := 3) hx hb dX3_derive_147 (by decide) ?_
        refine g_putf (ci := 10) (v := .int (3)) (ty := .int) (C := RX3) (T := TX3) (N := 28) hx hb hts in_X3 tyX3 tyX3_ok nmX3 hown hK hW hy1 rfl 27 (by decide) q1911 (fun _ h9 => h9) rfl (by decide +kernel) rfl rfl (Nat.le_of_ble_eq_true rfl) dX3_derive_148 (fun H locs hW => ?_)
        obtain ⟨w_5, ew_5⟩ : ∃ z__, z__ = g_put w1 y (.inr (10, mO mf (nI P.length) (nI C.length) (en) (td) (st) (nI rn) (lN tt) (nI K.length) (nI fq) (nI ac) (nI F.length) (3))) := ⟨_, rfl⟩
        have hW := g_W.ren hW ew_5 rfl
        have h_6 : g_at w_5 y (.inr (10, mO mf (nI P.length) (nI C.length) (en) (td) (st) (nI rn) (lN tt) (nI K.length) (nI fq) (nI ac) (nI F.length) (3))) := by rw [ew_5]; exact g_at.put_self hy1.1
        have x_7 : g_ex (fun q => q = y) w1 w_5 := by rw [ew_5]; exact hx9.put (fun hz9 => rfl)
        have hZ3 := hZ2.obj (rn2 := rn) (tt2 := tt) (fq2 := fq) (ac2 := ac) h_6 x_7 hb9.2.1 hb9.2.2.1 hb9.2.2.2.1 hb9.2.2.2.2
        have hz3 := hz2.tr (hZ2.zobj x_7)
        refine lv_aload_n hx hb dX3_derive_151 rfl (lv_at hl 0 rfl) ?_
        refine g_get (ci := 10) (v := .int (3)) (C := RX3) (T := TX3) (N := 28) hx hb hts in_X3 hown hK hW h_6 rfl 27 (by decide) q1911 (fun _ h9 => h9) rfl dX3_derive_152 ?_
        refine lv_if_ne (tgt := 162) hx hb dX3_derive_155 (by decide) (fun _ => ?_) (fun hz => absurd (by first | exact hz | exact Classical.not_not.mp hz) (by decide))
        refine va_ldcS hx hb hown (rs_16 hE) dX3_derive_162 ?_
        exact g_qret (v := some (D.2 1000 0)) hx hb hr (Or.inl ⟨_, rfl⟩) hlocks hW (⟨_, 3, rfl, hZ3, hz3, Or.inr ⟨hn, by rw [← hZv]; rfl, fun z => by rw [← hZv] at z; cases z⟩⟩) (by omega) (by omega) dX3_derive_164
      · rw [if_neg hc2]
        refine lv_icmp_ne (tgt := 146) hx hb dX3_derive_134 (by decide) (fun hz => absurd rfl hz) (fun _ => ?_)
        refine lv_aload_n hx hb dX3_derive_137 rfl (lv_at hl 1 rfl) ?_
        obtain ⟨v, hr1, hb1⟩ := hst.rd hts hK hE hW
        refine g_calli (va_runV (As := []) (rest := []) ⟨hx, hb, hml, hown, hts⟩ (mtJ16_length l D w1 H.size s2 t hst) (cwV 0 hts (lw_V q2004 q740 q741 q63 q742) rfl rfl rfl (by decide +kernel) ⟨Nat.le_of_ble_eq_true rfl, Nat.le_of_ble_eq_true rfl⟩) (g_preVR hW hK hE hr1.2.2.2) rfl rfl hl.1 rfl (lv_room (Nat.le_of_ble_eq_true rfl)) dX3_derive_138 ⟨?_, ?_⟩) hW (fun r_ u_ H locs hp hW => ?_)
        · (try simp only [headSpec]); omega
        · (try simp only [headSpec]); omega
        obtain ⟨er, rfl⟩ := hp
        subst er
        refine lv_bipush (v := 8) hx hb dX3_derive_141 (by decide) ?_
        refine g_icmp_le (x := t.length) (y := 8) (tgt := 151) hx hb (by omega) (by decide) dX3_derive_143 (by decide) (fun hc3 => ?_) (fun hc3 => ?_)
        · rw [if_neg (by omega)] at hZv
          refine lv_aload_n hx hb dX3_derive_151 rfl (lv_at hl 0 rfl) ?_
          refine g_get (ci := 10) (v := .int (0)) (C := RX3) (T := TX3) (N := 28) hx hb hts in_X3 hown hK hW hy1 rfl 27 (by decide) q1911 (fun _ h9 => h9) rfl dX3_derive_152 ?_
          refine lv_if_ne (tgt := 162) hx hb dX3_derive_155 (by decide) (fun hz => absurd rfl hz) (fun _ => ?_)
          refine lv_aload_n hx hb dX3_derive_158 rfl (lv_at hl 1 rfl) ?_
          refine lv_goto (tgt := 164) hx hb dX3_derive_159 (by decide) ?_
          exact g_qret (v := some s2) hx hb hr (Or.inl ⟨_, rfl⟩) hlocks hW (⟨s2, 0, rfl, hZ2, hz2, Or.inr ⟨hn, by rw [← hZv]; rfl, fun _ => by rw [← hZv]; exact hst⟩⟩) (by omega) (by omega) dX3_derive_164
        · rw [if_pos (Or.inr hc3)] at hZv
          have hx9 : g_ex (fun q => q = y) w1 w1 := g_ex.rf
          refine lv_aload_n hx hb dX3_derive_146 rfl (lv_at hl 0 rfl) ?_
          refine lv_iconst (v := 3) hx hb dX3_derive_147 (by decide) ?_
          refine g_putf (ci := 10) (v := .int (3)) (ty := .int) (C := RX3) (T := TX3) (N := 28) hx hb hts in_X3 tyX3 tyX3_ok nmX3 hown hK hW hy1 rfl 27 (by decide) q1911 (fun _ h9 => h9) rfl (by decide +kernel) rfl rfl (Nat.le_of_ble_eq_true rfl) dX3_derive_148 (fun H locs hW => ?_)
          obtain ⟨w_8, ew_8⟩ : ∃ z__, z__ = g_put w1 y (.inr (10, mO mf (nI P.length) (nI C.length) (en) (td) (st) (nI rn) (lN tt) (nI K.length) (nI fq) (nI ac) (nI F.length) (3))) := ⟨_, rfl⟩
          have hW := g_W.ren hW ew_8 rfl
          have h_9 : g_at w_8 y (.inr (10, mO mf (nI P.length) (nI C.length) (en) (td) (st) (nI rn) (lN tt) (nI K.length) (nI fq) (nI ac) (nI F.length) (3))) := by rw [ew_8]; exact g_at.put_self hy1.1
          have x_10 : g_ex (fun q => q = y) w1 w_8 := by rw [ew_8]; exact hx9.put (fun hz9 => rfl)
          have hZ3 := hZ2.obj (rn2 := rn) (tt2 := tt) (fq2 := fq) (ac2 := ac) h_9 x_10 hb9.2.1 hb9.2.2.1 hb9.2.2.2.1 hb9.2.2.2.2
          have hz3 := hz2.tr (hZ2.zobj x_10)
          refine lv_aload_n hx hb dX3_derive_151 rfl (lv_at hl 0 rfl) ?_
          refine g_get (ci := 10) (v := .int (3)) (C := RX3) (T := TX3) (N := 28) hx hb hts in_X3 hown hK hW h_9 rfl 27 (by decide) q1911 (fun _ h9 => h9) rfl dX3_derive_152 ?_
          refine lv_if_ne (tgt := 162) hx hb dX3_derive_155 (by decide) (fun _ => ?_) (fun hz => absurd (by first | exact hz | exact Classical.not_not.mp hz) (by decide))
          refine va_ldcS hx hb hown (rs_16 hE) dX3_derive_162 ?_
          exact g_qret (v := some (D.2 1000 0)) hx hb hr (Or.inl ⟨_, rfl⟩) hlocks hW (⟨_, 3, rfl, hZ3, hz3, Or.inr ⟨hn, by rw [← hZv]; rfl, fun z => by rw [← hZv] at z; cases z⟩⟩) (by omega) (by omega) dX3_derive_164
  · have hn : n9 < 0 := Int32.not_le.mp hc
    refine lv_iconst (v := 1) hx hb dX3_derive_5 (by decide) ?_
    refine lv_goto (tgt := 10) hx hb dX3_derive_6 (by decide) ?_
    refine g_putf (ci := 10) (v := .int (1)) (ty := .int) (C := RX3) (T := TX3) (N := 28) hx hb hts in_X3 tyX3 tyX3_ok nmX3 hown hK hW hy rfl 27 (by decide) q1911 (fun _ h9 => h9) rfl (by decide +kernel) rfl rfl (Nat.le_of_ble_eq_true rfl) dX3_derive_10 (fun H locs hW => ?_)
    obtain ⟨w_11, ew_11⟩ : ∃ z__, z__ = g_put w y (.inr (10, mO mf (nI P.length) (nI C.length) (en) (td) (st) (nI rn) (lN tt) (nI K.length) (nI fq) (nI ac) (nI F.length) (1))) := ⟨_, rfl⟩
    have hW := g_W.ren hW ew_11 rfl
    have h_12 : g_at w_11 y (.inr (10, mO mf (nI P.length) (nI C.length) (en) (td) (st) (nI rn) (lN tt) (nI K.length) (nI fq) (nI ac) (nI F.length) (1))) := by rw [ew_11]; exact g_at.put_self hy.1
    have x_13 : g_ex (fun q => q = y) w w_11 := by rw [ew_11]; exact x_1.put (fun hz9 => rfl)
    have hZ1 := hZ.obj (rn2 := rn) (tt2 := tt) (fq2 := fq) (ac2 := ac) h_12 x_13 hb9.2.1 hb9.2.2.1 hb9.2.2.2.1 hb9.2.2.2.2
    have hz1 := hZ.zobj x_13
    refine va_ldcS hx hb hown (rs_15 hE) dX3_derive_13 ?_
    refine lv_astore_n (lv' := [(2, .ref (D.2 1000 14)), (0, .ref y), (1, .int (n9))]) hx hb dX3_derive_15 rfl hl (by decide) rfl (fun ls hl => ?_)
    refine lv_iload_n hx hb dX3_derive_16 rfl (lv_at hl 2 rfl) ?_
    refine lv_istore_n (lv' := [(3, .int (n9)), (2, .ref (D.2 1000 14)), (0, .ref y), (1, .int (n9))]) hx hb dX3_derive_17 rfl hl (by decide) rfl (fun ls hl => ?_)
    refine lv_iconst (v := 0) hx hb dX3_derive_18 (by decide) ?_
    refine lv_istore (lv' := [(4, .int (0)), (3, .int (n9)), (2, .ref (D.2 1000 14)), (0, .ref y), (1, .int (n9))]) hx hb dX3_derive_19 hl (by decide) rfl (fun ls hl => ?_)
    refine lv_aload_n hx hb dX3_derive_21 rfl (lv_at hl 3 rfl) ?_
    refine g_get (ci := 10) (v := .int (1)) (C := RX3) (T := TX3) (N := 28) hx hb hts in_X3 hown hK hW h_12 rfl 27 (by decide) q1911 (fun _ h9 => h9) rfl dX3_derive_22 ?_
    refine lv_if_ne (tgt := 122) hx hb dX3_derive_25 (by decide) (fun _ => ?_) (fun hz => absurd (by first | exact hz | exact Classical.not_not.mp hz) (by decide))
    refine lv_aload_n hx hb dX3_derive_122 rfl (lv_at hl 3 rfl) ?_
    refine g_get (ci := 10) (v := .int (1)) (C := RX3) (T := TX3) (N := 28) hx hb hts in_X3 hown hK hW h_12 rfl 27 (by decide) q1911 (fun _ h9 => h9) rfl dX3_derive_123 ?_
    refine lv_if_ne (tgt := 151) hx hb dX3_derive_126 (by decide) (fun _ => ?_) (fun hz => absurd (by first | exact hz | exact Classical.not_not.mp hz) (by decide))
    refine lv_aload_n hx hb dX3_derive_151 rfl (lv_at hl 3 rfl) ?_
    refine g_get (ci := 10) (v := .int (1)) (C := RX3) (T := TX3) (N := 28) hx hb hts in_X3 hown hK hW h_12 rfl 27 (by decide) q1911 (fun _ h9 => h9) rfl dX3_derive_152 ?_
    refine lv_if_ne (tgt := 162) hx hb dX3_derive_155 (by decide) (fun _ => ?_) (fun hz => absurd (by first | exact hz | exact Classical.not_not.mp hz) (by decide))
    refine va_ldcS hx hb hown (rs_16 hE) dX3_derive_162 ?_
    exact g_qret (v := some (D.2 1000 0)) hx hb hr (Or.inl ⟨_, rfl⟩) hlocks hW (⟨_, 1, rfl, hZ1, hz1, Or.inl ⟨hn, rfl⟩⟩) (by omega) (by omega) dX3_derive_164
