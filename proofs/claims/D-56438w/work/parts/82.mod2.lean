/-! the model: isInput, jumps *
-/
set_option maxRecDepth 100000
def inB (t : List Nat) : Bool := decide (t.length ≤ 8) && kHas t 0
theorem inB_iff {t : List Nat} : inB t = true ↔ isIn t := by unfold inB isIn; rw [Bool.and_eq_true, decide_eq_true_iff]
set_option maxHeartbeats 4000000 in
set_option maxRecDepth 100000 in
/-- Model.isInput: its loop -/
theorem lpX3_isInput {p : Program} {l : Launch} {e : Env} {R : Room} {s : State} {m : MethodId} {args : Array Value} {below : List Frame} {meth : Method} {c : Code} {cells slots : Nat} {Q : State → Prop} {D : va_G} {A : Nat → Prop} (hx : p.tables.exec = Jvm.exec) (hb : c.code = cX3_isInput) (hts : ∀ w ∈ lw_all, w.before args s = true) (hown : s.vm.findClass RX3 = some m.cls) (hK : va_K D gCl (gT D) s) (hE : g_Env D A s) (hml : c.maxLocals = 3) (hRf : 5 ≤ R.frames) (hRl : 97 ≤ R.locals) (hRc : cells ≤ R.cells) (hRs : slots ≤ R.slots) (w : g_H) (sp : Nat) (t : List Nat) (hst : g_Str D w sp t)
    (kk : ∀ (H : Heap) (locs : List Loc) (ls : Array Slot), g_W D A s.heap H locs w → lv_has ls 3 [(1, .int (if inB t = true then 1 else 0))] → W p l e R s m args below meth c H locs cells slots Q (F0 m 52 ls [])) :
    ∀ (k : Nat) (i : Nat) (H : Heap) (locs : List Loc) (ls : Array Slot), t.length < i + k → i ≤ t.length → g_W D A s.heap H locs w → lv_has ls 3 [(1, .int ((if (decide (t.length ≤ 8) && kHas (t.take i) 0) = true then 1 else 0))), (2, .int (nI i)), (0, .ref sp)] → W p l e R s m args below meth c H locs cells slots Q (F0 m 17 ls []) := by
  intro k
  induction k with
  | zero => intro i H locs ls hfuel hi hW hl; exact absurd hfuel (by omega)
  | succ k ih =>
    intro i H locs ls hfuel hi hW hl
    have hl1 := hst.1.1
    refine lv_iload_n hx hb dX3_isInput_17 rfl (lv_at hl 1 rfl) ?_
    refine lv_aload_n hx hb dX3_isInput_18 rfl (lv_at hl 2 rfl) ?_
    obtain ⟨v, hr1, hb1⟩ := hst.rd hts hK hE hW
    refine g_calli (va_runV (As := []) (rest := [.int (nI i)]) ⟨hx, hb, hml, hown, hts⟩ (mtJ16_length l D w H.size sp t hst) (cwV 0 hts (lw_V q2004 q740 q741 q63 q742) rfl rfl rfl (by decide +kernel) ⟨Nat.le_trans (Nat.le_of_ble_eq_true rfl) hRf, Nat.le_trans (Nat.le_of_ble_eq_true rfl) hRl⟩) (g_preVR hW hK hE hr1.2.2.2) rfl rfl hl.1 rfl (lv_room (Nat.le_of_ble_eq_true rfl)) dX3_isInput_19 ⟨hRc, hRs⟩) hW (fun r_ u_ H locs hp hW => ?_)
    obtain ⟨er, rfl⟩ := hp
    subst er
    refine g_icmp_ge (x := i) (y := t.length) (tgt := 52) hx hb (by omega) (by omega) dX3_isInput_22 (by decide) (fun hc => ?_) (fun hc => ?_)
    · have e0 : i = t.length := by omega
      subst e0
      rw [List.take_length] at hl
      exact kk H locs ls hW (lv_sub hl [0] rfl)
    · have hkt := kHas_take (g := 0) hc
      refine lv_iload_n hx hb dX3_isInput_25 rfl (lv_at hl 0 rfl) ?_
      cases hq9 : (decide (t.length ≤ 8) && kHas (t.take i) 0)
      · rw [if_neg (by decide)]
        refine lv_if_eq (tgt := 44) hx hb dX3_isInput_26 (by decide) (fun _ => ?_) (fun hz => absurd rfl hz)
        refine lv_iconst (v := 0) hx hb dX3_isInput_44 (by decide) ?_
        refine g_topi (y := (if (decide (t.length ≤ 8) && kHas (t.take (i + 1)) 0) = true then 1 else 0)) (by rw [hkt, ← Bool.and_assoc, hq9]; rfl) ?_
        refine lv_istore_n (lv' := [(1, .int ((if (decide (t.length ≤ 8) && kHas (t.take (i + 1)) 0) = true then 1 else 0))), (2, .int (nI i)), (0, .ref sp)]) hx hb dX3_isInput_45 rfl hl (by decide) rfl (fun ls hl => ?_)
        refine lv_iinc (v := nI (i + 1)) (lv' := [(2, .int (nI (i + 1))), (1, .int ((if (decide (t.length ≤ 8) && kHas (t.take (i + 1)) 0) = true then 1 else 0))), (0, .ref sp)]) hx hb dX3_isInput_46 hl (k := 1) rfl (nI_1 i) (by decide) rfl (fun ls hl => ?_)
        refine lv_goto (tgt := 17) hx hb dX3_isInput_49 (by decide) ?_
        exact ih (i + 1) H locs ls (by omega) (by omega) hW (lv_sub hl [1, 0, 2] rfl)
      · rw [if_pos (by decide)]
        refine lv_if_eq (tgt := 44) hx hb dX3_isInput_26 (by decide) (fun hz => absurd hz (by decide)) (fun _ => ?_)
        refine lv_aload_n hx hb dX3_isInput_29 rfl (lv_at hl 2 rfl) ?_
        refine lv_iload_n hx hb dX3_isInput_30 rfl (lv_at hl 1 rfl) ?_
        obtain ⟨v, hr1, hb1⟩ := hst.rd hts hK hE hW
        refine g_calli (va_runV (As := [.int (nI i)]) (rest := []) ⟨hx, hb, hml, hown, hts⟩ (mtJ16_charAt l D w H.size sp i t hst hc) (cwV 1 hts (lw_V q2005 q750 q751 q63 q752) rfl rfl rfl (by decide +kernel) ⟨Nat.le_trans (Nat.le_of_ble_eq_true rfl) hRf, Nat.le_trans (Nat.le_of_ble_eq_true rfl) hRl⟩) (g_preVR hW hK hE hr1.2.2.2) rfl rfl hl.1 rfl (lv_room (Nat.le_of_ble_eq_true rfl)) dX3_isInput_31 ⟨hRc, hRs⟩) hW (fun r_ u_ H locs hp hW => ?_)
        obtain ⟨er, rfl⟩ := hp
        subst er
        have hch := hst.1.lt (j := i)
        refine g_calli (va_runS (As := [.int (nI (t.getD i 0))]) (rest := []) ⟨hx, hb, hml, hown, hts⟩ (mtX3_isDigit l D w H.size (t.getD i 0) (by omega)) (va_cwS 1 hts (lw_S q2006 q2007 q47 q2008) rfl rfl rfl (by decide +kernel) ⟨Nat.le_trans (Nat.le_of_ble_eq_true rfl) hRf, Nat.le_trans (Nat.le_of_ble_eq_true rfl) hRl⟩) (g_preS hW hK hE) rfl rfl hl.1 rfl (lv_room (Nat.le_of_ble_eq_true rfl)) dX3_isInput_34 ⟨hRc, hRs⟩) hW (fun r_ u_ H locs hp hW => ?_)
        obtain ⟨er, rfl⟩ := hp
        subst er
        by_cases hq8 : kKind (t.getD i 0) = 0
        · rw [if_pos hq8]
          refine lv_if_eq (tgt := 44) hx hb dX3_isInput_37 (by decide) (fun hz => absurd hz (by decide)) (fun _ => ?_)
          refine lv_iconst (v := 1) hx hb dX3_isInput_40 (by decide) ?_
          refine lv_goto (tgt := 45) hx hb dX3_isInput_41 (by decide) ?_
          refine g_topi (y := (if (decide (t.length ≤ 8) && kHas (t.take (i + 1)) 0) = true then 1 else 0)) (by rw [hkt, ← Bool.and_assoc, hq9, decide_eq_true (Nat.le_of_eq hq8)]; rfl) ?_
          refine lv_istore_n (lv' := [(1, .int ((if (decide (t.length ≤ 8) && kHas (t.take (i + 1)) 0) = true then 1 else 0))), (2, .int (nI i)), (0, .ref sp)]) hx hb dX3_isInput_45 rfl hl (by decide) rfl (fun ls hl => ?_)
          refine lv_iinc (v := nI (i + 1)) (lv' := [(2, .int (nI (i + 1))), (1, .int ((if (decide (t.length ≤ 8) && kHas (t.take (i + 1)) 0) = true then 1 else 0))), (0, .ref sp)]) hx hb dX3_isInput_46 hl (k := 1) rfl (nI_1 i) (by decide) rfl (fun ls hl => ?_)
          refine lv_goto (tgt := 17) hx hb dX3_isInput_49 (by decide) ?_
          exact ih (i + 1) H locs ls (by omega) (by omega) hW (lv_sub hl [1, 0, 2] rfl)
        · rw [if_neg hq8]
          refine lv_if_eq (tgt := 44) hx hb dX3_isInput_37 (by decide) (fun _ => ?_) (fun hz => absurd rfl hz)
          refine lv_iconst (v := 0) hx hb dX3_isInput_44 (by decide) ?_
          refine g_topi (y := (if (decide (t.length ≤ 8) && kHas (t.take (i + 1)) 0) = true then 1 else 0)) (by rw [hkt, ← Bool.and_assoc, hq9, decide_eq_false (fun z => hq8 (Nat.le_zero.mp z))]; rfl) ?_
          refine lv_istore_n (lv' := [(1, .int ((if (decide (t.length ≤ 8) && kHas (t.take (i + 1)) 0) = true then 1 else 0))), (2, .int (nI i)), (0, .ref sp)]) hx hb dX3_isInput_45 rfl hl (by decide) rfl (fun ls hl => ?_)
          refine lv_iinc (v := nI (i + 1)) (lv' := [(2, .int (nI (i + 1))), (1, .int ((if (decide (t.length ≤ 8) && kHas (t.take (i + 1)) 0) = true then 1 else 0))), (0, .ref sp)]) hx hb dX3_isInput_46 hl (k := 1) rfl (nI_1 i) (by decide) rfl (fun ls hl => ?_)
          refine lv_goto (tgt := 17) hx hb dX3_isInput_49 (by decide) ?_
          exact ih (i + 1) H locs ls (by omega) (by omega) hW (lv_sub hl [1, 0, 2] rfl)
set_option maxHeartbeats 4000000 in
set_option maxRecDepth 100000 in
/-- Model.isInput -/
theorem mtX3_isInput (l : Launch) (D : va_G) (w : g_H) (sz : Nat) (sp : Nat) (t : List Nat) (hst : g_Str D w sp t) : Met l yX3_isInput (ws_ yX3_isInput cX3_isInput 3 (some .boolean)) ({ frames := 5, cells := 0, slots := 0, locals := 97 }) (g_Pc D [.ref sp] w sz) (g_Qi D w sz (fun r u => r = (if inB t = true then 1 else 0) ∧ w = u)) (0) (0) (g_A w sz) := by
  refine Met.ofW (cc := cX3_isInput) (maxL := 3) (ret := (some .boolean)) (by decide) rfl ?_
  intro p e s m args below meth c s₁ B hml hv
  obtain ⟨rfl, hI⟩ := hv
  have hx := B.exec
  have hb := B.bytes
  have hr := B.returns
  have hts := atoms_spec (ws := ws_ yX3_isInput cX3_isInput 3 (some .boolean)) B.pre
  have hts : ∀ w ∈ lw_all, w.before _ s = true := fun w h => hts w (List.mem_cons_of_mem _ h)
  have hown : s.vm.findClass RX3 = some m.cls := findClass_of_methodNamed B.named
  have hlocks := B.notSynchronized
  have hsz := hI.1
  subst hsz
  have hW := g_W.start hI
  have hK := g_K hI
  have hE := g_E hI
  have hl := lv_entry ([.ref sp]) (n := 3) (by exact Nat.le_of_ble_eq_true rfl)
  rw [lg_entry_eq]
  generalize (lg_sl ([.ref sp]) ++ List.replicate (3 - (lg_sl ([.ref sp])).length) Slot.unset).toArray = ls at hl ⊢
  have hl : lv_has ls 3 [(0, .ref sp)] := hl
  have hl1 := hst.1.1
  refine lv_aload_n hx hb dX3_isInput_0 rfl (lv_at hl 0 rfl) ?_
  obtain ⟨v, hr1, hb1⟩ := hst.rd hts hK hE hW
  refine g_calli (va_runV (As := []) (rest := []) ⟨hx, hb, hml, hown, hts⟩ (mtJ16_length l D w s.heap.size sp t hst) (cwV 0 hts (lw_V q2004 q740 q741 q63 q742) rfl rfl rfl (by decide +kernel) ⟨Nat.le_of_ble_eq_true rfl, Nat.le_of_ble_eq_true rfl⟩) (g_preVR hW hK hE hr1.2.2.2) rfl rfl hl.1 rfl (lv_room (Nat.le_of_ble_eq_true rfl)) dX3_isInput_1 ⟨Nat.le_of_ble_eq_true rfl, Nat.le_of_ble_eq_true rfl⟩) hW (fun r_ u_ H locs hp hW => ?_)
  obtain ⟨er, rfl⟩ := hp
  subst er
  refine lv_bipush (v := 8) hx hb dX3_isInput_4 (by decide) ?_
  refine lv_icmp_gt (tgt := 13) hx hb dX3_isInput_6 (by decide) (fun hc => ?_) (fun hc => ?_)
  · have h8 : ¬ t.length ≤ 8 := fun z => absurd ((nI_ltI (a := 8) (by decide) (by omega)).mp hc) (by omega)
    refine lv_iconst (v := 0) hx hb dX3_isInput_13 (by decide) ?_
    refine g_topi (y := (if (decide (t.length ≤ 8) && kHas (t.take 0) 0) = true then 1 else 0)) (by rw [decide_eq_false h8]; rfl) ?_
    refine lv_istore_n (lv' := [(1, .int ((if (decide (t.length ≤ 8) && kHas (t.take 0) 0) = true then 1 else 0))), (0, .ref sp)]) hx hb dX3_isInput_14 rfl hl (by decide) rfl (fun ls hl => ?_)
    refine lv_iconst (v := 0) hx hb dX3_isInput_15 (by decide) ?_
    refine lv_istore_n (lv' := [(2, .int (0)), (1, .int ((if (decide (t.length ≤ 8) && kHas (t.take 0) 0) = true then 1 else 0))), (0, .ref sp)]) hx hb dX3_isInput_16 rfl hl (by decide) rfl (fun ls hl => ?_)
    refine lpX3_isInput (D := D) hx hb hts hown hK hE hml (Nat.le_of_ble_eq_true rfl) (Nat.le_of_ble_eq_true rfl) ?_ ?_ w sp t hst (fun H locs ls hW hl => ?_) (t.length + 1) 0 _ _ ls (by omega) (Nat.zero_le _) hW (lv_sub hl [1, 0, 2] rfl)
    · (try simp only [headSpec]); omega
    · (try simp only [headSpec]); omega
    refine lv_iload_n hx hb dX3_isInput_52 rfl (lv_at hl 0 rfl) ?_
    by_cases hq9 : inB t = true
    · rw [if_pos hq9]
      exact g_zret (v := 1) hx hb hr hlocks (by rfl) hW (⟨rfl, rfl⟩) (by omega) (by omega) dX3_isInput_53
    · rw [if_neg hq9]
      exact g_zret (v := 0) hx hb hr hlocks (by rfl) hW (⟨rfl, rfl⟩) (by omega) (by omega) dX3_isInput_53
  · have h8 : t.length ≤ 8 := Nat.le_of_not_lt (fun z => hc ((nI_ltI (a := 8) (by decide) (by omega)).mpr z))
    refine lv_iconst (v := 1) hx hb dX3_isInput_9 (by decide) ?_
    refine lv_goto (tgt := 14) hx hb dX3_isInput_10 (by decide) ?_
    refine g_topi (y := (if (decide (t.length ≤ 8) && kHas (t.take 0) 0) = true then 1 else 0)) (by rw [decide_eq_true h8]; rfl) ?_
    refine lv_istore_n (lv' := [(1, .int ((if (decide (t.length ≤ 8) && kHas (t.take 0) 0) = true then 1 else 0))), (0, .ref sp)]) hx hb dX3_isInput_14 rfl hl (by decide) rfl (fun ls hl => ?_)
    refine lv_iconst (v := 0) hx hb dX3_isInput_15 (by decide) ?_
    refine lv_istore_n (lv' := [(2, .int (0)), (1, .int ((if (decide (t.length ≤ 8) && kHas (t.take 0) 0) = true then 1 else 0))), (0, .ref sp)]) hx hb dX3_isInput_16 rfl hl (by decide) rfl (fun ls hl => ?_)
    refine lpX3_isInput (D := D) hx hb hts hown hK hE hml (Nat.le_of_ble_eq_true rfl) (Nat.le_of_ble_eq_true rfl) ?_ ?_ w sp t hst (fun H locs ls hW hl => ?_) (t.length + 1) 0 _ _ ls (by omega) (Nat.zero_le _) hW (lv_sub hl [1, 0, 2] rfl)
    · (try simp only [headSpec]); omega
    · (try simp only [headSpec]); omega
    refine lv_iload_n hx hb dX3_isInput_52 rfl (lv_at hl 0 rfl) ?_
    by_cases hq9 : inB t = true
    · rw [if_pos hq9]
      exact g_zret (v := 1) hx hb hr hlocks (by rfl) hW (⟨rfl, rfl⟩) (by omega) (by omega) dX3_isInput_53
    · rw [if_neg hq9]
      exact g_zret (v := 0) hx hb hr hlocks (by rfl) hW (⟨rfl, rfl⟩) (by omega) (by omega) dX3_isInput_53
set_option maxHeartbeats 4000000 in
set_option maxRecDepth 100000 in
/-- Model.jumps -/
theorem mtX3_jumps (l : Launch) (D : va_G) (w : g_H) (sz : Nat) (y : Nat) (mf : Nat → Nat) (cd cn en td st rn : Int32) (tt : Int64) (km fi nx fm th : Int32) (ad op rg tg : Nat) (vl : Int32) (f0 f1 f2 g : Nat → Int32) (hy : g_at w y (.inr (10, mO mf (cd) (cn) (en) (td) (st) (rn) (tt) (km) (fi) (nx) (fm) (th)))) (h0 : g_at w (mf 0) (.inl (D.1 100, 16, .inl f0))) (h1 : g_at w (mf 1) (.inl (D.1 100, 16, .inl f1))) (h2 : g_at w (mf 2) (.inl (D.1 100, 16, .inl f2))) (h5 : g_at w (mf 15) (.inl (D.1 100, 4, .inl g))) (had : ad < 16) (hop : op < 9) (hrg : rg < 4) (e0 : f0 ad = nI op) (e1 : f1 ad = nI rg) (e2 : f2 ad = vl) : Met l yX3_jumps (ws_ yX3_jumps cX3_jumps 4 (some .boolean)) ({ frames := 2, cells := 0, slots := 0, locals := 32 }) (g_Pc D [.ref y, .int (nI ad)] w sz) (g_Qi D w sz (fun r u => r = (if mJmp (op, rg, vl, tg) g = true then 1 else 0) ∧ w = u)) (0) (0) (g_A w sz) := by
  refine Met.ofW (cc := cX3_jumps) (maxL := 4) (ret := (some .boolean)) (by decide) rfl ?_
  intro p e s m args below meth c s₁ B hml hv
  obtain ⟨rfl, hI⟩ := hv
  have hx := B.exec
  have hb := B.bytes
  have hr := B.returns
  have hts := atoms_spec (ws := ws_ yX3_jumps cX3_jumps 4 (some .boolean)) B.pre
  have hts : ∀ w ∈ lw_all, w.before _ s = true := fun w h => hts w (List.mem_cons_of_mem _ h)
  have hown : s.vm.findClass RX3 = some m.cls := findClass_of_methodNamed B.named
  have hlocks := B.notSynchronized
  have hsz := hI.1
  subst hsz
  have hW := g_W.start hI
  have hK := g_K hI
  have hE := g_E hI
  have hl := lv_entry ([.ref y, .int (nI ad)]) (n := 4) (by exact Nat.le_of_ble_eq_true rfl)
  rw [lg_entry_eq]
  generalize (lg_sl ([.ref y, .int (nI ad)]) ++ List.replicate (4 - (lg_sl ([.ref y, .int (nI ad)])).length) Slot.unset).toArray = ls at hl ⊢
  have hl : lv_has ls 4 [(0, .ref y), (1, .int (nI ad))] := hl
  refine lv_aload_n hx hb dX3_jumps_0 rfl (lv_at hl 0 rfl) ?_
  refine g_get (ci := 10) (v := .ref (mf 0)) (C := RX3) (T := TX3) (N := 28) hx hb hts in_X3 hown hK hW hy rfl 0 (by decide) q1884 (fun _ h9 => h9) rfl dX3_jumps_1 ?_
  refine lv_iload_n hx hb dX3_jumps_4 rfl (lv_at hl 1 rfl) ?_
  refine g_iald (i := ad) hx hb hK hW h0 (had) (by decide) dX3_jumps_5 ?_
  refine g_topi (y := nI op) (e0) ?_
  refine lv_istore_n (lv' := [(2, .int (nI op)), (0, .ref y), (1, .int (nI ad))]) hx hb dX3_jumps_6 rfl hl (by decide) rfl (fun ls hl => ?_)
  refine lv_aload_n hx hb dX3_jumps_7 rfl (lv_at hl 1 rfl) ?_
  refine g_get (ci := 10) (v := .ref (mf 15)) (C := RX3) (T := TX3) (N := 28) hx hb hts in_X3 hown hK hW hy rfl 15 (by decide) q1899 (fun _ h9 => h9) rfl dX3_jumps_8 ?_
  refine lv_aload_n hx hb dX3_jumps_11 rfl (lv_at hl 1 rfl) ?_
  refine g_get (ci := 10) (v := .ref (mf 1)) (C := RX3) (T := TX3) (N := 28) hx hb hts in_X3 hown hK hW hy rfl 1 (by decide) q1885 (fun _ h9 => h9) rfl dX3_jumps_12 ?_
  refine lv_iload_n hx hb dX3_jumps_15 rfl (lv_at hl 2 rfl) ?_
  refine g_iald (i := ad) hx hb hK hW h1 (had) (by decide) dX3_jumps_16 ?_
  refine g_topi (y := nI rg) (e1) ?_
  refine g_iald (i := rg) hx hb hK hW h5 (hrg) (by decide) dX3_jumps_17 ?_
  refine lv_istore_n (lv' := [(3, .int (g (rg))), (2, .int (nI op)), (0, .ref y), (1, .int (nI ad))]) hx hb dX3_jumps_18 rfl hl (by decide) rfl (fun ls hl => ?_)
  have hop9 : op = 0 ∨ op = 1 ∨ op = 2 ∨ op = 3 ∨ op = 4 ∨ op = 5 ∨ op = 6 ∨ op = 7 ∨ op = 8 := by omega
  clear e0
  rcases hop9 with rfl | rfl | rfl | rfl | rfl | rfl | rfl | rfl | rfl
  · refine lv_iload_n hx hb dX3_jumps_19 rfl (lv_at hl 1 rfl) ?_
    refine va_gets hx hb ((hE.2.2.2.2.2.2.1.1 6 (by decide)).1) hW.2.2.1 hown (hts _ q2050) (fun _ h9 => h9) dX3_jumps_20 ?_
    refine g_calli (va_runU (As := []) (rest := [.int (nI 0)]) ⟨hx, hb, hml, hown, hts⟩ (mtJ10_ordinal l D w s.heap.size (D.2 1002 6) (nI 6) (fun s hE => g_op (by decide) s hE)) (va_cwU (owner := "java/lang/Enum") (x := ⟨"Op", "ordinal", "()I"⟩) 0 hts (lw_app (lw_in _ [1990, 1208, 1209, 678, 50] (by decide +kernel) (by decide +kernel)) (lw_meth q679)) rfl rfl rfl rfl (by decide +kernel) ⟨Nat.le_of_ble_eq_true rfl, Nat.le_of_ble_eq_true rfl⟩) (g_preVR hW hK hE (g_opO hE hW (by decide))) rfl rfl hl.1 rfl (lv_room (Nat.le_of_ble_eq_true rfl)) dX3_jumps_23 ⟨Nat.le_of_ble_eq_true rfl, Nat.le_of_ble_eq_true rfl⟩) hW (fun r_ u_ H locs hp hW => ?_)
    obtain ⟨er, rfl⟩ := hp
    subst er
    refine lv_icmp_eq (tgt := 69) hx hb dX3_jumps_26 (by decide) (fun hz => absurd hz (by decide)) (fun _ => ?_)
    refine lv_iload_n hx hb dX3_jumps_29 rfl (lv_at hl 1 rfl) ?_
    refine va_gets hx hb ((hE.2.2.2.2.2.2.1.1 4 (by decide)).1) hW.2.2.1 hown (hts _ q2051) (fun _ h9 => h9) dX3_jumps_30 ?_
    refine g_calli (va_runU (As := []) (rest := [.int (nI 0)]) ⟨hx, hb, hml, hown, hts⟩ (mtJ10_ordinal l D w H.size (D.2 1002 4) (nI 4) (fun s hE => g_op (by decide) s hE)) (va_cwU (owner := "java/lang/Enum") (x := ⟨"Op", "ordinal", "()I"⟩) 0 hts (lw_app (lw_in _ [1990, 1208, 1209, 678, 50] (by decide +kernel) (by decide +kernel)) (lw_meth q679)) rfl rfl rfl rfl (by decide +kernel) ⟨Nat.le_of_ble_eq_true rfl, Nat.le_of_ble_eq_true rfl⟩) (g_preVR hW hK hE (g_opO hE hW (by decide))) rfl rfl hl.1 rfl (lv_room (Nat.le_of_ble_eq_true rfl)) dX3_jumps_33 ⟨Nat.le_of_ble_eq_true rfl, Nat.le_of_ble_eq_true rfl⟩) hW (fun r_ u_ H locs hp hW => ?_)
    obtain ⟨er, rfl⟩ := hp
    subst er
    refine lv_icmp_ne (tgt := 49) hx hb dX3_jumps_36 (by decide) (fun _ => ?_) (fun hz => absurd (by first | exact hz | exact Classical.not_not.mp hz) (by decide))
    refine lv_iload_n hx hb dX3_jumps_49 rfl (lv_at hl 1 rfl) ?_
    refine va_gets hx hb ((hE.2.2.2.2.2.2.1.1 5 (by decide)).1) hW.2.2.1 hown (hts _ q2052) (fun _ h9 => h9) dX3_jumps_50 ?_
    refine g_calli (va_runU (As := []) (rest := [.int (nI 0)]) ⟨hx, hb, hml, hown, hts⟩ (mtJ10_ordinal l D w H.size (D.2 1002 5) (nI 5) (fun s hE => g_op (by decide) s hE)) (va_cwU (owner := "java/lang/Enum") (x := ⟨"Op", "ordinal", "()I"⟩) 0 hts (lw_app (lw_in _ [1990, 1208, 1209, 678, 50] (by decide +kernel) (by decide +kernel)) (lw_meth q679)) rfl rfl rfl rfl (by decide +kernel) ⟨Nat.le_of_ble_eq_true rfl, Nat.le_of_ble_eq_true rfl⟩) (g_preVR hW hK hE (g_opO hE hW (by decide))) rfl rfl hl.1 rfl (lv_room (Nat.le_of_ble_eq_true rfl)) dX3_jumps_53 ⟨Nat.le_of_ble_eq_true rfl, Nat.le_of_ble_eq_true rfl⟩) hW (fun r_ u_ H locs hp hW => ?_)
    obtain ⟨er, rfl⟩ := hp
    subst er
    refine lv_icmp_ne (tgt := 73) hx hb dX3_jumps_56 (by decide) (fun _ => ?_) (fun hz => absurd (by first | exact hz | exact Classical.not_not.mp hz) (by decide))
    refine lv_iconst (v := 0) hx hb dX3_jumps_73 (by decide) ?_
    exact g_zret (v := 0) hx hb hr hlocks (by rfl) hW (⟨by rw [show mJmp (0, rg, vl, tg) g = false from decide_eq_false (fun z => by rcases z with z | ⟨z, -⟩ | ⟨z, -⟩; exact (show ¬ (0 : Nat) = 6 by decide) z; exact (show ¬ (0 : Nat) = 4 by decide) z; exact (show ¬ (0 : Nat) = 5 by decide) z)]; rfl, rfl⟩) (by omega) (by omega) dX3_jumps_74
  · refine lv_iload_n hx hb dX3_jumps_19 rfl (lv_at hl 1 rfl) ?_
    refine va_gets hx hb ((hE.2.2.2.2.2.2.1.1 6 (by decide)).1) hW.2.2.1 hown (hts _ q2050) (fun _ h9 => h9) dX3_jumps_20 ?_
    refine g_calli (va_runU (As := []) (rest := [.int (nI 1)]) ⟨hx, hb, hml, hown, hts⟩ (mtJ10_ordinal l D w s.heap.size (D.2 1002 6) (nI 6) (fun s hE => g_op (by decide) s hE)) (va_cwU (owner := "java/lang/Enum") (x := ⟨"Op", "ordinal", "()I"⟩) 0 hts (lw_app (lw_in _ [1990, 1208, 1209, 678, 50] (by decide +kernel) (by decide +kernel)) (lw_meth q679)) rfl rfl rfl rfl (by decide +kernel) ⟨Nat.le_of_ble_eq_true rfl, Nat.le_of_ble_eq_true rfl⟩) (g_preVR hW hK hE (g_opO hE hW (by decide))) rfl rfl hl.1 rfl (lv_room (Nat.le_of_ble_eq_true rfl)) dX3_jumps_23 ⟨Nat.le_of_ble_eq_true rfl, Nat.le_of_ble_eq_true rfl⟩) hW (fun r_ u_ H locs hp hW => ?_)
    obtain ⟨er, rfl⟩ := hp
    subst er
    refine lv_icmp_eq (tgt := 69) hx hb dX3_jumps_26 (by decide) (fun hz => absurd hz (by decide)) (fun _ => ?_)
    refine lv_iload_n hx hb dX3_jumps_29 rfl (lv_at hl 1 rfl) ?_
    refine va_gets hx hb ((hE.2.2.2.2.2.2.1.1 4 (by decide)).1) hW.2.2.1 hown (hts _ q2051) (fun _ h9 => h9) dX3_jumps_30 ?_
    refine g_calli (va_runU (As := []) (rest := [.int (nI 1)]) ⟨hx, hb, hml, hown, hts⟩ (mtJ10_ordinal l D w H.size (D.2 1002 4) (nI 4) (fun s hE => g_op (by decide) s hE)) (va_cwU (owner := "java/lang/Enum") (x := ⟨"Op", "ordinal", "()I"⟩) 0 hts (lw_app (lw_in _ [1990, 1208, 1209, 678, 50] (by decide +kernel) (by decide +kernel)) (lw_meth q679)) rfl rfl rfl rfl (by decide +kernel) ⟨Nat.le_of_ble_eq_true rfl, Nat.le_of_ble_eq_true rfl⟩) (g_preVR hW hK hE (g_opO hE hW (by decide))) rfl rfl hl.1 rfl (lv_room (Nat.le_of_ble_eq_true rfl)) dX3_jumps_33 ⟨Nat.le_of_ble_eq_true rfl, Nat.le_of_ble_eq_true rfl⟩) hW (fun r_ u_ H locs hp hW => ?_)
    obtain ⟨er, rfl⟩ := hp
    subst er
    refine lv_icmp_ne (tgt := 49) hx hb dX3_jumps_36 (by decide) (fun _ => ?_) (fun hz => absurd (by first | exact hz | exact Classical.not_not.mp hz) (by decide))
    refine lv_iload_n hx hb dX3_jumps_49 rfl (lv_at hl 1 rfl) ?_
    refine va_gets hx hb ((hE.2.2.2.2.2.2.1.1 5 (by decide)).1) hW.2.2.1 hown (hts _ q2052) (fun _ h9 => h9) dX3_jumps_50 ?_
    refine g_calli (va_runU (As := []) (rest := [.int (nI 1)]) ⟨hx, hb, hml, hown, hts⟩ (mtJ10_ordinal l D w H.size (D.2 1002 5) (nI 5) (fun s hE => g_op (by decide) s hE)) (va_cwU (owner := "java/lang/Enum") (x := ⟨"Op", "ordinal", "()I"⟩) 0 hts (lw_app (lw_in _ [1990, 1208, 1209, 678, 50] (by decide +kernel) (by decide +kernel)) (lw_meth q679)) rfl rfl rfl rfl (by decide +kernel) ⟨Nat.le_of_ble_eq_true rfl, Nat.le_of_ble_eq_true rfl⟩) (g_preVR hW hK hE (g_opO hE hW (by decide))) rfl rfl hl.1 rfl (lv_room (Nat.le_of_ble_eq_true rfl)) dX3_jumps_53 ⟨Nat.le_of_ble_eq_true rfl, Nat.le_of_ble_eq_true rfl⟩) hW (fun r_ u_ H locs hp hW => ?_)
    obtain ⟨er, rfl⟩ := hp
    subst er
    refine lv_icmp_ne (tgt := 73) hx hb dX3_jumps_56 (by decide) (fun _ => ?_) (fun hz => absurd (by first | exact hz | exact Classical.not_not.mp hz) (by decide))
    refine lv_iconst (v := 0) hx hb dX3_jumps_73 (by decide) ?_
    exact g_zret (v := 0) hx hb hr hlocks (by rfl) hW (⟨by rw [show mJmp (1, rg, vl, tg) g = false from decide_eq_false (fun z => by rcases z with z | ⟨z, -⟩ | ⟨z, -⟩; exact (show ¬ (1 : Nat) = 6 by decide) z; exact (show ¬ (1 : Nat) = 4 by decide) z; exact (show ¬ (1 : Nat) = 5 by decide) z)]; rfl, rfl⟩) (by omega) (by omega) dX3_jumps_74
  · refine lv_iload_n hx hb dX3_jumps_19 rfl (lv_at hl 1 rfl) ?_
    refine va_gets hx hb ((hE.2.2.2.2.2.2.1.1 6 (by decide)).1) hW.2.2.1 hown (hts _ q2050) (fun _ h9 => h9) dX3_jumps_20 ?_
    refine g_calli (va_runU (As := []) (rest := [.int (nI 2)]) ⟨hx, hb, hml, hown, hts⟩ (mtJ10_ordinal l D w s.heap.size (D.2 1002 6) (nI 6) (fun s hE => g_op (by decide) s hE)) (va_cwU (owner := "java/lang/Enum") (x := ⟨"Op", "ordinal", "()I"⟩) 0 hts (lw_app (lw_in _ [1990, 1208, 1209, 678, 50] (by decide +kernel) (by decide +kernel)) (lw_meth q679)) rfl rfl rfl rfl (by decide +kernel) ⟨Nat.le_of_ble_eq_true rfl, Nat.le_of_ble_eq_true rfl⟩) (g_preVR hW hK hE (g_opO hE hW (by decide))) rfl rfl hl.1 rfl (lv_room (Nat.le_of_ble_eq_true rfl)) dX3_jumps_23 ⟨Nat.le_of_ble_eq_true rfl, Nat.le_of_ble_eq_true rfl⟩) hW (fun r_ u_ H locs hp hW => ?_)
    obtain ⟨er, rfl⟩ := hp
    subst er
    refine lv_icmp_eq (tgt := 69) hx hb dX3_jumps_26 (by decide) (fun hz => absurd hz (by decide)) (fun _ => ?_)
    refine lv_iload_n hx hb dX3_jumps_29 rfl (lv_at hl 1 rfl) ?_
    refine va_gets hx hb ((hE.2.2.2.2.2.2.1.1 4 (by decide)).1) hW.2.2.1 hown (hts _ q2051) (fun _ h9 => h9) dX3_jumps_30 ?_
    refine g_calli (va_runU (As := []) (rest := [.int (nI 2)]) ⟨hx, hb, hml, hown, hts⟩ (mtJ10_ordinal l D w H.size (D.2 1002 4) (nI 4) (fun s hE => g_op (by decide) s hE)) (va_cwU (owner := "java/lang/Enum") (x := ⟨"Op", "ordinal", "()I"⟩) 0 hts (lw_app (lw_in _ [1990, 1208, 1209, 678, 50] (by decide +kernel) (by decide +kernel)) (lw_meth q679)) rfl rfl rfl rfl (by decide +kernel) ⟨Nat.le_of_ble_eq_true rfl, Nat.le_of_ble_eq_true rfl⟩) (g_preVR hW hK hE (g_opO hE hW (by decide))) rfl rfl hl.1 rfl (lv_room (Nat.le_of_ble_eq_true rfl)) dX3_jumps_33 ⟨Nat.le_of_ble_eq_true rfl, Nat.le_of_ble_eq_true rfl⟩) hW (fun r_ u_ H locs hp hW => ?_)
    obtain ⟨er, rfl⟩ := hp
    subst er
    refine lv_icmp_ne (tgt := 49) hx hb dX3_jumps_36 (by decide) (fun _ => ?_) (fun hz => absurd (by first | exact hz | exact Classical.not_not.mp hz) (by decide))
    refine lv_iload_n hx hb dX3_jumps_49 rfl (lv_at hl 1 rfl) ?_
    refine va_gets hx hb ((hE.2.2.2.2.2.2.1.1 5 (by decide)).1) hW.2.2.1 hown (hts _ q2052) (fun _ h9 => h9) dX3_jumps_50 ?_
    refine g_calli (va_runU (As := []) (rest := [.int (nI 2)]) ⟨hx, hb, hml, hown, hts⟩ (mtJ10_ordinal l D w H.size (D.2 1002 5) (nI 5) (fun s hE => g_op (by decide) s hE)) (va_cwU (owner := "java/lang/Enum") (x := ⟨"Op", "ordinal", "()I"⟩) 0 hts (lw_app (lw_in _ [1990, 1208, 1209, 678, 50] (by decide +kernel) (by decide +kernel)) (lw_meth q679)) rfl rfl rfl rfl (by decide +kernel) ⟨Nat.le_of_ble_eq_true rfl, Nat.le_of_ble_eq_true rfl⟩) (g_preVR hW hK hE (g_opO hE hW (by decide))) rfl rfl hl.1 rfl (lv_room (Nat.le_of_ble_eq_true rfl)) dX3_jumps_53 ⟨Nat.le_of_ble_eq_true rfl, Nat.le_of_ble_eq_true rfl⟩) hW (fun r_ u_ H locs hp hW => ?_)
    obtain ⟨er, rfl⟩ := hp
    subst er
    refine lv_icmp_ne (tgt := 73) hx hb dX3_jumps_56 (by decide) (fun _ => ?_) (fun hz => absurd (by first | exact hz | exact Classical.not_not.mp hz) (by decide))
    refine lv_iconst (v := 0) hx hb dX3_jumps_73 (by decide) ?_
    exact g_zret (v := 0) hx hb hr hlocks (by rfl) hW (⟨by rw [show mJmp (2, rg, vl, tg) g = false from decide_eq_false (fun z => by rcases z with z | ⟨z, -⟩ | ⟨z, -⟩; exact (show ¬ (2 : Nat) = 6 by decide) z; exact (show ¬ (2 : Nat) = 4 by decide) z; exact (show ¬ (2 : Nat) = 5 by decide) z)]; rfl, rfl⟩) (by omega) (by omega) dX3_jumps_74
  · refine lv_iload_n hx hb dX3_jumps_19 rfl (lv_at hl 1 rfl) ?_
    refine va_gets hx hb ((hE.2.2.2.2.2.2.1.1 6 (by decide)).1) hW.2.2.1 hown (hts _ q2050) (fun _ h9 => h9) dX3_jumps_20 ?_
    refine g_calli (va_runU (As := []) (rest := [.int (nI 3)]) ⟨hx, hb, hml, hown, hts⟩ (mtJ10_ordinal l D w s.heap.size (D.2 1002 6) (nI 6) (fun s hE => g_op (by decide) s hE)) (va_cwU (owner := "java/lang/Enum") (x := ⟨"Op", "ordinal", "()I"⟩) 0 hts (lw_app (lw_in _ [1990, 1208, 1209, 678, 50] (by decide +kernel) (by decide +kernel)) (lw_meth q679)) rfl rfl rfl rfl (by decide +kernel) ⟨Nat.le_of_ble_eq_true rfl, Nat.le_of_ble_eq_true rfl⟩) (g_preVR hW hK hE (g_opO hE hW (by decide))) rfl rfl hl.1 rfl (lv_room (Nat.le_of_ble_eq_true rfl)) dX3_jumps_23 ⟨Nat.le_of_ble_eq_true rfl, Nat.le_of_ble_eq_true rfl⟩) hW (fun r_ u_ H locs hp hW => ?_)
    obtain ⟨er, rfl⟩ := hp
    subst er
    refine lv_icmp_eq (tgt := 69) hx hb dX3_jumps_26 (by decide) (fun hz => absurd hz (by decide)) (fun _ => ?_)
    refine lv_iload_n hx hb dX3_jumps_29 rfl (lv_at hl 1 rfl) ?_
    refine va_gets hx hb ((hE.2.2.2.2.2.2.1.1 4 (by decide)).1) hW.2.2.1 hown (hts _ q2051) (fun _ h9 => h9) dX3_jumps_30 ?_
    refine g_calli (va_runU (As := []) (rest := [.int (nI 3)]) ⟨hx, hb, hml, hown, hts⟩ (mtJ10_ordinal l D w H.size (D.2 1002 4) (nI 4) (fun s hE => g_op (by decide) s hE)) (va_cwU (owner := "java/lang/Enum") (x := ⟨"Op", "ordinal", "()I"⟩) 0 hts (lw_app (lw_in _ [1990, 1208, 1209, 678, 50] (by decide +kernel) (by decide +kernel)) (lw_meth q679)) rfl rfl rfl rfl (by decide +kernel) ⟨Nat.le_of_ble_eq_true rfl, Nat.le_of_ble_eq_true rfl⟩) (g_preVR hW hK hE (g_opO hE hW (by decide))) rfl rfl hl.1 rfl (lv_room (Nat.le_of_ble_eq_true rfl)) dX3_jumps_33 ⟨Nat.le_of_ble_eq_true rfl, Nat.le_of_ble_eq_true rfl⟩) hW (fun r_ u_ H locs hp hW => ?_)
    obtain ⟨er, rfl⟩ := hp
    subst er
    refine lv_icmp_ne (tgt := 49) hx hb dX3_jumps_36 (by decide) (fun _ => ?_) (fun hz => absurd (by first | exact hz | exact Classical.not_not.mp hz) (by decide))
    refine lv_iload_n hx hb dX3_jumps_49 rfl (lv_at hl 1 rfl) ?_
    refine va_gets hx hb ((hE.2.2.2.2.2.2.1.1 5 (by decide)).1) hW.2.2.1 hown (hts _ q2052) (fun _ h9 => h9) dX3_jumps_50 ?_
    refine g_calli (va_runU (As := []) (rest := [.int (nI 3)]) ⟨hx, hb, hml, hown, hts⟩ (mtJ10_ordinal l D w H.size (D.2 1002 5) (nI 5) (fun s hE => g_op (by decide) s hE)) (va_cwU (owner := "java/lang/Enum") (x := ⟨"Op", "ordinal", "()I"⟩) 0 hts (lw_app (lw_in _ [1990, 1208, 1209, 678, 50] (by decide +kernel) (by decide +kernel)) (lw_meth q679)) rfl rfl rfl rfl (by decide +kernel) ⟨Nat.le_of_ble_eq_true rfl, Nat.le_of_ble_eq_true rfl⟩) (g_preVR hW hK hE (g_opO hE hW (by decide))) rfl rfl hl.1 rfl (lv_room (Nat.le_of_ble_eq_true rfl)) dX3_jumps_53 ⟨Nat.le_of_ble_eq_true rfl, Nat.le_of_ble_eq_true rfl⟩) hW (fun r_ u_ H locs hp hW => ?_)
    obtain ⟨er, rfl⟩ := hp
    subst er
    refine lv_icmp_ne (tgt := 73) hx hb dX3_jumps_56 (by decide) (fun _ => ?_) (fun hz => absurd (by first | exact hz | exact Classical.not_not.mp hz) (by decide))
    refine lv_iconst (v := 0) hx hb dX3_jumps_73 (by decide) ?_
    exact g_zret (v := 0) hx hb hr hlocks (by rfl) hW (⟨by rw [show mJmp (3, rg, vl, tg) g = false from decide_eq_false (fun z => by rcases z with z | ⟨z, -⟩ | ⟨z, -⟩; exact (show ¬ (3 : Nat) = 6 by decide) z; exact (show ¬ (3 : Nat) = 4 by decide) z; exact (show ¬ (3 : Nat) = 5 by decide) z)]; rfl, rfl⟩) (by omega) (by omega) dX3_jumps_74
  · refine lv_iload_n hx hb dX3_jumps_19 rfl (lv_at hl 1 rfl) ?_
    refine va_gets hx hb ((hE.2.2.2.2.2.2.1.1 6 (by decide)).1) hW.2.2.1 hown (hts _ q2050) (fun _ h9 => h9) dX3_jumps_20 ?_
    refine g_calli (va_runU (As := []) (rest := [.int (nI 4)]) ⟨hx, hb, hml, hown, hts⟩ (mtJ10_ordinal l D w s.heap.size (D.2 1002 6) (nI 6) (fun s hE => g_op (by decide) s hE)) (va_cwU (owner := "java/lang/Enum") (x := ⟨"Op", "ordinal", "()I"⟩) 0 hts (lw_app (lw_in _ [1990, 1208, 1209, 678, 50] (by decide +kernel) (by decide +kernel)) (lw_meth q679)) rfl rfl rfl rfl (by decide +kernel) ⟨Nat.le_of_ble_eq_true rfl, Nat.le_of_ble_eq_true rfl⟩) (g_preVR hW hK hE (g_opO hE hW (by decide))) rfl rfl hl.1 rfl (lv_room (Nat.le_of_ble_eq_true rfl)) dX3_jumps_23 ⟨Nat.le_of_ble_eq_true rfl, Nat.le_of_ble_eq_true rfl⟩) hW (fun r_ u_ H locs hp hW => ?_)
    obtain ⟨er, rfl⟩ := hp
    subst er
    refine lv_icmp_eq (tgt := 69) hx hb dX3_jumps_26 (by decide) (fun hz => absurd hz (by decide)) (fun _ => ?_)
    refine lv_iload_n hx hb dX3_jumps_29 rfl (lv_at hl 1 rfl) ?_
    refine va_gets hx hb ((hE.2.2.2.2.2.2.1.1 4 (by decide)).1) hW.2.2.1 hown (hts _ q2051) (fun _ h9 => h9) dX3_jumps_30 ?_
    refine g_calli (va_runU (As := []) (rest := [.int (nI 4)]) ⟨hx, hb, hml, hown, hts⟩ (mtJ10_ordinal l D w H.size (D.2 1002 4) (nI 4) (fun s hE => g_op (by decide) s hE)) (va_cwU (owner := "java/lang/Enum") (x := ⟨"Op", "ordinal", "()I"⟩) 0 hts (lw_app (lw_in _ [1990, 1208, 1209, 678, 50] (by decide +kernel) (by decide +kernel)) (lw_meth q679)) rfl rfl rfl rfl (by decide +kernel) ⟨Nat.le_of_ble_eq_true rfl, Nat.le_of_ble_eq_true rfl⟩) (g_preVR hW hK hE (g_opO hE hW (by decide))) rfl rfl hl.1 rfl (lv_room (Nat.le_of_ble_eq_true rfl)) dX3_jumps_33 ⟨Nat.le_of_ble_eq_true rfl, Nat.le_of_ble_eq_true rfl⟩) hW (fun r_ u_ H locs hp hW => ?_)
    obtain ⟨er, rfl⟩ := hp
    subst er
    refine lv_icmp_ne (tgt := 49) hx hb dX3_jumps_36 (by decide) (fun hz => absurd rfl hz) (fun _ => ?_)
    refine lv_iload_n hx hb dX3_jumps_39 rfl (lv_at hl 0 rfl) ?_
    refine lv_aload_n hx hb dX3_jumps_40 rfl (lv_at hl 2 rfl) ?_
    refine g_get (ci := 10) (v := .ref (mf 2)) (C := RX3) (T := TX3) (N := 28) hx hb hts in_X3 hown hK hW hy rfl 2 (by decide) q1886 (fun _ h9 => h9) rfl dX3_jumps_41 ?_
    refine lv_iload_n hx hb dX3_jumps_44 rfl (lv_at hl 3 rfl) ?_
    refine g_iald (i := ad) hx hb hK hW h2 (had) (by decide) dX3_jumps_45 ?_
    refine g_topi (y := vl) (e2) ?_
    refine lv_icmp_lt (tgt := 69) hx hb dX3_jumps_46 (by decide) (fun hc => ?_) (fun hc => ?_)
    · refine lv_iconst (v := 1) hx hb dX3_jumps_69 (by decide) ?_
      refine lv_goto (tgt := 74) hx hb dX3_jumps_70 (by decide) ?_
      exact g_zret (v := 1) hx hb hr hlocks (by rfl) hW (⟨by rw [show mJmp (4, rg, vl, tg) g = true from decide_eq_true (Or.inr (Or.inl ⟨rfl, hc⟩))]; rfl, rfl⟩) (by omega) (by omega) dX3_jumps_74
    · refine lv_iload_n hx hb dX3_jumps_49 rfl (lv_at hl 1 rfl) ?_
      refine va_gets hx hb ((hE.2.2.2.2.2.2.1.1 5 (by decide)).1) hW.2.2.1 hown (hts _ q2052) (fun _ h9 => h9) dX3_jumps_50 ?_
      refine g_calli (va_runU (As := []) (rest := [.int (nI 4)]) ⟨hx, hb, hml, hown, hts⟩ (mtJ10_ordinal l D w H.size (D.2 1002 5) (nI 5) (fun s hE => g_op (by decide) s hE)) (va_cwU (owner := "java/lang/Enum") (x := ⟨"Op", "ordinal", "()I"⟩) 0 hts (lw_app (lw_in _ [1990, 1208, 1209, 678, 50] (by decide +kernel) (by decide +kernel)) (lw_meth q679)) rfl rfl rfl rfl (by decide +kernel) ⟨Nat.le_of_ble_eq_true rfl, Nat.le_of_ble_eq_true rfl⟩) (g_preVR hW hK hE (g_opO hE hW (by decide))) rfl rfl hl.1 rfl (lv_room (Nat.le_of_ble_eq_true rfl)) dX3_jumps_53 ⟨Nat.le_of_ble_eq_true rfl, Nat.le_of_ble_eq_true rfl⟩) hW (fun r_ u_ H locs hp hW => ?_)
      obtain ⟨er, rfl⟩ := hp
      subst er
      refine lv_icmp_ne (tgt := 73) hx hb dX3_jumps_56 (by decide) (fun _ => ?_) (fun hz => absurd (by first | exact hz | exact Classical.not_not.mp hz) (by decide))
      refine lv_iconst (v := 0) hx hb dX3_jumps_73 (by decide) ?_
      exact g_zret (v := 0) hx hb hr hlocks (by rfl) hW (⟨by rw [show mJmp (4, rg, vl, tg) g = false from decide_eq_false (fun z => by rcases z with z | ⟨-, z⟩ | ⟨z, -⟩; exact (show ¬ (4 : Nat) = 6 by decide) z; exact hc z; exact (show ¬ (4 : Nat) = 5 by decide) z)]; rfl, rfl⟩) (by omega) (by omega) dX3_jumps_74
  · refine lv_iload_n hx hb dX3_jumps_19 rfl (lv_at hl 1 rfl) ?_
    refine va_gets hx hb ((hE.2.2.2.2.2.2.1.1 6 (by decide)).1) hW.2.2.1 hown (hts _ q2050) (fun _ h9 => h9) dX3_jumps_20 ?_
    refine g_calli (va_runU (As := []) (rest := [.int (nI 5)]) ⟨hx, hb, hml, hown, hts⟩ (mtJ10_ordinal l D w s.heap.size (D.2 1002 6) (nI 6) (fun s hE => g_op (by decide) s hE)) (va_cwU (owner := "java/lang/Enum") (x := ⟨"Op", "ordinal", "()I"⟩) 0 hts (lw_app (lw_in _ [1990, 1208, 1209, 678, 50] (by decide +kernel) (by decide +kernel)) (lw_meth q679)) rfl rfl rfl rfl (by decide +kernel) ⟨Nat.le_of_ble_eq_true rfl, Nat.le_of_ble_eq_true rfl⟩) (g_preVR hW hK hE (g_opO hE hW (by decide))) rfl rfl hl.1 rfl (lv_room (Nat.le_of_ble_eq_true rfl)) dX3_jumps_23 ⟨Nat.le_of_ble_eq_true rfl, Nat.le_of_ble_eq_true rfl⟩) hW (fun r_ u_ H locs hp hW => ?_)
    obtain ⟨er, rfl⟩ := hp
    subst er
    refine lv_icmp_eq (tgt := 69) hx hb dX3_jumps_26 (by decide) (fun hz => absurd hz (by decide)) (fun _ => ?_)
    refine lv_iload_n hx hb dX3_jumps_29 rfl (lv_at hl 1 rfl) ?_
    refine va_gets hx hb ((hE.2.2.2.2.2.2.1.1 4 (by decide)).1) hW.2.2.1 hown (hts _ q2051) (fun _ h9 => h9) dX3_jumps_30 ?_
    refine g_calli (va_runU (As := []) (rest := [.int (nI 5)]) ⟨hx, hb, hml, hown, hts⟩ (mtJ10_ordinal l D w H.size (D.2 1002 4) (nI 4) (fun s hE => g_op (by decide) s hE)) (va_cwU (owner := "java/lang/Enum") (x := ⟨"Op", "ordinal", "()I"⟩) 0 hts (lw_app (lw_in _ [1990, 1208, 1209, 678, 50] (by decide +kernel) (by decide +kernel)) (lw_meth q679)) rfl rfl rfl rfl (by decide +kernel) ⟨Nat.le_of_ble_eq_true rfl, Nat.le_of_ble_eq_true rfl⟩) (g_preVR hW hK hE (g_opO hE hW (by decide))) rfl rfl hl.1 rfl (lv_room (Nat.le_of_ble_eq_true rfl)) dX3_jumps_33 ⟨Nat.le_of_ble_eq_true rfl, Nat.le_of_ble_eq_true rfl⟩) hW (fun r_ u_ H locs hp hW => ?_)
    obtain ⟨er, rfl⟩ := hp
    subst er
    refine lv_icmp_ne (tgt := 49) hx hb dX3_jumps_36 (by decide) (fun _ => ?_) (fun hz => absurd (by first | exact hz | exact Classical.not_not.mp hz) (by decide))
    refine lv_iload_n hx hb dX3_jumps_49 rfl (lv_at hl 1 rfl) ?_
    refine va_gets hx hb ((hE.2.2.2.2.2.2.1.1 5 (by decide)).1) hW.2.2.1 hown (hts _ q2052) (fun _ h9 => h9) dX3_jumps_50 ?_
    refine g_calli (va_runU (As := []) (rest := [.int (nI 5)]) ⟨hx, hb, hml, hown, hts⟩ (mtJ10_ordinal l D w H.size (D.2 1002 5) (nI 5) (fun s hE => g_op (by decide) s hE)) (va_cwU (owner := "java/lang/Enum") (x := ⟨"Op", "ordinal", "()I"⟩) 0 hts (lw_app (lw_in _ [1990, 1208, 1209, 678, 50] (by decide +kernel) (by decide +kernel)) (lw_meth q679)) rfl rfl rfl rfl (by decide +kernel) ⟨Nat.le_of_ble_eq_true rfl, Nat.le_of_ble_eq_true rfl⟩) (g_preVR hW hK hE (g_opO hE hW (by decide))) rfl rfl hl.1 rfl (lv_room (Nat.le_of_ble_eq_true rfl)) dX3_jumps_53 ⟨Nat.le_of_ble_eq_true rfl, Nat.le_of_ble_eq_true rfl⟩) hW (fun r_ u_ H locs hp hW => ?_)
    obtain ⟨er, rfl⟩ := hp
    subst er
    refine lv_icmp_ne (tgt := 73) hx hb dX3_jumps_56 (by decide) (fun hz => absurd rfl hz) (fun _ => ?_)
    refine lv_iload_n hx hb dX3_jumps_59 rfl (lv_at hl 0 rfl) ?_
    refine lv_aload_n hx hb dX3_jumps_60 rfl (lv_at hl 2 rfl) ?_
    refine g_get (ci := 10) (v := .ref (mf 2)) (C := RX3) (T := TX3) (N := 28) hx hb hts in_X3 hown hK hW hy rfl 2 (by decide) q1886 (fun _ h9 => h9) rfl dX3_jumps_61 ?_
    refine lv_iload_n hx hb dX3_jumps_64 rfl (lv_at hl 3 rfl) ?_
    refine g_iald (i := ad) hx hb hK hW h2 (had) (by decide) dX3_jumps_65 ?_
    refine g_topi (y := vl) (e2) ?_
    refine lv_icmp_ne (tgt := 73) hx hb dX3_jumps_66 (by decide) (fun hc => ?_) (fun hc => ?_)
    · refine lv_iconst (v := 0) hx hb dX3_jumps_73 (by decide) ?_
      exact g_zret (v := 0) hx hb hr hlocks (by rfl) hW (⟨by rw [show mJmp (5, rg, vl, tg) g = false from decide_eq_false (fun z => by rcases z with z | ⟨z, -⟩ | ⟨-, z⟩; exact (show ¬ (5 : Nat) = 6 by decide) z; exact (show ¬ (5 : Nat) = 4 by decide) z; exact hc z)]; rfl, rfl⟩) (by omega) (by omega) dX3_jumps_74
    · refine lv_iconst (v := 1) hx hb dX3_jumps_69 (by decide) ?_
      refine lv_goto (tgt := 74) hx hb dX3_jumps_70 (by decide) ?_
      exact g_zret (v := 1) hx hb hr hlocks (by rfl) hW (⟨by rw [show mJmp (5, rg, vl, tg) g = true from decide_eq_true (Or.inr (Or.inr ⟨rfl, by first | exact hc | exact Classical.not_not.mp hc⟩))]; rfl, rfl⟩) (by omega) (by omega) dX3_jumps_74
  · refine lv_iload_n hx hb dX3_jumps_19 rfl (lv_at hl 1 rfl) ?_
    refine va_gets hx hb ((hE.2.2.2.2.2.2.1.1 6 (by decide)).1) hW.2.2.1 hown (hts _ q2050) (fun _ h9 => h9) dX3_jumps_20 ?_
    refine g_calli (va_runU (As := []) (rest := [.int (nI 6)]) ⟨hx, hb, hml, hown, hts⟩ (mtJ10_ordinal l D w s.heap.size (D.2 1002 6) (nI 6) (fun s hE => g_op (by decide) s hE)) (va_cwU (owner := "java/lang/Enum") (x := ⟨"Op", "ordinal", "()I"⟩) 0 hts (lw_app (lw_in _ [1990, 1208, 1209, 678, 50] (by decide +kernel) (by decide +kernel)) (lw_meth q679)) rfl rfl rfl rfl (by decide +kernel) ⟨Nat.le_of_ble_eq_true rfl, Nat.le_of_ble_eq_true rfl⟩) (g_preVR hW hK hE (g_opO hE hW (by decide))) rfl rfl hl.1 rfl (lv_room (Nat.le_of_ble_eq_true rfl)) dX3_jumps_23 ⟨Nat.le_of_ble_eq_true rfl, Nat.le_of_ble_eq_true rfl⟩) hW (fun r_ u_ H locs hp hW => ?_)
    obtain ⟨er, rfl⟩ := hp
    subst er
    refine lv_icmp_eq (tgt := 69) hx hb dX3_jumps_26 (by decide) (fun _ => ?_) (fun hz => absurd rfl hz)
    refine lv_iconst (v := 1) hx hb dX3_jumps_69 (by decide) ?_
    refine lv_goto (tgt := 74) hx hb dX3_jumps_70 (by decide) ?_
    exact g_zret (v := 1) hx hb hr hlocks (by rfl) hW (⟨by rw [show mJmp (6, rg, vl, tg) g = true from decide_eq_true (Or.inl rfl)]; rfl, rfl⟩) (by omega) (by omega) dX3_jumps_74
  · refine lv_iload_n hx hb dX3_jumps_19 rfl (lv_at hl 1 rfl) ?_
    refine va_gets hx hb ((hE.2.2.2.2.2.2.1.1 6 (by decide)).1) hW.2.2.1 hown (hts _ q2050) (fun _ h9 => h9) dX3_jumps_20 ?_
    refine g_calli (va_runU (As := []) (rest := [.int (nI 7)]) ⟨hx, hb, hml, hown, hts⟩ (mtJ10_ordinal l D w s.heap.size (D.2 1002 6) (nI 6) (fun s hE => g_op (by decide) s hE)) (va_cwU (owner := "java/lang/Enum") (x := ⟨"Op", "ordinal", "()I"⟩) 0 hts (lw_app (lw_in _ [1990, 1208, 1209, 678, 50] (by decide +kernel) (by decide +kernel)) (lw_meth q679)) rfl rfl rfl rfl (by decide +kernel) ⟨Nat.le_of_ble_eq_true rfl, Nat.le_of_ble_eq_true rfl⟩) (g_preVR hW hK hE (g_opO hE hW (by decide))) rfl rfl hl.1 rfl (lv_room (Nat.le_of_ble_eq_true rfl)) dX3_jumps_23 ⟨Nat.le_of_ble_eq_true rfl, Nat.le_of_ble_eq_true rfl⟩) hW (fun r_ u_ H locs hp hW => ?_)
    obtain ⟨er, rfl⟩ := hp
    subst er
    refine lv_icmp_eq (tgt := 69) hx hb dX3_jumps_26 (by decide) (fun hz => absurd hz (by decide)) (fun _ => ?_)
    refine lv_iload_n hx hb dX3_jumps_29 rfl (lv_at hl 1 rfl) ?_
    refine va_gets hx hb ((hE.2.2.2.2.2.2.1.1 4 (by decide)).1) hW.2.2.1 hown (hts _ q2051) (fun _ h9 => h9) dX3_jumps_30 ?_
    refine g_calli (va_runU (As := []) (rest := [.int (nI 7)]) ⟨hx, hb, hml, hown, hts⟩ (mtJ10_ordinal l D w H.size (D.2 1002 4) (nI 4) (fun s hE => g_op (by decide) s hE)) (va_cwU (owner := "java/lang/Enum") (x := ⟨"Op", "ordinal", "()I"⟩) 0 hts (lw_app (lw_in _ [1990, 1208, 1209, 678, 50] (by decide +kernel) (by decide +kernel)) (lw_meth q679)) rfl rfl rfl rfl (by decide +kernel) ⟨Nat.le_of_ble_eq_true rfl, Nat.le_of_ble_eq_true rfl⟩) (g_preVR hW hK hE (g_opO hE hW (by decide))) rfl rfl hl.1 rfl (lv_room (Nat.le_of_ble_eq_true rfl)) dX3_jumps_33 ⟨Nat.le_of_ble_eq_true rfl, Nat.le_of_ble_eq_true rfl⟩) hW (fun r_ u_ H locs hp hW => ?_)
    obtain ⟨er, rfl⟩ := hp
    subst er
    refine lv_icmp_ne (tgt := 49) hx hb dX3_jumps_36 (by decide) (fun _ => ?_) (fun hz => absurd (by first | exact hz | exact Classical.not_not.mp hz) (by decide))
    refine lv_iload_n hx hb dX3_jumps_49 rfl (lv_at hl 1 rfl) ?_
    refine va_gets hx hb ((hE.2.2.2.2.2.2.1.1 5 (by decide)).1) hW.2.2.1 hown (hts _ q2052) (fun _ h9 => h9) dX3_jumps_50 ?_
    refine g_calli (va_runU (As := []) (rest := [.int (nI 7)]) ⟨hx, hb, hml, hown, hts⟩ (mtJ10_ordinal l D w H.size (D.2 1002 5) (nI 5) (fun s hE => g_op (by decide) s hE)) (va_cwU (owner := "java/lang/Enum") (x := ⟨"Op", "ordinal", "()I"⟩) 0 hts (lw_app (lw_in _ [1990, 1208, 1209, 678, 50] (by decide +kernel) (by decide +kernel)) (lw_meth q679)) rfl rfl rfl rfl (by decide +kernel) ⟨Nat.le_of_ble_eq_true rfl, Nat.le_of_ble_eq_true rfl⟩) (g_preVR hW hK hE (g_opO hE hW (by decide))) rfl rfl hl.1 rfl (lv_room (Nat.le_of_ble_eq_true rfl)) dX3_jumps_53 ⟨Nat.le_of_ble_eq_true rfl, Nat.le_of_ble_eq_true rfl⟩) hW (fun r_ u_ H locs hp hW => ?_)
    obtain ⟨er, rfl⟩ := hp
    subst er
    refine lv_icmp_ne (tgt := 73) hx hb dX3_jumps_56 (by decide) (fun _ => ?_) (fun hz => absurd (by first | exact hz | exact Classical.not_not.mp hz) (by decide))
    refine lv_iconst (v := 0) hx hb dX3_jumps_73 (by decide) ?_
    exact g_zret (v := 0) hx hb hr hlocks (by rfl) hW (⟨by rw [show mJmp (7, rg, vl, tg) g = false from decide_eq_false (fun z => by rcases z with z | ⟨z, -⟩ | ⟨z, -⟩; exact (show ¬ (7 : Nat) = 6 by decide) z; exact (show ¬ (7 : Nat) = 4 by decide) z; exact (show ¬ (7 : Nat) = 5 by decide) z)]; rfl, rfl⟩) (by omega) (by omega) dX3_jumps_74
  · refine lv_iload_n hx hb dX3_jumps_19 rfl (lv_at hl 1 rfl) ?_
    refine va_gets hx hb ((hE.2.2.2.2.2.2.1.1 6 (by decide)).1) hW.2.2.1 hown (hts _ q2050) (fun _ h9 => h9) dX3_jumps_20 ?_
    refine g_calli (va_runU (As := []) (rest := [.int (nI 8)]) ⟨hx, hb, hml, hown, hts⟩ (mtJ10_ordinal l D w s.heap.size (D.2 1002 6) (nI 6) (fun s hE => g_op (by decide) s hE)) (va_cwU (owner := "java/lang/Enum") (x := ⟨"Op", "ordinal", "()I"⟩) 0 hts (lw_app (lw_in _ [1990, 1208, 1209, 678, 50] (by decide +kernel) (by decide +kernel)) (lw_meth q679)) rfl rfl rfl rfl (by decide +kernel) ⟨Nat.le_of_ble_eq_true rfl, Nat.le_of_ble_eq_true rfl⟩) (g_preVR hW hK hE (g_opO hE hW (by decide))) rfl rfl hl.1 rfl (lv_room (Nat.le_of_ble_eq_true rfl)) dX3_jumps_23 ⟨Nat.le_of_ble_eq_true rfl, Nat.le_of_ble_eq_true rfl⟩) hW (fun r_ u_ H locs hp hW => ?_)
    obtain ⟨er, rfl⟩ := hp
    subst er
    refine lv_icmp_eq (tgt := 69) hx hb dX3_jumps_26 (by decide) (fun hz => absurd hz (by decide)) (fun _ => ?_)
    refine lv_iload_n hx hb dX3_jumps_29 rfl (lv_at hl 1 rfl) ?_
    refine va_gets hx hb ((hE.2.2.2.2.2.2.1.1 4 (by decide)).1) hW.2.2.1 hown (hts _ q2051) (fun _ h9 => h9) dX3_jumps_30 ?_
    refine g_calli (va_runU (As := []) (rest := [.int (nI 8)]) ⟨hx, hb, hml, hown, hts⟩ (mtJ10_ordinal l D w H.size (D.2 1002 4) (nI 4) (fun s hE => g_op (by decide) s hE)) (va_cwU (owner := "java/lang/Enum") (x := ⟨"Op", "ordinal", "()I"⟩) 0 hts (lw_app (lw_in _ [1990, 1208, 1209, 678, 50] (by decide +kernel) (by decide +kernel)) (lw_meth q679)) rfl rfl rfl rfl (by decide +kernel) ⟨Nat.le_of_ble_eq_true rfl, Nat.le_of_ble_eq_true rfl⟩) (g_preVR hW hK hE (g_opO hE hW (by decide))) rfl rfl hl.1 rfl (lv_room (Nat.le_of_ble_eq_true rfl)) dX3_jumps_33 ⟨Nat.le_of_ble_eq_true rfl, Nat.le_of_ble_eq_true rfl⟩) hW (fun r_ u_ H locs hp hW => ?_)
    obtain ⟨er, rfl⟩ := hp
    subst er
    refine lv_icmp_ne (tgt := 49) hx hb dX3_jumps_36 (by decide) (fun _ => ?_) (fun hz => absurd (by first | exact hz | exact Classical.not_not.mp hz) (by decide))
    refine lv_iload_n hx hb dX3_jumps_49 rfl (lv_at hl 1 rfl) ?_
    refine va_gets hx hb ((hE.2.2.2.2.2.2.1.1 5 (by decide)).1) hW.2.2.1 hown (hts _ q2052) (fun _ h9 => h9) dX3_jumps_50 ?_
    refine g_calli (va_runU (As := []) (rest := [.int (nI 8)]) ⟨hx, hb, hml, hown, hts⟩ (mtJ10_ordinal l D w H.size (D.2 1002 5) (nI 5) (fun s hE => g_op (by decide) s hE)) (va_cwU (owner := "java/lang/Enum") (x := ⟨"Op", "ordinal", "()I"⟩) 0 hts (lw_app (lw_in _ [1990, 1208, 1209, 678, 50] (by decide +kernel) (by decide +kernel)) (lw_meth q679)) rfl rfl rfl rfl (by decide +kernel) ⟨Nat.le_of_ble_eq_true rfl, Nat.le_of_ble_eq_true rfl⟩) (g_preVR hW hK hE (g_opO hE hW (by decide))) rfl rfl hl.1 rfl (lv_room (Nat.le_of_ble_eq_true rfl)) dX3_jumps_53 ⟨Nat.le_of_ble_eq_true rfl, Nat.le_of_ble_eq_true rfl⟩) hW (fun r_ u_ H locs hp hW => ?_)
    obtain ⟨er, rfl⟩ := hp
    subst er
    refine lv_icmp_ne (tgt := 73) hx hb dX3_jumps_56 (by decide) (fun _ => ?_) (fun hz => absurd (by first | exact hz | exact Classical.not_not.mp hz) (by decide))
    refine lv_iconst (v := 0) hx hb dX3_jumps_73 (by decide) ?_
    exact g_zret (v := 0) hx hb hr hlocks (by rfl) hW (⟨by rw [show mJmp (8, rg, vl, tg) g = false from decide_eq_false (fun z => by rcases z with z | ⟨z, -⟩ | ⟨z, -⟩; exact (show ¬ (8 : Nat) = 6 by decide) z; exact (show ¬ (8 : Nat) = 4 by decide) z; exact (show ¬ (8 : Nat) = 5 by decide) z)]; rfl, rfl⟩) (by omega) (by omega) dX3_jumps_74
