/-! the model: keptShare, meanShrunk *
-/
set_option maxRecDepth 100000
set_option maxHeartbeats 4000000 in
set_option maxRecDepth 100000 in
/-- Model.keptShare -/
theorem mtX3_keptShare (l : Launch) (D : va_G) (w : g_H) (sz : Nat) (y : Nat) (mf : Nat → Nat) (lab : Nat → Nat) (P : List mI) (C : List yC) (A9 : Nat → List (List Nat)) (cov : Nat → Bool) (K : List (List Nat)) (fq ac : Nat) (F : List yF) (rn tt cK : Nat) (en td st : Int32) (E : Nat → Bool) (th : Int32) (hZ : g_MZ D w lab y mf P C A9 cov K fq ac F rn tt cK en td st E th) : Met l yX3_keptShare (ws_ yX3_keptShare cX3_keptShare 1 (some .float)) ({ frames := 1, cells := 0, slots := 0, locals := 12 }) (g_Pc D [.ref y] w sz) (g_Qf D w sz (fun r u => ∃ th2, g_MZ D u lab y mf P C A9 cov K fq ac F rn tt cK en td st E th2 ∧ zCh w lab u lab ∧ ((rn = 0 ∧ th2 = 1) ∨ (rn ≠ 0 ∧ th2 = 0 ∧ r = fKS K.length rn)))) (0) (0) (g_A w sz) := by
  refine Met.ofW (cc := cX3_keptShare) (maxL := 1) (ret := (some .float)) (by decide) rfl ?_
  intro p e s m args below meth c s₁ B hml hv
  obtain ⟨rfl, hI⟩ := hv
  have hx := B.exec
  have hb := B.bytes
  have hr := B.returns
  have hts := atoms_spec (ws := ws_ yX3_keptShare cX3_keptShare 1 (some .float)) B.pre
  have hts : ∀ w ∈ lw_all, w.before _ s = true := fun w h => hts w (List.mem_cons_of_mem _ h)
  have hown : s.vm.findClass RX3 = some m.cls := findClass_of_methodNamed B.named
  have hlocks := B.notSynchronized
  have hsz := hI.1
  subst hsz
  have hW := g_W.start hI
  have hK := g_K hI
  have hE := g_E hI
  have hl := lv_entry ([.ref y]) (n := 1) (by exact Nat.le_of_ble_eq_true rfl)
  rw [lg_entry_eq]
  generalize (lg_sl ([.ref y]) ++ List.replicate (1 - (lg_sl ([.ref y])).length) Slot.unset).toArray = ls at hl ⊢
  have hl : lv_has ls 1 [(0, .ref y)] := hl
  obtain ⟨hy, ⟨hly, hL⟩, hP, hR, hC0, hA0, hV0, hK0, hF0, hb9⟩ := id hZ
  have x_1 : g_ex (fun q => q = y) w w := g_ex.rf
  refine lv_aload_n hx hb dX3_keptShare_0 rfl (lv_at hl 0 rfl) ?_
  refine lv_aload_n hx hb dX3_keptShare_1 rfl (lv_at hl 0 rfl) ?_
  refine g_get (ci := 10) (v := .int (nI rn)) (C := RX3) (T := TX3) (N := 28) hx hb hts in_X3 hown hK hW hy rfl 16 (by decide) q1900 (fun _ h9 => h9) rfl dX3_keptShare_2 ?_
  by_cases hr0 : rn = 0
  · refine lv_if_ne (tgt := 12) hx hb dX3_keptShare_5 (by decide) (fun hz => absurd (by rw [hr0]; rfl) hz) (fun _ => ?_)
    refine lv_iconst (v := 1) hx hb dX3_keptShare_8 (by decide) ?_
    refine lv_goto (tgt := 13) hx hb dX3_keptShare_9 (by decide) ?_
    refine g_putf (ci := 10) (v := .int (1)) (ty := .int) (C := RX3) (T := TX3) (N := 28) hx hb hts in_X3 tyX3 tyX3_ok nmX3 hown hK hW hy rfl 27 (by decide) q1911 (fun _ h9 => h9) rfl (by decide +kernel) rfl rfl (Nat.le_of_ble_eq_true rfl) dX3_keptShare_13 (fun H locs hW => ?_)
    obtain ⟨w_2, ew_2⟩ : ∃ z__, z__ = g_put w y (.inr (10, mO mf (nI P.length) (nI C.length) (en) (td) (st) (nI rn) (lN tt) (nI K.length) (nI fq) (nI ac) (nI F.length) (1))) := ⟨_, rfl⟩
    have hW := g_W.ren hW ew_2 rfl
    have h_3 : g_at w_2 y (.inr (10, mO mf (nI P.length) (nI C.length) (en) (td) (st) (nI rn) (lN tt) (nI K.length) (nI fq) (nI ac) (nI F.length) (1))) := by rw [ew_2]; exact g_at.put_self hy.1
    have x_4 : g_ex (fun q => q = y) w w_2 := by rw [ew_2]; exact x_1.put (fun hz9 => rfl)
    have hZ1 := hZ.obj (rn2 := rn) (tt2 := tt) (fq2 := fq) (ac2 := ac) h_3 x_4 hb9.2.1 hb9.2.2.1 hb9.2.2.2.1 hb9.2.2.2.2
    have hz1 := hZ.zobj x_4
    refine lv_aload_n hx hb dX3_keptShare_16 rfl (lv_at hl 0 rfl) ?_
    refine g_get (ci := 10) (v := .int (1)) (C := RX3) (T := TX3) (N := 28) hx hb hts in_X3 hown hK hW h_3 rfl 27 (by decide) q1911 (fun _ h9 => h9) rfl dX3_keptShare_17 ?_
    refine lv_if_ne (tgt := 37) hx hb dX3_keptShare_20 (by decide) (fun _ => ?_) (fun hz => absurd (by first | exact hz | exact Classical.not_not.mp hz) (by decide))
    refine lv_fconst0 hx hb dX3_keptShare_37 ?_
    exact g_fret (v := FP.fconst0) hx hb hr hlocks hW ⟨1, hZ1, hz1, Or.inl ⟨hr0, rfl⟩⟩ (by omega) (by omega) dX3_keptShare_38
  · refine lv_if_ne (tgt := 12) hx hb dX3_keptShare_5 (by decide) (fun _ => ?_) (fun hz => absurd (by first | exact hz | exact Classical.not_not.mp hz) (nI_ne0 (Nat.pos_of_ne_zero hr0) (by omega)))
    refine lv_iconst (v := 0) hx hb dX3_keptShare_12 (by decide) ?_
    refine g_putf (ci := 10) (v := .int (0)) (ty := .int) (C := RX3) (T := TX3) (N := 28) hx hb hts in_X3 tyX3 tyX3_ok nmX3 hown hK hW hy rfl 27 (by decide) q1911 (fun _ h9 => h9) rfl (by decide +kernel) rfl rfl (Nat.le_of_ble_eq_true rfl) dX3_keptShare_13 (fun H locs hW => ?_)
    obtain ⟨w_5, ew_5⟩ : ∃ z__, z__ = g_put w y (.inr (10, mO mf (nI P.length) (nI C.length) (en) (td) (st) (nI rn) (lN tt) (nI K.length) (nI fq) (nI ac) (nI F.length) (0))) := ⟨_, rfl⟩
    have hW := g_W.ren hW ew_5 rfl
    have h_6 : g_at w_5 y (.inr (10, mO mf (nI P.length) (nI C.length) (en) (td) (st) (nI rn) (lN tt) (nI K.length) (nI fq) (nI ac) (nI F.length) (0))) := by rw [ew_5]; exact g_at.put_self hy.1
    have x_7 : g_ex (fun q => q = y) w w_5 := by rw [ew_5]; exact x_1.put (fun hz9 => rfl)
    have hZ1 := hZ.obj (rn2 := rn) (tt2 := tt) (fq2 := fq) (ac2 := ac) h_6 x_7 hb9.2.1 hb9.2.2.1 hb9.2.2.2.1 hb9.2.2.2.2
    have hz1 := hZ.zobj x_7
    refine lv_aload_n hx hb dX3_keptShare_16 rfl (lv_at hl 0 rfl) ?_
    refine g_get (ci := 10) (v := .int (0)) (C := RX3) (T := TX3) (N := 28) hx hb hts in_X3 hown hK hW h_6 rfl 27 (by decide) q1911 (fun _ h9 => h9) rfl dX3_keptShare_17 ?_
    refine lv_if_ne (tgt := 37) hx hb dX3_keptShare_20 (by decide) (fun hz => absurd rfl hz) (fun _ => ?_)
    refine lv_aload_n hx hb dX3_keptShare_23 rfl (lv_at hl 0 rfl) ?_
    refine g_get (ci := 10) (v := .int (nI K.length)) (C := RX3) (T := TX3) (N := 28) hx hb hts in_X3 hown hK hW h_6 rfl 20 (by decide) q1904 (fun _ h9 => h9) rfl dX3_keptShare_24 ?_
    refine lv_i2f hx hb dX3_keptShare_27 ?_
    refine lv_aload_n hx hb dX3_keptShare_28 rfl (lv_at hl 0 rfl) ?_
    refine g_get (ci := 10) (v := .int (nI rn)) (C := RX3) (T := TX3) (N := 28) hx hb hts in_X3 hown hK hW h_6 rfl 16 (by decide) q1900 (fun _ h9 => h9) rfl dX3_keptShare_29 ?_
    refine lv_i2f hx hb dX3_keptShare_32 ?_
    refine lv_fdiv hx hb dX3_keptShare_33 (fl_div32 (by omega) (by omega) (by omega)) ?_
    refine lv_goto (tgt := 38) hx hb dX3_keptShare_34 (by decide) ?_
    exact g_fret (v := fKS K.length rn) hx hb hr hlocks hW ⟨0, hZ1, hz1, Or.inr ⟨hr0, rfl, rfl⟩⟩ (by omega) (by omega) dX3_keptShare_38
set_option maxHeartbeats 4000000 in
set_option maxRecDepth 100000 in
/-- Model.meanShrunk: its loop -/
theorem lpX3_meanShrunk {p : Program} {l : Launch} {e : Env} {R : Room} {s : State} {m : MethodId} {args : Array Value} {below : List Frame} {meth : Method} {c : Code} {cells slots : Nat} {Q : State → Prop} {D : va_G} {A : Nat → Prop} (hx : p.tables.exec = Jvm.exec) (hb : c.code = cX3_meanShrunk) (hts : ∀ w ∈ lw_all, w.before args s = true) (hown : s.vm.findClass RX3 = some m.cls) (hK : va_K D gCl (gT D) s) (hE : g_Env D A s) (hml : c.maxLocals = 3) (hRf : 3 ≤ R.frames) (hRl : 52 ≤ R.locals) (hRc : cells ≤ R.cells) (hRs : slots ≤ R.slots) (w : g_H) (y : Nat) (mf : Nat → Nat) (lab : Nat → Nat) (P : List mI) (C : List yC) (A9 : Nat → List (List Nat)) (cov : Nat → Bool) (K : List (List Nat)) (fq ac : Nat) (F : List yF) (rn tt cK : Nat) (en td st : Int32) (E : Nat → Bool) (th : Int32) (hZ : g_MZ D w lab y mf P C A9 cov K fq ac F rn tt cK en td st E th)
    (kk : ∀ (H : Heap) (locs : List Loc) (ls : Array Slot), sSum F ≤ 1000 * F.length → g_W D A s.heap H locs w → lv_has ls 3 [(0, .ref y), (1, .int (nI (sSum F)))] → W p l e R s m args below meth c H locs cells slots Q (F0 m 46 ls [])) :
    ∀ (k : Nat) (i : Nat) (H : Heap) (locs : List Loc) (ls : Array Slot), F.length < i + k → i ≤ F.length → g_W D A s.heap H locs w → lv_has ls 3 [(2, .int (nI i)), (0, .ref y), (1, .int (nI (sSum (F.take i))))] → W p l e R s m args below meth c H locs cells slots Q (F0 m 20 ls []) := by
  intro k
  induction k with
  | zero => intro i H locs ls hfuel hi hW hl; exact absurd hfuel (by omega)
  | succ k ih =>
    intro i H locs ls hfuel hi hW hl
    obtain ⟨hy, -, -, -, -, -, -, -, hF0, hb9⟩ := id hZ
    obtain ⟨f23, f24, f25, a23, a24, a25, hF16, hf4⟩ := id hF0
    refine lv_iload_n hx hb dX3_meanShrunk_20 rfl (lv_at hl 0 rfl) ?_
    refine lv_aload_n hx hb dX3_meanShrunk_21 rfl (lv_at hl 1 rfl) ?_
    refine g_get (ci := 10) (v := .int (nI F.length)) (C := RX3) (T := TX3) (N := 28) hx hb hts in_X3 hown hK hW hy rfl 26 (by decide) q1910 (fun _ h9 => h9) rfl dX3_meanShrunk_22 ?_
    refine g_icmp_ge (x := i) (y := F.length) (tgt := 46) hx hb (by omega) (by omega) dX3_meanShrunk_25 (by decide) (fun hc => ?_) (fun hc => ?_)
    · have e0 : i = F.length := by omega
      subst e0
      rw [List.take_length] at hl
      exact kk H locs ls (sSum_le (fun f hf => by obtain ⟨j, hj, e⟩ := List.mem_iff_getElem.mp hf; obtain ⟨-, ⟨z, -, hz⟩, -⟩ := hf4 j hj; rw [List.getD_eq_getElem?_getD, List.getElem?_eq_getElem hj] at hz; rw [← e]; exact hz.1.1)) hW (lv_sub hl [1, 2] rfl)
    · obtain ⟨-, ⟨z9, hz1, hz2⟩, -⟩ := hf4 i hc
      refine lv_iload_n hx hb dX3_meanShrunk_28 rfl (lv_at hl 2 rfl) ?_
      refine lv_aload_n hx hb dX3_meanShrunk_29 rfl (lv_at hl 1 rfl) ?_
      refine g_get (ci := 10) (v := .ref (mf 24)) (C := RX3) (T := TX3) (N := 28) hx hb hts in_X3 hown hK hW hy rfl 24 (by decide) q1908 (fun _ h9 => h9) rfl dX3_meanShrunk_30 ?_
      refine lv_iload_n hx hb dX3_meanShrunk_33 rfl (lv_at hl 0 rfl) ?_
      refine g_aldSt (n := 16) (i := i) (y := z9) hx hb hK hW a24 (by omega) (by omega) hz1 dX3_meanShrunk_34 ?_
      obtain ⟨v, hr1, hb1⟩ := hz2.rd hts hK hE hW
      refine g_calli (va_runV (As := []) (rest := [.int (nI (sSum (F.take i)))]) ⟨hx, hb, hml, hown, hts⟩ (mtJ16_length l D w H.size z9 (F.getD i ([], [], 0)).2.1 hz2) (cwV 0 hts (lw_V q2004 q740 q741 q63 q742) rfl rfl rfl (by decide +kernel) ⟨Nat.le_trans (Nat.le_of_ble_eq_true rfl) hRf, Nat.le_trans (Nat.le_of_ble_eq_true rfl) hRl⟩) (g_preVR hW hK hE hr1.2.2.2) rfl rfl hl.1 rfl (lv_room (Nat.le_of_ble_eq_true rfl)) dX3_meanShrunk_35 ⟨hRc, hRs⟩) hW (fun r_ u_ H locs hp hW => ?_)
      obtain ⟨er, rfl⟩ := hp
      subst er
      refine lv_iadd hx hb dX3_meanShrunk_38 ?_
      refine g_topi (y := nI (sSum (F.take (i + 1)))) (by rw [sSum_take hc, nI_add]) ?_
      refine lv_istore_n (lv' := [(1, .int (nI (sSum (F.take (i + 1))))), (2, .int (nI i)), (0, .ref y)]) hx hb dX3_meanShrunk_39 rfl hl (by decide) rfl (fun ls hl => ?_)
      refine lv_iinc (v := nI (i + 1)) (lv' := [(2, .int (nI (i + 1))), (1, .int (nI (sSum (F.take (i + 1))))), (0, .ref y)]) hx hb dX3_meanShrunk_40 hl (k := 1) rfl (nI_1 i) (by decide) rfl (fun ls hl => ?_)
      refine lv_goto (tgt := 20) hx hb dX3_meanShrunk_43 (by decide) ?_
      exact ih (i + 1) H locs ls (by omega) (by omega) hW (lv_sub hl [0, 2, 1] rfl)
set_option maxHeartbeats 4000000 in
set_option maxRecDepth 100000 in
/-- Model.meanShrunk -/
theorem mtX3_meanShrunk (l : Launch) (D : va_G) (w : g_H) (sz : Nat) (y : Nat) (mf : Nat → Nat) (lab : Nat → Nat) (P : List mI) (C : List yC) (A9 : Nat → List (List Nat)) (cov : Nat → Bool) (K : List (List Nat)) (fq ac : Nat) (F : List yF) (rn tt cK : Nat) (en td st : Int32) (E : Nat → Bool) (th : Int32) (hZ : g_MZ D w lab y mf P C A9 cov K fq ac F rn tt cK en td st E th) : Met l yX3_meanShrunk (ws_ yX3_meanShrunk cX3_meanShrunk 3 (some .double)) ({ frames := 3, cells := 0, slots := 0, locals := 52 }) (g_Pc D [.ref y] w sz) (g_Qd D w sz (fun r u => ∃ th2, g_MZ D u lab y mf P C A9 cov K fq ac F rn tt cK en td st E th2 ∧ zCh w lab u lab ∧ ((F.length = 0 ∧ th2 = 1) ∨ (F.length ≠ 0 ∧ th2 = 0 ∧ r = dMS (sSum F) F.length)))) (0) (0) (g_A w sz) := by
  refine Met.ofW (cc := cX3_meanShrunk) (maxL := 3) (ret := (some .double)) (by decide) rfl ?_
  intro p e s m args below meth c s₁ B hml hv
  obtain ⟨rfl, hI⟩ := hv
  have hx := B.exec
  have hb := B.bytes
  have hr := B.returns
  have hts := atoms_spec (ws := ws_ yX3_meanShrunk cX3_meanShrunk 3 (some .double)) B.pre
  have hts : ∀ w ∈ lw_all, w.before _ s = true := fun w h => hts w (List.mem_cons_of_mem _ h)
  have hown : s.vm.findClass RX3 = some m.cls := findClass_of_methodNamed B.named
  have hlocks := B.notSynchronized
  have hsz := hI.1
  subst hsz
  have hW := g_W.start hI
  have hK := g_K hI
  have hE := g_E hI
  have hl := lv_entry ([.ref y]) (n := 3) (by exact Nat.le_of_ble_eq_true rfl)
  rw [lg_entry_eq]
  generalize (lg_sl ([.ref y]) ++ List.replicate (3 - (lg_sl ([.ref y])).length) Slot.unset).toArray = ls at hl ⊢
  have hl : lv_has ls 3 [(0, .ref y)] := hl
  obtain ⟨hy, ⟨hly, hL⟩, hP, hR, hC0, hA0, hV0, hK0, hF0, hb9⟩ := id hZ
  have hF16 : F.length ≤ 16 := by obtain ⟨_, _, _, _, _, _, h, _⟩ := hF0; exact h
  have x_1 : g_ex (fun q => q = y) w w := g_ex.rf
  refine lv_aload_n hx hb dX3_meanShrunk_0 rfl (lv_at hl 0 rfl) ?_
  refine lv_aload_n hx hb dX3_meanShrunk_1 rfl (lv_at hl 0 rfl) ?_
  refine g_get (ci := 10) (v := .int (nI F.length)) (C := RX3) (T := TX3) (N := 28) hx hb hts in_X3 hown hK hW hy rfl 26 (by decide) q1910 (fun _ h9 => h9) rfl dX3_meanShrunk_2 ?_
  by_cases hr0 : F.length = 0
  · refine lv_if_ne (tgt := 12) hx hb dX3_meanShrunk_5 (by decide) (fun hz => absurd (by rw [hr0]; rfl) hz) (fun _ => ?_)
    refine lv_iconst (v := 1) hx hb dX3_meanShrunk_8 (by decide) ?_
    refine lv_goto (tgt := 13) hx hb dX3_meanShrunk_9 (by decide) ?_
    refine g_putf (ci := 10) (v := .int (1)) (ty := .int) (C := RX3) (T := TX3) (N := 28) hx hb hts in_X3 tyX3 tyX3_ok nmX3 hown hK hW hy rfl 27 (by decide) q1911 (fun _ h9 => h9) rfl (by decide +kernel) rfl rfl (Nat.le_of_ble_eq_true rfl) dX3_meanShrunk_13 (fun H locs hW => ?_)
    obtain ⟨w_2, ew_2⟩ : ∃ z__, z__ = g_put w y (.inr (10, mO mf (nI P.length) (nI C.length) (en) (td) (st) (nI rn) (lN tt) (nI K.length) (nI fq) (nI ac) (nI F.length) (1))) := ⟨_, rfl⟩
    have hW := g_W.ren hW ew_2 rfl
    have h_3 : g_at w_2 y (.inr (10, mO mf (nI P.length) (nI C.length) (en) (td) (st) (nI rn) (lN tt) (nI K.length) (nI fq) (nI ac) (nI F.length) (1))) := by rw [ew_2]; exact g_at.put_self hy.1
    have x_4 : g_ex (fun q => q = y) w w_2 := by rw [ew_2]; exact x_1.put (fun hz9 => rfl)
    have hZ1 := hZ.obj (rn2 := rn) (tt2 := tt) (fq2 := fq) (ac2 := ac) h_3 x_4 hb9.2.1 hb9.2.2.1 hb9.2.2.2.1 hb9.2.2.2.2
    have hz1 := hZ.zobj x_4
    refine lv_iconst (v := 0) hx hb dX3_meanShrunk_16 (by decide) ?_
    refine lv_istore_n (lv' := [(1, .int (0)), (0, .ref y)]) hx hb dX3_meanShrunk_17 rfl hl (by decide) rfl (fun ls hl => ?_)
    refine lv_iconst (v := 0) hx hb dX3_meanShrunk_18 (by decide) ?_
    refine lv_istore_n (lv' := [(2, .int (0)), (1, .int (0)), (0, .ref y)]) hx hb dX3_meanShrunk_19 rfl hl (by decide) rfl (fun ls hl => ?_)
    refine lpX3_meanShrunk (D := D) hx hb hts hown hK hE hml (Nat.le_of_ble_eq_true rfl) (Nat.le_of_ble_eq_true rfl) ?_ ?_ w_2 y mf lab P C A9 cov K fq ac F rn tt cK en td st E _ hZ1 (fun H locs ls hsl hW hl => ?_) (F.length + 1) 0 _ _ ls (by omega) (by omega) hW (lv_sub hl [0, 2, 1] rfl)
    · (try simp only [headSpec]); omega
    · (try simp only [headSpec]); omega
    refine lv_aload_n hx hb dX3_meanShrunk_46 rfl (lv_at hl 0 rfl) ?_
    refine g_get (ci := 10) (v := .int (1)) (C := RX3) (T := TX3) (N := 28) hx hb hts in_X3 hown hK hW h_3 rfl 27 (by decide) q1911 (fun _ h9 => h9) rfl dX3_meanShrunk_47 ?_
    refine lv_if_ne (tgt := 64) hx hb dX3_meanShrunk_50 (by decide) (fun _ => ?_) (fun hz => absurd (by first | exact hz | exact Classical.not_not.mp hz) (by decide))
    refine lv_dconst0 hx hb dX3_meanShrunk_64 ?_
    exact g_dret (v := FP.dconst0) hx hb hr hlocks hW ⟨1, hZ1, hz1, Or.inl ⟨hr0, rfl⟩⟩ (by omega) (by omega) dX3_meanShrunk_65
  · refine lv_if_ne (tgt := 12) hx hb dX3_meanShrunk_5 (by decide) (fun _ => ?_) (fun hz => absurd (by first | exact hz | exact Classical.not_not.mp hz) (nI_ne0 (Nat.pos_of_ne_zero hr0) (by omega)))
    refine lv_iconst (v := 0) hx hb dX3_meanShrunk_12 (by decide) ?_
    refine g_putf (ci := 10) (v := .int (0)) (ty := .int) (C := RX3) (T := TX3) (N := 28) hx hb hts in_X3 tyX3 tyX3_ok nmX3 hown hK hW hy rfl 27 (by decide) q1911 (fun _ h9 => h9) rfl (by decide +kernel) rfl rfl (Nat.le_of_ble_eq_true rfl) dX3_meanShrunk_13 (fun H locs hW => ?_)
    obtain ⟨w_5, ew_5⟩ : ∃ z__, z__ = g_put w y (.inr (10, mO mf (nI P.length) (nI C.length) (en) (td) (st) (nI rn) (lN tt) (nI K.length) (nI fq) (nI ac) (nI F.length) (0))) := ⟨_, rfl⟩
    have hW := g_W.ren hW ew_5 rfl
    have h_6 : g_at w_5 y (.inr (10, mO mf (nI P.length) (nI C.length) (en) (td) (st) (nI rn) (lN tt) (nI K.length) (nI fq) (nI ac) (nI F.length) (0))) := by rw [ew_5]; exact g_at.put_self hy.1
    have x_7 : g_ex (fun q => q = y) w w_5 := by rw [ew_5]; exact x_1.put (fun hz9 => rfl)
    have hZ1 := hZ.obj (rn2 := rn) (tt2 := tt) (fq2 := fq) (ac2 := ac) h_6 x_7 hb9.2.1 hb9.2.2.1 hb9.2.2.2.1 hb9.2.2.2.2
    have hz1 := hZ.zobj x_7
    refine lv_iconst (v := 0) hx hb dX3_meanShrunk_16 (by decide) ?_
    refine lv_istore_n (lv' := [(1, .int (0)), (0, .ref y)]) hx hb dX3_meanShrunk_17 rfl hl (by decide) rfl (fun ls hl => ?_)
    refine lv_iconst (v := 0) hx hb dX3_meanShrunk_18 (by decide) ?_
    refine lv_istore_n (lv' := [(2, .int (0)), (1, .int (0)), (0, .ref y)]) hx hb dX3_meanShrunk_19 rfl hl (by decide) rfl (fun ls hl => ?_)
    refine lpX3_meanShrunk (D := D) hx hb hts hown hK hE hml (Nat.le_of_ble_eq_true rfl) (Nat.le_of_ble_eq_true rfl) ?_ ?_ w_5 y mf lab P C A9 cov K fq ac F rn tt cK en td st E _ hZ1 (fun H locs ls hsl hW hl => ?_) (F.length + 1) 0 _ _ ls (by omega) (by omega) hW (lv_sub hl [0, 2, 1] rfl)
    · (try simp only [headSpec]); omega
    · (try simp only [headSpec]); omega
    refine lv_aload_n hx hb dX3_meanShrunk_46 rfl (lv_at hl 0 rfl) ?_
    refine g_get (ci := 10) (v := .int (0)) (C := RX3) (T := TX3) (N := 28) hx hb hts in_X3 hown hK hW h_6 rfl 27 (by decide) q1911 (fun _ h9 => h9) rfl dX3_meanShrunk_47 ?_
    refine lv_if_ne (tgt := 64) hx hb dX3_meanShrunk_50 (by decide) (fun hz => absurd rfl hz) (fun _ => ?_)
    refine lv_iload_n hx hb dX3_meanShrunk_53 rfl (lv_at hl 1 rfl) ?_
    refine lv_i2d hx hb dX3_meanShrunk_54 ?_
    refine lv_aload_n hx hb dX3_meanShrunk_55 rfl (lv_at hl 0 rfl) ?_
    refine g_get (ci := 10) (v := .int (nI F.length)) (C := RX3) (T := TX3) (N := 28) hx hb hts in_X3 hown hK hW h_6 rfl 26 (by decide) q1910 (fun _ h9 => h9) rfl dX3_meanShrunk_56 ?_
    refine lv_i2d hx hb dX3_meanShrunk_59 ?_
    refine lv_ddiv hx hb dX3_meanShrunk_60 (fl_div64 (by omega) (by omega) (by omega)) ?_
    refine lv_goto (tgt := 65) hx hb dX3_meanShrunk_61 (by decide) ?_
    exact g_dret (v := dMS (sSum F) F.length) hx hb hr hlocks hW ⟨0, hZ1, hz1, Or.inr ⟨hr0, rfl, rfl⟩⟩ (by omega) (by omega) dX3_meanShrunk_65
