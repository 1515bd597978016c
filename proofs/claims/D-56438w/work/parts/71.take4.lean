/-! ShrinkYard.take of digits *
-/
set_option maxRecDepth 100000
theorem tF_cd {P : List mI} {xs : List Nat} {F : List yF} {v : Nat} {c c' : Int32} {n : Nat} {cq : Nat → Nat} (h : v = 1 → c = c') : tF P xs F v c n = tF P xs F v c' n ∧ tCq P xs F v c cq = tCq P xs F v c' cq ∧ tD P xs F v c cq = tD P xs F v c' cq ∧ tG F v c n = tG F v c' n ∧ tX F v c = tX F v c' := by
  by_cases e : v = 1
  · rw [h e]; exact ⟨rfl, rfl, rfl, rfl, rfl⟩
  · have f : ∀ c, tFl F v c = false := fun c => by unfold tFl; rw [decide_eq_false e]; rfl
    refine ⟨?_, ?_, ?_, ?_, ?_⟩ <;> simp only [tF, tCq, tD, tG, tX, f, if_neg e, Bool.false_eq_true, if_false]
/-- taking an input: whether it is kept, the capacities when that is known, then all -/
noncomputable def tkB (P : List mI) (xs : List Nat) (cov : Nat → Bool) : Bool := cvM cov (mOut P xs).2.2.2 && decide ((mOut P xs).1 = 0)
def tkL (b : Bool) (K : List (List Nat)) (xs : List Nat) : List (List Nat) := if b = true then K ++ [xs] else K
noncomputable def tkC0 (P : List mI) (xs : List Nat) (cov : Nat → Bool) (K : List (List Nat)) (cp : Nat → Nat) : Nat → Nat :=
  if tkB P xs cov = true then cpU (cpU (cpU cp 9 (bsC (cp 9) (mOut P xs).2.2.2)) 10 (g_bn (bsN 0 (mOut P xs).2.2.2) (cp 10))) 11 (g_an K.length (cp 11)) else cpU (cpU cp 9 (bsC (cp 9) (mOut P xs).2.2.2)) 10 (g_bn (bsN 0 (mOut P xs).2.2.2) (cp 10))
noncomputable def tkC (P : List mI) (xs : List Nat) (cov : Nat → Bool) (K : List (List Nat)) (F : List yF) (cp : Nat → Nat) : Nat → Nat := tCq P xs F (mOut P xs).1 (mCode P xs) (tkC0 P xs cov K cp)
noncomputable def tkF (P : List mI) (xs : List Nat) (F : List yF) (cp : Nat → Nat) : List yF := tF P xs F (mOut P xs).1 (mCode P xs) (bsC (cp 9) (mOut P xs).2.2.2)
noncomputable def tkM (P : List mI) (xs : List Nat) (cov : Nat → Bool) (K : List (List Nat)) (F : List yF) (cp : Nat → Nat) : Nat := (bsC (cp 9) (mOut P xs).2.2.2 - cp 9) + g_bc (bsN 0 (mOut P xs).2.2.2) (cp 10) + (if tkB P xs cov = true then 10 else 0) + tX F (mOut P xs).1 (mCode P xs) + tD P xs F (mOut P xs).1 (mCode P xs) (tkC0 P xs cov K cp)
noncomputable def tkS (P : List mI) (xs : List Nat) (cov : Nat → Bool) (K : List (List Nat)) (F : List yF) (cp : Nat → Nat) : Nat := 2 * (bsC (cp 9) (mOut P xs).2.2.2 - cp 9) + g_bs (bsN 0 (mOut P xs).2.2.2) (cp 10) + (if tkB P xs cov = true then 70 + g_as K.length (cp 11) else 0) + 100 + 2 * tD P xs F (mOut P xs).1 (mCode P xs) (tkC0 P xs cov K cp) + tG F (mOut P xs).1 (mCode P xs) (cp 13)
theorem tkC0_9 {P : List mI} {xs : List Nat} {cov : Nat → Bool} {K : List (List Nat)} {cp : Nat → Nat} : tkC0 P xs cov K cp 9 = bsC (cp 9) (mOut P xs).2.2.2 := by unfold tkC0; split <;> rfl
theorem tkC0_13 {P : List mI} {xs : List Nat} {cov : Nat → Bool} {K : List (List Nat)} {cp : Nat → Nat} : tkC0 P xs cov K cp 13 = cp 13 := by unfold tkC0; split <;> rfl
set_option maxHeartbeats 4000000 in
set_option maxRecDepth 100000 in
/-- ShrinkYard.take of digits -/
theorem mtX1_take_2 (l : Launch) (D : va_G) (w : g_H) (sz : Nat) (lab : Nat → Nat) (x ac rn tt : Nat) (rf : Nat → Nat) (P : List mI) (C : List yC) (A : Nat → List (List Nat)) (cov : Nat → Bool) (K Q : List (List Nat)) (F : List (List Nat × List Nat × Int32)) (cp : Nat → Nat) (hS : g_SZ D w lab x rf P C A cov K Q ac F rn tt cp) (d da : Nat) (xs : List Nat) (hxs : sDg xs) (hd : g_Dig D w d da xs) (hld : lab d = 0 ∧ lab da = 0) (hK9 : K.length + 1 < 500) (hQ9 : Q.length ≤ K.length) (hF9 : F.length + 1 < 500) (hrn : rn + 1 < 100000) (htt : tt + 65 < 100000000) : Met l yX1_take_2 (ws_ yX1_take_2 cX1_take_2 4 (some .boolean)) ({ frames := 12, cells := tkM P xs cov K F cp, slots := tkS P xs cov K F cp, locals := 304 }) (g_Pc D [.ref x, .ref d] w sz) (g_Qi D w sz (fun r u => r = (if tkB P xs cov = true then 1 else 0) ∧ ∃ l2, g_SZ D u l2 x rf P C A (cvO cov (mOut P xs).2.2.2) (tkL (tkB P xs cov) K xs) (tkL (tkB P xs cov) Q xs) ac (tkF P xs F cp) (rn + 1) (tt + (mOut P xs).2.2.1) (tkC P xs cov K F cp) ∧ yCh w lab u l2)) (tkM P xs cov K F cp) (tkS P xs cov K F cp) (g_A w sz) := by
  refine Met.ofW (cc := cX1_take_2) (maxL := 4) (ret := (some .boolean)) (by decide) rfl ?_
  intro p e s m args below meth c s₁ B hml hv
  obtain ⟨rfl, hI⟩ := hv
  have hx := B.exec
  have hb := B.bytes
  have hr := B.returns
  have hts := atoms_spec (ws := ws_ yX1_take_2 cX1_take_2 4 (some .boolean)) B.pre
  have hts : ∀ w ∈ lw_all, w.before _ s = true := fun w h => hts w (List.mem_cons_of_mem _ h)
  have hown : s.vm.findClass RX1 = some m.cls := findClass_of_methodNamed B.named
  have hlocks := B.notSynchronized
  have hsz := hI.1
  subst hsz
  have hW := g_W.start hI
  have hK := g_K hI
  have hE := g_E hI
  have hl := lv_entry ([.ref x, .ref d]) (n := 4) (by exact Nat.le_of_ble_eq_true rfl)
  rw [lg_entry_eq]
  generalize (lg_sl ([.ref x, .ref d]) ++ List.replicate (4 - (lg_sl ([.ref x, .ref d])).length) Slot.unset).toArray = ls at hl ⊢
  have hl : lv_has ls 4 [(0, .ref x), (1, .ref d)] := hl
  have hst5 := mOut_steps (P := P) (xs := xs)
  have hv3 := mOut_lt (P := P) (xs := xs)
  obtain ⟨MC, eMC⟩ : ∃ z__, z__ = tkM P xs cov K F cp := ⟨_, rfl⟩
  obtain ⟨MS, eMS⟩ : ∃ z__, z__ = tkS P xs cov K F cp := ⟨_, rfl⟩
  rw [← eMC, ← eMS]
  have eMC2 := eMC
  have eMS2 := eMS
  unfold tkM at eMC2
  unfold tkS at eMS2
  refine lv_aload_n hx hb dX1_take_2_0 rfl (lv_at hl 0 rfl) ?_
  refine g_get (ci := 0) (v := .ref (rf 9)) (C := RX1) (T := TX1) (N := 11) hx hb hts in_X1 hown hK hW hS.1.1 rfl 3 (by decide) q357 (fun _ h9 => h9) rfl dX1_take_2_1 ?_
  refine lv_aload_n hx hb dX1_take_2_4 rfl (lv_at hl 1 rfl) ?_
  obtain ⟨ra, eb, wb, vv, cd, st9, E9, n9, par, ps, hMa, hPg, ⟨m1, m2, m3, m4⟩, -, hcl⟩ := hS.mach hK
  obtain ⟨rd9, hm0⟩ := hMa.1
  refine g_callv (va_runV (As := [.ref d]) (rest := []) ⟨hx, hb, hml, hown, hts⟩ (mtX2_run l D w s.heap.size (rf 9) ra eb wb x st9 n9 (cp 9) d da (rf 2) par (cp 2) vv cd E9 _ _ _ _ _ _ _ _ _ _ ps P xs hMa hS.1.1 hPg hd (fun z => by rw [z, hld.2] at m2; omega)) (cwV 1 hts (lw_V q1187 q1188 q1189 q38 q1190) rfl rfl rfl (by decide +kernel) ⟨Nat.le_of_ble_eq_true rfl, Nat.le_of_ble_eq_true rfl⟩) (g_preV hW hK hE hm0 rfl) rfl rfl hl.1 rfl (lv_room (Nat.le_of_ble_eq_true rfl)) dX1_take_2_5 ⟨?_, ?_⟩) hW (fun u2 H locs hp hW => ?_)
  · (try simp only [headSpec]); omega
  · (try simp only [headSpec]); omega
  obtain ⟨wb2, hMa2, hwb2, hxr⟩ := hp
  have hS2 := hcl _ wb2 _ _ _ _ _ _ hMa2 hwb2 hxr
  have hy2 : yCh w lab u2 (lb lab w 9) := yCh.of hxr (fun z _ hz => by rcases hz with z | z | z | z <;> rw [z] <;> unfold yM <;> omega) 9
  obtain ⟨rd2, hm2⟩ := hMa2.1
  have lw2 : lb lab w 9 wb2 = 9 := lb_or hwb2 m4
  have x_1 : g_ex (fun q => q = x) u2 u2 := g_ex.rf
  refine lv_aload_n hx hb dX1_take_2_8 rfl (lv_at hl 0 rfl) ?_
  refine lv_dup hx hb dX1_take_2_9 rfl ?_
  refine g_get (ci := 0) (v := .int (nI rn)) (C := RX1) (T := TX1) (N := 11) hx hb hts in_X1 hown hK hW hS2.1.1 rfl 8 (by decide) q362 (fun _ h9 => h9) rfl dX1_take_2_10 ?_
  refine lv_iconst (v := 1) hx hb dX1_take_2_13 (by decide) ?_
  refine lv_iadd hx hb dX1_take_2_14 ?_
  refine g_topi (y := nI (rn + 1)) (nI_1 rn) ?_
  refine g_putf (ci := 0) (v := .int (nI (rn + 1))) (ty := .int) (C := RX1) (T := TX1) (N := 11) hx hb hts in_X1 tyX1 tyX1_ok nmX1 hown hK hW hS2.1.1 rfl 8 (by decide) q362 (fun _ h9 => h9) rfl (by decide +kernel) rfl rfl (Nat.le_of_ble_eq_true rfl) dX1_take_2_15 (fun H locs hW => ?_)
  obtain ⟨w_2, ew_2⟩ : ∃ z__, z__ = g_put u2 x (.inr (0, [.ref (rf 2), .ref (rf 3), .ref (rf 4), .ref (rf 9), .ref (rf 10), .ref (rf 11), .ref (rf 12), .ref (rf 13), .int (nI (rn + 1)), .long (lN tt), .int (nI ac)])) := ⟨_, rfl⟩
  have hW := g_W.ren hW ew_2 rfl
  have h_3 : g_at w_2 x (.inr (0, [.ref (rf 2), .ref (rf 3), .ref (rf 4), .ref (rf 9), .ref (rf 10), .ref (rf 11), .ref (rf 12), .ref (rf 13), .int (nI (rn + 1)), .long (lN tt), .int (nI ac)])) := by rw [ew_2]; exact g_at.put_self hS2.1.1.1
  have h_4 : g_at w_2 (rf 9) (.inr (1, [.ref ra, .ref eb, .ref (D.2 1003 (mOut P xs).1), .int ((mOut P xs).2.1.getD cd), .int (nI (mOut P xs).2.2.1), .int (nI rd2), .ref x])) := by rw [ew_2]; exact hm2.put (g_neO hm2 hS2.1.1 (by decide))
  have x_5 : g_ex (fun q => q = x) u2 w_2 := by rw [ew_2]; exact x_1.put (fun hz9 => rfl)
  refine lv_aload_n hx hb dX1_take_2_18 rfl (lv_at hl 0 rfl) ?_
  refine lv_dup hx hb dX1_take_2_19 rfl ?_
  refine g_get (ci := 0) (v := .long (lN tt)) (C := RX1) (T := TX1) (N := 11) hx hb hts in_X1 hown hK hW h_3 rfl 9 (by decide) q363 (fun _ h9 => h9) rfl dX1_take_2_20 ?_
  refine lv_aload_n hx hb dX1_take_2_23 rfl (lv_at hl 0 rfl) ?_
  refine g_get (ci := 0) (v := .ref (rf 9)) (C := RX1) (T := TX1) (N := 11) hx hb hts in_X1 hown hK hW h_3 rfl 3 (by decide) q357 (fun _ h9 => h9) rfl dX1_take_2_24 ?_
  refine g_getN (ci := 1) (v := .int (nI (mOut P xs).2.2.1)) (C := RX2) (T := TX2) (N := 7) hx hb hts in_X2 hown hK hW h_4 rfl 4 (by decide) (nf_q197 hE) (fun _ h9 => h9) rfl dX1_take_2_27 ?_
  refine lv_i2l (v := (nI (mOut P xs).2.2.1 : Int32).toInt64) hx hb dX1_take_2_30 rfl ?_
  refine lv_ladd hx hb dX1_take_2_31 ?_
  refine g_top (v' := .long (lN (tt + (mOut P xs).2.2.1))) (congrArg Value.long (by rw [nI_l (by omega), lN_add])) ?_
  refine g_putf (ci := 0) (v := .long (lN (tt + (mOut P xs).2.2.1))) (ty := .long) (C := RX1) (T := TX1) (N := 11) hx hb hts in_X1 tyX1 tyX1_ok nmX1 hown hK hW h_3 rfl 9 (by decide) q363 (fun _ h9 => h9) rfl (by decide +kernel) rfl rfl (Nat.le_of_ble_eq_true rfl) dX1_take_2_32 (fun H locs hW => ?_)
  obtain ⟨w_6, ew_6⟩ : ∃ z__, z__ = g_put w_2 x (.inr (0, [.ref (rf 2), .ref (rf 3), .ref (rf 4), .ref (rf 9), .ref (rf 10), .ref (rf 11), .ref (rf 12), .ref (rf 13), .int (nI (rn + 1)), .long (lN (tt + (mOut P xs).2.2.1)), .int (nI ac)])) := ⟨_, rfl⟩
  have hW := g_W.ren hW ew_6 rfl
  have h_7 : g_at w_6 x (.inr (0, [.ref (rf 2), .ref (rf 3), .ref (rf 4), .ref (rf 9), .ref (rf 10), .ref (rf 11), .ref (rf 12), .ref (rf 13), .int (nI (rn + 1)), .long (lN (tt + (mOut P xs).2.2.1)), .int (nI ac)])) := by rw [ew_6]; exact g_at.put_self h_3.1
  have h_8 : g_at w_6 (rf 9) (.inr (1, [.ref ra, .ref eb, .ref (D.2 1003 (mOut P xs).1), .int ((mOut P xs).2.1.getD cd), .int (nI (mOut P xs).2.2.1), .int (nI rd2), .ref x])) := by rw [ew_6]; exact h_4.put (g_neO h_4 h_3 (by decide))
  have x_9 : g_ex (fun q => q = x) u2 w_6 := by rw [ew_6]; exact x_5.put (fun hz9 => rfl)
  refine lv_aload_n hx hb dX1_take_2_35 rfl (lv_at hl 0 rfl) ?_
  have hS3 := hS2.obj (rn2 := rn + 1) (tt2 := tt + (mOut P xs).2.2.1) (ac2 := ac) h_7 x_9 hrn (by omega) hS2.2.2.2.2.2.2.2.2.2.2.2.2.2
  have l1 : lb lab w 9 x = 1 := hS2.1.2
  have n9 : ∀ y, lb lab w 9 y = 9 → y ≠ x := fun y hy e => by rw [e, l1] at hy; omega
  have hi9 : ∀ {y}, y ∈ w.1 → lab y = 9 → lb lab w 9 y = 9 := fun hy e => (lb_in _ hy).trans e
  have w9 : rf 9 ∈ w.1 := by obtain ⟨⟨_, h⟩, -⟩ := hMa; exact h.1
  have wra : ra ∈ w.1 := by obtain ⟨-, ⟨_, h⟩, -⟩ := hMa; exact h.1
  have web : eb ∈ w.1 := hMa.2.2.1.1
  have hMa3 := hMa2.ex x_9 (n9 _ (hi9 w9 m1)) (n9 _ (hi9 wra m2)) (n9 _ (hi9 web m3)) (n9 _ lw2)
  have hy3 : yCh u2 (lb lab w 9) w_6 (lb lab w 9) := ⟨fun _ _ => rfl, x_9.mono (fun z _ hz => by unfold yM; rw [hz, l1]; omega)⟩
  refine g_calli (va_runV (As := []) (rest := []) ⟨hx, hb, hml, hown, hts⟩ (mtX1_coversMore l D w_6 H.size (lb lab w 9) x ac (rn + 1) (tt + (mOut P xs).2.2.1) rf P C A cov K Q F (cpU cp 9 (bsC (cp 9) (mOut P xs).2.2.2)) hS3 ra eb wb2 _ _ _ ((mOut P xs).2.1.getD cd) (mOut P xs).2.2.2 hMa3 ⟨hi9 web m3, lw2⟩) (cwV 0 hts (lw_V q1257 q1259 qs15 q34 q1260) rfl rfl rfl (by decide +kernel) ⟨Nat.le_of_ble_eq_true rfl, Nat.le_of_ble_eq_true rfl⟩) (g_preV hW hK hE hS3.1.1 rfl) rfl rfl hl.1 rfl (lv_room (Nat.le_of_ble_eq_true rfl)) dX1_take_2_36 ⟨?_, ?_⟩) hW (fun r_ u4 H locs hp hW => ?_)
  · (try simp only [headSpec]); show _ + g_bc (bsN 0 (mOut P xs).2.2.2) (cp 10) ≤ _; split at eMC2 <;> split at eMS2 <;> omega
  · (try simp only [headSpec]); show _ + g_bs (bsN 0 (mOut P xs).2.2.2) (cp 10) ≤ _; split at eMC2 <;> split at eMS2 <;> omega
  have h10 : (cpU cp 9 (bsC (cp 9) (mOut P xs).2.2.2)) 10 = cp 10 := rfl
  rw [h10]
  obtain ⟨er, l4, hS4, hl4, hx4⟩ := hp
  subst er
  have n10 : ∀ y, lb lab w 9 y = 9 → ¬ lb lab w 9 y = 10 := fun y hy e => by omega
  have hMa4 := hMa3.ex hx4 (n10 _ (hi9 w9 m1)) (n10 _ (hi9 wra m2)) (n10 _ (hi9 web m3)) (n10 _ lw2)
  have hy4 : yCh w_6 (lb lab w 9) u4 l4 := ⟨hl4, hx4.mono (fun z _ hz => by unfold yM; omega)⟩
  have hyA : yCh w lab u4 l4 := (hy2.tr hy3).tr hy4
  have hyM : ∀ y, lab y = 0 → ¬ yM lab y := fun y h z => by unfold yM at z; omega
  have hd4 := hd.ex hyA.2 (hyM _ hld.1) (hyM _ hld.2)
  have wd : d ∈ w.1 := hd.1.1
  have wda : da ∈ w.1 := by obtain ⟨_, h, -⟩ := hd.2.1; exact h.1
  have hld4 : l4 d = 0 ∧ l4 da = 0 := ⟨(hyA.1 _ wd).trans hld.1, (hyA.1 _ wda).trans hld.2⟩
  obtain ⟨rd4, hm4⟩ := hMa4.1
  have hcd : (mOut P xs).1 = 1 → ((mOut P xs).2.1.getD cd) = mCode P xs := fun h => mCode_get h cd
  by_cases hq9 : cvM cov (mOut P xs).2.2.2 = true
  · rw [if_pos hq9]
    refine lv_if_eq (tgt := 59) hx hb dX1_take_2_39 (by decide) (fun hz => absurd hz (by decide)) (fun _ => ?_)
    refine lv_aload_n hx hb dX1_take_2_42 rfl (lv_at hl 0 rfl) ?_
    refine g_get (ci := 0) (v := .ref (rf 9)) (C := RX1) (T := TX1) (N := 11) hx hb hts in_X1 hown hK hW hS4.1.1 rfl 3 (by decide) q357 (fun _ h9 => h9) rfl dX1_take_2_43 ?_
    refine g_getN (ci := 1) (v := .ref (D.2 1003 (mOut P xs).1)) (C := RX2) (T := TX2) (N := 7) hx hb hts in_X2 hown hK hW hm4 rfl 2 (by decide) (nf_q193 hE) (fun _ h9 => h9) rfl dX1_take_2_46 ?_
    refine va_gets hx hb ((hE.2.2.2.2.2.2.2.1.1 0 (by decide)).1) hW.2.2.1 hown (hts _ q1267) (fun _ h9 => h9) dX1_take_2_49 ?_
    refine lv_acmp_ne (rx := some (D.2 1003 (mOut P xs).1)) (ry := some (D.2 1003 0)) (tgt := 59) hx hb dX1_take_2_52 (by decide) (fun hc => ?_) (fun hc => ?_)
    · have hkb : tkB P xs cov = false := by unfold tkB; rw [decide_eq_false (fun z => hc (by rw [z])), Bool.and_false]
      have htk : tkB P xs cov = false := hkb
      refine lv_iconst (v := 0) hx hb dX1_take_2_59 (by decide) ?_
      refine lv_istore_n (lv' := [(2, .int (0)), (0, .ref x), (1, .ref d)]) hx hb dX1_take_2_60 rfl hl (by decide) rfl (fun ls hl => ?_)
      refine lv_iload_n hx hb dX1_take_2_61 rfl (lv_at hl 0 rfl) ?_
      refine lv_if_eq (tgt := 90) hx hb dX1_take_2_62 (by decide) (fun _ => ?_) (fun hz => absurd rfl hz)
      have hcq9 : (cpU (cpU cp 9 (bsC (cp 9) (mOut P xs).2.2.2)) 10 (g_bn (bsN 0 (mOut P xs).2.2.2) (cp 10))) 9 = bsC (cp 9) (mOut P xs).2.2.2 := rfl
      have ecq : (cpU (cpU cp 9 (bsC (cp 9) (mOut P xs).2.2.2)) 10 (g_bn (bsN 0 (mOut P xs).2.2.2) (cp 10))) = tkC0 P xs cov K cp := by unfold tkC0; rw [htk]; rfl
      obtain ⟨t1, t2, t3, t4, t5⟩ := tF_cd (P := P) (xs := xs) (F := F) (n := bsC (cp 9) (mOut P xs).2.2.2) (cq := (cpU (cpU cp 9 (bsC (cp 9) (mOut P xs).2.2.2)) 10 (g_bn (bsN 0 (mOut P xs).2.2.2) (cp 10)))) hcd
      obtain ⟨-, -, -, t6, -⟩ := tF_cd (P := P) (xs := xs) (F := F) (n := cp 13) (cq := (cpU (cpU cp 9 (bsC (cp 9) (mOut P xs).2.2.2)) 10 (g_bn (bsN 0 (mOut P xs).2.2.2) (cp 10)))) hcd
      rw [← ecq, ← t3, ← t5, htk] at eMC2
      rw [← ecq, ← t3, ← t6, htk] at eMS2
      simp only [if_true, if_false, Bool.false_eq_true] at eMC2 eMS2
      refine lpX1_take (D := D) hx hb hts hown hK hE hml (Nat.le_of_ble_eq_true rfl) (Nat.le_of_ble_eq_true rfl) x ac (rn + 1) (tt + (mOut P xs).2.2.1) d da (mOut P xs).1 rf P C A (cvO cov (mOut P xs).2.2.2) K Q F (cpU (cpU cp 9 (bsC (cp 9) (mOut P xs).2.2.2)) 10 (g_bn (bsN 0 (mOut P xs).2.2.2) (cp 10))) xs hxs hv3 hF9 u4 l4 ((mOut P xs).2.1.getD cd) 0 ra eb wb2 _ _ _ hS4 hMa4 hld4 hd4 MC MS ?_ ?_ (fun w2 l2 cells slots H locs ls hcl hsl hS6 hy6 hW hl => ?_) 1 _ _ _ _ ls (by decide) ?_ ?_ hW (lv_sub hl [0, 1, 2] rfl)
      · (try simp only [headSpec]); exact Nat.le_refl MC
      · (try simp only [headSpec]); exact Nat.le_refl MS
      · rw [htk]
        refine lv_iload_n hx hb dX1_take_2_147 rfl (lv_at hl 0 rfl) ?_
        exact g_zret (v := 0) hx hb hr hlocks (by rfl) hW (⟨rfl, l2, by have hS7 := hS6; rw [ecq, ← ecq] at hS7; rw [hcq9, t1, t2, ecq] at hS7; exact hS7, (hyA).tr hy6⟩) (by omega) (by omega) dX1_take_2_148
      · omega
      · show _ + 100 + 2 * _ + tG F (mOut P xs).1 ((mOut P xs).2.1.getD cd) (cp 13) ≤ _; omega
    · have hv0 : (mOut P xs).1 = 0 := g_vdI hE hv3 (by decide) (Option.some.inj (by first | exact hc | exact Classical.not_not.mp hc))
      have htk : tkB P xs cov = true := by unfold tkB; rw [hq9, decide_eq_true hv0]; rfl
      have hKc : (cpU (cpU cp 9 (bsC (cp 9) (mOut P xs).2.2.2)) 10 (g_bn (bsN 0 (mOut P xs).2.2.2) (cp 10))) 11 = cp 11 := rfl
      refine lv_iconst (v := 1) hx hb dX1_take_2_55 (by decide) ?_
      refine lv_goto (tgt := 60) hx hb dX1_take_2_56 (by decide) ?_
      refine lv_istore_n (lv' := [(2, .int (1)), (0, .ref x), (1, .ref d)]) hx hb dX1_take_2_60 rfl hl (by decide) rfl (fun ls hl => ?_)
      refine lv_iload_n hx hb dX1_take_2_61 rfl (lv_at hl 0 rfl) ?_
      refine lv_if_eq (tgt := 90) hx hb dX1_take_2_62 (by decide) (fun hz => absurd hz (by decide)) (fun _ => ?_)
      have eMS3 := eMS2
      have eMC3 := eMC2
      rw [htk] at eMC3 eMS3
      simp only [if_true] at eMC3 eMS3
      refine lpX1_keep (D := D) hx hb hts hown hK hE hml (Nat.le_of_ble_eq_true rfl) (Nat.le_of_ble_eq_true rfl) x ac (rn + 1) (tt + (mOut P xs).2.2.1) d da rf P C A (cvO cov (mOut P xs).2.2.2) K Q F (cpU (cpU cp 9 (bsC (cp 9) (mOut P xs).2.2.2)) 10 (g_bn (bsN 0 (mOut P xs).2.2.2) (cp 10))) xs hxs hK9 hQ9 u4 l4 1 hS4 hld4 hd4 (MC - tX F (mOut P xs).1 (mCode P xs) - tD P xs F (mOut P xs).1 (mCode P xs) (tkC0 P xs cov K cp)) (MS - 100 - 2 * tD P xs F (mOut P xs).1 (mCode P xs) (tkC0 P xs cov K cp) - tG F (mOut P xs).1 (mCode P xs) (cp 13)) ?_ ?_ (fun w5 l5 cells slots H locs ls hcl hsl hS5 hl5 hx5 hW hl => ?_) 1 _ _ _ _ ls (by decide) ?_ ?_ hW (lv_sub hl [0, 1, 2] rfl)
      · (try simp only [headSpec]); omega
      · (try simp only [headSpec]); omega
      · have hy5 : yCh u4 l4 w5 l5 := ⟨hl5, hx5.mono (fun z _ hz => by unfold yM; omega)⟩
        have hq4 : ∀ y, y ∈ w.1 → lab y = 9 → ¬ (l4 y = 11 ∨ l4 y = 12) := fun y hy h z => by rw [hyA.1 y hy] at z; omega
        have l4w : ¬ (l4 wb2 = 11 ∨ l4 wb2 = 12) := by
          obtain ⟨fw9, hw9, -⟩ := hMa3.2.2.2.1
          rw [hl4 _ hw9.1, lw2]; omega
        have hMa5 := hMa4.ex hx5 (hq4 _ w9 m1) (hq4 _ wra m2) (hq4 _ web m3) l4w
        have hd5 := hd4.ex hx5 (fun z => by rw [hld4.1] at z; omega) (fun z => by rw [hld4.2] at z; omega)
        have hld5 : l5 d = 0 ∧ l5 da = 0 := ⟨(hl5 _ (hyA.2.1 _ wd)).trans hld4.1, (hl5 _ (hyA.2.1 _ wda)).trans hld4.2⟩
        rw [hKc] at hS5
        have hcq9 : (cpU (cpU (cpU cp 9 (bsC (cp 9) (mOut P xs).2.2.2)) 10 (g_bn (bsN 0 (mOut P xs).2.2.2) (cp 10))) 11 (g_an K.length (cp 11))) 9 = bsC (cp 9) (mOut P xs).2.2.2 := rfl
        have ecq : (cpU (cpU (cpU cp 9 (bsC (cp 9) (mOut P xs).2.2.2)) 10 (g_bn (bsN 0 (mOut P xs).2.2.2) (cp 10))) 11 (g_an K.length (cp 11))) = tkC0 P xs cov K cp := by unfold tkC0; rw [htk]; rfl
        obtain ⟨t1, t2, t3, t4, t5⟩ := tF_cd (P := P) (xs := xs) (F := F) (n := bsC (cp 9) (mOut P xs).2.2.2) (cq := (cpU (cpU (cpU cp 9 (bsC (cp 9) (mOut P xs).2.2.2)) 10 (g_bn (bsN 0 (mOut P xs).2.2.2) (cp 10))) 11 (g_an K.length (cp 11)))) hcd
        obtain ⟨-, -, -, t6, -⟩ := tF_cd (P := P) (xs := xs) (F := F) (n := cp 13) (cq := (cpU (cpU (cpU cp 9 (bsC (cp 9) (mOut P xs).2.2.2)) 10 (g_bn (bsN 0 (mOut P xs).2.2.2) (cp 10))) 11 (g_an K.length (cp 11)))) hcd
        rw [← ecq, ← t3, ← t5, htk] at eMC2
        rw [← ecq, ← t3, ← t6, htk] at eMS2
        simp only [if_true, if_false, Bool.false_eq_true] at eMC2 eMS2
        refine lpX1_take (D := D) hx hb hts hown hK hE hml (Nat.le_of_ble_eq_true rfl) (Nat.le_of_ble_eq_true rfl) x ac (rn + 1) (tt + (mOut P xs).2.2.1) d da (mOut P xs).1 rf P C A (cvO cov (mOut P xs).2.2.2) (K ++ [xs]) (Q ++ [xs]) F (cpU (cpU (cpU cp 9 (bsC (cp 9) (mOut P xs).2.2.2)) 10 (g_bn (bsN 0 (mOut P xs).2.2.2) (cp 10))) 11 (g_an K.length (cp 11))) xs hxs hv3 hF9 w5 l5 ((mOut P xs).2.1.getD cd) 1 ra eb wb2 _ _ _ hS5 hMa5 hld5 hd5 MC MS ?_ ?_ (fun w2 l2 cells slots H locs ls hcl hsl hS6 hy6 hW hl => ?_) 1 _ _ _ _ ls (by decide) ?_ ?_ hW (lv_sub hl [0, 1, 2] rfl)
        · (try simp only [headSpec]); exact Nat.le_refl MC
        · (try simp only [headSpec]); exact Nat.le_refl MS
        · rw [htk]
          refine lv_iload_n hx hb dX1_take_2_147 rfl (lv_at hl 0 rfl) ?_
          exact g_zret (v := 1) hx hb hr hlocks (by rfl) hW (⟨rfl, l2, by have hS7 := hS6; rw [ecq, ← ecq] at hS7; rw [hcq9, t1, t2, ecq] at hS7; exact hS7, (hyA.tr hy5).tr hy6⟩) (by omega) (by omega) dX1_take_2_148
        · omega
        · show _ + 100 + 2 * _ + tG F (mOut P xs).1 ((mOut P xs).2.1.getD cd) (cp 13) ≤ _; omega
      · omega
      · show _ + 70 + g_as K.length (cp 11) ≤ _; omega
  · rw [if_neg hq9]
    refine lv_if_eq (tgt := 59) hx hb dX1_take_2_39 (by decide) (fun _ => ?_) (fun hz => absurd rfl hz)
    have hkb : tkB P xs cov = false := by unfold tkB; rw [Bool.eq_false_iff.mpr hq9, Bool.false_and]
    have htk : tkB P xs cov = false := hkb
    refine lv_iconst (v := 0) hx hb dX1_take_2_59 (by decide) ?_
    refine lv_istore_n (lv' := [(2, .int (0)), (0, .ref x), (1, .ref d)]) hx hb dX1_take_2_60 rfl hl (by decide) rfl (fun ls hl => ?_)
    refine lv_iload_n hx hb dX1_take_2_61 rfl (lv_at hl 0 rfl) ?_
    refine lv_if_eq (tgt := 90) hx hb dX1_take_2_62 (by decide) (fun _ => ?_) (fun hz => absurd rfl hz)
    have hcq9 : (cpU (cpU cp 9 (bsC (cp 9) (mOut P xs).2.2.2)) 10 (g_bn (bsN 0 (mOut P xs).2.2.2) (cp 10))) 9 = bsC (cp 9) (mOut P xs).2.2.2 := rfl
    have ecq : (cpU (cpU cp 9 (bsC (cp 9) (mOut P xs).2.2.2)) 10 (g_bn (bsN 0 (mOut P xs).2.2.2) (cp 10))) = tkC0 P xs cov K cp := by unfold tkC0; rw [htk]; rfl
    obtain ⟨t1, t2, t3, t4, t5⟩ := tF_cd (P := P) (xs := xs) (F := F) (n := bsC (cp 9) (mOut P xs).2.2.2) (cq := (cpU (cpU cp 9 (bsC (cp 9) (mOut P xs).2.2.2)) 10 (g_bn (bsN 0 (mOut P xs).2.2.2) (cp 10)))) hcd
    obtain ⟨-, -, -, t6, -⟩ := tF_cd (P := P) (xs := xs) (F := F) (n := cp 13) (cq := (cpU (cpU cp 9 (bsC (cp 9) (mOut P xs).2.2.2)) 10 (g_bn (bsN 0 (mOut P xs).2.2.2) (cp 10)))) hcd
    rw [← ecq, ← t3, ← t5, htk] at eMC2
    rw [← ecq, ← t3, ← t6, htk] at eMS2
    simp only [if_true, if_false, Bool.false_eq_true] at eMC2 eMS2
    refine lpX1_take (D := D) hx hb hts hown hK hE hml (Nat.le_of_ble_eq_true rfl) (Nat.le_of_ble_eq_true rfl) x ac (rn + 1) (tt + (mOut P xs).2.2.1) d da (mOut P xs).1 rf P C A (cvO cov (mOut P xs).2.2.2) K Q F (cpU (cpU cp 9 (bsC (cp 9) (mOut P xs).2.2.2)) 10 (g_bn (bsN 0 (mOut P xs).2.2.2) (cp 10))) xs hxs hv3 hF9 u4 l4 ((mOut P xs).2.1.getD cd) 0 ra eb wb2 _ _ _ hS4 hMa4 hld4 hd4 MC MS ?_ ?_ (fun w2 l2 cells slots H locs ls hcl hsl hS6 hy6 hW hl => ?_) 1 _ _ _ _ ls (by decide) ?_ ?_ hW (lv_sub hl [0, 1, 2] rfl)
    · (try simp only [headSpec]); exact Nat.le_refl MC
    · (try simp only [headSpec]); exact Nat.le_refl MS
    · rw [htk]
      refine lv_iload_n hx hb dX1_take_2_147 rfl (lv_at hl 0 rfl) ?_
      exact g_zret (v := 0) hx hb hr hlocks (by rfl) hW (⟨rfl, l2, by have hS7 := hS6; rw [ecq, ← ecq] at hS7; rw [hcq9, t1, t2, ecq] at hS7; exact hS7, (hyA).tr hy6⟩) (by omega) (by omega) dX1_take_2_148
    · omega
    · show _ + 100 + 2 * _ + tG F (mOut P xs).1 ((mOut P xs).2.1.getD cd) (cp 13) ≤ _; omega
