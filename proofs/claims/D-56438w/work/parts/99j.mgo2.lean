/-! the model: goOn, beside the class's *
-/
set_option maxRecDepth 100000
noncomputable def mGo (P : List mI) (C : List yC) (b : Nat) (cov : Nat → Bool) (K : List (List Nat)) (fq ac : Nat) (F : List yF) (cK : Nat) : Nat × Nat × Nat × Nat := mLoop P C b (gMe cov (K.drop fq) ac + 1) cov K fq ac F cK 0 0 0
theorem cvO_ok {P : List mI} {cov : Nat → Bool} {xs : List Nat} (hP : P.length ≤ 16) (h : eOk cov) : eOk (cvO cov (mOut P xs).2.2.2) := h.or (eOk.es (mOut_edge hP))
/-- what goOn leaves of the class and of the model fits together -/
theorem go_pair {P : List mI} {C : List yC} {b : Nat} (hP : P.length ≤ 16) (hC : C.length ≤ 8) (hCj : ∀ j, j < C.length → (C.getD j (0, 0, 0)).2.2 < 8) : ∀ (k : Nat) (cov : Nat → Bool) (K : List (List Nat)) (fq ac : Nat) (F : List yF) (rn tt : Nat) (cp : Nat → Nat) (cK sp M S M9 S9 : Nat) (Z : yR) (Z2 : Nat × Nat × Nat × Nat),
    gLoop P C b k cov K (K.drop fq) ac F rn tt cp sp M S = Z → mLoop P C b k cov K fq ac F cK sp M9 S9 = Z2 → yI P cov K (K.drop fq) F rn tt → eOk cov → (∀ q ∈ K, sDg q) → cK ≤ 640 → fq ≤ K.length → ac ≤ C.length →
    Z.2.2.1 = Z.2.1.drop Z2.1 ∧ yI P Z.1 Z.2.1 Z.2.2.1 Z.2.2.2.2.1 Z.2.2.2.2.2.1 Z.2.2.2.2.2.2.1 ∧ eOk Z.1 ∧ (∀ q ∈ Z.2.1, sDg q) ∧ Z2.2.1 ≤ 640 ∧ Z.2.2.2.2.2.1 + sp = rn + Z.2.2.2.2.2.2.2.2.1 ∧ (sp ≤ b → Z.2.2.2.2.2.2.2.2.1 ≤ b) := by
  intro k
  induction k with
  | zero =>
    intro cov K fq ac F rn tt cp cK sp M S M9 S9 Z Z2 h1 h2 hI hcv hKd hcK hfq hac
    subst h1; subst h2
    exact ⟨rfl, hI, hcv, hKd, hcK, rfl, fun h => h⟩
  | succ k ih =>
    intro cov K fq ac F rn tt cp cK sp M S M9 S9 Z Z2 h1 h2 hI hcv hKd hcK hfq hac
    unfold gLoop at h1
    unfold mLoop at h2
    have hdl : (K.drop fq).length = K.length - fq := List.length_drop
    by_cases hc : (K.drop fq).length = 0 ∨ ¬ sp < b
    · rw [if_pos hc] at h1
      rw [if_pos (by omega)] at h2
      subst h1; subst h2
      exact ⟨rfl, hI, hcv, hKd, hcK, rfl, fun h => h⟩
    · rw [if_neg hc] at h1
      rw [if_neg (by omega)] at h2
      have hlt : fq < K.length := by omega
      have hsb : sp < b := by omega
      rw [drop_hd hlt] at h1
      obtain ⟨q1, eq1⟩ : ∃ z__, z__ = K.getD fq [] := ⟨_, rfl⟩
      rw [← eq1] at h1 h2
      have hq8 : sDg q1 := by rw [eq1, List.getD_eq_getElem?_getD, List.getElem?_eq_getElem hlt]; exact hKd _ (List.getElem_mem hlt)
      by_cases hf : gFit C ac q1 = true
      · rw [if_pos hf] at h1 h2
        have hf2 := hf
        unfold gFit at hf2
        rw [Bool.and_eq_true] at hf2
        have hac9 := of_decide_eq_true hf2.1
        have hxs : sDg (gEd C ac q1) := eAct_ok hq8 hf2.2 (hCj ac hac9)
        rw [tkL_drop hfq, gPq_drop, tkF_z] at h1
        have hI2 := hI.take (gEd C ac q1) cp
        rw [tkL_drop hfq, tkF_z] at hI2
        have hI3 := hI2.pq (C := C) (ac := ac + 1)
        rw [gPq_drop] at hI3
        have hln := tkL_len (b := tkB P (gEd C ac q1) cov) (K := K) (xs := gEd C ac q1)
        have hlt3 : fq < (tkL (tkB P (gEd C ac q1) cov) K (gEd C ac q1)).length := by omega
        obtain ⟨r1, r2, r3, r4, r5, r6, r7⟩ := ih _ _ _ _ _ _ _ _ _ _ _ _ _ _ Z Z2 h1 h2 hI3 (cvO_ok hP hcv) (tkL_all hKd hxs) (zC_le hcK hI.q.2.2) (gPf_le hlt3) (gPa_le hac9)
        exact ⟨r1, r2, r3, r4, r5, by omega, fun _ => r7 (by omega)⟩
      · rw [if_neg hf] at h1 h2
        rw [gPq_drop] at h1
        have hI3 := hI.pq (C := C) (ac := gNx C ac)
        rw [gPq_drop] at hI3
        exact ih _ _ _ _ _ _ _ _ _ _ _ _ _ _ Z Z2 h1 h2 hI3 hcv hKd hcK (gPf_le hlt) (gPa_le (by unfold gNx; split <;> omega))
set_option maxHeartbeats 4000000 in
set_option maxRecDepth 100000 in
/-- Model.goOn -/
theorem mtX3_goOn (l : Launch) (D : va_G) (w : g_H) (sz : Nat) (y : Nat) (mf : Nat → Nat) (lab : Nat → Nat) (P : List mI) (C : List yC) (A9 : Nat → List (List Nat)) (cov : Nat → Bool) (K : List (List Nat)) (fq ac : Nat) (F : List yF) (rn tt cK : Nat) (en td st : Int32) (E : Nat → Bool) (th : Int32) (hZ : g_MZ D w lab y mf P C A9 cov K fq ac F rn tt cK en td st E th) (cp : Nat → Nat) (hYI : yI P cov K (K.drop fq) F rn tt) (hcv : eOk cov) (hKd : ∀ q ∈ K, sDg q) (hcK : cK ≤ 640) (hrn9 : rn + 200 < 99000) (n9 : Int32) : Met l yX3_goOn (ws_ yX3_goOn cX3_goOn 4 (some .int)) ({ frames := 12, cells := (mGo P C n9.toNatClampNeg cov K fq ac F cK).2.2.1, slots := (mGo P C n9.toNatClampNeg cov K fq ac F cK).2.2.2, locals := 312 }) (g_Pc D [.ref y, .int (n9)] w sz) (g_Qi D w sz (fun r u => ((1 ≤ n9 ∧ n9 ≤ 200) ∧ r = nI (gGo P C n9.toNatClampNeg cov K (K.drop fq) ac F rn tt cp).2.2.2.2.2.2.2.2.1 ∧ ∃ lab2 mf2 en2 td2 st2 E2, g_MZ D u lab2 y mf2 P C A9 (gGo P C n9.toNatClampNeg cov K (K.drop fq) ac F rn tt cp).1 (gGo P C n9.toNatClampNeg cov K (K.drop fq) ac F rn tt cp).2.1 (mGo P C n9.toNatClampNeg cov K fq ac F cK).1 (gGo P C n9.toNatClampNeg cov K (K.drop fq) ac F rn tt cp).2.2.2.1 (gGo P C n9.toNatClampNeg cov K (K.drop fq) ac F rn tt cp).2.2.2.2.1 (gGo P C n9.toNatClampNeg cov K (K.drop fq) ac F rn tt cp).2.2.2.2.2.1 (gGo P C n9.toNatClampNeg cov K (K.drop fq) ac F rn tt cp).2.2.2.2.2.2.1 (mGo P C n9.toNatClampNeg cov K fq ac F cK).2.1 en2 td2 st2 E2 0 ∧ zCh w lab u lab2) ∨ (¬ (1 ≤ n9 ∧ n9 ≤ 200) ∧ g_MZ D u lab y mf P C A9 cov K fq ac F rn tt cK en td st E 1 ∧ zCh w lab u lab))) ((mGo P C n9.toNatClampNeg cov K fq ac F cK).2.2.1) ((mGo P C n9.toNatClampNeg cov K fq ac F cK).2.2.2) (g_A w sz) := by
  refine Met.ofW (cc := cX3_goOn) (maxL := 4) (ret := (some .int)) (by decide) rfl ?_
  intro p e s m args below meth c s₁ B hml hv
  obtain ⟨rfl, hI⟩ := hv
  have hx := B.exec
  have hb := B.bytes
  have hr := B.returns
  have hts := atoms_spec (ws := ws_ yX3_goOn cX3_goOn 4 (some .int)) B.pre
  have hts : ∀ w ∈ lw_all, w.before _ s = true := fun w h => hts w (List.mem_cons_of_mem _ h)
  have hown : s.vm.findClass RX3 = some m.cls := findClass_of_methodNamed B.named
  have hlocks := B.notSynchronized
  have hsz := hI.1
  subst hsz
  have hW := g_W.start hI
  have hK := g_K hI
  have hE := g_E hI
  have hl := lv_entry ([.ref y, .int (n9)]) (n := 4) (by exact Nat.le_of_ble_eq_true rfl)
  rw [lg_entry_eq]
  generalize (lg_sl ([.ref y, .int (n9)]) ++ List.replicate (4 - (lg_sl ([.ref y, .int (n9)])).length) Slot.unset).toArray = ls at hl ⊢
  have hl : lv_has ls 4 [(0, .ref y), (1, .int (n9))] := hl
  obtain ⟨hy, ⟨hly, hL⟩, hP, hR, hC0, hA0, hV0, hK0, hF0, hb9⟩ := id hZ
  have x_1 : g_ex (fun q => q = y) w w := g_ex.rf
  refine lv_aload_n hx hb dX3_goOn_0 rfl (lv_at hl 0 rfl) ?_
  refine lv_iload_n hx hb dX3_goOn_1 rfl (lv_at hl 1 rfl) ?_
  refine lv_i2l (v := (n9 : Int32).toInt64) hx hb dX3_goOn_2 rfl ?_
  refine lv_lconst (v := 1) hx hb dX3_goOn_3 rfl ?_
  refine lv_ldc2 hx hb hown (hts _ q2090) dX3_goOn_4 ?_
  refine g_calli (va_runS (As := [.long ((n9 : Int32).toInt64), .long (1), .long (200)]) (rest := [.ref y]) ⟨hx, hb, hml, hown, hts⟩ (mtX3_in l D w s.heap.size (n9 : Int32).toInt64 (1) (200)) (va_cwS 3 hts (lw_S q1980 q1981 q47 q1982) rfl rfl rfl (by decide +kernel) ⟨Nat.le_of_ble_eq_true rfl, Nat.le_of_ble_eq_true rfl⟩) (g_preS hW hK hE) rfl rfl hl.1 rfl (lv_room (Nat.le_of_ble_eq_true rfl)) dX3_goOn_7 ⟨Nat.le_of_ble_eq_true rfl, Nat.le_of_ble_eq_true rfl⟩) hW (fun r_ u_ H locs hp hW => ?_)
  obtain ⟨er, rfl⟩ := hp
  subst er
  by_cases hq9 : (1 : Int64) ≤ (n9 : Int32).toInt64 ∧ (n9 : Int32).toInt64 ≤ 200
  · rw [if_pos hq9]
    refine lv_if_eq (tgt := 17) hx hb dX3_goOn_10 (by decide) (fun hz => absurd hz (by decide)) (fun _ => ?_)
    have hin : (1 : Int32) ≤ n9 ∧ n9 ≤ 200 := (i2l_in rfl rfl).mp hq9
    clear hq9
    refine lv_iconst (v := 0) hx hb dX3_goOn_13 (by decide) ?_
    refine lv_goto (tgt := 18) hx hb dX3_goOn_14 (by decide) ?_
    refine g_putf (ci := 10) (v := .int (0)) (ty := .int) (C := RX3) (T := TX3) (N := 28) hx hb hts in_X3 tyX3 tyX3_ok nmX3 hown hK hW hy rfl 27 (by decide) q1911 (fun _ h9 => h9) rfl (by decide +kernel) rfl rfl (Nat.le_of_ble_eq_true rfl) dX3_goOn_18 (fun H locs hW => ?_)
    obtain ⟨w_2, ew_2⟩ : ∃ z__, z__ = g_put w y (.inr (10, mO mf (nI P.length) (nI C.length) (en) (td) (st) (nI rn) (lN tt) (nI K.length) (nI fq) (nI ac) (nI F.length) (0))) := ⟨_, rfl⟩
    have hW := g_W.ren hW ew_2 rfl
    have h_3 : g_at w_2 y (.inr (10, mO mf (nI P.length) (nI C.length) (en) (td) (st) (nI rn) (lN tt) (nI K.length) (nI fq) (nI ac) (nI F.length) (0))) := by rw [ew_2]; exact g_at.put_self hy.1
    have x_4 : g_ex (fun q => q = y) w w_2 := by rw [ew_2]; exact x_1.put (fun hz9 => rfl)
    have hZ1 := hZ.obj (rn2 := rn) (tt2 := tt) (fq2 := fq) (ac2 := ac) h_3 x_4 hb9.2.1 hb9.2.2.1 hb9.2.2.2.1 hb9.2.2.2.2
    have hz1 := hZ.zobj x_4
    refine lv_aload_n hx hb dX3_goOn_21 rfl (lv_at hl 0 rfl) ?_
    refine g_get (ci := 10) (v := .int (0)) (C := RX3) (T := TX3) (N := 28) hx hb hts in_X3 hown hK hW h_3 rfl 27 (by decide) q1911 (fun _ h9 => h9) rfl dX3_goOn_22 ?_
    refine lv_if_le (tgt := 30) hx hb dX3_goOn_25 (by decide) (fun _ => ?_) (fun hz => absurd (by decide) hz)
    have hn0 : ¬ n9 < 0 := Int32.not_lt.mpr (Int32.le_trans (by decide) hin.1)
    obtain ⟨n, hn, rfl⟩ := nI_of hn0
    have hn200 : n ≤ 200 := (nI_leI (b := 200) hn (by decide)).mp hin.2
    rw [nI_clamp hn]
    refine lv_iconst (v := 0) hx hb dX3_goOn_30 (by decide) ?_
    refine lv_istore_n (lv' := [(2, .int (0)), (0, .ref y), (1, .int (nI n))]) hx hb dX3_goOn_31 rfl hl (by decide) rfl (fun ls hl => ?_)
    refine lpX3_goOn (D := D) hx hb hts hown hK hE hml (Nat.le_of_ble_eq_true rfl) (Nat.le_of_ble_eq_true rfl) lab w y P C A9 n 0 0 hn200 (gGo P C n cov K (K.drop fq) ac F rn tt cp) (mGo P C n cov K fq ac F cK) ?_ ?_ (fun w2 l2 mf2 en2 td2 st2 E2 cells slots H locs ls hZ2 hz2 hcl hsl hW hl => ?_) (gMe cov (K.drop fq) ac + 1) 0 rn tt fq ac cK cov K F cp w_2 lab mf en td st E _ _ 0 0 0 0 _ _ ls (Nat.lt_succ_self _) rfl rfl hYI hcv hKd hcK hZ1 hz1 (by (try simp only [headSpec]); omega) (by (try simp only [headSpec]); omega) (by omega) (Nat.zero_le _) hW (lv_sub hl [1, 2, 0] rfl)
    · (try simp only [headSpec]); show 0 + (mGo P C n cov K fq ac F cK).2.2.1 ≤ _; omega
    · (try simp only [headSpec]); show 0 + (mGo P C n cov K fq ac F cK).2.2.2 ≤ _; omega
    refine lv_iload_n hx hb dX3_goOn_174 rfl (lv_at hl 0 rfl) ?_
    exact g_iret (v := nI (gGo P C n cov K (K.drop fq) ac F rn tt cp).2.2.2.2.2.2.2.2.1) hx hb hr hlocks hW (Or.inl ⟨hin, rfl, l2, mf2, en2, td2, st2, E2, hZ2, hz2⟩) (by omega) (by omega) dX3_goOn_175
  · rw [if_neg hq9]
    refine lv_if_eq (tgt := 17) hx hb dX3_goOn_10 (by decide) (fun _ => ?_) (fun hz => absurd rfl hz)
    have hin : ¬ ((1 : Int32) ≤ n9 ∧ n9 ≤ 200) := fun z => hq9 ((i2l_in rfl rfl).mpr z)
    clear hq9
    refine lv_iconst (v := 1) hx hb dX3_goOn_17 (by decide) ?_
    refine g_putf (ci := 10) (v := .int (1)) (ty := .int) (C := RX3) (T := TX3) (N := 28) hx hb hts in_X3 tyX3 tyX3_ok nmX3 hown hK hW hy rfl 27 (by decide) q1911 (fun _ h9 => h9) rfl (by decide +kernel) rfl rfl (Nat.le_of_ble_eq_true rfl) dX3_goOn_18 (fun H locs hW => ?_)
    obtain ⟨w_5, ew_5⟩ : ∃ z__, z__ = g_put w y (.inr (10, mO mf (nI P.length) (nI C.length) (en) (td) (st) (nI rn) (lN tt) (nI K.length) (nI fq) (nI ac) (nI F.length) (1))) := ⟨_, rfl⟩
    have hW := g_W.ren hW ew_5 rfl
    have h_6 : g_at w_5 y (.inr (10, mO mf (nI P.length) (nI C.length) (en) (td) (st) (nI rn) (lN tt) (nI K.length) (nI fq) (nI ac) (nI F.length) (1))) := by rw [ew_5]; exact g_at.put_self hy.1
    have x_7 : g_ex (fun q => q = y) w w_5 := by rw [ew_5]; exact x_1.put (fun hz9 => rfl)
    have hZ1 := hZ.obj (rn2 := rn) (tt2 := tt) (fq2 := fq) (ac2 := ac) h_6 x_7 hb9.2.1 hb9.2.2.1 hb9.2.2.2.1 hb9.2.2.2.2
    have hz1 := hZ.zobj x_7
    refine lv_aload_n hx hb dX3_goOn_21 rfl (lv_at hl 0 rfl) ?_
    refine g_get (ci := 10) (v := .int (1)) (C := RX3) (T := TX3) (N := 28) hx hb hts in_X3 hown hK hW h_6 rfl 27 (by decide) q1911 (fun _ h9 => h9) rfl dX3_goOn_22 ?_
    refine lv_if_le (tgt := 30) hx hb dX3_goOn_25 (by decide) (fun hz => absurd hz (by decide)) (fun _ => ?_)
    refine lv_iconst (v := (-1)) hx hb dX3_goOn_28 (by decide) ?_
    exact g_iret (v := (-1)) hx hb hr hlocks hW (Or.inr ⟨hin, hZ1, hz1⟩) (by omega) (by omega) dX3_goOn_29
