/-! the model: goOn *
-/
set_option maxRecDepth 100000
def gPf (C : List yC) (ac fq : Nat) : Nat := if ac = C.length then fq + 1 else fq
/-- goOn of the model, beside gLoop: the first of the queue, the kept row's places, cells, slots -/
noncomputable def mLoop (P : List mI) (C : List yC) (b : Nat) : Nat → (Nat → Bool) → List (List Nat) → Nat → Nat → List yF → Nat → Nat → Nat → Nat → Nat × Nat × Nat × Nat
  | 0, _, _, fq, _, _, cK, _, M, S => (fq, cK, M, S)
  | k + 1, cov, K, fq, ac, F, cK, sp, M, S =>
    if K.length = fq ∨ ¬ sp < b then (fq, cK, M, S)
    else if gFit C ac (K.getD fq []) = true then
      mLoop P C b k (cvO cov (mOut P (gEd C ac (K.getD fq []))).2.2.2) (tkL (tkB P (gEd C ac (K.getD fq [])) cov) K (gEd C ac (K.getD fq []))) (gPf C (ac + 1) fq) (gPa C (ac + 1)) (zFk P (gEd C ac (K.getD fq [])) F) (zC (tkB P (gEd C ac (K.getD fq [])) cov) K.length cK) (sp + 1) (M + (aC (C.getD ac (0, 0, 0)).1 + mkC P (gEd C ac (K.getD fq [])) cov K.length cK F)) (S + (70 + mkS P (gEd C ac (K.getD fq [])) cov K.length cK F))
    else mLoop P C b k cov K (gPf C (gNx C ac) fq) (gPa C (gNx C ac)) F cK sp M S
theorem mLoop_mono {P : List mI} {C : List yC} {b : Nat} : ∀ (k : Nat) (cov : Nat → Bool) (K : List (List Nat)) (fq ac : Nat) (F : List yF) (cK sp M S : Nat), M ≤ (mLoop P C b k cov K fq ac F cK sp M S).2.2.1 ∧ S ≤ (mLoop P C b k cov K fq ac F cK sp M S).2.2.2 := by
  intro k
  induction k with
  | zero => intro cov K fq ac F cK sp M S; exact ⟨Nat.le_refl _, Nat.le_refl _⟩
  | succ k ih =>
    intro cov K fq ac F cK sp M S
    unfold mLoop
    split
    · exact ⟨Nat.le_refl _, Nat.le_refl _⟩
    · split
      · refine ⟨Nat.le_trans (Nat.le_add_right _ _) (ih _ _ _ _ _ _ _ _ _).1, Nat.le_trans (Nat.le_add_right _ _) (ih _ _ _ _ _ _ _ _ _).2⟩
      · exact ih _ _ _ _ _ _ _ _ _
theorem drop_hd {K : List (List Nat)} {fq : Nat} (h : fq < K.length) : (K.drop fq).headD [] = K.getD fq [] := by rw [List.drop_eq_getElem_cons h, List.getD_eq_getElem?_getD, List.getElem?_eq_getElem h]; rfl
theorem gPq_drop {C : List yC} {ac fq : Nat} {K : List (List Nat)} : gPq C ac (K.drop fq) = K.drop (gPf C ac fq) := by
  unfold gPq gPf
  split
  · rw [List.tail_drop]
  · rfl
theorem tkL_drop {b : Bool} {K : List (List Nat)} {xs : List Nat} {fq : Nat} (h : fq ≤ K.length) : tkL b (K.drop fq) xs = (tkL b K xs).drop fq := by
  unfold tkL
  split
  · rw [List.drop_append_of_le_length h]
  · rfl
theorem tkL_all {b : Bool} {K : List (List Nat)} {xs : List Nat} {p : List Nat → Prop} (h : ∀ y ∈ K, p y) (hx : p xs) : ∀ y ∈ tkL b K xs, p y := fun y hy => by
  unfold tkL at hy
  split at hy
  · rcases List.mem_append.mp hy with q | q
    · exact h y q
    · rw [List.mem_singleton.mp q]; exact hx
  · exact h y hy
theorem fOk.lt {P : List mI} {F : List yF} {xs : List Nat} (h : fOk P F) (hP : P.length ≤ 16) (h1 : (mOut P xs).1 = 1) (h2 : fnd F (mCode P xs) = false) : F.length < 16 := by
  have h3 := (h.take xs (fun _ => 0)).le
  rw [tkF_z] at h3
  unfold zFk zF at h3
  rw [if_pos h1, if_neg (by rw [h2]; decide), List.length_append] at h3
  have h4 : F.length + 1 ≤ P.length := h3
  omega
theorem zC_le {b : Bool} {n cK : Nat} (h : cK ≤ 640) (hn : n ≤ 320) : zC b n cK ≤ 640 := by
  unfold zC zCb
  split
  · rename_i z
    rw [Bool.and_eq_true] at z
    have := of_decide_eq_true z.2
    omega
  · exact h
theorem gPf_le {C : List yC} {ac fq n : Nat} (h : fq < n) : gPf C ac fq ≤ n := by unfold gPf; split <;> omega
theorem gPf_me {C : List yC} {K : List (List Nat)} {ac fq : Nat} (hC : C.length ≤ 8) (ha : ac ≤ C.length) (hf : fq < K.length) (n : Nat) : 9 * ((K.drop (gPf C ac fq)).length + n) - gPa C ac ≤ 9 * ((K.drop fq).length + n) - ac := by
  rw [← gPq_drop]
  exact gPq_me hC ha (fun z => by have := congrArg List.length z; rw [List.length_drop] at this; simp at this; omega) n
set_option maxHeartbeats 4000000 in
set_option maxRecDepth 100000 in
/-- Model.goOn: the end of a round -/
theorem lpX3_goPop {p : Program} {l : Launch} {e : Env} {R : Room} {s : State} {m : MethodId} {args : Array Value} {below : List Frame} {meth : Method} {c : Code} {cells slots : Nat} {Q : State → Prop} {D : va_G} {A : Nat → Prop} (hx : p.tables.exec = Jvm.exec) (hb : c.code = cX3_goOn) (hts : ∀ w ∈ lw_all, w.before args s = true) (hown : s.vm.findClass RX3 = some m.cls) (hK : va_K D gCl (gT D) s) (hE : g_Env D A s) (hml : c.maxLocals = 4) (hRf : 1 ≤ R.frames) (hRl : 12 ≤ R.locals) (hRc : cells ≤ R.cells) (hRs : slots ≤ R.slots) (lab : Nat → Nat) (w : g_H) (y : Nat) (P : List mI) (C : List yC) (A9 : Nat → List (List Nat)) (n9 : Nat) (sp rn tt fq ac cK : Nat) (cov : Nat → Bool) (K : List (List Nat)) (F : List yF) (w1 : g_H) (l1 mf : Nat → Nat) (en td st : Int32) (E : Nat → Bool) (hfq : fq < K.length) (hZ : g_MZ D w1 l1 y mf P C A9 cov K fq ac F rn tt cK en td st E 0) (hy9 : zCh w lab w1 l1)
    (kk : ∀ (w2 : g_H) (H : Heap) (locs : List Loc) (ls : Array Slot), g_MZ D w2 l1 y mf P C A9 cov K (gPf C ac fq) (gPa C ac) F rn tt cK en td st E 0 → zCh w lab w2 l1 → g_W D A s.heap H locs w2 → lv_has ls 4 [(0, .ref y), (1, .int (nI n9)), (2, .int (nI sp))] → W p l e R s m args below meth c H locs cells slots Q (F0 m 32 ls [])) :
    ∀ (k : Nat)  (H : Heap) (locs : List Loc) (ls : Array Slot), 0 < k → g_W D A s.heap H locs w1 → lv_has ls 4 [(0, .ref y), (1, .int (nI n9)), (2, .int (nI sp))] → W p l e R s m args below meth c H locs cells slots Q (F0 m 145 ls []) := by
  intro k
  induction k with
  | zero => intro  H locs ls hfuel hW hl; exact absurd hfuel (by omega)
  | succ k ih =>
    intro  H locs ls hfuel hW hl
    obtain ⟨hy, ⟨hly, hL⟩, hP, hR, hC0, hA0, hV0, hK0, hF0, hb9⟩ := id hZ
    have hC8 : C.length ≤ 8 := by obtain ⟨_, _, _, -, -, -, h, -⟩ := hC0; exact h
    have x_1 : g_ex (fun q => q = y) w1 w1 := g_ex.rf
    refine lv_aload_n hx hb dX3_goOn_145 rfl (lv_at hl 0 rfl) ?_
    refine g_get (ci := 10) (v := .int (nI ac)) (C := RX3) (T := TX3) (N := 28) hx hb hts in_X3 hown hK hW hy rfl 22 (by decide) q1906 (fun _ h9 => h9) rfl dX3_goOn_146 ?_
    refine lv_aload_n hx hb dX3_goOn_149 rfl (lv_at hl 0 rfl) ?_
    refine g_get (ci := 10) (v := .int (nI C.length)) (C := RX3) (T := TX3) (N := 28) hx hb hts in_X3 hown hK hW hy rfl 8 (by decide) q1892 (fun _ h9 => h9) rfl dX3_goOn_150 ?_
    refine g_icmp_lt (x := ac) (y := C.length) (tgt := 32) hx hb (by omega) (by omega) dX3_goOn_153 (by decide) (fun hc => ?_) (fun hc => ?_)
    · have hn : ac ≠ C.length := by omega
      have e1 : gPf C ac fq = fq := if_neg hn
      have e2 : gPa C ac = ac := if_neg hn
      exact kk w1 H locs ls (by rw [e1, e2]; exact hZ) hy9 hW (lv_sub hl [0, 1, 2] rfl)
    · have hn : ac = C.length := by omega
      have e1 : gPf C ac fq = fq + 1 := if_pos hn
      have e2 : gPa C ac = 0 := if_pos hn
      refine lv_aload_n hx hb dX3_goOn_156 rfl (lv_at hl 0 rfl) ?_
      refine lv_dup hx hb dX3_goOn_157 rfl ?_
      refine g_get (ci := 10) (v := .int (nI fq)) (C := RX3) (T := TX3) (N := 28) hx hb hts in_X3 hown hK hW hy rfl 21 (by decide) q1905 (fun _ h9 => h9) rfl dX3_goOn_158 ?_
      refine lv_iconst (v := 1) hx hb dX3_goOn_161 (by decide) ?_
      refine lv_iadd hx hb dX3_goOn_162 ?_
      refine g_topi (y := nI (fq + 1)) (nI_1 fq) ?_
      refine g_putf (ci := 10) (v := .int (nI (fq + 1))) (ty := .int) (C := RX3) (T := TX3) (N := 28) hx hb hts in_X3 tyX3 tyX3_ok nmX3 hown hK hW hy rfl 21 (by decide) q1905 (fun _ h9 => h9) rfl (by decide +kernel) rfl rfl (Nat.le_of_ble_eq_true rfl) dX3_goOn_163 (fun H locs hW => ?_)
      obtain ⟨w_2, ew_2⟩ : ∃ z__, z__ = g_put w1 y (.inr (10, mO mf (nI P.length) (nI C.length) (en) (td) (st) (nI rn) (lN tt) (nI K.length) (nI (fq + 1)) (nI ac) (nI F.length) (0))) := ⟨_, rfl⟩
      have hW := g_W.ren hW ew_2 rfl
      have h_3 : g_at w_2 y (.inr (10, mO mf (nI P.length) (nI C.length) (en) (td) (st) (nI rn) (lN tt) (nI K.length) (nI (fq + 1)) (nI ac) (nI F.length) (0))) := by rw [ew_2]; exact g_at.put_self hy.1
      have x_4 : g_ex (fun q => q = y) w1 w_2 := by rw [ew_2]; exact x_1.put (fun hz9 => rfl)
      refine lv_aload_n hx hb dX3_goOn_166 rfl (lv_at hl 0 rfl) ?_
      refine lv_iconst (v := 0) hx hb dX3_goOn_167 (by decide) ?_
      refine g_putf (ci := 10) (v := .int (0)) (ty := .int) (C := RX3) (T := TX3) (N := 28) hx hb hts in_X3 tyX3 tyX3_ok nmX3 hown hK hW h_3 rfl 22 (by decide) q1906 (fun _ h9 => h9) rfl (by decide +kernel) rfl rfl (Nat.le_of_ble_eq_true rfl) dX3_goOn_168 (fun H locs hW => ?_)
      obtain ⟨w_5, ew_5⟩ : ∃ z__, z__ = g_put w_2 y (.inr (10, mO mf (nI P.length) (nI C.length) (en) (td) (st) (nI rn) (lN tt) (nI K.length) (nI (fq + 1)) (0) (nI F.length) (0))) := ⟨_, rfl⟩
      have hW := g_W.ren hW ew_5 rfl
      have h_6 : g_at w_5 y (.inr (10, mO mf (nI P.length) (nI C.length) (en) (td) (st) (nI rn) (lN tt) (nI K.length) (nI (fq + 1)) (0) (nI F.length) (0))) := by rw [ew_5]; exact g_at.put_self h_3.1
      have x_7 : g_ex (fun q => q = y) w1 w_5 := by rw [ew_5]; exact x_4.put (fun hz9 => rfl)
      have hZ1 := hZ.obj (rn2 := rn) (tt2 := tt) (fq2 := fq + 1) (ac2 := 0) h_6 x_7 hb9.2.1 hb9.2.2.1 (by omega) (Nat.zero_le _)
      have hz1 := hZ.zobj x_7
      refine lv_goto (tgt := 32) hx hb dX3_goOn_171 (by decide) ?_
      exact kk w_5 H locs ls (by rw [e1, e2]; exact hZ1) (hy9.tr hz1) hW (lv_sub hl [0, 1, 2] rfl)
set_option maxHeartbeats 4000000 in
set_option maxRecDepth 100000 in
/-- Model.goOn: its loop -/
theorem lpX3_goOn {p : Program} {l : Launch} {e : Env} {R : Room} {s : State} {m : MethodId} {args : Array Value} {below : List Frame} {meth : Method} {c : Code} {Q : State → Prop} {D : va_G} {A : Nat → Prop} (hx : p.tables.exec = Jvm.exec) (hb : c.code = cX3_goOn) (hts : ∀ w ∈ lw_all, w.before args s = true) (hown : s.vm.findClass RX3 = some m.cls) (hK : va_K D gCl (gT D) s) (hE : g_Env D A s) (hml : c.maxLocals = 4) (hRf : 12 ≤ R.frames) (hRl : 312 ≤ R.locals) (lab : Nat → Nat) (w : g_H) (y : Nat) (P : List mI) (C : List yC) (A9 : Nat → List (List Nat)) (n9 : Nat) (c0 s0 : Nat) (hn9 : n9 ≤ 200) (Z : yR) (Z2 : Nat × Nat × Nat × Nat) (hRc : c0 + Z2.2.2.1 ≤ R.cells) (hRs : s0 + Z2.2.2.2 ≤ R.slots)
    (kk : ∀ (w2 : g_H) (l2 mf2 : Nat → Nat) (en2 td2 st2 : Int32) (E2 : Nat → Bool) (cells slots : Nat) (H : Heap) (locs : List Loc) (ls : Array Slot), g_MZ D w2 l2 y mf2 P C A9 Z.1 Z.2.1 Z2.1 Z.2.2.2.1 Z.2.2.2.2.1 Z.2.2.2.2.2.1 Z.2.2.2.2.2.2.1 Z2.2.1 en2 td2 st2 E2 0 → zCh w lab w2 l2 → cells ≤ c0 + Z2.2.2.1 → slots ≤ s0 + Z2.2.2.2 → g_W D A s.heap H locs w2 → lv_has ls 4 [(2, .int (nI Z.2.2.2.2.2.2.2.2.1))] → W p l e R s m args below meth c H locs cells slots Q (F0 m 174 ls [])) :
    ∀ (k : Nat) (sp : Nat) (rn : Nat) (tt : Nat) (fq : Nat) (ac : Nat) (cK : Nat) (cov : Nat → Bool) (K : List (List Nat)) (F : List yF) (cp : Nat → Nat) (w1 : g_H) (l1 : Nat → Nat) (mf : Nat → Nat) (en : Int32) (td : Int32) (st : Int32) (E : Nat → Bool) (cells : Nat) (slots : Nat) (M : Nat) (S : Nat) (M9 : Nat) (S9 : Nat) (H : Heap) (locs : List Loc) (ls : Array Slot), gMe cov (K.drop fq) ac < k → gLoop P C n9 k cov K (K.drop fq) ac F rn tt cp sp M S = Z → mLoop P C n9 k cov K fq ac F cK sp M9 S9 = Z2 → yI P cov K (K.drop fq) F rn tt → eOk cov → (∀ q ∈ K, sDg q) → cK ≤ 640 → g_MZ D w1 l1 y mf P C A9 cov K fq ac F rn tt cK en td st E 0 → zCh w lab w1 l1 → cells ≤ c0 + M9 → slots ≤ s0 + S9 → rn + n9 ≤ sp + 99000 → sp ≤ n9 → g_W D A s.heap H locs w1 → lv_has ls 4 [(0, .ref y), (1, .int (nI n9)), (2, .int (nI sp))] → W p l e R s m args below meth c H locs cells slots Q (F0 m 32 ls []) := by
  intro k
  induction k with
  | zero => intro sp rn tt fq ac cK cov K F cp w1 l1 mf en td st E cells slots M S M9 S9 H locs ls hfuel hgo hmo hI hcv hKd hcK hZ hy9 hcl hsl hrn hsp hW hl; exact absurd hfuel (by omega)
  | succ k ih =>
    intro sp rn tt fq ac cK cov K F cp w1 l1 mf en td st E cells slots M S M9 S9 H locs ls hfuel hgo hmo hI hcv hKd hcK hZ hy9 hcl hsl hrn hsp hW hl
    obtain ⟨hy, ⟨hly, hL⟩, hP, hR, hC0, hA0, hV0, hK0, hF0, hb9⟩ := id hZ
    have hP16 : P.length ≤ 16 := by obtain ⟨_, _, _, _, -, -, -, -, h, -⟩ := hP; exact h
    have hC8 : C.length ≤ 8 := by obtain ⟨_, _, _, -, -, -, h, -⟩ := hC0; exact h
    have hK3 := hI.q.2.2
    have htt := hI.2.2.2
    have hdl : (K.drop fq).length = K.length - fq := List.length_drop
    have hfq := hb9.2.2.2.1
    have hac := hb9.2.2.2.2
    have hmm := mLoop_mono (P := P) (C := C) (b := n9) (k + 1) cov K fq ac F cK sp M9 S9
    rw [hmo] at hmm
    obtain ⟨hmm1, hmm2⟩ := hmm
    unfold gLoop at hgo
    unfold mLoop at hmo
    refine lv_aload_n hx hb dX3_goOn_32 rfl (lv_at hl 0 rfl) ?_
    refine g_get (ci := 10) (v := .int (nI fq)) (C := RX3) (T := TX3) (N := 28) hx hb hts in_X3 hown hK hW hy rfl 21 (by decide) q1905 (fun _ h9 => h9) rfl dX3_goOn_33 ?_
    refine lv_aload_n hx hb dX3_goOn_36 rfl (lv_at hl 0 rfl) ?_
    refine g_get (ci := 10) (v := .int (nI K.length)) (C := RX3) (T := TX3) (N := 28) hx hb hts in_X3 hown hK hW hy rfl 20 (by decide) q1904 (fun _ h9 => h9) rfl dX3_goOn_37 ?_
    refine g_icmp_ge (x := fq) (y := K.length) (tgt := 174) hx hb (by omega) (by omega) dX3_goOn_40 (by decide) (fun hc0 => ?_) (fun hc0 => ?_)
    · rw [if_pos (Or.inl (by omega))] at hgo
      rw [if_pos (Or.inl (by omega))] at hmo
      exact kk w1 l1 mf en td st E _ _ H locs ls (by rw [← hgo, ← hmo]; exact hZ) hy9 (by omega) (by omega) hW (by rw [← hgo]; exact lv_sub hl [2] rfl)
    · refine lv_iload_n hx hb dX3_goOn_43 rfl (lv_at hl 2 rfl) ?_
      refine lv_iload_n hx hb dX3_goOn_44 rfl (lv_at hl 1 rfl) ?_
      refine g_icmp_ge (x := sp) (y := n9) (tgt := 174) hx hb (by omega) (by omega) dX3_goOn_45 (by decide) (fun hc1 => ?_) (fun hc1 => ?_)
      · rw [if_pos (Or.inr (by omega))] at hgo
        rw [if_pos (Or.inr (by omega))] at hmo
        exact kk w1 l1 mf en td st E _ _ H locs ls (by rw [← hgo, ← hmo]; exact hZ) hy9 (by omega) (by omega) hW (by rw [← hgo]; exact lv_sub hl [2] rfl)
      · rw [if_neg (by omega)] at hgo hmo
        have hlt : fq < K.length := by omega
        rw [drop_hd hlt] at hgo
        obtain ⟨q1, eq1⟩ : ∃ z__, z__ = K.getD fq [] := ⟨_, rfl⟩
        rw [← eq1] at hgo hmo
        have hq8 : sDg q1 := by rw [eq1, List.getD_eq_getElem?_getD, List.getElem?_eq_getElem hlt]; exact hKd _ (List.getElem_mem hlt)
        refine lv_aload_n hx hb dX3_goOn_48 rfl (lv_at hl 0 rfl) ?_
        refine g_get (ci := 10) (v := .int (nI ac)) (C := RX3) (T := TX3) (N := 28) hx hb hts in_X3 hown hK hW hy rfl 22 (by decide) q1906 (fun _ h9 => h9) rfl dX3_goOn_49 ?_
        refine lv_aload_n hx hb dX3_goOn_52 rfl (lv_at hl 0 rfl) ?_
        refine g_get (ci := 10) (v := .int (nI C.length)) (C := RX3) (T := TX3) (N := 28) hx hb hts in_X3 hown hK hW hy rfl 8 (by decide) q1892 (fun _ h9 => h9) rfl dX3_goOn_53 ?_
        refine g_icmp_ge (x := ac) (y := C.length) (tgt := 145) hx hb (by omega) (by omega) dX3_goOn_56 (by decide) (fun hc2 => ?_) (fun hc2 => ?_)
        · have hn : ¬ ac < C.length := by omega
          rw [if_neg (gFit_2 hn)] at hgo hmo
          have hnx : gNx C ac = ac := if_neg hn
          rw [hnx] at hgo hmo
          rw [gPq_drop] at hgo
          have hI2 := hI.pq (C := C) (ac := ac)
          rw [gPq_drop] at hI2
          refine lpX3_goPop (D := D) hx hb hts hown hK hE hml (Nat.le_trans (Nat.le_of_ble_eq_true rfl) hRf) (Nat.le_trans (Nat.le_of_ble_eq_true rfl) hRl) (by omega) (by omega) lab w y P C A9 n9 sp rn tt fq ac cK cov K F w1 l1 mf en td st E hlt hZ hy9 (fun w5 H locs ls hZ5 hy5 hW hl => ?_) 1 _ _ _ (by decide) hW (lv_sub hl [0, 1, 2] rfl)
          exact ih sp rn tt (gPf C ac fq) (gPa C ac) cK cov K F cp w5 l1 mf en td st E _ _ M S M9 S9 H locs ls (by have h1 := gPf_me (K := K) hC8 hac hlt (320 - fb_ct cov 320); have h2 : gPf C ac fq = fq + 1 := if_pos (by omega); have h3 : gPa C ac = 0 := if_pos (by omega); unfold gMe at hfuel ⊢; rw [h2, h3, List.length_drop]; omega) hgo hmo hI2 hcv hKd hcK hZ5 hy5 (by omega) (by omega) hrn hsp hW hl
        · have hac9 : ac < C.length := by omega
          have hnx : gNx C ac = ac + 1 := if_pos hac9
          have x_1 : g_ex (fun q => q = y) w1 w1 := g_ex.rf
          refine lv_aload_n hx hb dX3_goOn_59 rfl (lv_at hl 0 rfl) ?_
          refine g_get (ci := 10) (v := .int (nI ac)) (C := RX3) (T := TX3) (N := 28) hx hb hts in_X3 hown hK hW hy rfl 22 (by decide) q1906 (fun _ h9 => h9) rfl dX3_goOn_60 ?_
          refine lv_istore_n (lv' := [(3, .int (nI ac)), (0, .ref y), (1, .int (nI n9)), (2, .int (nI sp))]) hx hb dX3_goOn_63 rfl hl (by decide) rfl (fun ls hl => ?_)
          refine lv_aload_n hx hb dX3_goOn_64 rfl (lv_at hl 1 rfl) ?_
          refine lv_dup hx hb dX3_goOn_65 rfl ?_
          refine g_get (ci := 10) (v := .int (nI ac)) (C := RX3) (T := TX3) (N := 28) hx hb hts in_X3 hown hK hW hy rfl 22 (by decide) q1906 (fun _ h9 => h9) rfl dX3_goOn_66 ?_
          refine lv_iconst (v := 1) hx hb dX3_goOn_69 (by decide) ?_
          refine lv_iadd hx hb dX3_goOn_70 ?_
          refine g_topi (y := nI (ac + 1)) (nI_1 ac) ?_
          refine g_putf (ci := 10) (v := .int (nI (ac + 1))) (ty := .int) (C := RX3) (T := TX3) (N := 28) hx hb hts in_X3 tyX3 tyX3_ok nmX3 hown hK hW hy rfl 22 (by decide) q1906 (fun _ h9 => h9) rfl (by decide +kernel) rfl rfl (Nat.le_of_ble_eq_true rfl) dX3_goOn_71 (fun H locs hW => ?_)
          obtain ⟨w_2, ew_2⟩ : ∃ z__, z__ = g_put w1 y (.inr (10, mO mf (nI P.length) (nI C.length) (en) (td) (st) (nI rn) (lN tt) (nI K.length) (nI fq) (nI (ac + 1)) (nI F.length) (0))) := ⟨_, rfl⟩
          have hW := g_W.ren hW ew_2 rfl
          have h_3 : g_at w_2 y (.inr (10, mO mf (nI P.length) (nI C.length) (en) (td) (st) (nI rn) (lN tt) (nI K.length) (nI fq) (nI (ac + 1)) (nI F.length) (0))) := by rw [ew_2]; exact g_at.put_self hy.1
          have x_4 : g_ex (fun q => q = y) w1 w_2 := by rw [ew_2]; exact x_1.put (fun hz9 => rfl)
          have hZ1 := hZ.obj (rn2 := rn) (tt2 := tt) (fq2 := fq) (ac2 := ac + 1) h_3 x_4 hb9.2.1 hb9.2.2.1 (by omega) (by omega)
          have hz1 := hy9.tr (hZ.zobj x_4)
          obtain ⟨f5, f6, f7, a5, a6, a7, -, hCj⟩ := id hZ1.2.2.2.2.1
          obtain ⟨⟨e5, e6, e7⟩, k1, k2, k3⟩ := hCj ac hac9
          obtain ⟨f19, a19, hk1, hk2, hk3, hk4⟩ := id hZ1.2.2.2.2.2.2.2.1
          obtain ⟨t9, et1, et2⟩ := hk4 fq hlt
          rw [← eq1] at et2
          refine lv_aload_n hx hb dX3_goOn_74 rfl (lv_at hl 1 rfl) ?_
          refine g_get (ci := 10) (v := .ref (mf 5)) (C := RX3) (T := TX3) (N := 28) hx hb hts in_X3 hown hK hW hZ1.1 rfl 5 (by decide) q1889 (fun _ h9 => h9) rfl dX3_goOn_75 ?_
          refine lv_iload_n hx hb dX3_goOn_78 rfl (lv_at hl 0 rfl) ?_
          refine g_iald (i := ac) hx hb hK hW a5 (by omega) (by decide) dX3_goOn_79 ?_
          rw [e5]
          refine lv_aload_n hx hb dX3_goOn_80 rfl (lv_at hl 1 rfl) ?_
          refine g_get (ci := 10) (v := .ref (mf 6)) (C := RX3) (T := TX3) (N := 28) hx hb hts in_X3 hown hK hW hZ1.1 rfl 6 (by decide) q1890 (fun _ h9 => h9) rfl dX3_goOn_81 ?_
          refine lv_iload_n hx hb dX3_goOn_84 rfl (lv_at hl 0 rfl) ?_
          refine g_iald (i := ac) hx hb hK hW a6 (by omega) (by decide) dX3_goOn_85 ?_
          rw [e6]
          refine lv_aload_n hx hb dX3_goOn_86 rfl (lv_at hl 1 rfl) ?_
          refine g_get (ci := 10) (v := .ref (mf 7)) (C := RX3) (T := TX3) (N := 28) hx hb hts in_X3 hown hK hW hZ1.1 rfl 7 (by decide) q1891 (fun _ h9 => h9) rfl dX3_goOn_87 ?_
          refine lv_iload_n hx hb dX3_goOn_90 rfl (lv_at hl 0 rfl) ?_
          refine g_iald (i := ac) hx hb hK hW a7 (by omega) (by decide) dX3_goOn_91 ?_
          rw [e7]
          refine lv_aload_n hx hb dX3_goOn_92 rfl (lv_at hl 1 rfl) ?_
          refine g_get (ci := 10) (v := .ref (mf 19)) (C := RX3) (T := TX3) (N := 28) hx hb hts in_X3 hown hK hW hZ1.1 rfl 19 (by decide) q1903 (fun _ h9 => h9) rfl dX3_goOn_93 ?_
          refine lv_aload_n hx hb dX3_goOn_96 rfl (lv_at hl 1 rfl) ?_
          refine g_get (ci := 10) (v := .int (nI fq)) (C := RX3) (T := TX3) (N := 28) hx hb hts in_X3 hown hK hW hZ1.1 rfl 21 (by decide) q1905 (fun _ h9 => h9) rfl dX3_goOn_97 ?_
          refine g_aldSt (n := cK) (i := fq) (y := t9) hx hb hK hW a19 (by omega) (by omega) et1 dX3_goOn_100 ?_
          refine g_calli (va_runS (As := [.int (nI (C.getD ac (0, 0, 0)).1), .int (nI (C.getD ac (0, 0, 0)).2.1), .int (nI (C.getD ac (0, 0, 0)).2.2), .ref t9]) (rest := []) ⟨hx, hb, hml, hown, hts⟩ (mtX3_applies l D w_2 H.size (C.getD ac (0, 0, 0)).1 (C.getD ac (0, 0, 0)).2.1 (C.getD ac (0, 0, 0)).2.2 t9 q1 k1 k2 k3 et2 hq8) (va_cwS 4 hts (lw_S q2091 q2092 q47 q2093) rfl rfl rfl (by decide +kernel) ⟨Nat.le_trans (Nat.le_of_ble_eq_true rfl) hRf, Nat.le_trans (Nat.le_of_ble_eq_true rfl) hRl⟩) (g_preS hW hK hE) rfl rfl hl.1 rfl (lv_room (Nat.le_of_ble_eq_true rfl)) dX3_goOn_101 ⟨?_, ?_⟩) hW (fun r_ u_ H locs hp hW => ?_)
          · (try simp only [headSpec]); omega
          · (try simp only [headSpec]); omega
          obtain ⟨er, rfl⟩ := hp
          subst er
          by_cases hq9 : eFits (C.getD ac (0, 0, 0)).1 (C.getD ac (0, 0, 0)).2.1 (C.getD ac (0, 0, 0)).2.2 q1 = true
          · rw [if_pos hq9]
            refine lv_if_eq (tgt := 145) hx hb dX3_goOn_104 (by decide) (fun hz => absurd hz (by decide)) (fun _ => ?_)
            rw [if_pos (gFit_1 hac9 hq9)] at hgo hmo
            have hxs : sDg (gEd C ac q1) := eAct_ok hq8 hq9 k3
            have hst5 := mOut_steps (P := P) (xs := (gEd C ac q1))
            have hmm := mLoop_mono (P := P) (C := C) (b := n9) k (cvO cov (mOut P (gEd C ac q1)).2.2.2) (tkL (tkB P (gEd C ac q1) cov) K (gEd C ac q1)) (gPf C (ac + 1) fq) (gPa C (ac + 1)) (zFk P (gEd C ac q1) F) (zC (tkB P (gEd C ac q1) cov) K.length cK) (sp + 1) (M9 + (aC (C.getD ac (0, 0, 0)).1 + mkC P (gEd C ac q1) cov K.length cK F)) (S9 + (70 + mkS P (gEd C ac q1) cov K.length cK F))
            rw [hmo] at hmm
            obtain ⟨hmm3, hmm4⟩ := hmm
            unfold mkC at hmm3
            unfold mkS at hmm4
            refine lv_aload_n hx hb dX3_goOn_107 rfl (lv_at hl 1 rfl) ?_
            refine lv_aload_n hx hb dX3_goOn_108 rfl (lv_at hl 1 rfl) ?_
            refine g_get (ci := 10) (v := .ref (mf 5)) (C := RX3) (T := TX3) (N := 28) hx hb hts in_X3 hown hK hW hZ1.1 rfl 5 (by decide) q1889 (fun _ h9 => h9) rfl dX3_goOn_109 ?_
            refine lv_iload_n hx hb dX3_goOn_112 rfl (lv_at hl 0 rfl) ?_
            refine g_iald (i := ac) hx hb hK hW a5 (by omega) (by decide) dX3_goOn_113 ?_
            rw [e5]
            refine lv_aload_n hx hb dX3_goOn_114 rfl (lv_at hl 1 rfl) ?_
            refine g_get (ci := 10) (v := .ref (mf 6)) (C := RX3) (T := TX3) (N := 28) hx hb hts in_X3 hown hK hW hZ1.1 rfl 6 (by decide) q1890 (fun _ h9 => h9) rfl dX3_goOn_115 ?_
            refine lv_iload_n hx hb dX3_goOn_118 rfl (lv_at hl 0 rfl) ?_
            refine g_iald (i := ac) hx hb hK hW a6 (by omega) (by decide) dX3_goOn_119 ?_
            rw [e6]
            refine lv_aload_n hx hb dX3_goOn_120 rfl (lv_at hl 1 rfl) ?_
            refine g_get (ci := 10) (v := .ref (mf 7)) (C := RX3) (T := TX3) (N := 28) hx hb hts in_X3 hown hK hW hZ1.1 rfl 7 (by decide) q1891 (fun _ h9 => h9) rfl dX3_goOn_121 ?_
            refine lv_iload_n hx hb dX3_goOn_124 rfl (lv_at hl 0 rfl) ?_
            refine g_iald (i := ac) hx hb hK hW a7 (by omega) (by decide) dX3_goOn_125 ?_
            rw [e7]
            refine lv_aload_n hx hb dX3_goOn_126 rfl (lv_at hl 1 rfl) ?_
            refine g_get (ci := 10) (v := .ref (mf 19)) (C := RX3) (T := TX3) (N := 28) hx hb hts in_X3 hown hK hW hZ1.1 rfl 19 (by decide) q1903 (fun _ h9 => h9) rfl dX3_goOn_127 ?_
            refine lv_aload_n hx hb dX3_goOn_130 rfl (lv_at hl 1 rfl) ?_
            refine g_get (ci := 10) (v := .int (nI fq)) (C := RX3) (T := TX3) (N := 28) hx hb hts in_X3 hown hK hW hZ1.1 rfl 21 (by decide) q1905 (fun _ h9 => h9) rfl dX3_goOn_131 ?_
            refine g_aldSt (n := cK) (i := fq) (y := t9) hx hb hK hW a19 (by omega) (by omega) et1 dX3_goOn_134 ?_
            refine g_callq (va_runS (As := [.int (nI (C.getD ac (0, 0, 0)).1), .int (nI (C.getD ac (0, 0, 0)).2.1), .int (nI (C.getD ac (0, 0, 0)).2.2), .ref t9]) (rest := [.ref y]) ⟨hx, hb, hml, hown, hts⟩ (mtX3_applied l D w_2 H.size (C.getD ac (0, 0, 0)).1 (C.getD ac (0, 0, 0)).2.1 (C.getD ac (0, 0, 0)).2.2 t9 q1 k1 k2 k3 et2 hq8 hq9) (va_cwS 4 hts (lw_S q2097 q2098 q47 q2099) rfl rfl rfl (by decide +kernel) ⟨Nat.le_trans (Nat.le_of_ble_eq_true rfl) hRf, Nat.le_trans (Nat.le_of_ble_eq_true rfl) hRl⟩) (g_preS hW hK hE) rfl rfl hl.1 rfl (lv_room (Nat.le_of_ble_eq_true rfl)) dX3_goOn_135 ⟨?_, ?_⟩) hW (fun r_ u2 H locs hp hW => ?_)
            · (try simp only [headSpec]); omega
            · (try simp only [headSpec]); omega
            obtain ⟨s9, er, fs9, hs9, hx9⟩ := hp
            subst er
            have hs9 : g_Str D u2 s9 (txt (gEd C ac q1)) := hs9
            have hZ2 := hZ1.keep (lab' := lb l1 w_2 0) hx9 g_mut.non lb_in (fun _ _ z => z.elim)
            have hz2 := hz1.tr (zCh.nw hx9 0)
            refine g_calli (va_runV (As := [.ref s9]) (rest := []) ⟨hx, hb, hml, hown, hts⟩ (mtX3_takes l D u2 H.size y mf _ P C A9 cov K fq (ac + 1) F rn tt cK en td st E 0 hZ2 s9 (gEd C ac q1) hs9 hxs hcv (by omega) (by omega) (fun h1 h2 => hI.2.2.1.lt hP16 h1 h2) (by omega) (by omega)) (cwV 1 hts (lw_V q2033 q2035 qs25 q47 q2036) rfl rfl rfl (by decide +kernel) ⟨Nat.le_trans (Nat.le_of_ble_eq_true rfl) hRf, Nat.le_trans (Nat.le_of_ble_eq_true rfl) hRl⟩) (g_preV hW hK hE hZ2.1 rfl) rfl rfl hl.1 rfl (lv_room (Nat.le_of_ble_eq_true rfl)) dX3_goOn_138 ⟨?_, ?_⟩) hW (fun r_ u3 H locs hp hW => ?_)
            · (try simp only [headSpec]); omega
            · (try simp only [headSpec]); omega
            obtain ⟨er, l3, mf3, en3, td3, st3, E3, hZ3, hz3⟩ := hp
            subst er
            refine lv_pop hx hb dX3_goOn_141 rfl ?_
            refine lv_iinc (v := nI (sp + 1)) (lv' := [(2, .int (nI (sp + 1))), (3, .int (nI ac)), (0, .ref y), (1, .int (nI n9))]) hx hb dX3_goOn_142 hl (k := 3) rfl (nI_1 sp) (by decide) rfl (fun ls hl => ?_)
            rw [tkL_drop hfq, gPq_drop, tkF_z] at hgo
            have hI2 := hI.take (gEd C ac q1) cp
            rw [tkL_drop hfq, tkF_z] at hI2
            have hI3 := hI2.pq (C := C) (ac := ac + 1)
            rw [gPq_drop] at hI3
            have hmt := gMe_take (P := P) (xs := (gEd C ac q1)) (cov := cov) (Q := K.drop fq)
            rw [tkL_drop hfq] at hmt
            have hln := tkL_len (b := tkB P (gEd C ac q1) cov) (K := K) (xs := (gEd C ac q1))
            have hlt3 : fq < (tkL (tkB P (gEd C ac q1) cov) K (gEd C ac q1)).length := by omega
            refine lpX3_goPop (D := D) hx hb hts hown hK hE hml (Nat.le_trans (Nat.le_of_ble_eq_true rfl) hRf) (Nat.le_trans (Nat.le_of_ble_eq_true rfl) hRl) (by omega) (by omega) lab w y P C A9 n9 (sp + 1) (rn + 1) (tt + (mOut P (gEd C ac q1)).2.2.1) fq (ac + 1) (zC (tkB P (gEd C ac q1) cov) K.length cK) (cvO cov (mOut P (gEd C ac q1)).2.2.2) (tkL (tkB P (gEd C ac q1) cov) K (gEd C ac q1)) (zFk P (gEd C ac q1) F) u3 l3 mf3 en3 td3 st3 E3 hlt3 hZ3 (hz2.tr hz3) (fun w5 H locs ls hZ5 hy5 hW hl => ?_) 1 _ _ _ (by decide) hW (lv_sub hl [2, 3, 0] rfl)
            exact ih (sp + 1) (rn + 1) (tt + (mOut P (gEd C ac q1)).2.2.1) (gPf C (ac + 1) fq) (gPa C (ac + 1)) (zC (tkB P (gEd C ac q1) cov) K.length cK) (cvO cov (mOut P (gEd C ac q1)).2.2.2) (tkL (tkB P (gEd C ac q1) cov) K (gEd C ac q1)) (zFk P (gEd C ac q1) F) _ w5 l3 mf3 en3 td3 st3 E3 _ _ _ _ _ _ H locs ls (by have h1 := gPf_me (C := C) (K := (tkL (tkB P (gEd C ac q1) cov) K (gEd C ac q1))) (ac := ac + 1) hC8 hac9 hlt3 (320 - fb_ct (cvO cov (mOut P (gEd C ac q1)).2.2.2) 320); unfold gMe at hfuel ⊢; omega) hgo hmo hI3 (hcv.or (eOk.es (mOut_edge hP16))) (tkL_all hKd hxs) (zC_le hcK hK3) hZ5 hy5 (by unfold mkC; omega) (by unfold mkS; omega) (by omega) (by omega) hW hl
          · rw [if_neg hq9]
            refine lv_if_eq (tgt := 145) hx hb dX3_goOn_104 (by decide) (fun _ => ?_) (fun hz => absurd rfl hz)
            rw [if_neg (gFit_0 hq9), hnx] at hgo hmo
            rw [gPq_drop] at hgo
            have hI2 := hI.pq (C := C) (ac := ac + 1)
            rw [gPq_drop] at hI2
            refine lpX3_goPop (D := D) hx hb hts hown hK hE hml (Nat.le_trans (Nat.le_of_ble_eq_true rfl) hRf) (Nat.le_trans (Nat.le_of_ble_eq_true rfl) hRl) (by omega) (by omega) lab w y P C A9 n9 sp rn tt fq (ac + 1) cK cov K F w_2 l1 mf en td st E hlt hZ1 hz1 (fun w5 H locs ls hZ5 hy5 hW hl => ?_) 1 _ _ _ (by decide) hW (lv_sub hl [1, 2, 3] rfl)
            exact ih sp rn tt (gPf C (ac + 1) fq) (gPa C (ac + 1)) cK cov K F cp w5 l1 mf en td st E _ _ M S M9 S9 H locs ls (by have h1 := gPf_me (C := C) (K := K) (ac := ac + 1) hC8 hac9 hlt (320 - fb_ct cov 320); unfold gMe at hfuel ⊢; omega) hgo hmo hI2 hcv hKd hcK hZ5 hy5 (by omega) (by omega) hrn hsp hW hl
