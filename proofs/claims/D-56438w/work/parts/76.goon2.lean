/-! ShrinkYard.goOn: its loop *
-/
set_option maxRecDepth 100000
theorem gFit_1 {C : List yC} {ac : Nat} {q : List Nat} (h : ac < C.length) (k : eFits (C.getD ac (0, 0, 0)).1 (C.getD ac (0, 0, 0)).2.1 (C.getD ac (0, 0, 0)).2.2 q = true) : gFit C ac q = true := by unfold gFit; rw [decide_eq_true h, k]; rfl
theorem gFit_0 {C : List yC} {ac : Nat} {q : List Nat} (k : ¬ eFits (C.getD ac (0, 0, 0)).1 (C.getD ac (0, 0, 0)).2.1 (C.getD ac (0, 0, 0)).2.2 q = true) : gFit C ac q ≠ true := by unfold gFit; rw [Bool.eq_false_iff.mpr k, Bool.and_false]; decide
theorem gFit_2 {C : List yC} {ac : Nat} {q : List Nat} (h : ¬ ac < C.length) : gFit C ac q ≠ true := by unfold gFit; rw [decide_eq_false h, Bool.false_and]; decide
theorem tkL_pos {b : Bool} {Q : List (List Nat)} {xs : List Nat} (h : 0 < Q.length) : 0 < (tkL b Q xs).length := by rw [tkL_len]; omega
theorem ne_of_pos {α : Type} {xs : List α} (h : 0 < xs.length) : xs ≠ [] := fun e => by rw [e] at h; exact Nat.lt_irrefl 0 h
set_option maxHeartbeats 4000000 in
set_option maxRecDepth 100000 in
/-- ShrinkYard.goOn: its loop -/
theorem lpX1_goOn {p : Program} {l : Launch} {e : Env} {R : Room} {s : State} {m : MethodId} {args : Array Value} {below : List Frame} {meth : Method} {c : Code} {Q : State → Prop} {D : va_G} {A : Nat → Prop} (hx : p.tables.exec = Jvm.exec) (hb : c.code = cX1_goOn) (hts : ∀ w ∈ lw_all, w.before args s = true) (hown : s.vm.findClass RX1 = some m.cls) (hK : va_K D gCl (gT D) s) (hE : g_Env D A s) (hml : c.maxLocals = 5) (hRf : 13 ≤ R.frames) (hRl : 327 ≤ R.locals) (lab : Nat → Nat) (w : g_H) (x d da : Nat) (fd : d ∉ w.1) (fda : da ∉ w.1) (rf : Nat → Nat) (P : List mI) (C : List yC) (A9 : Nat → List (List Nat)) (n9 c0 s0 : Nat) (hn9 : n9 ≤ 200) (Z : yR) (hRc : c0 + Z.2.2.2.2.2.2.2.2.2.1 ≤ R.cells) (hRs : s0 + Z.2.2.2.2.2.2.2.2.2.2 ≤ R.slots)
    (kk : ∀ (w2 : g_H) (l2 : Nat → Nat) (cells slots : Nat) (H : Heap) (locs : List Loc) (ls : Array Slot), g_SZ D w2 l2 x rf P C A9 Z.1 Z.2.1 Z.2.2.1 Z.2.2.2.1 Z.2.2.2.2.1 Z.2.2.2.2.2.1 Z.2.2.2.2.2.2.1 Z.2.2.2.2.2.2.2.1 → yCh w lab w2 l2 → cells ≤ c0 + Z.2.2.2.2.2.2.2.2.2.1 → slots ≤ s0 + Z.2.2.2.2.2.2.2.2.2.2 → g_W D A s.heap H locs w2 → lv_has ls 5 [(3, .int (nI Z.2.2.2.2.2.2.2.2.1))] → W p l e R s m args below meth c H locs cells slots Q (F0 m 147 ls [])) :
    ∀ (k : Nat) (sp : Nat) (ac : Nat) (rn : Nat) (tt : Nat) (cov : Nat → Bool) (K : List (List Nat)) (Q9 : List (List Nat)) (F : List yF) (cp : Nat → Nat) (ds : List Nat) (w1 : g_H) (l1 : Nat → Nat) (cells : Nat) (slots : Nat) (M : Nat) (S : Nat) (H : Heap) (locs : List Loc) (ls : Array Slot), gMe cov Q9 ac < k → gLoop P C n9 k cov K Q9 ac F rn tt cp sp M S = Z → yI P cov K Q9 F rn tt → g_SZ D w1 l1 x rf P C A9 cov K Q9 ac F rn tt cp → yCh w lab w1 l1 → g_Dig D w1 d da ds → l1 d = 0 ∧ l1 da = 0 → cells ≤ c0 + M → slots ≤ s0 + S → rn + n9 ≤ sp + 99000 → sp ≤ n9 → g_W D A s.heap H locs w1 → lv_has ls 5 [(0, .ref x), (1, .int (nI n9)), (2, .ref d), (3, .int (nI sp))] → W p l e R s m args below meth c H locs cells slots Q (F0 m 21 ls []) := by
  intro k
  induction k with
  | zero => intro sp ac rn tt cov K Q9 F cp ds w1 l1 cells slots M S H locs ls hfuel hgo hI hS hy hd hld hcl hsl hrn hsp hW hl; exact absurd hfuel (by omega)
  | succ k ih =>
    intro sp ac rn tt cov K Q9 F cp ds w1 l1 cells slots M S H locs ls hfuel hgo hI hS hy hd hld hcl hsl hrn hsp hW hl
    have hac := hS.2.2.2.2.2.2.2.2.2.2.2.2.2
    have hP16 : P.length ≤ 16 := by obtain ⟨-, ⟨_, _, _, h, _⟩, -⟩ := hS; exact h
    have hFl := hI.2.2.1.le
    obtain ⟨hQK, hQin, hK3⟩ := hI.q
    have htt := hI.2.2.2
    have hmo := gLoop_mono (P := P) (C := C) (b := n9) (k + 1) cov K Q9 ac F rn tt cp sp M S
    rw [hgo] at hmo
    obtain ⟨hmo1, hmo2⟩ := hmo
    unfold gLoop at hgo
    obtain ⟨ns, qs, hll, hqs, ⟨c1, c2⟩, -⟩ := hS.que
    obtain ⟨⟨mo5, hat5⟩, -⟩ := id hll
    have hnl : ns.length = Q9.length := by rw [← hll.2.1.1, hqs.1, List.length_map]
    refine lv_aload_n hx hb dX1_goOn_21 rfl (lv_at hl 0 rfl) ?_
    refine g_get (ci := 0) (v := .ref (rf 12)) (C := RX1) (T := TX1) (N := 11) hx hb hts in_X1 hown hK hW hS.1.1 rfl 6 (by decide) q360 (fun _ h9 => h9) rfl dX1_goOn_22 ?_
    refine g_calli (va_runU (As := []) (rest := []) ⟨hx, hb, hml, hown, hts⟩ (mtJ0_isEmpty l D w1 H.size (rf 12) ns qs hll) (va_cwU (owner := "java/util/AbstractCollection") (x := ⟨"java/util/LinkedList", "isEmpty", "()Z"⟩) 0 hts (lw_app (lw_in _ [1578, 1579, 1581, 1081, 35] (by decide +kernel) (by decide +kernel)) (lw_meth q1083)) rfl rfl rfl rfl (by decide +kernel) ⟨Nat.le_trans (Nat.le_of_ble_eq_true rfl) hRf, Nat.le_trans (Nat.le_of_ble_eq_true rfl) hRl⟩) (g_preV hW hK hE hat5 rfl) rfl rfl hl.1 rfl (lv_room (Nat.le_of_ble_eq_true rfl)) dX1_goOn_25 ⟨?_, ?_⟩) hW (fun r_ u_ H locs hp hW => ?_)
    · (try simp only [headSpec]); omega
    · (try simp only [headSpec]); omega
    obtain ⟨er, rfl⟩ := hp
    subst er
    by_cases hq9 : ns.length = 0
    · rw [if_pos hq9]
      refine lv_if_ne (tgt := 147) hx hb dX1_goOn_28 (by decide) (fun _ => ?_) (fun hz => absurd (by first | exact hz | exact Classical.not_not.mp hz) (by decide))
      rw [if_pos (Or.inl (by omega))] at hgo
      exact kk w1 l1 _ _ H locs ls (by rw [← hgo]; exact hS) hy (by omega) (by omega) hW (by rw [← hgo]; exact lv_sub hl [3] rfl)
    · rw [if_neg hq9]
      refine lv_if_ne (tgt := 147) hx hb dX1_goOn_28 (by decide) (fun hz => absurd rfl hz) (fun _ => ?_)
      have hQ0 : 0 < Q9.length := by omega
      refine lv_iload_n hx hb dX1_goOn_31 rfl (lv_at hl 3 rfl) ?_
      refine lv_iload_n hx hb dX1_goOn_32 rfl (lv_at hl 1 rfl) ?_
      refine g_icmp_ge (x := sp) (y := n9) (tgt := 147) hx hb (by omega) (by omega) dX1_goOn_33 (by decide) (fun hc1 => ?_) (fun hc1 => ?_)
      · rw [if_pos (Or.inr (by omega))] at hgo
        exact kk w1 l1 _ _ H locs ls (by rw [← hgo]; exact hS) hy (by omega) (by omega) hW (by rw [← hgo]; exact lv_sub hl [3] rfl)
      · rw [if_neg (by omega)] at hgo
        obtain ⟨q1, eq1⟩ : ∃ z__, z__ = Q9.headD [] := ⟨_, rfl⟩
        rw [← eq1] at hgo
        have hq8 : sDg q1 := by
          obtain ⟨qa, qb, eQ⟩ := g_consN hQ0
          obtain ⟨-, -, -, -, -, -, ⟨_, _, _, hKd⟩, -⟩ := hS
          rw [eq1, eQ]
          exact hKd _ (hQin _ (by rw [eQ]; exact List.mem_cons_self))
        obtain ⟨car, cs, hal, ⟨hcl9, hc8, hcs⟩, -, -⟩ := hS.chgs hK (g_e0 hE hW)
        obtain ⟨mo9, hat9, -⟩ := id hal
        refine lv_aload_n hx hb dX1_goOn_36 rfl (lv_at hl 0 rfl) ?_
        refine g_get (ci := 0) (v := .int (nI ac)) (C := RX1) (T := TX1) (N := 11) hx hb hts in_X1 hown hK hW hS.1.1 rfl 10 (by decide) q364 (fun _ h9 => h9) rfl dX1_goOn_37 ?_
        refine lv_aload_n hx hb dX1_goOn_40 rfl (lv_at hl 0 rfl) ?_
        refine g_get (ci := 0) (v := .ref (rf 3)) (C := RX1) (T := TX1) (N := 11) hx hb hts in_X1 hown hK hW hS.1.1 rfl 1 (by decide) q355 (fun _ h9 => h9) rfl dX1_goOn_41 ?_
        refine g_callFi (va_runF (cC := D.1 11) (hK.1 11 _ rfl).2 (As := []) (rest := [.int (nI ac)]) ⟨hx, hb, hml, hown, hts⟩ (mtJ2_size l D w1 H.size (rf 3) car (cp 3) cs hal) (va_cwF 0 hts (lw_app (lw_in _ [438, 441, 443, 37] (by decide +kernel) (by decide +kernel)) (lw_meth q445)) rfl rfl rfl (fw_24 hE) (by decide +kernel) ⟨Nat.le_trans (Nat.le_of_ble_eq_true rfl) hRf, Nat.le_trans (Nat.le_of_ble_eq_true rfl) hRl⟩) (g_preV hW hK hE hat9 rfl) rfl rfl hl.1 rfl (lv_room (Nat.le_of_ble_eq_true rfl)) dX1_goOn_44 ⟨?_, ?_⟩) hW (fun r_ u_ H locs hp hW => ?_)
        · (try simp only [headSpec]); omega
        · (try simp only [headSpec]); omega
        obtain ⟨er, rfl⟩ := hp
        subst er
        refine g_icmp_ge (x := ac) (y := cs.length) (tgt := 111) hx hb (by omega) (by omega) dX1_goOn_49 (by decide) (fun hc2 => ?_) (fun hc2 => ?_)
        · have hn : ¬ ac < C.length := by omega
          rw [if_neg (gFit_2 hn)] at hgo
          have hnx : gNx C ac = ac := if_neg hn
          rw [hnx] at hgo
          have hldx := hld
          refine lpX1_goPop (D := D) hx hb hts hown hK hE hml (Nat.le_trans (Nat.le_of_ble_eq_true rfl) hRf) (Nat.le_trans (Nat.le_of_ble_eq_true rfl) hRl) (by omega) (by omega) lab w x d da fd fda rf P C A9 n9 sp rn tt ac cov K Q9 F cp w1 l1 hQ0 hS hy (fun w5 l5 H locs ls hS5 hy5 hl5 hx5 hW hl => ?_) 1 _ _ _ (by decide) hW (lv_sub hl [0, 1, 2, 3] rfl)
          have hyM : ∀ y, l1 y = 0 → ¬ yM l1 y := fun y h z => by unfold yM at z; omega
          have hd5 := hd.ex hx5 (hyM _ hldx.1) (hyM _ hldx.2)
          have hld5 : l5 d = 0 ∧ l5 da = 0 := ⟨(hl5 _ hd.1.1).trans hldx.1, (hl5 _ (by obtain ⟨_, h, -⟩ := hd.2.1; exact h.1)).trans hldx.2⟩
          exact ih sp (gPa C ac) rn tt cov K (gPq C ac Q9) F cp ds w5 l5 _ _ M S H locs ls (by have h1 := gPq_me (C := C) (Q := Q9) (ac := ac) (by omega) (by omega) (ne_of_pos hQ0) (320 - fb_ct cov 320); have h2 : ac = C.length := (by omega); have h3 := gPq_1 (C := C) (Q := Q9) h2; unfold gMe at hfuel ⊢; rw [h3.1, h3.2, List.length_tail]; omega) hgo hI.pq hS5 hy5 hd5 hld5 (by omega) (by omega) (by omega) (by omega) hW hl
        · have hac9 : ac < C.length := by omega
          have hnx : gNx C ac = ac + 1 := if_pos hac9
          refine lpX1_goEd (D := D) hx hb hts hown hK hE hml (Nat.le_trans (Nat.le_of_ble_eq_true rfl) hRf) (Nat.le_trans (Nat.le_of_ble_eq_true rfl) hRl) (by omega) (by omega) lab w x d da fd fda rf P C A9 n9 sp rn tt ac cov K Q9 F cp w1 l1 ds q1 hac9 eq1.symm hQ0 hq8 hS hy hd hld (fun w3 H locs ls hS3 hy3 hd3 hin3 hok hW hl => ?_) 1 _ _ _ (by decide) hW (lv_sub hl [0, 1, 2, 3] rfl)
          have hldx := hld
          by_cases hq9 : eFits (C.getD ac (0, 0, 0)).1 (C.getD ac (0, 0, 0)).2.1 (C.getD ac (0, 0, 0)).2.2 q1 = true
          · rw [if_pos hq9]
            refine lv_if_eq (tgt := 101) hx hb dX1_goOn_88 (by decide) (fun hz => absurd hz (by decide)) (fun _ => ?_)
            rw [if_pos (gFit_1 hac9 hq9)] at hgo
            rw [if_pos hq9] at hd3
            have hxs := hok hq9
            have hst5 := mOut_steps (P := P) (xs := (gEd C ac q1))
            have hmo := gLoop_mono (P := P) (C := C) (b := n9) k (cvO cov (mOut P (gEd C ac q1)).2.2.2) (tkL (tkB P (gEd C ac q1) cov) K (gEd C ac q1)) (gPq C (ac + 1) (tkL (tkB P (gEd C ac q1) cov) Q9 (gEd C ac q1))) (gPa C (ac + 1)) (tkF P (gEd C ac q1) F cp) (rn + 1) (tt + (mOut P (gEd C ac q1)).2.2.1) (tkC P (gEd C ac q1) cov K F cp) (sp + 1) (M + tkM P (gEd C ac q1) cov K F cp) (S + tkS P (gEd C ac q1) cov K F cp)
            rw [hgo] at hmo
            obtain ⟨hmo3, hmo4⟩ := hmo
            refine lv_aload_n hx hb dX1_goOn_91 rfl (lv_at hl 0 rfl) ?_
            refine lv_aload_n hx hb dX1_goOn_92 rfl (lv_at hl 2 rfl) ?_
            refine g_calli (va_runV (As := [.ref d]) (rest := []) ⟨hx, hb, hml, hown, hts⟩ (mtX1_take_2 l D w3 H.size l1 x ac rn tt rf P C A9 cov K Q9 F cp hS3 d da (gEd C ac q1) hxs hd3 hldx (by omega) hQK (by omega) (by omega) (by omega)) (cwV 1 hts (lw_V q1183 q1185 qs8 q34 q1186) rfl rfl rfl (by decide +kernel) ⟨Nat.le_trans (Nat.le_of_ble_eq_true rfl) hRf, Nat.le_trans (Nat.le_of_ble_eq_true rfl) hRl⟩) (g_preV hW hK hE hS3.1.1 rfl) rfl rfl hl.1 rfl (lv_room (Nat.le_of_ble_eq_true rfl)) dX1_goOn_93 ⟨?_, ?_⟩) hW (fun r_ u4 H locs hp hW => ?_)
            · (try simp only [headSpec]); omega
            · (try simp only [headSpec]); omega
            obtain ⟨er, l4, hS4, hy4⟩ := hp
            subst er
            have hyA := hy3.tr hy4
            have hyM : ∀ y, l1 y = 0 → ¬ yM l1 y := fun y h z => by unfold yM at z; omega
            have hd4 := hd3.ex hy4.2 (hyM _ hldx.1) (hyM _ hldx.2)
            have hldx : l4 d = 0 ∧ l4 da = 0 := ⟨(hy4.1 _ hd3.1.1).trans hldx.1, (hy4.1 _ (by obtain ⟨_, h, -⟩ := hd3.2.1; exact h.1)).trans hldx.2⟩
            refine lv_istore (lv' := [(4, .int ((if tkB P (gEd C ac q1) cov = true then 1 else 0))), (0, .ref x), (1, .int (nI n9)), (2, .ref d), (3, .int (nI sp))]) hx hb dX1_goOn_96 hl (by decide) rfl (fun ls hl => ?_)
            refine lv_iinc (v := nI (sp + 1)) (lv' := [(3, .int (nI (sp + 1))), (4, .int ((if tkB P (gEd C ac q1) cov = true then 1 else 0))), (0, .ref x), (1, .int (nI n9)), (2, .ref d)]) hx hb dX1_goOn_98 hl (k := 4) rfl (nI_1 sp) (by decide) rfl (fun ls hl => ?_)
            have x_1 : g_ex (fun q => q = x) u4 u4 := g_ex.rf
            refine lv_aload_n hx hb dX1_goOn_101 rfl (lv_at hl 2 rfl) ?_
            refine lv_dup hx hb dX1_goOn_102 rfl ?_
            refine g_get (ci := 0) (v := .int (nI ac)) (C := RX1) (T := TX1) (N := 11) hx hb hts in_X1 hown hK hW hS4.1.1 rfl 10 (by decide) q364 (fun _ h9 => h9) rfl dX1_goOn_103 ?_
            refine lv_iconst (v := 1) hx hb dX1_goOn_106 (by decide) ?_
            refine lv_iadd hx hb dX1_goOn_107 ?_
            refine g_topi (y := nI (ac + 1)) (nI_1 ac) ?_
            refine g_putf (ci := 0) (v := .int (nI (ac + 1))) (ty := .int) (C := RX1) (T := TX1) (N := 11) hx hb hts in_X1 tyX1 tyX1_ok nmX1 hown hK hW hS4.1.1 rfl 10 (by decide) q364 (fun _ h9 => h9) rfl (by decide +kernel) rfl rfl (Nat.le_of_ble_eq_true rfl) dX1_goOn_108 (fun H locs hW => ?_)
            obtain ⟨w_2, ew_2⟩ : ∃ z__, z__ = g_put u4 x (.inr (0, [.ref (rf 2), .ref (rf 3), .ref (rf 4), .ref (rf 9), .ref (rf 10), .ref (rf 11), .ref (rf 12), .ref (rf 13), .int (nI (rn + 1)), .long (lN (tt + (mOut P (gEd C ac q1)).2.2.1)), .int (nI (ac + 1))])) := ⟨_, rfl⟩
            have hW := g_W.ren hW ew_2 rfl
            have h_3 : g_at w_2 x (.inr (0, [.ref (rf 2), .ref (rf 3), .ref (rf 4), .ref (rf 9), .ref (rf 10), .ref (rf 11), .ref (rf 12), .ref (rf 13), .int (nI (rn + 1)), .long (lN (tt + (mOut P (gEd C ac q1)).2.2.1)), .int (nI (ac + 1))])) := by rw [ew_2]; exact g_at.put_self hS4.1.1.1
            have x_4 : g_ex (fun q => q = x) u4 w_2 := by rw [ew_2]; exact x_1.put (fun hz9 => rfl)
            have hS5 := hS4.obj (rn2 := rn + 1) (tt2 := tt + (mOut P (gEd C ac q1)).2.2.1) (ac2 := ac + 1) h_3 x_4 (by omega) (by omega) (by omega)
            have hx1 : l4 x = 1 := hS4.1.2
            have hy5 : yCh w lab w_2 l4 := ⟨hyA.1, hyA.2.trM x_4 (fun z hz hq => by unfold yM; rw [← hyA.1 z hz, hq, hx1]; omega)⟩
            have hdz := hd4.ex x_4 (fun z => by rw [z] at hldx; omega) (fun z => by rw [z] at hldx; omega)
            have hI2 := hI.take (gEd C ac q1) cp
            have hQp : 0 < (tkL (tkB P (gEd C ac q1) cov) Q9 (gEd C ac q1)).length := tkL_pos hQ0
            have hmt := gMe_take (P := P) (xs := (gEd C ac q1)) (cov := cov) (Q := Q9)
            refine lpX1_goPop (D := D) hx hb hts hown hK hE hml (Nat.le_trans (Nat.le_of_ble_eq_true rfl) hRf) (Nat.le_trans (Nat.le_of_ble_eq_true rfl) hRl) (by omega) (by omega) lab w x d da fd fda rf P C A9 n9 (sp + 1) (rn + 1) (tt + (mOut P (gEd C ac q1)).2.2.1) (ac + 1) (cvO cov (mOut P (gEd C ac q1)).2.2.2) (tkL (tkB P (gEd C ac q1) cov) K (gEd C ac q1)) (tkL (tkB P (gEd C ac q1) cov) Q9 (gEd C ac q1)) (tkF P (gEd C ac q1) F cp) (tkC P (gEd C ac q1) cov K F cp) w_2 l4 hQp hS5 hy5 (fun w5 l5 H locs ls hS5 hy5 hl5 hx5 hW hl => ?_) 1 _ _ _ (by decide) hW (lv_sub hl [2, 3, 4, 0] rfl)
            have hyM : ∀ y, l4 y = 0 → ¬ yM l4 y := fun y h z => by unfold yM at z; omega
            have hd5 := hdz.ex hx5 (hyM _ hldx.1) (hyM _ hldx.2)
            have hld5 : l5 d = 0 ∧ l5 da = 0 := ⟨(hl5 _ hdz.1.1).trans hldx.1, (hl5 _ (by obtain ⟨_, h, -⟩ := hdz.2.1; exact h.1)).trans hldx.2⟩
            exact ih (sp + 1) (gPa C (ac + 1)) (rn + 1) (tt + (mOut P (gEd C ac q1)).2.2.1) (cvO cov (mOut P (gEd C ac q1)).2.2.2) (tkL (tkB P (gEd C ac q1) cov) K (gEd C ac q1)) (gPq C (ac + 1) (tkL (tkB P (gEd C ac q1) cov) Q9 (gEd C ac q1))) (tkF P (gEd C ac q1) F cp) (tkC P (gEd C ac q1) cov K F cp) (gEd C ac q1) w5 l5 _ _ (M + tkM P (gEd C ac q1) cov K F cp) (S + tkS P (gEd C ac q1) cov K F cp) H locs ls (by have h1 := gPq_me (C := C) (Q := (tkL (tkB P (gEd C ac q1) cov) Q9 (gEd C ac q1))) (ac := ac + 1) (by omega) (by omega) (ne_of_pos hQp) (320 - fb_ct (cvO cov (mOut P (gEd C ac q1)).2.2.2) 320); unfold gMe at hfuel ⊢; omega) hgo hI2.pq hS5 hy5 hd5 hld5 (by omega) (by omega) (by omega) (by omega) hW hl
          · rw [if_neg hq9]
            refine lv_if_eq (tgt := 101) hx hb dX1_goOn_88 (by decide) (fun _ => ?_) (fun hz => absurd rfl hz)
            rw [if_neg (gFit_0 hq9), hnx] at hgo
            rw [if_neg hq9] at hd3
            have x_5 : g_ex (fun q => q = x) w3 w3 := g_ex.rf
            refine lv_aload_n hx hb dX1_goOn_101 rfl (lv_at hl 0 rfl) ?_
            refine lv_dup hx hb dX1_goOn_102 rfl ?_
            refine g_get (ci := 0) (v := .int (nI ac)) (C := RX1) (T := TX1) (N := 11) hx hb hts in_X1 hown hK hW hS3.1.1 rfl 10 (by decide) q364 (fun _ h9 => h9) rfl dX1_goOn_103 ?_
            refine lv_iconst (v := 1) hx hb dX1_goOn_106 (by decide) ?_
            refine lv_iadd hx hb dX1_goOn_107 ?_
            refine g_topi (y := nI (ac + 1)) (nI_1 ac) ?_
            refine g_putf (ci := 0) (v := .int (nI (ac + 1))) (ty := .int) (C := RX1) (T := TX1) (N := 11) hx hb hts in_X1 tyX1 tyX1_ok nmX1 hown hK hW hS3.1.1 rfl 10 (by decide) q364 (fun _ h9 => h9) rfl (by decide +kernel) rfl rfl (Nat.le_of_ble_eq_true rfl) dX1_goOn_108 (fun H locs hW => ?_)
            obtain ⟨w_6, ew_6⟩ : ∃ z__, z__ = g_put w3 x (.inr (0, [.ref (rf 2), .ref (rf 3), .ref (rf 4), .ref (rf 9), .ref (rf 10), .ref (rf 11), .ref (rf 12), .ref (rf 13), .int (nI rn), .long (lN tt), .int (nI (ac + 1))])) := ⟨_, rfl⟩
            have hW := g_W.ren hW ew_6 rfl
            have h_7 : g_at w_6 x (.inr (0, [.ref (rf 2), .ref (rf 3), .ref (rf 4), .ref (rf 9), .ref (rf 10), .ref (rf 11), .ref (rf 12), .ref (rf 13), .int (nI rn), .long (lN tt), .int (nI (ac + 1))])) := by rw [ew_6]; exact g_at.put_self hS3.1.1.1
            have x_8 : g_ex (fun q => q = x) w3 w_6 := by rw [ew_6]; exact x_5.put (fun hz9 => rfl)
            have hS4 := hS3.obj (rn2 := rn) (tt2 := tt) (ac2 := ac + 1) h_7 x_8 (by omega) (by omega) (by omega)
            have hx1 : l1 x = 1 := hS3.1.2
            have hy4 : yCh w lab w_6 l1 := ⟨hy3.1, hy3.2.trM x_8 (fun z hz hq => by unfold yM; rw [← hy3.1 z hz, hq, hx1]; omega)⟩
            have hd4 := hd3.ex x_8 (fun z => by rw [z] at hldx; omega) (fun z => by rw [z] at hldx; omega)
            refine lpX1_goPop (D := D) hx hb hts hown hK hE hml (Nat.le_trans (Nat.le_of_ble_eq_true rfl) hRf) (Nat.le_trans (Nat.le_of_ble_eq_true rfl) hRl) (by omega) (by omega) lab w x d da fd fda rf P C A9 n9 sp rn tt (ac + 1) cov K Q9 F cp w_6 l1 hQ0 hS4 hy4 (fun w5 l5 H locs ls hS5 hy5 hl5 hx5 hW hl => ?_) 1 _ _ _ (by decide) hW (lv_sub hl [0, 1, 2, 3] rfl)
            have hyM : ∀ y, l1 y = 0 → ¬ yM l1 y := fun y h z => by unfold yM at z; omega
            have hd5 := hd4.ex hx5 (hyM _ hldx.1) (hyM _ hldx.2)
            have hld5 : l5 d = 0 ∧ l5 da = 0 := ⟨(hl5 _ hd4.1.1).trans hldx.1, (hl5 _ (by obtain ⟨_, h, -⟩ := hd4.2.1; exact h.1)).trans hldx.2⟩
            exact ih sp (gPa C (ac + 1)) rn tt cov K (gPq C (ac + 1) Q9) F cp q1 w5 l5 _ _ M S H locs ls (by have h1 := gPq_me (C := C) (Q := Q9) (ac := ac + 1) (by omega) (by omega) (ne_of_pos hQ0) (320 - fb_ct cov 320); unfold gMe at hfuel ⊢; omega) hgo hI.pq hS5 hy5 hd5 hld5 (by omega) (by omega) (by omega) (by omega) hW hl
