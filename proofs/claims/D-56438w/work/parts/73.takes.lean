/-! ShrinkYard: derive, take, takeDerived *
-/
set_option maxRecDepth 100000
theorem dv_end2 {A : Nat → List (List Nat)} {n : Nat} {t : List Nat} (h : (if kFirst t < t.length ∨ 8 < t.length then ((3 : Nat), ([] : List Nat)) else (0, t)) = dvN A (nI n)) (c : kFirst t < t.length ∨ 8 < t.length) : (dvN A (nI n)).1 = 3 := by rw [← h, if_pos c]
theorem dv_end0 {A : Nat → List (List Nat)} {n : Nat} {t : List Nat} (h : (if kFirst t < t.length ∨ 8 < t.length then ((3 : Nat), ([] : List Nat)) else (0, t)) = dvN A (nI n)) (c : ¬ (kFirst t < t.length ∨ 8 < t.length)) : dvN A (nI n) = (0, t) := by rw [← h, if_neg c]
theorem dvN_in {A : Nat → List (List Nat)} (hA : aOk A) {n9 : Int32} (h : (dvN A n9).1 = 0) : isIn (dvN A n9).2 := dv_in hA 12 n9.toNatClampNeg [65] rfl h
set_option maxHeartbeats 4000000 in
set_option maxRecDepth 100000 in
/-- ShrinkYard.derive -/
theorem mtX1_derive (l : Launch) (hl9 : l.stackTraces = false) (D : va_G) (w : g_H) (sz : Nat) (lab : Nat → Nat) (x ac rn tt : Nat) (rf : Nat → Nat) (P : List mI) (C : List yC) (A : Nat → List (List Nat)) (cov : Nat → Bool) (K Q : List (List Nat)) (F : List (List Nat × List Nat × Int32)) (cp : Nat → Nat) (hS : g_SZ D w lab x rf P C A cov K Q ac F rn tt cp) (hA : aOk A) (n9 : Int32) : vx_Met l yX1_derive (ws_ yX1_derive cX1_derive 7 (some (.object "java/lang/String"))) ({ frames := 13, cells := 161, slots := 24206, locals := 524 }) (g_Pc D [.ref x, .int (n9)] w sz) (g_Qq D w sz (fun r u => (¬ n9 < 0 ∧ (dvN A n9).1 = 0) ∧ (∃ s9, r = some s9 ∧ g_Str D u s9 (dvN A n9).2) ∧ g_ex (fun _ => False) w u)) (g_XC D w sz (fun E u => g_ex (fun _ => False) w u ∧ ((E = "java/lang/IllegalArgumentException" ∧ n9 < 0) ∨ (E = "java/util/NoSuchElementException" ∧ ¬ n9 < 0 ∧ (dvN A n9).1 = 2) ∨ (E = "java/lang/UnsupportedOperationException" ∧ ¬ n9 < 0 ∧ (dvN A n9).1 = 3)))) (161) (24206) (g_A w sz) := by
  refine vx_ofW (cc := cX1_derive) (maxL := 7) (ret := (some (.object "java/lang/String"))) (by decide) rfl ?_
  intro p e s m args below meth c s₁ B hml hhand hv
  have hout : ∀ pc : Nat, ∀ x ∈ c.exceptionTable.toList, covers x pc = false := fun _ x hx => (hhand x hx).elim
  obtain ⟨rfl, hI⟩ := hv
  have hx := B.exec
  have hb := B.bytes
  have hr := B.returns
  have hts := atoms_spec (ws := ws_ yX1_derive cX1_derive 7 (some (.object "java/lang/String"))) B.pre
  have hts : ∀ w ∈ lw_all, w.before _ s = true := fun w h => hts w (List.mem_cons_of_mem _ h)
  have hown : s.vm.findClass RX1 = some m.cls := findClass_of_methodNamed B.named
  have hlocks := B.notSynchronized
  have hsz := hI.1
  subst hsz
  have hW := g_W.start hI
  have hK := g_K hI
  have hE := g_E hI
  have hl := lv_entry ([.ref x, .int (n9)]) (n := 7) (by exact Nat.le_of_ble_eq_true rfl)
  rw [lg_entry_eq]
  generalize (lg_sl ([.ref x, .int (n9)]) ++ List.replicate (7 - (lg_sl ([.ref x, .int (n9)])).length) Slot.unset).toArray = ls at hl ⊢
  have hl : lv_has ls 7 [(0, .ref x), (1, .int (n9))] := hl
  refine lv_iload_n hx hb dX1_derive_0 rfl (lv_at hl 1 rfl) ?_
  refine lv_if_lt (tgt := 8) hx hb dX1_derive_1 (by decide) (fun hc => ?_) (fun hc => ?_)
  · refine lv_iconst (v := 0) hx hb dX1_derive_8 (by decide) ?_
    refine g_xcallv (vx_runS (As := [.int (0)]) (rest := []) ⟨hx, hb, hml, hown, hts⟩ (mtX1_requireArgument l hl9 D w s.heap.size 0) (va_cwS 1 hts (lw_S q573 q574 q34 q575) rfl rfl rfl (by decide +kernel) ⟨Nat.le_of_ble_eq_true rfl, Nat.le_of_ble_eq_true rfl⟩) (g_preS hW hK hE) rfl rfl hl.1 rfl (lv_room (Nat.le_of_ble_eq_true rfl)) dX1_derive_9 ⟨?_, ?_⟩) hW (fun E ce q9 u_ H locs hp hW hxc1 hxc2 hxc3 => g_xout (hout _) hlocks hW (⟨by rw [← hp.2.2]; exact g_ex.rf, Or.inl ⟨hp.1, hc⟩⟩) hxc1 hxc2 hxc3 ?_ ?_) (fun u_ H locs hp hW => ?_)
    · (try simp only [headSpec]); omega
    · (try simp only [headSpec]); omega
    · (try simp only [headSpec]); omega
    · (try simp only [headSpec]); omega
    exact absurd rfl hp.1
  · refine lv_iconst (v := 1) hx hb dX1_derive_4 (by decide) ?_
    refine lv_goto (tgt := 9) hx hb dX1_derive_5 (by decide) ?_
    refine g_xcallv (vx_runS (As := [.int (1)]) (rest := []) ⟨hx, hb, hml, hown, hts⟩ (mtX1_requireArgument l hl9 D w s.heap.size 1) (va_cwS 1 hts (lw_S q573 q574 q34 q575) rfl rfl rfl (by decide +kernel) ⟨Nat.le_of_ble_eq_true rfl, Nat.le_of_ble_eq_true rfl⟩) (g_preS hW hK hE) rfl rfl hl.1 rfl (lv_room (Nat.le_of_ble_eq_true rfl)) dX1_derive_9 ⟨?_, ?_⟩) hW (fun E ce q9 u_ H locs hp hW hxc1 hxc2 hxc3 => g_xout (hout _) hlocks hW (absurd hp.2.1 (by decide)) hxc1 hxc2 hxc3 ?_ ?_) (fun u_ H locs hp hW => ?_)
    · (try simp only [headSpec]); omega
    · (try simp only [headSpec]); omega
    · (try simp only [headSpec]); omega
    · (try simp only [headSpec]); omega
    obtain ⟨-, rfl⟩ := hp
    obtain ⟨lf, hlf, rfl⟩ := nI_of hc
    refine va_ldcS hx hb hown (rs_14 hE) dX1_derive_12 ?_
    refine lv_astore_n (lv' := [(2, .ref (D.2 1000 14)), (0, .ref x), (1, .int (nI lf))]) hx hb dX1_derive_14 rfl hl (by decide) rfl (fun ls hl => ?_)
    refine lv_iload_n hx hb dX1_derive_15 rfl (lv_at hl 2 rfl) ?_
    refine lv_istore_n (lv' := [(3, .int (nI lf)), (2, .ref (D.2 1000 14)), (0, .ref x), (1, .int (nI lf))]) hx hb dX1_derive_16 rfl hl (by decide) rfl (fun ls hl => ?_)
    refine lv_iconst (v := 0) hx hb dX1_derive_17 (by decide) ?_
    refine lv_istore (lv' := [(4, .int (0)), (3, .int (nI lf)), (2, .ref (D.2 1000 14)), (0, .ref x), (1, .int (nI lf))]) hx hb dX1_derive_18 hl (by decide) rfl (fun ls hl => ?_)
    refine lv_iconst (v := 0) hx hb dX1_derive_20 (by decide) ?_
    refine lv_istore (lv' := [(5, .int (0)), (4, .int (0)), (3, .int (nI lf)), (2, .ref (D.2 1000 14)), (0, .ref x), (1, .int (nI lf))]) hx hb dX1_derive_21 hl (by decide) rfl (fun ls hl => ?_)
    have hA65 : g_Str D w (D.2 1000 14) [65] := ⟨⟨by decide, by decide⟩, Or.inr ⟨14, by decide, rfl, rfl⟩⟩
    refine lpX1_derive (D := D) hx hb hts hown hK hE hml (Nat.le_of_ble_eq_true rfl) (Nat.le_of_ble_eq_true rfl) hl9 lab x ac rn tt rf P C A cov K Q F cp w hS hA 1 6 (dvN A (nI lf)) ?_ ?_ (fun w1 cells slots H locs ls hZ hex hcl hsl hW hl => ?_) (fun st t w1 cells slots H locs ls hZ htl hst hex hcl hsl hW hl => ?_) 13 0 lf (D.2 1000 14) [65] w _ _ _ _ ls (by omega) (by omega) (by unfold dvN; rw [nI_clamp hlf]; rfl) hlf (by decide) rfl hA65 g_ex.rf (by (try simp only [headSpec]); omega) (by (try simp only [headSpec]); omega) hW (lv_sub hl [4, 3, 2, 1, 0] rfl)
    · (try simp only [headSpec]); omega
    · (try simp only [headSpec]); omega
    · refine g_xcallv (vx_runS (As := [.int (0)]) (rest := []) ⟨hx, hb, hml, hown, hts⟩ (mtX1_requireElement l hl9 D w1 H.size 0) (va_cwS 1 hts (lw_S q1089 q1090 q34 q1091) rfl rfl rfl (by decide +kernel) ⟨Nat.le_of_ble_eq_true rfl, Nat.le_of_ble_eq_true rfl⟩) (g_preS hW hK hE) rfl rfl hl.1 rfl (lv_room (Nat.le_of_ble_eq_true rfl)) dX1_derive_77 ⟨?_, ?_⟩) hW (fun E ce q9 u_ H locs hp hW hxc1 hxc2 hxc3 => g_xout (hout _) hlocks hW (⟨by rw [← hp.2.2]; exact hex, Or.inr (Or.inl ⟨hp.1, hc, by rw [← hZ]⟩)⟩) hxc1 hxc2 hxc3 ?_ ?_) (fun u_ H locs hp hW => ?_)
      · (try simp only [headSpec]); omega
      · (try simp only [headSpec]); omega
      · (try simp only [headSpec]); omega
      · (try simp only [headSpec]); omega
      exact absurd rfl hp.1
    · have hfl := kFirst_le t
      obtain ⟨v, hr1, hb1⟩ := hst.rd hts hK hE hW
      refine lv_iload hx hb dX1_derive_128 (lv_at hl 1 rfl) ?_
      refine lv_aload_n hx hb dX1_derive_130 rfl (lv_at hl 0 rfl) ?_
      refine g_calli (va_runV (As := []) (rest := [.int (nI (kFirst t))]) ⟨hx, hb, hml, hown, hts⟩ (mtJ16_length l D w1 H.size st t hst) (cwV 0 hts (lw_V q739 q740 q741 q63 q742) rfl rfl rfl (by decide +kernel) ⟨Nat.le_of_ble_eq_true rfl, Nat.le_of_ble_eq_true rfl⟩) (g_preVR hW hK hE hr1.2.2.2) rfl rfl hl.1 rfl (lv_room (Nat.le_of_ble_eq_true rfl)) dX1_derive_131 ⟨?_, ?_⟩) hW (fun r_ u_ H locs hp hW => ?_)
      · (try simp only [headSpec]); omega
      · (try simp only [headSpec]); omega
      obtain ⟨er, rfl⟩ := hp
      subst er
      refine lv_icmp_lt (tgt := 146) hx hb dX1_derive_134 (by decide) (fun hc1 => ?_) (fun hc1 => ?_)
      · have hcx : kFirst t < t.length ∨ 8 < t.length := Or.inl ((nI_ltI (by omega) (by omega)).mp hc1)
        refine vx_throw0 (names := ["java/lang/RuntimeException", "java/lang/Exception"]) (A := g_A w s.heap.size) hx hb hl9 hown (by decide +kernel) (by decide +kernel) (hts _ q1131) (hts _ q74) (g_hat4 hts hE) (by decide +kernel) hE.un hE.su hW.2.2.1 (hl.1.trans hml.symm) dX1_derive_146 dX1_derive_149 dX1_derive_150 dX1_derive_153 (hout _) (Nat.le_of_ble_eq_true rfl) (Nat.le_of_ble_eq_true rfl) ?_ ?_ hlocks (g_xmade hW (⟨hex, Or.inr (Or.inr ⟨rfl, hc, dv_end2 hZ hcx⟩)⟩)) hW.2.2.1.2.2 ?_ ?_
        · (try simp only [headSpec]); omega
        · (try simp only [headSpec]); omega
        · (try simp only [headSpec]); omega
        · (try simp only [headSpec]); omega
      · have hn1 : ¬ kFirst t < t.length := fun z => hc1 ((nI_ltI (by omega) (by omega)).mpr z)
        refine lv_aload_n hx hb dX1_derive_137 rfl (lv_at hl 0 rfl) ?_
        obtain ⟨v, hr1, hb1⟩ := hst.rd hts hK hE hW
        refine g_calli (va_runV (As := []) (rest := []) ⟨hx, hb, hml, hown, hts⟩ (mtJ16_length l D w1 H.size st t hst) (cwV 0 hts (lw_V q739 q740 q741 q63 q742) rfl rfl rfl (by decide +kernel) ⟨Nat.le_of_ble_eq_true rfl, Nat.le_of_ble_eq_true rfl⟩) (g_preVR hW hK hE hr1.2.2.2) rfl rfl hl.1 rfl (lv_room (Nat.le_of_ble_eq_true rfl)) dX1_derive_138 ⟨?_, ?_⟩) hW (fun r_ u_ H locs hp hW => ?_)
        · (try simp only [headSpec]); omega
        · (try simp only [headSpec]); omega
        obtain ⟨er, rfl⟩ := hp
        subst er
        refine lv_bipush (v := 8) hx hb dX1_derive_141 (by decide) ?_
        refine g_icmp_le (x := t.length) (y := 8) (tgt := 154) hx hb (by omega) (by decide) dX1_derive_143 (by decide) (fun hc2 => ?_) (fun hc2 => ?_)
        · have hcx := dv_end0 hZ (fun z => by omega)
          refine lv_aload_n hx hb dX1_derive_154 rfl (lv_at hl 0 rfl) ?_
          exact vx_ret (g_qret (v := some st) hx hb hr (Or.inl ⟨_, rfl⟩) hlocks hW (⟨⟨hc, by rw [hcx]⟩, ⟨st, rfl, by rw [hcx]; exact hst⟩, hex⟩) (by omega) (by omega) dX1_derive_155)
        · have hcx : kFirst t < t.length ∨ 8 < t.length := Or.inr hc2
          refine vx_throw0 (names := ["java/lang/RuntimeException", "java/lang/Exception"]) (A := g_A w s.heap.size) hx hb hl9 hown (by decide +kernel) (by decide +kernel) (hts _ q1131) (hts _ q74) (g_hat4 hts hE) (by decide +kernel) hE.un hE.su hW.2.2.1 (hl.1.trans hml.symm) dX1_derive_146 dX1_derive_149 dX1_derive_150 dX1_derive_153 (hout _) (Nat.le_of_ble_eq_true rfl) (Nat.le_of_ble_eq_true rfl) ?_ ?_ hlocks (g_xmade hW (⟨hex, Or.inr (Or.inr ⟨rfl, hc, dv_end2 hZ hcx⟩)⟩)) hW.2.2.1.2.2 ?_ ?_
          · (try simp only [headSpec]); omega
          · (try simp only [headSpec]); omega
          · (try simp only [headSpec]); omega
          · (try simp only [headSpec]); omega
set_option maxHeartbeats 4000000 in
set_option maxRecDepth 100000 in
/-- ShrinkYard.take -/
theorem mtX1_take (l : Launch) (hl9 : l.stackTraces = false) (D : va_G) (w : g_H) (sz : Nat) (lab : Nat → Nat) (x ac rn tt : Nat) (rf : Nat → Nat) (P : List mI) (C : List yC) (A : Nat → List (List Nat)) (cov : Nat → Bool) (K Q : List (List Nat)) (F : List (List Nat × List Nat × Int32)) (cp : Nat → Nat) (hS : g_SZ D w lab x rf P C A cov K Q ac F rn tt cp) (st : Nat) (t : List Nat) (hst : g_Str D w st t) (hK9 : K.length + 1 < 500) (hQ9 : Q.length ≤ K.length) (hF9 : F.length + 1 < 500) (hrn : rn + 1 < 100000) (htt : tt + 65 < 100000000) : vx_Met l yX1_take (ws_ yX1_take cX1_take 2 (some .boolean)) ({ frames := 13, cells := 3 + tkM P (digs t) cov K F cp, slots := 16 + tkS P (digs t) cov K F cp, locals := 327 }) (g_Pc D [.ref x, .ref st] w sz) (g_Qi D w sz (fun r u => isIn t ∧ r = (if tkB P (digs t) cov = true then 1 else 0) ∧ ∃ l2, g_SZ D u l2 x rf P C A (cvO cov (mOut P (digs t)).2.2.2) (tkL (tkB P (digs t) cov) K (digs t)) (tkL (tkB P (digs t) cov) Q (digs t)) ac (tkF P (digs t) F cp) (rn + 1) (tt + (mOut P (digs t)).2.2.1) (tkC P (digs t) cov K F cp) ∧ yCh w lab u l2)) (g_XC D w sz (fun E u => E = "java/lang/IllegalArgumentException" ∧ ¬ isIn t ∧ w = u)) (3 + tkM P (digs t) cov K F cp) (16 + tkS P (digs t) cov K F cp) (g_A w sz) := by
  refine vx_ofW (cc := cX1_take) (maxL := 2) (ret := (some .boolean)) (by decide) rfl ?_
  intro p e s m args below meth c s₁ B hml hhand hv
  have hout : ∀ pc : Nat, ∀ x ∈ c.exceptionTable.toList, covers x pc = false := fun _ x hx => (hhand x hx).elim
  obtain ⟨rfl, hI⟩ := hv
  have hx := B.exec
  have hb := B.bytes
  have hr := B.returns
  have hts := atoms_spec (ws := ws_ yX1_take cX1_take 2 (some .boolean)) B.pre
  have hts : ∀ w ∈ lw_all, w.before _ s = true := fun w h => hts w (List.mem_cons_of_mem _ h)
  have hown : s.vm.findClass RX1 = some m.cls := findClass_of_methodNamed B.named
  have hlocks := B.notSynchronized
  have hsz := hI.1
  subst hsz
  have hW := g_W.start hI
  have hK := g_K hI
  have hE := g_E hI
  have hl := lv_entry ([.ref x, .ref st]) (n := 2) (by exact Nat.le_of_ble_eq_true rfl)
  rw [lg_entry_eq]
  generalize (lg_sl ([.ref x, .ref st]) ++ List.replicate (2 - (lg_sl ([.ref x, .ref st])).length) Slot.unset).toArray = ls at hl ⊢
  have hl : lv_has ls 2 [(0, .ref x), (1, .ref st)] := hl
  refine lv_aload_n hx hb dX1_take_0 rfl (lv_at hl 0 rfl) ?_
  refine lv_aload_n hx hb dX1_take_1 rfl (lv_at hl 1 rfl) ?_
  refine g_xcallq (vx_runS (As := [.ref st]) (rest := [.ref x]) ⟨hx, hb, hml, hown, hts⟩ (mtX1_requireInput l hl9 D w s.heap.size st t hst) (va_cwS 1 hts (lw_S q1153 q1154 q34 q1155) rfl rfl rfl (by decide +kernel) ⟨Nat.le_of_ble_eq_true rfl, Nat.le_of_ble_eq_true rfl⟩) (g_preS hW hK hE) rfl rfl hl.1 rfl (lv_room (Nat.le_of_ble_eq_true rfl)) dX1_take_2 ⟨?_, ?_⟩) hW (fun E ce q9 u_ H locs hp hW hxc1 hxc2 hxc3 => g_xout (hout _) hlocks hW (⟨hp.1, hp.2.1, hp.2.2⟩) hxc1 hxc2 hxc3 ?_ ?_) (fun r_ u1 H locs hp hW => ?_)
  · (try simp only [headSpec]); omega
  · (try simp only [headSpec]); omega
  · (try simp only [headSpec]); omega
  · (try simp only [headSpec]); omega
  obtain ⟨⟨ht8, htk⟩, d, da, er, fd, fda, hd, hx1⟩ := hp
  subst er
  have hS1 := hS.new hx1 0
  have hdg : sDg (digs t) := digs_ok ht8 htk
  have hy1 : yCh w lab u1 (lb lab w 0) := yCh.nw hx1 0
  refine g_calli (va_runV (As := [.ref d]) (rest := []) ⟨hx, hb, hml, hown, hts⟩ (mtX1_take_2 l D u1 H.size (lb lab w 0) x ac rn tt rf P C A cov K Q F cp hS1 d da (digs t) hdg hd ⟨lb_out fd, lb_out fda⟩ hK9 hQ9 hF9 hrn htt) (cwV 1 hts (lw_V q1183 q1185 qs8 q34 q1186) rfl rfl rfl (by decide +kernel) ⟨Nat.le_of_ble_eq_true rfl, Nat.le_of_ble_eq_true rfl⟩) (g_preV hW hK hE hS1.1.1 rfl) rfl rfl hl.1 rfl (lv_room (Nat.le_of_ble_eq_true rfl)) dX1_take_5 ⟨?_, ?_⟩) hW (fun r_ u3 H locs hp hW => ?_)
  · (try simp only [headSpec]); omega
  · (try simp only [headSpec]); omega
  obtain ⟨er, l3, hS3, hy3⟩ := hp
  subst er
  by_cases hq9 : tkB P (digs t) cov = true
  · rw [if_pos hq9]
    exact vx_ret (g_zret (v := 1) hx hb hr hlocks (by rfl) hW (⟨⟨ht8, htk⟩, rfl, l3, hS3, hy1.tr hy3⟩) (by omega) (by omega) dX1_take_8)
  · rw [if_neg hq9]
    exact vx_ret (g_zret (v := 0) hx hb hr hlocks (by rfl) hW (⟨⟨ht8, htk⟩, rfl, l3, hS3, hy1.tr hy3⟩) (by omega) (by omega) dX1_take_8)
set_option maxHeartbeats 4000000 in
set_option maxRecDepth 100000 in
/-- ShrinkYard.takeDerived -/
theorem mtX1_takeDerived (l : Launch) (hl9 : l.stackTraces = false) (D : va_G) (w : g_H) (sz : Nat) (lab : Nat → Nat) (x ac rn tt : Nat) (rf : Nat → Nat) (P : List mI) (C : List yC) (A : Nat → List (List Nat)) (cov : Nat → Bool) (K Q : List (List Nat)) (F : List (List Nat × List Nat × Int32)) (cp : Nat → Nat) (hS : g_SZ D w lab x rf P C A cov K Q ac F rn tt cp) (hA : aOk A) (n9 : Int32) (hK9 : K.length + 1 < 500) (hQ9 : Q.length ≤ K.length) (hF9 : F.length + 1 < 500) (hrn : rn + 1 < 100000) (htt : tt + 65 < 100000000) : vx_Met l yX1_takeDerived (ws_ yX1_takeDerived cX1_takeDerived 3 (some .boolean)) ({ frames := 14, cells := 163 + tkM P (digs (dvN A n9).2) cov K F cp, slots := 24230 + tkS P (digs (dvN A n9).2) cov K F cp, locals := 550 }) (g_Pc D [.ref x, .int (n9)] w sz) (g_Qi D w sz (fun r u => (¬ n9 < 0 ∧ (dvN A n9).1 = 0) ∧ r = (if tkB P (digs (dvN A n9).2) cov = true then 1 else 0) ∧ ∃ l2, g_SZ D u l2 x rf P C A (cvO cov (mOut P (digs (dvN A n9).2)).2.2.2) (tkL (tkB P (digs (dvN A n9).2) cov) K (digs (dvN A n9).2)) (tkL (tkB P (digs (dvN A n9).2) cov) Q (digs (dvN A n9).2)) ac (tkF P (digs (dvN A n9).2) F cp) (rn + 1) (tt + (mOut P (digs (dvN A n9).2)).2.2.1) (tkC P (digs (dvN A n9).2) cov K F cp) ∧ yCh w lab u l2)) (g_XC D w sz (fun E u => g_ex (fun _ => False) w u ∧ ((E = "java/lang/IllegalArgumentException" ∧ n9 < 0) ∨ (E = "java/util/NoSuchElementException" ∧ ¬ n9 < 0 ∧ (dvN A n9).1 = 2) ∨ (E = "java/lang/UnsupportedOperationException" ∧ ¬ n9 < 0 ∧ (dvN A n9).1 = 3)))) (163 + tkM P (digs (dvN A n9).2) cov K F cp) (24230 + tkS P (digs (dvN A n9).2) cov K F cp) (g_A w sz) := by
  refine vx_ofW (cc := cX1_takeDerived) (maxL := 3) (ret := (some .boolean)) (by decide) rfl ?_
  intro p e s m args below meth c s₁ B hml hhand hv
  have hout : ∀ pc : Nat, ∀ x ∈ c.exceptionTable.toList, covers x pc = false := fun _ x hx => (hhand x hx).elim
  obtain ⟨rfl, hI⟩ := hv
  have hx := B.exec
  have hb := B.bytes
  have hr := B.returns
  have hts := atoms_spec (ws := ws_ yX1_takeDerived cX1_takeDerived 3 (some .boolean)) B.pre
  have hts : ∀ w ∈ lw_all, w.before _ s = true := fun w h => hts w (List.mem_cons_of_mem _ h)
  have hown : s.vm.findClass RX1 = some m.cls := findClass_of_methodNamed B.named
  have hlocks := B.notSynchronized
  have hsz := hI.1
  subst hsz
  have hW := g_W.start hI
  have hK := g_K hI
  have hE := g_E hI
  have hl := lv_entry ([.ref x, .int (n9)]) (n := 3) (by exact Nat.le_of_ble_eq_true rfl)
  rw [lg_entry_eq]
  generalize (lg_sl ([.ref x, .int (n9)]) ++ List.replicate (3 - (lg_sl ([.ref x, .int (n9)])).length) Slot.unset).toArray = ls at hl ⊢
  have hl : lv_has ls 3 [(0, .ref x), (1, .int (n9))] := hl
  have hS0 := hS
  have x_1 : g_ex (fun _ => False) w w := g_ex.rf
  refine g_newo (ci := 2) (C := RX11) (T := TX11) (N := 2) hx hb hts in_X11 tyX11 tyX11_ok hown q1156 q1157 q75 hK hW rfl [.null, .int (0)] (by decide +kernel) ?_ ?_ dX1_takeDerived_0 (fun o_2 H hq hW => ?_)
  · show _ ≤ 163 + tkM P (digs (dvN A n9).2) cov K F cp; omega
  · show _ ≤ 24230 + tkS P (digs (dvN A n9).2) cov K F cp; omega
  have ho_2 := hq
  obtain ⟨w_3, ew_3⟩ : ∃ z__, z__ = g_push w o_2 (.inr (2, [.null, .int (0)])) := ⟨_, rfl⟩
  have hW := g_W.ren hW ew_3 rfl
  have h_4 : g_at w_3 x (.inr (0, [.ref (rf 2), .ref (rf 3), .ref (rf 4), .ref (rf 9), .ref (rf 10), .ref (rf 11), .ref (rf 12), .ref (rf 13), .int (nI rn), .long (lN tt), .int (nI ac)])) := by rw [ew_3]; exact hS.1.1.push hq
  have h_5 : g_at w_3 o_2 (.inr (2, [.null, .int (0)])) := by rw [ew_3]; exact g_at.push_self
  have x_6 : g_ex (fun _ => False) w w_3 := by rw [ew_3]; exact x_1.push hq
  refine lv_dup hx hb dX1_takeDerived_3 rfl ?_
  refine g_callv (va_runIN (As := []) (rest := [.ref o_2]) ⟨hx, hb, hml, hown, hts⟩ (mtX11_init l D w_3 H.size o_2 h_5) ⟨(va_cnB 0 hts (lw_meth q1160) rfl rfl rfl (nm_q1158 hE) (hts _ q75) (by decide +kernel) ⟨Nat.le_of_ble_eq_true rfl, Nat.le_of_ble_eq_true rfl⟩), rfl, hts _ q1159⟩ (g_preS hW hK hE) rfl rfl hl.1 rfl (lv_room (Nat.le_of_ble_eq_true rfl)) dX1_takeDerived_4 ⟨?_, ?_⟩) hW (fun u1 H locs hp hW => ?_)
  · (try simp only [headSpec]); omega
  · (try simp only [headSpec]); omega
  obtain ⟨da, hda, hdg0, hex⟩ := hp
  have hx0 : g_ex (fun _ => False) w u1 := x_6.trM hex (fun z hz1 hz2 => ho_2 (by rw [← hz2]; exact hz1))
  have fda : da ∉ w.1 := fun z => hda (x_6.1 _ z)
  have hS1 := hS0.new hx0 0
  refine lv_astore_n (lv' := [(2, .ref o_2), (0, .ref x), (1, .int (n9))]) hx hb dX1_takeDerived_7 rfl hl (by decide) rfl (fun ls hl => ?_)
  refine lv_aload_n hx hb dX1_takeDerived_8 rfl (lv_at hl 0 rfl) ?_
  refine lv_aload_n hx hb dX1_takeDerived_9 rfl (lv_at hl 1 rfl) ?_
  refine lv_iload_n hx hb dX1_takeDerived_10 rfl (lv_at hl 2 rfl) ?_
  refine g_xcallq (vx_runV (As := [.int (n9)]) (rest := [.ref o_2]) ⟨hx, hb, hml, hown, hts⟩ (mtX1_derive l hl9 D u1 H.size (lb lab w 0) x ac rn tt rf P C A cov K Q F cp hS1 hA n9) (cwV 1 hts (lw_V q1570 q1066 q1067 q34 q1068) rfl rfl rfl (by decide +kernel) ⟨Nat.le_of_ble_eq_true rfl, Nat.le_of_ble_eq_true rfl⟩) (g_preV hW hK hE hS1.1.1 rfl) rfl rfl hl.1 rfl (lv_room (Nat.le_of_ble_eq_true rfl)) dX1_takeDerived_11 ⟨?_, ?_⟩) hW (fun E ce q9 u_ H locs hp hW hxc1 hxc2 hxc3 => g_xout (hout _) hlocks hW (⟨hx0.tr hp.1, hp.2⟩) hxc1 hxc2 hxc3 ?_ ?_) (fun r_ u2 H locs hp hW => ?_)
  · (try simp only [headSpec]); omega
  · (try simp only [headSpec]); omega
  · (try simp only [headSpec]); omega
  · (try simp only [headSpec]); omega
  obtain ⟨⟨hn9, hv9⟩, ⟨s9, er, hst⟩, hx2⟩ := hp
  subst er
  have hS2 := hS1.new hx2 0
  have hd2 := hdg0.ex hx2 (fun z => z.elim) (fun z => z.elim)
  have hin := dvN_in hA hv9
  obtain ⟨fa, hfa, -⟩ := hd2.2.1
  have ht48 : ∀ c ∈ (dvN A n9).2, 48 ≤ c := fun c hc => (kHas0 hin.2 c hc).1
  refine g_callv (va_runV (As := [.ref s9]) (rest := []) ⟨hx, hb, hml, hown, hts⟩ (mtX11_read l D u2 H.size o_2 da _ s9 fa (dvN A n9).2 hd2.1 hfa hst hin.1 ht48) (cwV 1 hts (lw_V q1177 q1178 q1179 q75 q1180) rfl rfl rfl (by decide +kernel) ⟨Nat.le_of_ble_eq_true rfl, Nat.le_of_ble_eq_true rfl⟩) (g_preV hW hK hE hd2.1 rfl) rfl rfl hl.1 rfl (lv_room (Nat.le_of_ble_eq_true rfl)) dX1_takeDerived_14 ⟨?_, ?_⟩) hW (fun u3 H locs hp hW => ?_)
  · (try simp only [headSpec]); omega
  · (try simp only [headSpec]); omega
  obtain ⟨hd3, hx3⟩ := hp
  have ld : (lb (lb lab w 0) u1 0) o_2 = 0 ∧ (lb (lb lab w 0) u1 0) da = 0 := ⟨(lb_in _ hdg0.1.1).trans (lb_out ho_2), (lb_in _ (by obtain ⟨_, h, -⟩ := hdg0.2.1; exact h.1)).trans (lb_out fda)⟩
  have hmu : g_mut D u2 (fun q => q = o_2 ∨ q = da) := (g_mut.obj hd2.1).or (g_mut.arr hfa (g_neA hK (i := 0) (j := 1) rfl rfl (fun z => by cases z)))
  have hS3 := hS2.keep hx3 hmu (fun _ _ => rfl) (fun z _ hz => Or.inl (by rcases hz with hz | hz <;> rw [hz]; exact ld.1; exact ld.2))
  have hy1 : yCh w lab u3 (lb (lb lab w 0) u1 0) := ⟨fun z hz => (lb_in z (hx0.1 z hz)).trans (lb_in z hz), ((hx0.tr hx2).trM hx3 (fun z hz hq => by rcases hq with hq | hq; exact ho_2 (hq ▸ hz); exact fda (hq ▸ hz))).mono (fun _ _ z => z.elim)⟩
  refine lv_aload_n hx hb dX1_takeDerived_17 rfl (lv_at hl 1 rfl) ?_
  refine lv_aload_n hx hb dX1_takeDerived_18 rfl (lv_at hl 0 rfl) ?_
  have hdg9 : sDg (digs (dvN A n9).2) := digs_ok hin.1 hin.2
  refine g_calli (va_runV (As := [.ref o_2]) (rest := []) ⟨hx, hb, hml, hown, hts⟩ (mtX1_take_2 l D u3 H.size (lb (lb lab w 0) u1 0) x ac rn tt rf P C A cov K Q F cp hS3 o_2 da (digs (dvN A n9).2) hdg9 hd3 ld hK9 hQ9 hF9 hrn htt) (cwV 1 hts (lw_V q1183 q1185 qs8 q34 q1186) rfl rfl rfl (by decide +kernel) ⟨Nat.le_of_ble_eq_true rfl, Nat.le_of_ble_eq_true rfl⟩) (g_preV hW hK hE hS3.1.1 rfl) rfl rfl hl.1 rfl (lv_room (Nat.le_of_ble_eq_true rfl)) dX1_takeDerived_19 ⟨?_, ?_⟩) hW (fun r_ u4 H locs hp hW => ?_)
  · (try simp only [headSpec]); omega
  · (try simp only [headSpec]); omega
  obtain ⟨er, l3, hS4, hy3⟩ := hp
  subst er
  by_cases hq9 : tkB P (digs (dvN A n9).2) cov = true
  · rw [if_pos hq9]
    exact vx_ret (g_zret (v := 1) hx hb hr hlocks (by rfl) hW (⟨⟨hn9, hv9⟩, rfl, l3, hS4, hy1.tr hy3⟩) (by omega) (by omega) dX1_takeDerived_22)
  · rw [if_neg hq9]
    exact vx_ret (g_zret (v := 0) hx hb hr hlocks (by rfl) hW (⟨⟨hn9, hv9⟩, rfl, l3, hS4, hy1.tr hy3⟩) (by omega) (by omega) dX1_takeDerived_22)
