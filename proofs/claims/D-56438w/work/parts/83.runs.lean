/-! the model: runs *
-/
set_option maxRecDepth 100000
theorem mDig_t {t : List Nat} {rd : Nat} (k : kHas t 0 = true) (h : rd < t.length) : nI (t.getD rd 0) - 48 = mDig (digs t) rd := by
  have hm : t.getD rd 0 ∈ t := g_mem h
  have hc := kHas0 k _ hm
  have e : (t.map (fun x => x - 48)).getD rd 0 = t.getD rd 0 - 48 := by
    rw [List.getD_eq_getElem?_getD, List.getElem?_map, List.getD_eq_getElem?_getD, List.getElem?_eq_getElem h]
    rfl
  unfold mDig digs
  rw [List.length_map, if_pos h, e]
  exact pk_sub hc.1
theorem mDig_e {t : List Nat} {rd : Nat} (h : ¬ rd < t.length) : mDig (digs t) rd = -1 := by
  unfold mDig digs
  rw [List.length_map, if_neg h]
set_option maxHeartbeats 4000000 in
set_option maxRecDepth 100000 in
/-- Model.runs: the registers -/
theorem lpX3_regs {p : Program} {l : Launch} {e : Env} {R : Room} {s : State} {m : MethodId} {args : Array Value} {below : List Frame} {meth : Method} {c : Code} {cells slots : Nat} {Q : State → Prop} {D : va_G} {A : Nat → Prop} (hx : p.tables.exec = Jvm.exec) (hb : c.code = cX3_runs) (hts : ∀ w ∈ lw_all, w.before args s = true) (hown : s.vm.findClass RX3 = some m.cls) (hK : va_K D gCl (gT D) s) (hE : g_Env D A s) (hml : c.maxLocals = 8) (hRf : 5 ≤ R.frames) (hRl : 97 ≤ R.locals) (hRc : cells ≤ R.cells) (hRs : slots ≤ R.slots) (y sp : Nat) (mf : Nat → Nat) (lab : Nat → Nat) (hL : mLab lab mf) (t : List Nat) (hkt : kHas t 0 = true) (cd cn en td st rn : Int32) (tt : Int64) (km fi nx fm th : Int32) (f0 f1 f2 f3 g : Nat → Int32) (ad op rg tg rd : Nat) (vl go : Int32) (w1 : g_H) (hst : g_Str D w1 sp t) (hy : g_at w1 y (.inr (10, mO mf (cd) (cn) (en) (td) (st) (rn) (tt) (km) (fi) (nx) (fm) (th)))) (h2 : g_at w1 (mf 2) (.inl (D.1 100, 16, .inl f2))) (h3 : g_at w1 (mf 3) (.inl (D.1 100, 16, .inl f3))) (h15 : g_at w1 (mf 15) (.inl (D.1 100, 4, .inl g))) (had : ad < 16) (hok : mOk (op, rg, vl, tg)) (e2 : f2 ad = vl) (e3 : f3 ad = nI tg) (hrd : rd < 1000)
    (kk : ∀ (w2 : g_H) (g2 : Nat → Int32) (H : Heap) (locs : List Loc) (ls : Array Slot), g2 = mRegs (op, rg, vl, tg) (digs t) rd g → g_ex (fun q => q = mf 15) w1 w2 → g_at w2 (mf 15) (.inl (D.1 100, 4, .inl g2)) → g_W D A s.heap H locs w2 → lv_has ls 8 [(0, .ref y), (1, .ref sp), (2, .int (nI (mRd (op, rg, vl, tg) rd))), (3, .int (nI ad)), (4, .int go), (5, .int (nI op)), (6, .int (nI rg))] → W p l e R s m args below meth c H locs cells slots Q (F0 m 246 ls [])) :
    ∀ (k : Nat)  (H : Heap) (locs : List Loc) (ls : Array Slot), 0 < k → g_W D A s.heap H locs w1 → lv_has ls 8 [(0, .ref y), (1, .ref sp), (2, .int (nI rd)), (3, .int (nI ad)), (4, .int (go)), (5, .int (nI op)), (6, .int (nI rg))] → W p l e R s m args below meth c H locs cells slots Q (F0 m 113 ls []) := by
  intro k
  induction k with
  | zero => intro  H locs ls hfuel hW hl; exact absurd hfuel (by omega)
  | succ k ih =>
    intro  H locs ls hfuel hW hl
    have hop : op < 9 := hok.1
    have hrg : rg < 4 := hok.2.1
    have htg : op = 3 → tg < 4 := hok.2.2.2
    have hl1 := hst.1.1
    have hop9 : op = 0 ∨ op = 1 ∨ op = 2 ∨ op = 3 ∨ op = 4 ∨ op = 5 ∨ op = 6 ∨ op = 7 ∨ op = 8 := by omega
    rcases hop9 with rfl | rfl | rfl | rfl | rfl | rfl | rfl | rfl | rfl
    · refine lv_iload hx hb dX3_runs_113 (lv_at hl 5 rfl) ?_
      refine va_gets hx hb ((hE.2.2.2.2.2.2.1.1 0 (by decide)).1) hW.2.2.1 hown (hts _ q2041) (fun _ h9 => h9) dX3_runs_115 ?_
      refine g_calli (va_runU (As := []) (rest := [.int (nI 0)]) ⟨hx, hb, hml, hown, hts⟩ (mtJ10_ordinal l D w1 H.size (D.2 1002 0) (nI 0) (fun s hE => g_op (by decide) s hE)) (va_cwU (owner := "java/lang/Enum") (x := ⟨"Op", "ordinal", "()I"⟩) 0 hts (lw_app (lw_in _ [1990, 1208, 1209, 678, 50] (by decide +kernel) (by decide +kernel)) (lw_meth q679)) rfl rfl rfl rfl (by decide +kernel) ⟨Nat.le_trans (Nat.le_of_ble_eq_true rfl) hRf, Nat.le_trans (Nat.le_of_ble_eq_true rfl) hRl⟩) (g_preVR hW hK hE (g_opO hE hW (by decide))) rfl rfl hl.1 rfl (lv_room (Nat.le_of_ble_eq_true rfl)) dX3_runs_118 ⟨hRc, hRs⟩) hW (fun r_ u_ H locs hp hW => ?_)
      obtain ⟨er, rfl⟩ := hp
      subst er
      refine lv_icmp_ne (tgt := 157) hx hb dX3_runs_121 (by decide) (fun hz => absurd rfl hz) (fun _ => ?_)
      refine lv_aload_n hx hb dX3_runs_124 rfl (lv_at hl 0 rfl) ?_
      refine g_get (ci := 10) (v := .ref (mf 15)) (C := RX3) (T := TX3) (N := 28) hx hb hts in_X3 hown hK hW hy rfl 15 (by decide) q1899 (fun _ h9 => h9) rfl dX3_runs_125 ?_
      refine lv_iload hx hb dX3_runs_128 (lv_at hl 6 rfl) ?_
      refine lv_iload_n hx hb dX3_runs_130 rfl (lv_at hl 2 rfl) ?_
      refine lv_aload_n hx hb dX3_runs_131 rfl (lv_at hl 1 rfl) ?_
      obtain ⟨v, hr1, hb1⟩ := hst.rd hts hK hE hW
      refine g_calli (va_runV (As := []) (rest := [.int (nI rd), .int (nI rg), .ref (mf 15)]) ⟨hx, hb, hml, hown, hts⟩ (mtJ16_length l D w1 H.size sp t hst) (cwV 0 hts (lw_V q2004 q740 q741 q63 q742) rfl rfl rfl (by decide +kernel) ⟨Nat.le_trans (Nat.le_of_ble_eq_true rfl) hRf, Nat.le_trans (Nat.le_of_ble_eq_true rfl) hRl⟩) (g_preVR hW hK hE hr1.2.2.2) rfl rfl hl.1 rfl (lv_room (Nat.le_of_ble_eq_true rfl)) dX3_runs_132 ⟨hRc, hRs⟩) hW (fun r_ u_ H locs hp hW => ?_)
      obtain ⟨er, rfl⟩ := hp
      subst er
      refine g_icmp_ge (x := rd) (y := t.length) (tgt := 149) hx hb (by omega) (by omega) dX3_runs_135 (by decide) (fun hc => ?_) (fun hc => ?_)
      · refine lv_iconst (v := (-1)) hx hb dX3_runs_149 (by decide) ?_
        refine g_topi (y := mDig (digs t) rd) ((mDig_e (by omega)).symm) ?_
        have x_1 : g_ex (fun q => q = (mf 15)) w1 w1 := g_ex.rf
        refine g_iast (i := rg) hx hb hK hW h15 (hrg) (by decide) dX3_runs_150 (fun H locs hW => ?_)
        obtain ⟨f_2, ef_2⟩ : ∃ z__, z__ = upd (g) (rg) (mDig (digs t) rd) := ⟨_, rfl⟩
        rw [← ef_2] at hW
        obtain ⟨w_3, ew_3⟩ : ∃ z__, z__ = g_put w1 (mf 15) (.inl (D.1 100, 4, .inl (f_2))) := ⟨_, rfl⟩
        have hW := g_W.ren hW ew_3 rfl
        have h_4 : g_at w_3 y (.inr (10, mO mf (cd) (cn) (en) (td) (st) (rn) (tt) (km) (fi) (nx) (fm) (th))) := by rw [ew_3]; exact hy.put (g_neOA hy h15)
        have h_5 : g_at w_3 (mf 2) (.inl (D.1 100, 16, .inl (f2))) := by rw [ew_3]; exact h2.put (g_lne (hL 2 (by decide)) (hL 15 (by decide)) (by decide))
        have h_6 : g_at w_3 (mf 3) (.inl (D.1 100, 16, .inl (f3))) := by rw [ew_3]; exact h3.put (g_lne (hL 3 (by decide)) (hL 15 (by decide)) (by decide))
        have h_7 : g_at w_3 (mf 15) (.inl (D.1 100, 4, .inl (f_2))) := by rw [ew_3]; exact g_at.put_self h15.1
        have x_8 : g_ex (fun q => q = (mf 15)) w1 w_3 := by rw [ew_3]; exact x_1.put (fun hz9 => rfl)
        refine lv_iinc (v := nI (rd + 1)) (lv' := [(2, .int (nI (rd + 1))), (0, .ref y), (1, .ref sp), (3, .int (nI ad)), (4, .int (go)), (5, .int (nI 0)), (6, .int (nI rg))]) hx hb dX3_runs_151 hl (k := 2) rfl (nI_1 rd) (by decide) rfl (fun ls hl => ?_)
        refine lv_goto (tgt := 246) hx hb dX3_runs_154 (by decide) ?_
        exact kk w_3 f_2 H locs ls (by first | rfl | (rw [ef_2]; rfl)) x_8 h_7 hW (lv_sub hl [1, 2, 0, 3, 4, 5, 6] rfl)
      · refine lv_aload_n hx hb dX3_runs_138 rfl (lv_at hl 1 rfl) ?_
        refine lv_iload_n hx hb dX3_runs_139 rfl (lv_at hl 2 rfl) ?_
        obtain ⟨v, hr1, hb1⟩ := hst.rd hts hK hE hW
        refine g_calli (va_runV (As := [.int (nI rd)]) (rest := [.int (nI rg), .ref (mf 15)]) ⟨hx, hb, hml, hown, hts⟩ (mtJ16_charAt l D w1 H.size sp rd t hst hc) (cwV 1 hts (lw_V q2005 q750 q751 q63 q752) rfl rfl rfl (by decide +kernel) ⟨Nat.le_trans (Nat.le_of_ble_eq_true rfl) hRf, Nat.le_trans (Nat.le_of_ble_eq_true rfl) hRl⟩) (g_preVR hW hK hE hr1.2.2.2) rfl rfl hl.1 rfl (lv_room (Nat.le_of_ble_eq_true rfl)) dX3_runs_140 ⟨hRc, hRs⟩) hW (fun r_ u_ H locs hp hW => ?_)
        obtain ⟨er, rfl⟩ := hp
        subst er
        refine lv_bipush (v := 48) hx hb dX3_runs_143 (by decide) ?_
        refine lv_isub hx hb dX3_runs_145 ?_
        refine g_topi (y := mDig (digs t) rd) (mDig_t hkt hc) ?_
        refine lv_goto (tgt := 150) hx hb dX3_runs_146 (by decide) ?_
        have x_9 : g_ex (fun q => q = (mf 15)) w1 w1 := g_ex.rf
        refine g_iast (i := rg) hx hb hK hW h15 (hrg) (by decide) dX3_runs_150 (fun H locs hW => ?_)
        obtain ⟨f_10, ef_10⟩ : ∃ z__, z__ = upd (g) (rg) (mDig (digs t) rd) := ⟨_, rfl⟩
        rw [← ef_10] at hW
        obtain ⟨w_11, ew_11⟩ : ∃ z__, z__ = g_put w1 (mf 15) (.inl (D.1 100, 4, .inl (f_10))) := ⟨_, rfl⟩
        have hW := g_W.ren hW ew_11 rfl
        have h_12 : g_at w_11 y (.inr (10, mO mf (cd) (cn) (en) (td) (st) (rn) (tt) (km) (fi) (nx) (fm) (th))) := by rw [ew_11]; exact hy.put (g_neOA hy h15)
        have h_13 : g_at w_11 (mf 2) (.inl (D.1 100, 16, .inl (f2))) := by rw [ew_11]; exact h2.put (g_lne (hL 2 (by decide)) (hL 15 (by decide)) (by decide))
        have h_14 : g_at w_11 (mf 3) (.inl (D.1 100, 16, .inl (f3))) := by rw [ew_11]; exact h3.put (g_lne (hL 3 (by decide)) (hL 15 (by decide)) (by decide))
        have h_15 : g_at w_11 (mf 15) (.inl (D.1 100, 4, .inl (f_10))) := by rw [ew_11]; exact g_at.put_self h15.1
        have x_16 : g_ex (fun q => q = (mf 15)) w1 w_11 := by rw [ew_11]; exact x_9.put (fun hz9 => rfl)
        refine lv_iinc (v := nI (rd + 1)) (lv' := [(2, .int (nI (rd + 1))), (0, .ref y), (1, .ref sp), (3, .int (nI ad)), (4, .int (go)), (5, .int (nI 0)), (6, .int (nI rg))]) hx hb dX3_runs_151 hl (k := 2) rfl (nI_1 rd) (by decide) rfl (fun ls hl => ?_)
        refine lv_goto (tgt := 246) hx hb dX3_runs_154 (by decide) ?_
        exact kk w_11 f_10 H locs ls (by first | rfl | (rw [ef_10]; rfl)) x_16 h_15 hW (lv_sub hl [1, 2, 0, 3, 4, 5, 6] rfl)
    · refine lv_iload hx hb dX3_runs_113 (lv_at hl 5 rfl) ?_
      refine va_gets hx hb ((hE.2.2.2.2.2.2.1.1 0 (by decide)).1) hW.2.2.1 hown (hts _ q2041) (fun _ h9 => h9) dX3_runs_115 ?_
      refine g_calli (va_runU (As := []) (rest := [.int (nI 1)]) ⟨hx, hb, hml, hown, hts⟩ (mtJ10_ordinal l D w1 H.size (D.2 1002 0) (nI 0) (fun s hE => g_op (by decide) s hE)) (va_cwU (owner := "java/lang/Enum") (x := ⟨"Op", "ordinal", "()I"⟩) 0 hts (lw_app (lw_in _ [1990, 1208, 1209, 678, 50] (by decide +kernel) (by decide +kernel)) (lw_meth q679)) rfl rfl rfl rfl (by decide +kernel) ⟨Nat.le_trans (Nat.le_of_ble_eq_true rfl) hRf, Nat.le_trans (Nat.le_of_ble_eq_true rfl) hRl⟩) (g_preVR hW hK hE (g_opO hE hW (by decide))) rfl rfl hl.1 rfl (lv_room (Nat.le_of_ble_eq_true rfl)) dX3_runs_118 ⟨hRc, hRs⟩) hW (fun r_ u_ H locs hp hW => ?_)
      obtain ⟨er, rfl⟩ := hp
      subst er
      refine lv_icmp_ne (tgt := 157) hx hb dX3_runs_121 (by decide) (fun _ => ?_) (fun hz => absurd (by first | exact hz | exact Classical.not_not.mp hz) (by decide))
      refine lv_iload hx hb dX3_runs_157 (lv_at hl 5 rfl) ?_
      refine va_gets hx hb ((hE.2.2.2.2.2.2.1.1 1 (by decide)).1) hW.2.2.1 hown (hts _ q2042) (fun _ h9 => h9) dX3_runs_159 ?_
      refine g_calli (va_runU (As := []) (rest := [.int (nI 1)]) ⟨hx, hb, hml, hown, hts⟩ (mtJ10_ordinal l D w1 H.size (D.2 1002 1) (nI 1) (fun s hE => g_op (by decide) s hE)) (va_cwU (owner := "java/lang/Enum") (x := ⟨"Op", "ordinal", "()I"⟩) 0 hts (lw_app (lw_in _ [1990, 1208, 1209, 678, 50] (by decide +kernel) (by decide +kernel)) (lw_meth q679)) rfl rfl rfl rfl (by decide +kernel) ⟨Nat.le_trans (Nat.le_of_ble_eq_true rfl) hRf, Nat.le_trans (Nat.le_of_ble_eq_true rfl) hRl⟩) (g_preVR hW hK hE (g_opO hE hW (by decide))) rfl rfl hl.1 rfl (lv_room (Nat.le_of_ble_eq_true rfl)) dX3_runs_162 ⟨hRc, hRs⟩) hW (fun r_ u_ H locs hp hW => ?_)
      obtain ⟨er, rfl⟩ := hp
      subst er
      refine lv_icmp_ne (tgt := 184) hx hb dX3_runs_165 (by decide) (fun hz => absurd rfl hz) (fun _ => ?_)
      refine lv_aload_n hx hb dX3_runs_168 rfl (lv_at hl 0 rfl) ?_
      refine g_get (ci := 10) (v := .ref (mf 15)) (C := RX3) (T := TX3) (N := 28) hx hb hts in_X3 hown hK hW hy rfl 15 (by decide) q1899 (fun _ h9 => h9) rfl dX3_runs_169 ?_
      refine lv_iload hx hb dX3_runs_172 (lv_at hl 6 rfl) ?_
      refine lv_aload_n hx hb dX3_runs_174 rfl (lv_at hl 0 rfl) ?_
      refine g_get (ci := 10) (v := .ref (mf 2)) (C := RX3) (T := TX3) (N := 28) hx hb hts in_X3 hown hK hW hy rfl 2 (by decide) q1886 (fun _ h9 => h9) rfl dX3_runs_175 ?_
      refine lv_iload_n hx hb dX3_runs_178 rfl (lv_at hl 3 rfl) ?_
      refine g_iald (i := ad) hx hb hK hW h2 (had) (by decide) dX3_runs_179 ?_
      refine g_topi (y := vl) (e2) ?_
      have x_17 : g_ex (fun q => q = (mf 15)) w1 w1 := g_ex.rf
      refine g_iast (i := rg) hx hb hK hW h15 (hrg) (by decide) dX3_runs_180 (fun H locs hW => ?_)
      obtain ⟨f_18, ef_18⟩ : ∃ z__, z__ = upd (g) (rg) (vl) := ⟨_, rfl⟩
      rw [← ef_18] at hW
      obtain ⟨w_19, ew_19⟩ : ∃ z__, z__ = g_put w1 (mf 15) (.inl (D.1 100, 4, .inl (f_18))) := ⟨_, rfl⟩
      have hW := g_W.ren hW ew_19 rfl
      have h_20 : g_at w_19 y (.inr (10, mO mf (cd) (cn) (en) (td) (st) (rn) (tt) (km) (fi) (nx) (fm) (th))) := by rw [ew_19]; exact hy.put (g_neOA hy h15)
      have h_21 : g_at w_19 (mf 2) (.inl (D.1 100, 16, .inl (f2))) := by rw [ew_19]; exact h2.put (g_lne (hL 2 (by decide)) (hL 15 (by decide)) (by decide))
      have h_22 : g_at w_19 (mf 3) (.inl (D.1 100, 16, .inl (f3))) := by rw [ew_19]; exact h3.put (g_lne (hL 3 (by decide)) (hL 15 (by decide)) (by decide))
      have h_23 : g_at w_19 (mf 15) (.inl (D.1 100, 4, .inl (f_18))) := by rw [ew_19]; exact g_at.put_self h15.1
      have x_24 : g_ex (fun q => q = (mf 15)) w1 w_19 := by rw [ew_19]; exact x_17.put (fun hz9 => rfl)
      refine lv_goto (tgt := 246) hx hb dX3_runs_181 (by decide) ?_
      exact kk w_19 f_18 H locs ls (by first | rfl | (rw [ef_18]; rfl)) x_24 h_23 hW (lv_sub hl [0, 1, 2, 3, 4, 5, 6] rfl)
    · refine lv_iload hx hb dX3_runs_113 (lv_at hl 5 rfl) ?_
      refine va_gets hx hb ((hE.2.2.2.2.2.2.1.1 0 (by decide)).1) hW.2.2.1 hown (hts _ q2041) (fun _ h9 => h9) dX3_runs_115 ?_
      refine g_calli (va_runU (As := []) (rest := [.int (nI 2)]) ⟨hx, hb, hml, hown, hts⟩ (mtJ10_ordinal l D w1 H.size (D.2 1002 0) (nI 0) (fun s hE => g_op (by decide) s hE)) (va_cwU (owner := "java/lang/Enum") (x := ⟨"Op", "ordinal", "()I"⟩) 0 hts (lw_app (lw_in _ [1990, 1208, 1209, 678, 50] (by decide +kernel) (by decide +kernel)) (lw_meth q679)) rfl rfl rfl rfl (by decide +kernel) ⟨Nat.le_trans (Nat.le_of_ble_eq_true rfl) hRf, Nat.le_trans (Nat.le_of_ble_eq_true rfl) hRl⟩) (g_preVR hW hK hE (g_opO hE hW (by decide))) rfl rfl hl.1 rfl (lv_room (Nat.le_of_ble_eq_true rfl)) dX3_runs_118 ⟨hRc, hRs⟩) hW (fun r_ u_ H locs hp hW => ?_)
      obtain ⟨er, rfl⟩ := hp
      subst er
      refine lv_icmp_ne (tgt := 157) hx hb dX3_runs_121 (by decide) (fun _ => ?_) (fun hz => absurd (by first | exact hz | exact Classical.not_not.mp hz) (by decide))
      refine lv_iload hx hb dX3_runs_157 (lv_at hl 5 rfl) ?_
      refine va_gets hx hb ((hE.2.2.2.2.2.2.1.1 1 (by decide)).1) hW.2.2.1 hown (hts _ q2042) (fun _ h9 => h9) dX3_runs_159 ?_
      refine g_calli (va_runU (As := []) (rest := [.int (nI 2)]) ⟨hx, hb, hml, hown, hts⟩ (mtJ10_ordinal l D w1 H.size (D.2 1002 1) (nI 1) (fun s hE => g_op (by decide) s hE)) (va_cwU (owner := "java/lang/Enum") (x := ⟨"Op", "ordinal", "()I"⟩) 0 hts (lw_app (lw_in _ [1990, 1208, 1209, 678, 50] (by decide +kernel) (by decide +kernel)) (lw_meth q679)) rfl rfl rfl rfl (by decide +kernel) ⟨Nat.le_trans (Nat.le_of_ble_eq_true rfl) hRf, Nat.le_trans (Nat.le_of_ble_eq_true rfl) hRl⟩) (g_preVR hW hK hE (g_opO hE hW (by decide))) rfl rfl hl.1 rfl (lv_room (Nat.le_of_ble_eq_true rfl)) dX3_runs_162 ⟨hRc, hRs⟩) hW (fun r_ u_ H locs hp hW => ?_)
      obtain ⟨er, rfl⟩ := hp
      subst er
      refine lv_icmp_ne (tgt := 184) hx hb dX3_runs_165 (by decide) (fun _ => ?_) (fun hz => absurd (by first | exact hz | exact Classical.not_not.mp hz) (by decide))
      refine lv_iload hx hb dX3_runs_184 (lv_at hl 5 rfl) ?_
      refine va_gets hx hb ((hE.2.2.2.2.2.2.1.1 2 (by decide)).1) hW.2.2.1 hown (hts _ q2043) (fun _ h9 => h9) dX3_runs_186 ?_
      refine g_calli (va_runU (As := []) (rest := [.int (nI 2)]) ⟨hx, hb, hml, hown, hts⟩ (mtJ10_ordinal l D w1 H.size (D.2 1002 2) (nI 2) (fun s hE => g_op (by decide) s hE)) (va_cwU (owner := "java/lang/Enum") (x := ⟨"Op", "ordinal", "()I"⟩) 0 hts (lw_app (lw_in _ [1990, 1208, 1209, 678, 50] (by decide +kernel) (by decide +kernel)) (lw_meth q679)) rfl rfl rfl rfl (by decide +kernel) ⟨Nat.le_trans (Nat.le_of_ble_eq_true rfl) hRf, Nat.le_trans (Nat.le_of_ble_eq_true rfl) hRl⟩) (g_preVR hW hK hE (g_opO hE hW (by decide))) rfl rfl hl.1 rfl (lv_room (Nat.le_of_ble_eq_true rfl)) dX3_runs_189 ⟨hRc, hRs⟩) hW (fun r_ u_ H locs hp hW => ?_)
      obtain ⟨er, rfl⟩ := hp
      subst er
      refine lv_icmp_ne (tgt := 214) hx hb dX3_runs_192 (by decide) (fun hz => absurd rfl hz) (fun _ => ?_)
      refine lv_aload_n hx hb dX3_runs_195 rfl (lv_at hl 0 rfl) ?_
      refine g_get (ci := 10) (v := .ref (mf 15)) (C := RX3) (T := TX3) (N := 28) hx hb hts in_X3 hown hK hW hy rfl 15 (by decide) q1899 (fun _ h9 => h9) rfl dX3_runs_196 ?_
      refine lv_iload hx hb dX3_runs_199 (lv_at hl 6 rfl) ?_
      refine lv_dup2_11 hx hb dX3_runs_201 rfl rfl ?_
      refine g_iald (i := rg) hx hb hK hW h15 (hrg) (by decide) dX3_runs_202 ?_
      refine lv_aload_n hx hb dX3_runs_203 rfl (lv_at hl 0 rfl) ?_
      refine g_get (ci := 10) (v := .ref (mf 2)) (C := RX3) (T := TX3) (N := 28) hx hb hts in_X3 hown hK hW hy rfl 2 (by decide) q1886 (fun _ h9 => h9) rfl dX3_runs_204 ?_
      refine lv_iload_n hx hb dX3_runs_207 rfl (lv_at hl 3 rfl) ?_
      refine g_iald (i := ad) hx hb hK hW h2 (had) (by decide) dX3_runs_208 ?_
      refine g_topi (y := vl) (e2) ?_
      refine lv_iadd hx hb dX3_runs_209 ?_
      have x_25 : g_ex (fun q => q = (mf 15)) w1 w1 := g_ex.rf
      refine g_iast (i := rg) hx hb hK hW h15 (hrg) (by decide) dX3_runs_210 (fun H locs hW => ?_)
      obtain ⟨f_26, ef_26⟩ : ∃ z__, z__ = upd (g) (rg) ((g (rg)) + (vl)) := ⟨_, rfl⟩
      rw [← ef_26] at hW
      obtain ⟨w_27, ew_27⟩ : ∃ z__, z__ = g_put w1 (mf 15) (.inl (D.1 100, 4, .inl (f_26))) := ⟨_, rfl⟩
      have hW := g_W.ren hW ew_27 rfl
      have h_28 : g_at w_27 y (.inr (10, mO mf (cd) (cn) (en) (td) (st) (rn) (tt) (km) (fi) (nx) (fm) (th))) := by rw [ew_27]; exact hy.put (g_neOA hy h15)
      have h_29 : g_at w_27 (mf 2) (.inl (D.1 100, 16, .inl (f2))) := by rw [ew_27]; exact h2.put (g_lne (hL 2 (by decide)) (hL 15 (by decide)) (by decide))
      have h_30 : g_at w_27 (mf 3) (.inl (D.1 100, 16, .inl (f3))) := by rw [ew_27]; exact h3.put (g_lne (hL 3 (by decide)) (hL 15 (by decide)) (by decide))
      have h_31 : g_at w_27 (mf 15) (.inl (D.1 100, 4, .inl (f_26))) := by rw [ew_27]; exact g_at.put_self h15.1
      have x_32 : g_ex (fun q => q = (mf 15)) w1 w_27 := by rw [ew_27]; exact x_25.put (fun hz9 => rfl)
      refine lv_goto (tgt := 246) hx hb dX3_runs_211 (by decide) ?_
      exact kk w_27 f_26 H locs ls (by first | rfl | (rw [ef_26]; rfl)) x_32 h_31 hW (lv_sub hl [0, 1, 2, 3, 4, 5, 6] rfl)
    · refine lv_iload hx hb dX3_runs_113 (lv_at hl 5 rfl) ?_
      refine va_gets hx hb ((hE.2.2.2.2.2.2.1.1 0 (by decide)).1) hW.2.2.1 hown (hts _ q2041) (fun _ h9 => h9) dX3_runs_115 ?_
      refine g_calli (va_runU (As := []) (rest := [.int (nI 3)]) ⟨hx, hb, hml, hown, hts⟩ (mtJ10_ordinal l D w1 H.size (D.2 1002 0) (nI 0) (fun s hE => g_op (by decide) s hE)) (va_cwU (owner := "java/lang/Enum") (x := ⟨"Op", "ordinal", "()I"⟩) 0 hts (lw_app (lw_in _ [1990, 1208, 1209, 678, 50] (by decide +kernel) (by decide +kernel)) (lw_meth q679)) rfl rfl rfl rfl (by decide +kernel) ⟨Nat.le_trans (Nat.le_of_ble_eq_true rfl) hRf, Nat.le_trans (Nat.le_of_ble_eq_true rfl) hRl⟩) (g_preVR hW hK hE (g_opO hE hW (by decide))) rfl rfl hl.1 rfl (lv_room (Nat.le_of_ble_eq_true rfl)) dX3_runs_118 ⟨hRc, hRs⟩) hW (fun r_ u_ H locs hp hW => ?_)
      obtain ⟨er, rfl⟩ := hp
      subst er
      refine lv_icmp_ne (tgt := 157) hx hb dX3_runs_121 (by decide) (fun _ => ?_) (fun hz => absurd (by first | exact hz | exact Classical.not_not.mp hz) (by decide))
      refine lv_iload hx hb dX3_runs_157 (lv_at hl 5 rfl) ?_
      refine va_gets hx hb ((hE.2.2.2.2.2.2.1.1 1 (by decide)).1) hW.2.2.1 hown (hts _ q2042) (fun _ h9 => h9) dX3_runs_159 ?_
      refine g_calli (va_runU (As := []) (rest := [.int (nI 3)]) ⟨hx, hb, hml, hown, hts⟩ (mtJ10_ordinal l D w1 H.size (D.2 1002 1) (nI 1) (fun s hE => g_op (by decide) s hE)) (va_cwU (owner := "java/lang/Enum") (x := ⟨"Op", "ordinal", "()I"⟩) 0 hts (lw_app (lw_in _ [1990, 1208, 1209, 678, 50] (by decide +kernel) (by decide +kernel)) (lw_meth q679)) rfl rfl rfl rfl (by decide +kernel) ⟨Nat.le_trans (Nat.le_of_ble_eq_true rfl) hRf, Nat.le_trans (Nat.le_of_ble_eq_true rfl) hRl⟩) (g_preVR hW hK hE (g_opO hE hW (by decide))) rfl rfl hl.1 rfl (lv_room (Nat.le_of_ble_eq_true rfl)) dX3_runs_162 ⟨hRc, hRs⟩) hW (fun r_ u_ H locs hp hW => ?_)
      obtain ⟨er, rfl⟩ := hp
      subst er
      refine lv_icmp_ne (tgt := 184) hx hb dX3_runs_165 (by decide) (fun _ => ?_) (fun hz => absurd (by first | exact hz | exact Classical.not_not.mp hz) (by decide))
      refine lv_iload hx hb dX3_runs_184 (lv_at hl 5 rfl) ?_
      refine va_gets hx hb ((hE.2.2.2.2.2.2.1.1 2 (by decide)).1) hW.2.2.1 hown (hts _ q2043) (fun _ h9 => h9) dX3_runs_186 ?_
      refine g_calli (va_runU (As := []) (rest := [.int (nI 3)]) ⟨hx, hb, hml, hown, hts⟩ (mtJ10_ordinal l D w1 H.size (D.2 1002 2) (nI 2) (fun s hE => g_op (by decide) s hE)) (va_cwU (owner := "java/lang/Enum") (x := ⟨"Op", "ordinal", "()I"⟩) 0 hts (lw_app (lw_in _ [1990, 1208, 1209, 678, 50] (by decide +kernel) (by decide +kernel)) (lw_meth q679)) rfl rfl rfl rfl (by decide +kernel) ⟨Nat.le_trans (Nat.le_of_ble_eq_true rfl) hRf, Nat.le_trans (Nat.le_of_ble_eq_true rfl) hRl⟩) (g_preVR hW hK hE (g_opO hE hW (by decide))) rfl rfl hl.1 rfl (lv_room (Nat.le_of_ble_eq_true rfl)) dX3_runs_189 ⟨hRc, hRs⟩) hW (fun r_ u_ H locs hp hW => ?_)
      obtain ⟨er, rfl⟩ := hp
      subst er
      refine lv_icmp_ne (tgt := 214) hx hb dX3_runs_192 (by decide) (fun _ => ?_) (fun hz => absurd (by first | exact hz | exact Classical.not_not.mp hz) (by decide))
      refine lv_iload hx hb dX3_runs_214 (lv_at hl 5 rfl) ?_
      refine va_gets hx hb ((hE.2.2.2.2.2.2.1.1 3 (by decide)).1) hW.2.2.1 hown (hts _ q1988) (fun _ h9 => h9) dX3_runs_216 ?_
      refine g_calli (va_runU (As := []) (rest := [.int (nI 3)]) ⟨hx, hb, hml, hown, hts⟩ (mtJ10_ordinal l D w1 H.size (D.2 1002 3) (nI 3) (fun s hE => g_op (by decide) s hE)) (va_cwU (owner := "java/lang/Enum") (x := ⟨"Op", "ordinal", "()I"⟩) 0 hts (lw_app (lw_in _ [1990, 1208, 1209, 678, 50] (by decide +kernel) (by decide +kernel)) (lw_meth q679)) rfl rfl rfl rfl (by decide +kernel) ⟨Nat.le_trans (Nat.le_of_ble_eq_true rfl) hRf, Nat.le_trans (Nat.le_of_ble_eq_true rfl) hRl⟩) (g_preVR hW hK hE (g_opO hE hW (by decide))) rfl rfl hl.1 rfl (lv_room (Nat.le_of_ble_eq_true rfl)) dX3_runs_219 ⟨hRc, hRs⟩) hW (fun r_ u_ H locs hp hW => ?_)
      obtain ⟨er, rfl⟩ := hp
      subst er
      refine lv_icmp_ne (tgt := 246) hx hb dX3_runs_222 (by decide) (fun hz => absurd rfl hz) (fun _ => ?_)
      refine lv_aload_n hx hb dX3_runs_225 rfl (lv_at hl 0 rfl) ?_
      refine g_get (ci := 10) (v := .ref (mf 15)) (C := RX3) (T := TX3) (N := 28) hx hb hts in_X3 hown hK hW hy rfl 15 (by decide) q1899 (fun _ h9 => h9) rfl dX3_runs_226 ?_
      refine lv_iload hx hb dX3_runs_229 (lv_at hl 6 rfl) ?_
      refine lv_dup2_11 hx hb dX3_runs_231 rfl rfl ?_
      refine g_iald (i := rg) hx hb hK hW h15 (hrg) (by decide) dX3_runs_232 ?_
      refine lv_aload_n hx hb dX3_runs_233 rfl (lv_at hl 0 rfl) ?_
      refine g_get (ci := 10) (v := .ref (mf 15)) (C := RX3) (T := TX3) (N := 28) hx hb hts in_X3 hown hK hW hy rfl 15 (by decide) q1899 (fun _ h9 => h9) rfl dX3_runs_234 ?_
      refine lv_aload_n hx hb dX3_runs_237 rfl (lv_at hl 0 rfl) ?_
      refine g_get (ci := 10) (v := .ref (mf 3)) (C := RX3) (T := TX3) (N := 28) hx hb hts in_X3 hown hK hW hy rfl 3 (by decide) q1887 (fun _ h9 => h9) rfl dX3_runs_238 ?_
      refine lv_iload_n hx hb dX3_runs_241 rfl (lv_at hl 3 rfl) ?_
      refine g_iald (i := ad) hx hb hK hW h3 (had) (by decide) dX3_runs_242 ?_
      refine g_topi (y := nI tg) (e3) ?_
      refine g_iald (i := tg) hx hb hK hW h15 (htg rfl) (by decide) dX3_runs_243 ?_
      refine lv_iadd hx hb dX3_runs_244 ?_
      have x_33 : g_ex (fun q => q = (mf 15)) w1 w1 := g_ex.rf
      refine g_iast (i := rg) hx hb hK hW h15 (hrg) (by decide) dX3_runs_245 (fun H locs hW => ?_)
      obtain ⟨f_34, ef_34⟩ : ∃ z__, z__ = upd (g) (rg) ((g (rg)) + (g (tg))) := ⟨_, rfl⟩
      rw [← ef_34] at hW
      obtain ⟨w_35, ew_35⟩ : ∃ z__, z__ = g_put w1 (mf 15) (.inl (D.1 100, 4, .inl (f_34))) := ⟨_, rfl⟩
      have hW := g_W.ren hW ew_35 rfl
      have h_36 : g_at w_35 y (.inr (10, mO mf (cd) (cn) (en) (td) (st) (rn) (tt) (km) (fi) (nx) (fm) (th))) := by rw [ew_35]; exact hy.put (g_neOA hy h15)
      have h_37 : g_at w_35 (mf 2) (.inl (D.1 100, 16, .inl (f2))) := by rw [ew_35]; exact h2.put (g_lne (hL 2 (by decide)) (hL 15 (by decide)) (by decide))
      have h_38 : g_at w_35 (mf 3) (.inl (D.1 100, 16, .inl (f3))) := by rw [ew_35]; exact h3.put (g_lne (hL 3 (by decide)) (hL 15 (by decide)) (by decide))
      have h_39 : g_at w_35 (mf 15) (.inl (D.1 100, 4, .inl (f_34))) := by rw [ew_35]; exact g_at.put_self h15.1
      have x_40 : g_ex (fun q => q = (mf 15)) w1 w_35 := by rw [ew_35]; exact x_33.put (fun hz9 => rfl)
      exact kk w_35 f_34 H locs ls (by first | rfl | (rw [ef_34]; rfl)) x_40 h_39 hW (lv_sub hl [0, 1, 2, 3, 4, 5, 6] rfl)
    · refine lv_iload hx hb dX3_runs_113 (lv_at hl 5 rfl) ?_
      refine va_gets hx hb ((hE.2.2.2.2.2.2.1.1 0 (by decide)).1) hW.2.2.1 hown (hts _ q2041) (fun _ h9 => h9) dX3_runs_115 ?_
      refine g_calli (va_runU (As := []) (rest := [.int (nI 4)]) ⟨hx, hb, hml, hown, hts⟩ (mtJ10_ordinal l D w1 H.size (D.2 1002 0) (nI 0) (fun s hE => g_op (by decide) s hE)) (va_cwU (owner := "java/lang/Enum") (x := ⟨"Op", "ordinal", "()I"⟩) 0 hts (lw_app (lw_in _ [1990, 1208, 1209, 678, 50] (by decide +kernel) (by decide +kernel)) (lw_meth q679)) rfl rfl rfl rfl (by decide +kernel) ⟨Nat.le_trans (Nat.le_of_ble_eq_true rfl) hRf, Nat.le_trans (Nat.le_of_ble_eq_true rfl) hRl⟩) (g_preVR hW hK hE (g_opO hE hW (by decide))) rfl rfl hl.1 rfl (lv_room (Nat.le_of_ble_eq_true rfl)) dX3_runs_118 ⟨hRc, hRs⟩) hW (fun r_ u_ H locs hp hW => ?_)
      obtain ⟨er, rfl⟩ := hp
      subst er
      refine lv_icmp_ne (tgt := 157) hx hb dX3_runs_121 (by decide) (fun _ => ?_) (fun hz => absurd (by first | exact hz | exact Classical.not_not.mp hz) (by decide))
      refine lv_iload hx hb dX3_runs_157 (lv_at hl 5 rfl) ?_
      refine va_gets hx hb ((hE.2.2.2.2.2.2.1.1 1 (by decide)).1) hW.2.2.1 hown (hts _ q2042) (fun _ h9 => h9) dX3_runs_159 ?_
      refine g_calli (va_runU (As := []) (rest := [.int (nI 4)]) ⟨hx, hb, hml, hown, hts⟩ (mtJ10_ordinal l D w1 H.size (D.2 1002 1) (nI 1) (fun s hE => g_op (by decide) s hE)) (va_cwU (owner := "java/lang/Enum") (x := ⟨"Op", "ordinal", "()I"⟩) 0 hts (lw_app (lw_in _ [1990, 1208, 1209, 678, 50] (by decide +kernel) (by decide +kernel)) (lw_meth q679)) rfl rfl rfl rfl (by decide +kernel) ⟨Nat.le_trans (Nat.le_of_ble_eq_true rfl) hRf, Nat.le_trans (Nat.le_of_ble_eq_true rfl) hRl⟩) (g_preVR hW hK hE (g_opO hE hW (by decide))) rfl rfl hl.1 rfl (lv_room (Nat.le_of_ble_eq_true rfl)) dX3_runs_162 ⟨hRc, hRs⟩) hW (fun r_ u_ H locs hp hW => ?_)
      obtain ⟨er, rfl⟩ := hp
      subst er
      refine lv_icmp_ne (tgt := 184) hx hb dX3_runs_165 (by decide) (fun _ => ?_) (fun hz => absurd (by first | exact hz | exact Classical.not_not.mp hz) (by decide))
      refine lv_iload hx hb dX3_runs_184 (lv_at hl 5 rfl) ?_
      refine va_gets hx hb ((hE.2.2.2.2.2.2.1.1 2 (by decide)).1) hW.2.2.1 hown (hts _ q2043) (fun _ h9 => h9) dX3_runs_186 ?_
      refine g_calli (va_runU (As := []) (rest := [.int (nI 4)]) ⟨hx, hb, hml, hown, hts⟩ (mtJ10_ordinal l D w1 H.size (D.2 1002 2) (nI 2) (fun s hE => g_op (by decide) s hE)) (va_cwU (owner := "java/lang/Enum") (x := ⟨"Op", "ordinal", "()I"⟩) 0 hts (lw_app (lw_in _ [1990, 1208, 1209, 678, 50] (by decide +kernel) (by decide +kernel)) (lw_meth q679)) rfl rfl rfl rfl (by decide +kernel) ⟨Nat.le_trans (Nat.le_of_ble_eq_true rfl) hRf, Nat.le_trans (Nat.le_of_ble_eq_true rfl) hRl⟩) (g_preVR hW hK hE (g_opO hE hW (by decide))) rfl rfl hl.1 rfl (lv_room (Nat.le_of_ble_eq_true rfl)) dX3_runs_189 ⟨hRc, hRs⟩) hW (fun r_ u_ H locs hp hW => ?_)
      obtain ⟨er, rfl⟩ := hp
      subst er
      refine lv_icmp_ne (tgt := 214) hx hb dX3_runs_192 (by decide) (fun _ => ?_) (fun hz => absurd (by first | exact hz | exact Classical.not_not.mp hz) (by decide))
      refine lv_iload hx hb dX3_runs_214 (lv_at hl 5 rfl) ?_
      refine va_gets hx hb ((hE.2.2.2.2.2.2.1.1 3 (by decide)).1) hW.2.2.1 hown (hts _ q1988) (fun _ h9 => h9) dX3_runs_216 ?_
      refine g_calli (va_runU (As := []) (rest := [.int (nI 4)]) ⟨hx, hb, hml, hown, hts⟩ (mtJ10_ordinal l D w1 H.size (D.2 1002 3) (nI 3) (fun s hE => g_op (by decide) s hE)) (va_cwU (owner := "java/lang/Enum") (x := ⟨"Op", "ordinal", "()I"⟩) 0 hts (lw_app (lw_in _ [1990, 1208, 1209, 678, 50] (by decide +kernel) (by decide +kernel)) (lw_meth q679)) rfl rfl rfl rfl (by decide +kernel) ⟨Nat.le_trans (Nat.le_of_ble_eq_true rfl) hRf, Nat.le_trans (Nat.le_of_ble_eq_true rfl) hRl⟩) (g_preVR hW hK hE (g_opO hE hW (by decide))) rfl rfl hl.1 rfl (lv_room (Nat.le_of_ble_eq_true rfl)) dX3_runs_219 ⟨hRc, hRs⟩) hW (fun r_ u_ H locs hp hW => ?_)
      obtain ⟨er, rfl⟩ := hp
      subst er
      refine lv_icmp_ne (tgt := 246) hx hb dX3_runs_222 (by decide) (fun _ => ?_) (fun hz => absurd (by first | exact hz | exact Classical.not_not.mp hz) (by decide))
      exact kk w1 g H locs ls rfl g_ex.rf h15 hW (lv_sub hl [0, 1, 2, 3, 4, 5, 6] rfl)
    · refine lv_iload hx hb dX3_runs_113 (lv_at hl 5 rfl) ?_
      refine va_gets hx hb ((hE.2.2.2.2.2.2.1.1 0 (by decide)).1) hW.2.2.1 hown (hts _ q2041) (fun _ h9 => h9) dX3_runs_115 ?_
      refine g_calli (va_runU (As := []) (rest := [.int (nI 5)]) ⟨hx, hb, hml, hown, hts⟩ (mtJ10_ordinal l D w1 H.size (D.2 1002 0) (nI 0) (fun s hE => g_op (by decide) s hE)) (va_cwU (owner := "java/lang/Enum") (x := ⟨"Op", "ordinal", "()I"⟩) 0 hts (lw_app (lw_in _ [1990, 1208, 1209, 678, 50] (by decide +kernel) (by decide +kernel)) (lw_meth q679)) rfl rfl rfl rfl (by decide +kernel) ⟨Nat.le_trans (Nat.le_of_ble_eq_true rfl) hRf, Nat.le_trans (Nat.le_of_ble_eq_true rfl) hRl⟩) (g_preVR hW hK hE (g_opO hE hW (by decide))) rfl rfl hl.1 rfl (lv_room (Nat.le_of_ble_eq_true rfl)) dX3_runs_118 ⟨hRc, hRs⟩) hW (fun r_ u_ H locs hp hW => ?_)
      obtain ⟨er, rfl⟩ := hp
      subst er
      refine lv_icmp_ne (tgt := 157) hx hb dX3_runs_121 (by decide) (fun _ => ?_) (fun hz => absurd (by first | exact hz | exact Classical.not_not.mp hz) (by decide))
      refine lv_iload hx hb dX3_runs_157 (lv_at hl 5 rfl) ?_
      refine va_gets hx hb ((hE.2.2.2.2.2.2.1.1 1 (by decide)).1) hW.2.2.1 hown (hts _ q2042) (fun _ h9 => h9) dX3_runs_159 ?_
      refine g_calli (va_runU (As := []) (rest := [.int (nI 5)]) ⟨hx, hb, hml, hown, hts⟩ (mtJ10_ordinal l D w1 H.size (D.2 1002 1) (nI 1) (fun s hE => g_op (by decide) s hE)) (va_cwU (owner := "java/lang/Enum") (x := ⟨"Op", "ordinal", "()I"⟩) 0 hts (lw_app (lw_in _ [1990, 1208, 1209, 678, 50] (by decide +kernel) (by decide +kernel)) (lw_meth q679)) rfl rfl rfl rfl (by decide +kernel) ⟨Nat.le_trans (Nat.le_of_ble_eq_true rfl) hRf, Nat.le_trans (Nat.le_of_ble_eq_true rfl) hRl⟩) (g_preVR hW hK hE (g_opO hE hW (by decide))) rfl rfl hl.1 rfl (lv_room (Nat.le_of_ble_eq_true rfl)) dX3_runs_162 ⟨hRc, hRs⟩) hW (fun r_ u_ H locs hp hW => ?_)
      obtain ⟨er, rfl⟩ := hp
      subst er
      refine lv_icmp_ne (tgt := 184) hx hb dX3_runs_165 (by decide) (fun _ => ?_) (fun hz => absurd (by first | exact hz | exact Classical.not_not.mp hz) (by decide))
      refine lv_iload hx hb dX3_runs_184 (lv_at hl 5 rfl) ?_
      refine va_gets hx hb ((hE.2.2.2.2.2.2.1.1 2 (by decide)).1) hW.2.2.1 hown (hts _ q2043) (fun _ h9 => h9) dX3_runs_186 ?_
      refine g_calli (va_runU (As := []) (rest := [.int (nI 5)]) ⟨hx, hb, hml, hown, hts⟩ (mtJ10_ordinal l D w1 H.size (D.2 1002 2) (nI 2) (fun s hE => g_op (by decide) s hE)) (va_cwU (owner := "java/lang/Enum") (x := ⟨"Op", "ordinal", "()I"⟩) 0 hts (lw_app (lw_in _ [1990, 1208, 1209, 678, 50] (by decide +kernel) (by decide +kernel)) (lw_meth q679)) rfl rfl rfl rfl (by decide +kernel) ⟨Nat.le_trans (Nat.le_of_ble_eq_true rfl) hRf, Nat.le_trans (Nat.le_of_ble_eq_true rfl) hRl⟩) (g_preVR hW hK hE (g_opO hE hW (by decide))) rfl rfl hl.1 rfl (lv_room (Nat.le_of_ble_eq_true rfl)) dX3_runs_189 ⟨hRc, hRs⟩) hW (fun r_ u_ H locs hp hW => ?_)
      obtain ⟨er, rfl⟩ := hp
      subst er
      refine lv_icmp_ne (tgt := 214) hx hb dX3_runs_192 (by decide) (fun _ => ?_) (fun hz => absurd (by first | exact hz | exact Classical.not_not.mp hz) (by decide))
      refine lv_iload hx hb dX3_runs_214 (lv_at hl 5 rfl) ?_
      refine va_gets hx hb ((hE.2.2.2.2.2.2.1.1 3 (by decide)).1) hW.2.2.1 hown (hts _ q1988) (fun _ h9 => h9) dX3_runs_216 ?_
      refine g_calli (va_runU (As := []) (rest := [.int (nI 5)]) ⟨hx, hb, hml, hown, hts⟩ (mtJ10_ordinal l D w1 H.size (D.2 1002 3) (nI 3) (fun s hE => g_op (by decide) s hE)) (va_cwU (owner := "java/lang/Enum") (x := ⟨"Op", "ordinal", "()I"⟩) 0 hts (lw_app (lw_in _ [1990, 1208, 1209, 678, 50] (by decide +kernel) (by decide +kernel)) (lw_meth q679)) rfl rfl rfl rfl (by decide +kernel) ⟨Nat.le_trans (Nat.le_of_ble_eq_true rfl) hRf, Nat.le_trans (Nat.le_of_ble_eq_true rfl) hRl⟩) (g_preVR hW hK hE (g_opO hE hW (by decide))) rfl rfl hl.1 rfl (lv_room (Nat.le_of_ble_eq_true rfl)) dX3_runs_219 ⟨hRc, hRs⟩) hW (fun r_ u_ H locs hp hW => ?_)
      obtain ⟨er, rfl⟩ := hp
      subst er
      refine lv_icmp_ne (tgt := 246) hx hb dX3_runs_222 (by decide) (fun _ => ?_) (fun hz => absurd (by first | exact hz | exact Classical.not_not.mp hz) (by decide))
      exact kk w1 g H locs ls rfl g_ex.rf h15 hW (lv_sub hl [0, 1, 2, 3, 4, 5, 6] rfl)
    · refine lv_iload hx hb dX3_runs_113 (lv_at hl 5 rfl) ?_
      refine va_gets hx hb ((hE.2.2.2.2.2.2.1.1 0 (by decide)).1) hW.2.2.1 hown (hts _ q2041) (fun _ h9 => h9) dX3_runs_115 ?_
      refine g_calli (va_runU (As := []) (rest := [.int (nI 6)]) ⟨hx, hb, hml, hown, hts⟩ (mtJ10_ordinal l D w1 H.size (D.2 1002 0) (nI 0) (fun s hE => g_op (by decide) s hE)) (va_cwU (owner := "java/lang/Enum") (x := ⟨"Op", "ordinal", "()I"⟩) 0 hts (lw_app (lw_in _ [1990, 1208, 1209, 678, 50] (by decide +kernel) (by decide +kernel)) (lw_meth q679)) rfl rfl rfl rfl (by decide +kernel) ⟨Nat.le_trans (Nat.le_of_ble_eq_true rfl) hRf, Nat.le_trans (Nat.le_of_ble_eq_true rfl) hRl⟩) (g_preVR hW hK hE (g_opO hE hW (by decide))) rfl rfl hl.1 rfl (lv_room (Nat.le_of_ble_eq_true rfl)) dX3_runs_118 ⟨hRc, hRs⟩) hW (fun r_ u_ H locs hp hW => ?_)
      obtain ⟨er, rfl⟩ := hp
      subst er
      refine lv_icmp_ne (tgt := 157) hx hb dX3_runs_121 (by decide) (fun _ => ?_) (fun hz => absurd (by first | exact hz | exact Classical.not_not.mp hz) (by decide))
      refine lv_iload hx hb dX3_runs_157 (lv_at hl 5 rfl) ?_
      refine va_gets hx hb ((hE.2.2.2.2.2.2.1.1 1 (by decide)).1) hW.2.2.1 hown (hts _ q2042) (fun _ h9 => h9) dX3_runs_159 ?_
      refine g_calli (va_runU (As := []) (rest := [.int (nI 6)]) ⟨hx, hb, hml, hown, hts⟩ (mtJ10_ordinal l D w1 H.size (D.2 1002 1) (nI 1) (fun s hE => g_op (by decide) s hE)) (va_cwU (owner := "java/lang/Enum") (x := ⟨"Op", "ordinal", "()I"⟩) 0 hts (lw_app (lw_in _ [1990, 1208, 1209, 678, 50] (by decide +kernel) (by decide +kernel)) (lw_meth q679)) rfl rfl rfl rfl (by decide +kernel) ⟨Nat.le_trans (Nat.le_of_ble_eq_true rfl) hRf, Nat.le_trans (Nat.le_of_ble_eq_true rfl) hRl⟩) (g_preVR hW hK hE (g_opO hE hW (by decide))) rfl rfl hl.1 rfl (lv_room (Nat.le_of_ble_eq_true rfl)) dX3_runs_162 ⟨hRc, hRs⟩) hW (fun r_ u_ H locs hp hW => ?_)
      obtain ⟨er, rfl⟩ := hp
      subst er
      refine lv_icmp_ne (tgt := 184) hx hb dX3_runs_165 (by decide) (fun _ => ?_) (fun hz => absurd (by first | exact hz | exact Classical.not_not.mp hz) (by decide))
      refine lv_iload hx hb dX3_runs_184 (lv_at hl 5 rfl) ?_
      refine va_gets hx hb ((hE.2.2.2.2.2.2.1.1 2 (by decide)).1) hW.2.2.1 hown (hts _ q2043) (fun _ h9 => h9) dX3_runs_186 ?_
      refine g_calli (va_runU (As := []) (rest := [.int (nI 6)]) ⟨hx, hb, hml, hown, hts⟩ (mtJ10_ordinal l D w1 H.size (D.2 1002 2) (nI 2) (fun s hE => g_op (by decide) s hE)) (va_cwU (owner := "java/lang/Enum") (x := ⟨"Op", "ordinal", "()I"⟩) 0 hts (lw_app (lw_in _ [1990, 1208, 1209, 678, 50] (by decide +kernel) (by decide +kernel)) (lw_meth q679)) rfl rfl rfl rfl (by decide +kernel) ⟨Nat.le_trans (Nat.le_of_ble_eq_true rfl) hRf, Nat.le_trans (Nat.le_of_ble_eq_true rfl) hRl⟩) (g_preVR hW hK hE (g_opO hE hW (by decide))) rfl rfl hl.1 rfl (lv_room (Nat.le_of_ble_eq_true rfl)) dX3_runs_189 ⟨hRc, hRs⟩) hW (fun r_ u_ H locs hp hW => ?_)
      obtain ⟨er, rfl⟩ := hp
      subst er
      refine lv_icmp_ne (tgt := 214) hx hb dX3_runs_192 (by decide) (fun _ => ?_) (fun hz => absurd (by first | exact hz | exact Classical.not_not.mp hz) (by decide))
      refine lv_iload hx hb dX3_runs_214 (lv_at hl 5 rfl) ?_
      refine va_gets hx hb ((hE.2.2.2.2.2.2.1.1 3 (by decide)).1) hW.2.2.1 hown (hts _ q1988) (fun _ h9 => h9) dX3_runs_216 ?_
      refine g_calli (va_runU (As := []) (rest := [.int (nI 6)]) ⟨hx, hb, hml, hown, hts⟩ (mtJ10_ordinal l D w1 H.size (D.2 1002 3) (nI 3) (fun s hE => g_op (by decide) s hE)) (va_cwU (owner := "java/lang/Enum") (x := ⟨"Op", "ordinal", "()I"⟩) 0 hts (lw_app (lw_in _ [1990, 1208, 1209, 678, 50] (by decide +kernel) (by decide +kernel)) (lw_meth q679)) rfl rfl rfl rfl (by decide +kernel) ⟨Nat.le_trans (Nat.le_of_ble_eq_true rfl) hRf, Nat.le_trans (Nat.le_of_ble_eq_true rfl) hRl⟩) (g_preVR hW hK hE (g_opO hE hW (by decide))) rfl rfl hl.1 rfl (lv_room (Nat.le_of_ble_eq_true rfl)) dX3_runs_219 ⟨hRc, hRs⟩) hW (fun r_ u_ H locs hp hW => ?_)
      obtain ⟨er, rfl⟩ := hp
      subst er
      refine lv_icmp_ne (tgt := 246) hx hb dX3_runs_222 (by decide) (fun _ => ?_) (fun hz => absurd (by first | exact hz | exact Classical.not_not.mp hz) (by decide))
      exact kk w1 g H locs ls rfl g_ex.rf h15 hW (lv_sub hl [0, 1, 2, 3, 4, 5, 6] rfl)
    · refine lv_iload hx hb dX3_runs_113 (lv_at hl 5 rfl) ?_
      refine va_gets hx hb ((hE.2.2.2.2.2.2.1.1 0 (by decide)).1) hW.2.2.1 hown (hts _ q2041) (fun _ h9 => h9) dX3_runs_115 ?_
      refine g_calli (va_runU (As := []) (rest := [.int (nI 7)]) ⟨hx, hb, hml, hown, hts⟩ (mtJ10_ordinal l D w1 H.size (D.2 1002 0) (nI 0) (fun s hE => g_op (by decide) s hE)) (va_cwU (owner := "java/lang/Enum") (x := ⟨"Op", "ordinal", "()I"⟩) 0 hts (lw_app (lw_in _ [1990, 1208, 1209, 678, 50] (by decide +kernel) (by decide +kernel)) (lw_meth q679)) rfl rfl rfl rfl (by decide +kernel) ⟨Nat.le_trans (Nat.le_of_ble_eq_true rfl) hRf, Nat.le_trans (Nat.le_of_ble_eq_true rfl) hRl⟩) (g_preVR hW hK hE (g_opO hE hW (by decide))) rfl rfl hl.1 rfl (lv_room (Nat.le_of_ble_eq_true rfl)) dX3_runs_118 ⟨hRc, hRs⟩) hW (fun r_ u_ H locs hp hW => ?_)
      obtain ⟨er, rfl⟩ := hp
      subst er
      refine lv_icmp_ne (tgt := 157) hx hb dX3_runs_121 (by decide) (fun _ => ?_) (fun hz => absurd (by first | exact hz | exact Classical.not_not.mp hz) (by decide))
      refine lv_iload hx hb dX3_runs_157 (lv_at hl 5 rfl) ?_
      refine va_gets hx hb ((hE.2.2.2.2.2.2.1.1 1 (by decide)).1) hW.2.2.1 hown (hts _ q2042) (fun _ h9 => h9) dX3_runs_159 ?_
      refine g_calli (va_runU (As := []) (rest := [.int (nI 7)]) ⟨hx, hb, hml, hown, hts⟩ (mtJ10_ordinal l D w1 H.size (D.2 1002 1) (nI 1) (fun s hE => g_op (by decide) s hE)) (va_cwU (owner := "java/lang/Enum") (x := ⟨"Op", "ordinal", "()I"⟩) 0 hts (lw_app (lw_in _ [1990, 1208, 1209, 678, 50] (by decide +kernel) (by decide +kernel)) (lw_meth q679)) rfl rfl rfl rfl (by decide +kernel) ⟨Nat.le_trans (Nat.le_of_ble_eq_true rfl) hRf, Nat.le_trans (Nat.le_of_ble_eq_true rfl) hRl⟩) (g_preVR hW hK hE (g_opO hE hW (by decide))) rfl rfl hl.1 rfl (lv_room (Nat.le_of_ble_eq_true rfl)) dX3_runs_162 ⟨hRc, hRs⟩) hW (fun r_ u_ H locs hp hW => ?_)
      obtain ⟨er, rfl⟩ := hp
      subst er
      refine lv_icmp_ne (tgt := 184) hx hb dX3_runs_165 (by decide) (fun _ => ?_) (fun hz => absurd (by first | exact hz | exact Classical.not_not.mp hz) (by decide))
      refine lv_iload hx hb dX3_runs_184 (lv_at hl 5 rfl) ?_
      refine va_gets hx hb ((hE.2.2.2.2.2.2.1.1 2 (by decide)).1) hW.2.2.1 hown (hts _ q2043) (fun _ h9 => h9) dX3_runs_186 ?_
      refine g_calli (va_runU (As := []) (rest := [.int (nI 7)]) ⟨hx, hb, hml, hown, hts⟩ (mtJ10_ordinal l D w1 H.size (D.2 1002 2) (nI 2) (fun s hE => g_op (by decide) s hE)) (va_cwU (owner := "java/lang/Enum") (x := ⟨"Op", "ordinal", "()I"⟩) 0 hts (lw_app (lw_in _ [1990, 1208, 1209, 678, 50] (by decide +kernel) (by decide +kernel)) (lw_meth q679)) rfl rfl rfl rfl (by decide +kernel) ⟨Nat.le_trans (Nat.le_of_ble_eq_true rfl) hRf, Nat.le_trans (Nat.le_of_ble_eq_true rfl) hRl⟩) (g_preVR hW hK hE (g_opO hE hW (by decide))) rfl rfl hl.1 rfl (lv_room (Nat.le_of_ble_eq_true rfl)) dX3_runs_189 ⟨hRc, hRs⟩) hW (fun r_ u_ H locs hp hW => ?_)
      obtain ⟨er, rfl⟩ := hp
      subst er
      refine lv_icmp_ne (tgt := 214) hx hb dX3_runs_192 (by decide) (fun _ => ?_) (fun hz => absurd (by first | exact hz | exact Classical.not_not.mp hz) (by decide))
      refine lv_iload hx hb dX3_runs_214 (lv_at hl 5 rfl) ?_
      refine va_gets hx hb ((hE.2.2.2.2.2.2.1.1 3 (by decide)).1) hW.2.2.1 hown (hts _ q1988) (fun _ h9 => h9) dX3_runs_216 ?_
      refine g_calli (va_runU (As := []) (rest := [.int (nI 7)]) ⟨hx, hb, hml, hown, hts⟩ (mtJ10_ordinal l D w1 H.size (D.2 1002 3) (nI 3) (fun s hE => g_op (by decide) s hE)) (va_cwU (owner := "java/lang/Enum") (x := ⟨"Op", "ordinal", "()I"⟩) 0 hts (lw_app (lw_in _ [1990, 1208, 1209, 678, 50] (by decide +kernel) (by decide +kernel)) (lw_meth q679)) rfl rfl rfl rfl (by decide +kernel) ⟨Nat.le_trans (Nat.le_of_ble_eq_true rfl) hRf, Nat.le_trans (Nat.le_of_ble_eq_true rfl) hRl⟩) (g_preVR hW hK hE (g_opO hE hW (by decide))) rfl rfl hl.1 rfl (lv_room (Nat.le_of_ble_eq_true rfl)) dX3_runs_219 ⟨hRc, hRs⟩) hW (fun r_ u_ H locs hp hW => ?_)
      obtain ⟨er, rfl⟩ := hp
      subst er
      refine lv_icmp_ne (tgt := 246) hx hb dX3_runs_222 (by decide) (fun _ => ?_) (fun hz => absurd (by first | exact hz | exact Classical.not_not.mp hz) (by decide))
      exact kk w1 g H locs ls rfl g_ex.rf h15 hW (lv_sub hl [0, 1, 2, 3, 4, 5, 6] rfl)
    · refine lv_iload hx hb dX3_runs_113 (lv_at hl 5 rfl) ?_
      refine va_gets hx hb ((hE.2.2.2.2.2.2.1.1 0 (by decide)).1) hW.2.2.1 hown (hts _ q2041) (fun _ h9 => h9) dX3_runs_115 ?_
      refine g_calli (va_runU (As := []) (rest := [.int (nI 8)]) ⟨hx, hb, hml, hown, hts⟩ (mtJ10_ordinal l D w1 H.size (D.2 1002 0) (nI 0) (fun s hE => g_op (by decide) s hE)) (va_cwU (owner := "java/lang/Enum") (x := ⟨"Op", "ordinal", "()I"⟩) 0 hts (lw_app (lw_in _ [1990, 1208, 1209, 678, 50] (by decide +kernel) (by decide +kernel)) (lw_meth q679)) rfl rfl rfl rfl (by decide +kernel) ⟨Nat.le_trans (Nat.le_of_ble_eq_true rfl) hRf, Nat.le_trans (Nat.le_of_ble_eq_true rfl) hRl⟩) (g_preVR hW hK hE (g_opO hE hW (by decide))) rfl rfl hl.1 rfl (lv_room (Nat.le_of_ble_eq_true rfl)) dX3_runs_118 ⟨hRc, hRs⟩) hW (fun r_ u_ H locs hp hW => ?_)
      obtain ⟨er, rfl⟩ := hp
      subst er
      refine lv_icmp_ne (tgt := 157) hx hb dX3_runs_121 (by decide) (fun _ => ?_) (fun hz => absurd (by first | exact hz | exact Classical.not_not.mp hz) (by decide))
      refine lv_iload hx hb dX3_runs_157 (lv_at hl 5 rfl) ?_
      refine va_gets hx hb ((hE.2.2.2.2.2.2.1.1 1 (by decide)).1) hW.2.2.1 hown (hts _ q2042) (fun _ h9 => h9) dX3_runs_159 ?_
      refine g_calli (va_runU (As := []) (rest := [.int (nI 8)]) ⟨hx, hb, hml, hown, hts⟩ (mtJ10_ordinal l D w1 H.size (D.2 1002 1) (nI 1) (fun s hE => g_op (by decide) s hE)) (va_cwU (owner := "java/lang/Enum") (x := ⟨"Op", "ordinal", "()I"⟩) 0 hts (lw_app (lw_in _ [1990, 1208, 1209, 678, 50] (by decide +kernel) (by decide +kernel)) (lw_meth q679)) rfl rfl rfl rfl (by decide +kernel) ⟨Nat.le_trans (Nat.le_of_ble_eq_true rfl) hRf, Nat.le_trans (Nat.le_of_ble_eq_true rfl) hRl⟩) (g_preVR hW hK hE (g_opO hE hW (by decide))) rfl rfl hl.1 rfl (lv_room (Nat.le_of_ble_eq_true rfl)) dX3_runs_162 ⟨hRc, hRs⟩) hW (fun r_ u_ H locs hp hW => ?_)
      obtain ⟨er, rfl⟩ := hp
      subst er
      refine lv_icmp_ne (tgt := 184) hx hb dX3_runs_165 (by decide) (fun _ => ?_) (fun hz => absurd (by first | exact hz | exact Classical.not_not.mp hz) (by decide))
      refine lv_iload hx hb dX3_runs_184 (lv_at hl 5 rfl) ?_
      refine va_gets hx hb ((hE.2.2.2.2.2.2.1.1 2 (by decide)).1) hW.2.2.1 hown (hts _ q2043) (fun _ h9 => h9) dX3_runs_186 ?_
      refine g_calli (va_runU (As := []) (rest := [.int (nI 8)]) ⟨hx, hb, hml, hown, hts⟩ (mtJ10_ordinal l D w1 H.size (D.2 1002 2) (nI 2) (fun s hE => g_op (by decide) s hE)) (va_cwU (owner := "java/lang/Enum") (x := ⟨"Op", "ordinal", "()I"⟩) 0 hts (lw_app (lw_in _ [1990, 1208, 1209, 678, 50] (by decide +kernel) (by decide +kernel)) (lw_meth q679)) rfl rfl rfl rfl (by decide +kernel) ⟨Nat.le_trans (Nat.le_of_ble_eq_true rfl) hRf, Nat.le_trans (Nat.le_of_ble_eq_true rfl) hRl⟩) (g_preVR hW hK hE (g_opO hE hW (by decide))) rfl rfl hl.1 rfl (lv_room (Nat.le_of_ble_eq_true rfl)) dX3_runs_189 ⟨hRc, hRs⟩) hW (fun r_ u_ H locs hp hW => ?_)
      obtain ⟨er, rfl⟩ := hp
      subst er
      refine lv_icmp_ne (tgt := 214) hx hb dX3_runs_192 (by decide) (fun _ => ?_) (fun hz => absurd (by first | exact hz | exact Classical.not_not.mp hz) (by decide))
      refine lv_iload hx hb dX3_runs_214 (lv_at hl 5 rfl) ?_
      refine va_gets hx hb ((hE.2.2.2.2.2.2.1.1 3 (by decide)).1) hW.2.2.1 hown (hts _ q1988) (fun _ h9 => h9) dX3_runs_216 ?_
      refine g_calli (va_runU (As := []) (rest := [.int (nI 8)]) ⟨hx, hb, hml, hown, hts⟩ (mtJ10_ordinal l D w1 H.size (D.2 1002 3) (nI 3) (fun s hE => g_op (by decide) s hE)) (va_cwU (owner := "java/lang/Enum") (x := ⟨"Op", "ordinal", "()I"⟩) 0 hts (lw_app (lw_in _ [1990, 1208, 1209, 678, 50] (by decide +kernel) (by decide +kernel)) (lw_meth q679)) rfl rfl rfl rfl (by decide +kernel) ⟨Nat.le_trans (Nat.le_of_ble_eq_true rfl) hRf, Nat.le_trans (Nat.le_of_ble_eq_true rfl) hRl⟩) (g_preVR hW hK hE (g_opO hE hW (by decide))) rfl rfl hl.1 rfl (lv_room (Nat.le_of_ble_eq_true rfl)) dX3_runs_219 ⟨hRc, hRs⟩) hW (fun r_ u_ H locs hp hW => ?_)
      obtain ⟨er, rfl⟩ := hp
      subst er
      refine lv_icmp_ne (tgt := 246) hx hb dX3_runs_222 (by decide) (fun _ => ?_) (fun hz => absurd (by first | exact hz | exact Classical.not_not.mp hz) (by decide))
      exact kk w1 g H locs ls rfl g_ex.rf h15 hW (lv_sub hl [0, 1, 2, 3, 4, 5, 6] rfl)
