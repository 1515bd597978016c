/-! the model: runs, failsWith *
-/
set_option maxRecDepth 100000
def mPr (D : va_G) (w : g_H) (mf : Nat → Nat) (P : List mI) : Prop := ∃ f0 f1 f2 f3 : Nat → Int32, g_at w (mf 0) (.inl (D.1 100, 16, .inl f0)) ∧ g_at w (mf 1) (.inl (D.1 100, 16, .inl f1)) ∧ g_at w (mf 2) (.inl (D.1 100, 16, .inl f2)) ∧ g_at w (mf 3) (.inl (D.1 100, 16, .inl f3)) ∧ P.length ≤ 16 ∧ (∀ j, j < P.length → mOk (P.getD j mI0)) ∧ (∀ j, j < P.length → f0 j = nI (P.getD j mI0).1) ∧ (∀ j, j < P.length → f1 j = nI (P.getD j mI0).2.1) ∧ (∀ j, j < P.length → f2 j = (P.getD j mI0).2.2.1) ∧ (∀ j, j < P.length → f3 j = nI (P.getD j mI0).2.2.2)
/-- the rows that a run changes -/
def mRw (D : va_G) (w : g_H) (mf : Nat → Nat) (E : Nat → Bool) : Prop := ∃ fE g : Nat → Int32, g_at w (mf 14) (.inl (D.1 102, 272, .inl fE)) ∧ mEg fE E ∧ g_at w (mf 15) (.inl (D.1 100, 4, .inl g))
theorem mPr.ex {D : va_G} {w w' : g_H} {M : Nat → Prop} {mf : Nat → Nat} {P : List mI} (h : mPr D w mf P) (q : g_ex M w w') (n : ∀ k, k ∈ [0, 1, 2, 3] → ¬ M (mf k)) : mPr D w' mf P := by
  obtain ⟨f0, f1, f2, f3, h0, h1, h2, h3, hr⟩ := h
  exact ⟨f0, f1, f2, f3, q.at h0 (n 0 (by decide)), q.at h1 (n 1 (by decide)), q.at h2 (n 2 (by decide)), q.at h3 (n 3 (by decide)), hr⟩
theorem mRw.ex {D : va_G} {w w' : g_H} {M : Nat → Prop} {mf : Nat → Nat} {E : Nat → Bool} (h : mRw D w mf E) (q : g_ex M w w') (n1 : ¬ M (mf 14)) (n2 : ¬ M (mf 15)) : mRw D w' mf E := by
  obtain ⟨fE, g, h1, h2, h3⟩ := h
  exact ⟨fE, g, q.at h1 n1, h2, q.at h3 n2⟩
noncomputable def mTo (P : List mI) (xs : List Nat) : Int32 := mTd (mOut P xs).1 (mOut P xs).2.1
theorem mTo_c {P : List mI} {xs : List Nat} (h : (mOut P xs).1 = 1) : mTo P xs = mCode P xs := by unfold mTo mTd mCode; rw [if_pos h]
theorem mFails_iff {P : List mI} {xs : List Nat} {c : Int32} : mFails P xs c = true ↔ (mOut P xs).1 = 1 ∧ mCode P xs = c := by
  unfold mFails
  rw [decide_eq_true_iff]
  refine ⟨fun h => ⟨h.1, by unfold mCode; rw [h.2]; rfl⟩, fun h => ⟨h.1, ?_⟩⟩
  obtain ⟨v, hv⟩ : ∃ v, (mOut P xs).2.1 = some v := by
    have h1 := h.1
    rw [mOut_eq] at h1 ⊢
    exact m_code _ _ _ _ _ h1
  have h2 := h.2
  unfold mCode at h2
  rw [hv] at h2 ⊢
  rw [show v = c from h2]
theorem mFails_0 {P : List mI} {xs : List Nat} {c : Int32} (h : ¬ ((mOut P xs).1 = 1 ∧ mCode P xs = c)) : mFails P xs c = false := Bool.eq_false_iff.mpr (fun z => h (mFails_iff.mp z))
theorem mFails_1 {P : List mI} {xs : List Nat} {c : Int32} (h : (mOut P xs).1 = 1) (k : mCode P xs = c) : mFails P xs c = true := mFails_iff.mpr ⟨h, k⟩
theorem str_no {D : va_G} {w w' : g_H} {y sp : Nat} {a b : Nat} {t : List Nat} {fs : List Value} {ca cb : ClassId} {xa xb : vp_A} (h : g_Str D w sp t) (hy : g_at w y (.inr (10, fs))) (ha : g_at w a (.inl (ca, xa))) (hb : g_at w b (.inl (cb, xb))) (na : ca ≠ D.1 101) (nb : cb ≠ D.1 101) (q : g_ex (fun q => q = y ∨ q = a ∨ q = b) w w') : g_Str D w' sp t :=
  ((g_mut.obj hy).or ((g_mut.arr ha na).or (g_mut.arr hb nb))).str h q
set_option maxHeartbeats 4000000 in
set_option maxRecDepth 100000 in
/-- Model.runs: the edges cleared -/
theorem lpX3_clrE {p : Program} {l : Launch} {e : Env} {R : Room} {s : State} {m : MethodId} {args : Array Value} {below : List Frame} {meth : Method} {c : Code} {cells slots : Nat} {Q : State → Prop} {D : va_G} {A : Nat → Prop} (hx : p.tables.exec = Jvm.exec) (hb : c.code = cX3_runs) (hts : ∀ w ∈ lw_all, w.before args s = true) (hown : s.vm.findClass RX3 = some m.cls) (hK : va_K D gCl (gT D) s) (hE : g_Env D A s) (hml : c.maxLocals = 8) (hRf : 1 ≤ R.frames) (hRl : 12 ≤ R.locals) (hRc : cells ≤ R.cells) (hRs : slots ≤ R.slots) (y sp : Nat) (mf : Nat → Nat) (cd cn en td st rn : Int32) (tt : Int64) (km fi nx fm th : Int32) (w : g_H) (hyn : y ≠ mf 14) (hy : g_at w y (.inr (10, mO mf (cd) (cn) (en) (td) (st) (rn) (tt) (km) (fi) (nx) (fm) (th))))
    (kk : ∀ (w2 : g_H) (f2 : Nat → Int32) (H : Heap) (locs : List Loc) (ls : Array Slot), g_ex (fun q => q = mf 14) w w2 → g_at w2 (mf 14) (.inl (D.1 102, 272, .inl f2)) → (∀ e, e < 272 → f2 e = 0) → g_W D A s.heap H locs w2 → lv_has ls 8 [(0, .ref y), (1, .ref sp)] → W p l e R s m args below meth c H locs cells slots Q (F0 m 24 ls [])) :
    ∀ (k : Nat) (i : Nat) (f : Nat → Int32) (w1 : g_H) (H : Heap) (locs : List Loc) (ls : Array Slot), 272 < i + k → i ≤ 272 → g_ex (fun q => q = mf 14) w w1 → g_at w1 (mf 14) (.inl (D.1 102, 272, .inl f)) → (∀ e, e < i → f e = 0) → g_W D A s.heap H locs w1 → lv_has ls 8 [(2, .int (nI i)), (0, .ref y), (1, .ref sp)] → W p l e R s m args below meth c H locs cells slots Q (F0 m 2 ls []) := by
  intro k
  induction k with
  | zero => intro i f w1 H locs ls hfuel hi hex h14 hz hW hl; exact absurd hfuel (by omega)
  | succ k ih =>
    intro i f w1 H locs ls hfuel hi hex h14 hz hW hl
    have hyn : y ≠ mf 14 := hyn
    have hyb := hex.at hy hyn
    refine lv_iload_n hx hb dX3_runs_2 rfl (lv_at hl 0 rfl) ?_
    refine lv_aload_n hx hb dX3_runs_3 rfl (lv_at hl 1 rfl) ?_
    refine g_get (ci := 10) (v := .ref (mf 14)) (C := RX3) (T := TX3) (N := 28) hx hb hts in_X3 hown hK hW hyb rfl 14 (by decide) q1898 (fun _ h9 => h9) rfl dX3_runs_4 ?_
    refine g_alen hx hb hK hW 2 h14 rfl dX3_runs_7 ?_
    refine g_icmp_ge (x := i) (y := 272) (tgt := 24) hx hb (by omega) (by decide) dX3_runs_8 (by decide) (fun hc => ?_) (fun hc => ?_)
    · exact kk w1 f H locs ls hex h14 (fun e he => hz e (by omega)) hW (lv_sub hl [1, 2] rfl)
    · refine lv_aload_n hx hb dX3_runs_11 rfl (lv_at hl 1 rfl) ?_
      refine g_get (ci := 10) (v := .ref (mf 14)) (C := RX3) (T := TX3) (N := 28) hx hb hts in_X3 hown hK hW hyb rfl 14 (by decide) q1898 (fun _ h9 => h9) rfl dX3_runs_12 ?_
      refine lv_iload_n hx hb dX3_runs_15 rfl (lv_at hl 0 rfl) ?_
      refine lv_iconst (v := 0) hx hb dX3_runs_16 (by decide) ?_
      refine g_zast (n := 272) (i := nI i) hx hb hK hW h14 (vp_in_nI hc (by decide)) dX3_runs_17 (fun H locs hW => ?_)
      rw [nI_clamp (by omega)] at hW
      obtain ⟨f_1, ef_1⟩ : ∃ z__, z__ = upd f i (vp_nar .boolean 0) := ⟨_, rfl⟩
      rw [← ef_1] at hW
      obtain ⟨w_2, ew_2⟩ : ∃ z__, z__ = g_put w1 (mf 14) (.inl (D.1 102, 272, .inl (f_1))) := ⟨_, rfl⟩
      have hW := g_W.ren hW ew_2 rfl
      have h_3 : g_at w_2 y (.inr (10, mO mf (cd) (cn) (en) (td) (st) (rn) (tt) (km) (fi) (nx) (fm) (th))) := by rw [ew_2]; exact hyb.put (g_neOA hyb h14)
      have h_4 : g_at w_2 (mf 14) (.inl (D.1 102, 272, .inl (f_1))) := by rw [ew_2]; exact g_at.put_self h14.1
      have x_5 : g_ex (fun q => q = mf 14) w w_2 := by rw [ew_2]; exact hex.put (fun hz9 => rfl)
      refine lv_iinc (v := nI (i + 1)) (lv' := [(2, .int (nI (i + 1))), (0, .ref y), (1, .ref sp)]) hx hb dX3_runs_18 hl (k := 0) rfl (nI_1 i) (by decide) rfl (fun ls hl => ?_)
      refine lv_goto (tgt := 2) hx hb dX3_runs_21 (by decide) ?_
      exact ih (i + 1) f_1 w_2 H locs ls (by omega) (by omega) x_5 h_4 (fun e he => by rw [ef_1]; unfold upd; split; rfl; exact hz e (by omega)) hW (lv_sub hl [0, 1, 2] rfl)
set_option maxHeartbeats 4000000 in
set_option maxRecDepth 100000 in
/-- Model.runs: the registers cleared -/
theorem lpX3_clrH {p : Program} {l : Launch} {e : Env} {R : Room} {s : State} {m : MethodId} {args : Array Value} {below : List Frame} {meth : Method} {c : Code} {cells slots : Nat} {Q : State → Prop} {D : va_G} {A : Nat → Prop} (hx : p.tables.exec = Jvm.exec) (hb : c.code = cX3_runs) (hts : ∀ w ∈ lw_all, w.before args s = true) (hown : s.vm.findClass RX3 = some m.cls) (hK : va_K D gCl (gT D) s) (hE : g_Env D A s) (hml : c.maxLocals = 8) (hRf : 1 ≤ R.frames) (hRl : 12 ≤ R.locals) (hRc : cells ≤ R.cells) (hRs : slots ≤ R.slots) (y sp : Nat) (mf : Nat → Nat) (cd cn en td st rn : Int32) (tt : Int64) (km fi nx fm th : Int32) (w : g_H) (hyn : y ≠ mf 15) (hy : g_at w y (.inr (10, mO mf (cd) (cn) (en) (td) (st) (rn) (tt) (km) (fi) (nx) (fm) (th))))
    (kk : ∀ (w2 : g_H) (f2 : Nat → Int32) (H : Heap) (locs : List Loc) (ls : Array Slot), g_ex (fun q => q = mf 15) w w2 → g_at w2 (mf 15) (.inl (D.1 100, 4, .inl f2)) → (∀ e, e < 4 → f2 e = 0) → g_W D A s.heap H locs w2 → lv_has ls 8 [(0, .ref y), (1, .ref sp)] → W p l e R s m args below meth c H locs cells slots Q (F0 m 48 ls [])) :
    ∀ (k : Nat) (i : Nat) (f : Nat → Int32) (w1 : g_H) (H : Heap) (locs : List Loc) (ls : Array Slot), 4 < i + k → i ≤ 4 → g_ex (fun q => q = mf 15) w w1 → g_at w1 (mf 15) (.inl (D.1 100, 4, .inl f)) → (∀ e, e < i → f e = 0) → g_W D A s.heap H locs w1 → lv_has ls 8 [(2, .int (nI i)), (0, .ref y), (1, .ref sp)] → W p l e R s m args below meth c H locs cells slots Q (F0 m 26 ls []) := by
  intro k
  induction k with
  | zero => intro i f w1 H locs ls hfuel hi hex h15 hz hW hl; exact absurd hfuel (by omega)
  | succ k ih =>
    intro i f w1 H locs ls hfuel hi hex h15 hz hW hl
    have hyb := hex.at hy hyn
    refine lv_iload_n hx hb dX3_runs_26 rfl (lv_at hl 0 rfl) ?_
    refine lv_aload_n hx hb dX3_runs_27 rfl (lv_at hl 1 rfl) ?_
    refine g_get (ci := 10) (v := .ref (mf 15)) (C := RX3) (T := TX3) (N := 28) hx hb hts in_X3 hown hK hW hyb rfl 15 (by decide) q1899 (fun _ h9 => h9) rfl dX3_runs_28 ?_
    refine g_alen hx hb hK hW 0 h15 rfl dX3_runs_31 ?_
    refine g_icmp_ge (x := i) (y := 4) (tgt := 48) hx hb (by omega) (by decide) dX3_runs_32 (by decide) (fun hc => ?_) (fun hc => ?_)
    · exact kk w1 f H locs ls hex h15 (fun e he => hz e (by omega)) hW (lv_sub hl [1, 2] rfl)
    · refine lv_aload_n hx hb dX3_runs_35 rfl (lv_at hl 1 rfl) ?_
      refine g_get (ci := 10) (v := .ref (mf 15)) (C := RX3) (T := TX3) (N := 28) hx hb hts in_X3 hown hK hW hyb rfl 15 (by decide) q1899 (fun _ h9 => h9) rfl dX3_runs_36 ?_
      refine lv_iload_n hx hb dX3_runs_39 rfl (lv_at hl 0 rfl) ?_
      refine lv_iconst (v := 0) hx hb dX3_runs_40 (by decide) ?_
      refine g_iast (i := i) hx hb hK hW h15 (hc) (by decide) dX3_runs_41 (fun H locs hW => ?_)
      obtain ⟨f_1, ef_1⟩ : ∃ z__, z__ = upd (f) (i) (0) := ⟨_, rfl⟩
      rw [← ef_1] at hW
      obtain ⟨w_2, ew_2⟩ : ∃ z__, z__ = g_put w1 (mf 15) (.inl (D.1 100, 4, .inl (f_1))) := ⟨_, rfl⟩
      have hW := g_W.ren hW ew_2 rfl
      have h_3 : g_at w_2 y (.inr (10, mO mf (cd) (cn) (en) (td) (st) (rn) (tt) (km) (fi) (nx) (fm) (th))) := by rw [ew_2]; exact hyb.put (g_neOA hyb h15)
      have h_4 : g_at w_2 (mf 15) (.inl (D.1 100, 4, .inl (f_1))) := by rw [ew_2]; exact g_at.put_self h15.1
      have x_5 : g_ex (fun q => q = mf 15) w w_2 := by rw [ew_2]; exact hex.put (fun hz9 => rfl)
      refine lv_iinc (v := nI (i + 1)) (lv' := [(2, .int (nI (i + 1))), (0, .ref y), (1, .ref sp)]) hx hb dX3_runs_42 hl (k := 0) rfl (nI_1 i) (by decide) rfl (fun ls hl => ?_)
      refine lv_goto (tgt := 26) hx hb dX3_runs_45 (by decide) ?_
      exact ih (i + 1) f_1 w_2 H locs ls (by omega) (by omega) x_5 h_4 (fun e he => by rw [ef_1]; unfold upd; split; rfl; exact hz e (by omega)) hW (lv_sub hl [0, 1, 2] rfl)
set_option maxHeartbeats 4000000 in
set_option maxRecDepth 100000 in
/-- Model.runs -/
theorem mtX3_runs (l : Launch) (D : va_G) (w : g_H) (sz : Nat) (y : Nat) (mf : Nat → Nat) (lab : Nat → Nat) (hL : mLab lab mf) (hly : lab y = 20) (cn en td st rn : Int32) (tt : Int64) (km fi nx fm th : Int32) (P : List mI) (E : Nat → Bool) (hy : g_at w y (.inr (10, mO mf (nI P.length) (cn) (en) (td) (st) (rn) (tt) (km) (fi) (nx) (fm) (th)))) (hP : mPr D w mf P) (hR : mRw D w mf E) (sp : Nat) (t : List Nat) (hst : g_Str D w sp t) (hkt : kHas t 0 = true) : Met l yX3_runs (ws_ yX3_runs cX3_runs 8 none) ({ frames := 5, cells := 0, slots := 0, locals := 97 }) (g_Pc D [.ref y, .ref sp] w sz) (g_Qv D w sz (fun u => g_at u y (.inr (10, mO mf (nI P.length) (cn) (nI (mOut P (digs t)).1) (mTo P (digs t)) (nI (mOut P (digs t)).2.2.1) (rn) (tt) (km) (fi) (nx) (fm) (th))) ∧ mRw D u mf (bsE (fun _ => false) (mOut P (digs t)).2.2.2) ∧ g_ex (fun q => q = y ∨ q = mf 14 ∨ q = mf 15) w u)) (0) (0) (g_A w sz) := by
  refine Met.ofW (cc := cX3_runs) (maxL := 8) (ret := none) (by decide) rfl ?_
  intro p e s m args below meth c s₁ B hml hv
  obtain ⟨rfl, hI⟩ := hv
  have hx := B.exec
  have hb := B.bytes
  have hr := B.returns
  have hts := atoms_spec (ws := ws_ yX3_runs cX3_runs 8 none) B.pre
  have hts : ∀ w ∈ lw_all, w.before _ s = true := fun w h => hts w (List.mem_cons_of_mem _ h)
  have hown : s.vm.findClass RX3 = some m.cls := findClass_of_methodNamed B.named
  have hlocks := B.notSynchronized
  have hsz := hI.1
  subst hsz
  have hW := g_W.start hI
  have hK := g_K hI
  have hE := g_E hI
  have hl := lv_entry ([.ref y, .ref sp]) (n := 8) (by exact Nat.le_of_ble_eq_true rfl)
  rw [lg_entry_eq]
  generalize (lg_sl ([.ref y, .ref sp]) ++ List.replicate (8 - (lg_sl ([.ref y, .ref sp])).length) Slot.unset).toArray = ls at hl ⊢
  have hl : lv_has ls 8 [(0, .ref y), (1, .ref sp)] := hl
  obtain ⟨f0, f1, f2, f3, h0, h1, h2, h3, hPl, hok, hf0, hf1, hf2, hf3⟩ := id hP
  obtain ⟨fE, g, h14, hE14, h15⟩ := hR
  have n14 : y ≠ mf 14 := g_neOA hy h14
  have n15 : y ≠ mf 15 := g_neOA hy h15
  refine lv_iconst (v := 0) hx hb dX3_runs_0 (by decide) ?_
  refine lv_istore_n (lv' := [(2, .int (0)), (0, .ref y), (1, .ref sp)]) hx hb dX3_runs_1 rfl hl (by decide) rfl (fun ls hl => ?_)
  refine lpX3_clrE (D := D) hx hb hts hown hK hE hml (Nat.le_of_ble_eq_true rfl) (Nat.le_of_ble_eq_true rfl) ?_ ?_ y sp mf (nI P.length) cn (en) (td) (st) rn tt km fi nx fm th w n14 hy (fun w1 fE1 H locs ls hex1 h14a hz1 hW hl => ?_) 273 0 fE w _ _ ls (by omega) (by omega) g_ex.rf h14 (fun _ z => absurd z (Nat.not_lt_zero _)) hW (lv_sub hl [0, 1, 2] rfl)
  · (try simp only [headSpec]); omega
  · (try simp only [headSpec]); omega
  have hy1 := hex1.at hy n14
  have h15a := hex1.at h15 (g_lne (hL 15 (by decide)) (hL 14 (by decide)) (by decide))
  refine lv_iconst (v := 0) hx hb dX3_runs_24 (by decide) ?_
  refine lv_istore_n (lv' := [(2, .int (0)), (0, .ref y), (1, .ref sp)]) hx hb dX3_runs_25 rfl hl (by decide) rfl (fun ls hl => ?_)
  refine lpX3_clrH (D := D) hx hb hts hown hK hE hml (Nat.le_of_ble_eq_true rfl) (Nat.le_of_ble_eq_true rfl) ?_ ?_ y sp mf (nI P.length) cn (en) (td) (st) rn tt km fi nx fm th w1 n15 hy1 (fun w2 g2 H locs ls hex2 h15b hz2 hW hl => ?_) 5 0 g w1 _ _ ls (by omega) (by omega) g_ex.rf h15a (fun _ z => absurd z (Nat.not_lt_zero _)) hW (lv_sub hl [0, 1, 2] rfl)
  · (try simp only [headSpec]); omega
  · (try simp only [headSpec]); omega
  have hy2 := hex2.at hy1 n15
  have h14b := hex2.at h14a (g_lne (hL 14 (by decide)) (hL 15 (by decide)) (by decide))
  have hexA : g_ex (fun q => q = y ∨ q = mf 14 ∨ q = mf 15) w w2 := (hex1.mono (fun _ _ z => Or.inr (Or.inl z))).tr (hex2.mono (fun _ _ z => Or.inr (Or.inr z)))
  have hstr : ∀ w1, g_ex (fun q => q = y ∨ q = mf 14 ∨ q = mf 15) w w1 → g_Str D w1 sp t := fun _ q => str_no hst hy h14 h15 (g_neA hK (i := 2) (j := 1) rfl rfl (fun z => by cases z)) (g_neA hK (i := 0) (j := 1) rfl rfl (fun z => by cases z)) q
  have hOe : mOut P (digs t) = mRun P (digs t) 65 0 g2 0 0 := by rw [mOut_eq]; exact m_ext hok 65 0 (fun _ => 0) g2 0 0 (fun j hj => (hz2 j hj).symm)
  refine lv_iconst (v := 0) hx hb dX3_runs_48 (by decide) ?_
  refine lv_istore_n (lv' := [(2, .int (0)), (0, .ref y), (1, .ref sp)]) hx hb dX3_runs_49 rfl hl (by decide) rfl (fun ls hl => ?_)
  refine lv_iconst (v := 0) hx hb dX3_runs_50 (by decide) ?_
  refine lv_istore_n (lv' := [(3, .int (0)), (2, .int (0)), (0, .ref y), (1, .ref sp)]) hx hb dX3_runs_51 rfl hl (by decide) rfl (fun ls hl => ?_)
  refine lv_aload_n hx hb dX3_runs_52 rfl (lv_at hl 2 rfl) ?_
  refine lv_iconst (v := 0) hx hb dX3_runs_53 (by decide) ?_
  refine g_putf (ci := 10) (v := .int (0)) (ty := .int) (C := RX3) (T := TX3) (N := 28) hx hb hts in_X3 tyX3 tyX3_ok nmX3 hown hK hW hy2 rfl 13 (by decide) q1897 (fun _ h9 => h9) rfl (by decide +kernel) rfl rfl (Nat.le_of_ble_eq_true rfl) dX3_runs_54 (fun H locs hW => ?_)
  obtain ⟨w_1, ew_1⟩ : ∃ z__, z__ = g_put w2 y (.inr (10, mO mf (nI P.length) (cn) (en) (td) (0) (rn) (tt) (km) (fi) (nx) (fm) (th))) := ⟨_, rfl⟩
  have hW := g_W.ren hW ew_1 rfl
  have h_2 : g_at w_1 y (.inr (10, mO mf (nI P.length) (cn) (en) (td) (0) (rn) (tt) (km) (fi) (nx) (fm) (th))) := by rw [ew_1]; exact g_at.put_self hy2.1
  have h_3 : g_at w_1 (mf 14) (.inl (D.1 102, 272, .inl (fE1))) := by rw [ew_1]; exact h14b.put (g_neAO h14b hy2)
  have h_4 : g_at w_1 (mf 15) (.inl (D.1 100, 4, .inl (g2))) := by rw [ew_1]; exact h15b.put (g_neAO h15b hy2)
  have x_5 : g_ex (fun q => q = y ∨ q = mf 14 ∨ q = mf 15) w w_1 := by rw [ew_1]; exact hexA.put (fun hz9 => (Or.inl rfl))
  refine lv_aload_n hx hb dX3_runs_57 rfl (lv_at hl 2 rfl) ?_
  refine lv_iconst (v := 0) hx hb dX3_runs_58 (by decide) ?_
  refine g_putf (ci := 10) (v := .int (0)) (ty := .int) (C := RX3) (T := TX3) (N := 28) hx hb hts in_X3 tyX3 tyX3_ok nmX3 hown hK hW h_2 rfl 11 (by decide) q1895 (fun _ h9 => h9) rfl (by decide +kernel) rfl rfl (Nat.le_of_ble_eq_true rfl) dX3_runs_59 (fun H locs hW => ?_)
  obtain ⟨w_6, ew_6⟩ : ∃ z__, z__ = g_put w_1 y (.inr (10, mO mf (nI P.length) (cn) (0) (td) (0) (rn) (tt) (km) (fi) (nx) (fm) (th))) := ⟨_, rfl⟩
  have hW := g_W.ren hW ew_6 rfl
  have h_7 : g_at w_6 y (.inr (10, mO mf (nI P.length) (cn) (0) (td) (0) (rn) (tt) (km) (fi) (nx) (fm) (th))) := by rw [ew_6]; exact g_at.put_self h_2.1
  have h_8 : g_at w_6 (mf 14) (.inl (D.1 102, 272, .inl (fE1))) := by rw [ew_6]; exact h_3.put (g_neAO h_3 h_2)
  have h_9 : g_at w_6 (mf 15) (.inl (D.1 100, 4, .inl (g2))) := by rw [ew_6]; exact h_4.put (g_neAO h_4 h_2)
  have x_10 : g_ex (fun q => q = y ∨ q = mf 14 ∨ q = mf 15) w w_6 := by rw [ew_6]; exact x_5.put (fun hz9 => (Or.inl rfl))
  refine lv_aload_n hx hb dX3_runs_62 rfl (lv_at hl 2 rfl) ?_
  refine lv_iconst (v := 0) hx hb dX3_runs_63 (by decide) ?_
  refine g_putf (ci := 10) (v := .int (0)) (ty := .int) (C := RX3) (T := TX3) (N := 28) hx hb hts in_X3 tyX3 tyX3_ok nmX3 hown hK hW h_7 rfl 12 (by decide) q1896 (fun _ h9 => h9) rfl (by decide +kernel) rfl rfl (Nat.le_of_ble_eq_true rfl) dX3_runs_64 (fun H locs hW => ?_)
  obtain ⟨w_11, ew_11⟩ : ∃ z__, z__ = g_put w_6 y (.inr (10, mO mf (nI P.length) (cn) (0) (0) (0) (rn) (tt) (km) (fi) (nx) (fm) (th))) := ⟨_, rfl⟩
  have hW := g_W.ren hW ew_11 rfl
  have h_12 : g_at w_11 y (.inr (10, mO mf (nI P.length) (cn) (0) (0) (0) (rn) (tt) (km) (fi) (nx) (fm) (th))) := by rw [ew_11]; exact g_at.put_self h_7.1
  have h_13 : g_at w_11 (mf 14) (.inl (D.1 102, 272, .inl (fE1))) := by rw [ew_11]; exact h_8.put (g_neAO h_8 h_7)
  have h_14 : g_at w_11 (mf 15) (.inl (D.1 100, 4, .inl (g2))) := by rw [ew_11]; exact h_9.put (g_neAO h_9 h_7)
  have x_15 : g_ex (fun q => q = y ∨ q = mf 14 ∨ q = mf 15) w w_11 := by rw [ew_11]; exact x_10.put (fun hz9 => (Or.inl rfl))
  refine lv_iload_n hx hb dX3_runs_67 rfl (lv_at hl 0 rfl) ?_
  refine lv_aload_n hx hb dX3_runs_68 rfl (lv_at hl 2 rfl) ?_
  refine g_get (ci := 10) (v := .int (nI P.length)) (C := RX3) (T := TX3) (N := 28) hx hb hts in_X3 hown hK hW h_12 rfl 4 (by decide) q1888 (fun _ h9 => h9) rfl dX3_runs_69 ?_
  refine g_icmp_ge (x := 0) (y := P.length) (tgt := 79) hx hb (by decide) (by omega) dX3_runs_72 (by decide) (fun hc => ?_) (fun hc => ?_)
  all_goals have hmE : mEg fE1 (fun _ => false) := fun e he => hz1 e he
  · refine lv_iconst (v := 0) hx hb dX3_runs_79 (by decide) ?_
    refine lv_istore (lv' := [(4, .int (0)), (3, .int (0)), (2, .int (0)), (0, .ref y), (1, .ref sp)]) hx hb dX3_runs_80 hl (by decide) rfl (fun ls hl => ?_)
    refine lv_iload hx hb dX3_runs_82 (lv_at hl 0 rfl) ?_
    refine lv_if_eq (tgt := 412) hx hb dX3_runs_84 (by decide) (fun _ => ?_) (fun hz => absurd rfl hz)
    have hO0 : mOut P (digs t) = (0, none, 0, []) := by rw [hOe]; unfold mRun; exact if_neg (by omega)
    exact g_vret hx hb hr hlocks hW (⟨by rw [show mTo P (digs t) = 0 by unfold mTo; rw [hO0]; rfl, hO0]; exact h_12, ⟨_, _, h_13, by rw [hO0]; exact hmE, h_14⟩, x_15⟩) (by omega) (by omega) dX3_runs_412
  · refine lv_iconst (v := 1) hx hb dX3_runs_75 (by decide) ?_
    refine lv_goto (tgt := 80) hx hb dX3_runs_76 (by decide) ?_
    refine lv_istore (lv' := [(4, .int (1)), (3, .int (0)), (2, .int (0)), (0, .ref y), (1, .ref sp)]) hx hb dX3_runs_80 hl (by decide) rfl (fun ls hl => ?_)
    refine lpX3_runs (D := D) hx hb hts hown hK hE hml (Nat.le_of_ble_eq_true rfl) (Nat.le_of_ble_eq_true rfl) ?_ ?_ y sp mf lab hL t hkt cn rn tt km fi nx fm th f0 f1 f2 f3 P hPl hok hf0 hf1 hf2 hf3 w hstr h0 h1 h2 h3 hly (mOut P (digs t)).1 (mOut P (digs t)).2.2.1 (mOut P (digs t)).2.1 (bsE (fun _ => false) (mOut P (digs t)).2.2.2) (fun w3 g3 fE3 H locs ls hex3 hy3 h14c hE3 h15c hW => ?_) 65 0 0 0 g2 (fun _ => false) fE1 w_11 _ _ ls (by decide) (by decide) hc (by rw [hOe]) (by rw [hOe]) (by rw [hOe]) (by rw [hOe]) (by decide) x_15 h_12 h_13 hmE h_14 hW (lv_sub hl [3, 4, 2, 1, 0] rfl)
    · (try simp only [headSpec]); omega
    · (try simp only [headSpec]); omega
    exact g_vret hx hb hr hlocks hW (⟨hy3, ⟨_, _, h14c, hE3, h15c⟩, hex3⟩) (by omega) (by omega) dX3_runs_412
set_option maxHeartbeats 4000000 in
set_option maxRecDepth 100000 in
/-- Model.failsWith -/
theorem mtX3_failsWith (l : Launch) (D : va_G) (w : g_H) (sz : Nat) (y : Nat) (mf : Nat → Nat) (lab : Nat → Nat) (hL : mLab lab mf) (hly : lab y = 20) (cn en td st rn : Int32) (tt : Int64) (km fi nx fm th : Int32) (P : List mI) (E : Nat → Bool) (hy : g_at w y (.inr (10, mO mf (nI P.length) (cn) (en) (td) (st) (rn) (tt) (km) (fi) (nx) (fm) (th)))) (hP : mPr D w mf P) (hR : mRw D w mf E) (sp : Nat) (t : List Nat) (hst : g_Str D w sp t) (hkt : kHas t 0 = true) (c9 : Int32) : Met l yX3_failsWith (ws_ yX3_failsWith cX3_failsWith 3 (some .boolean)) ({ frames := 6, cells := 0, slots := 0, locals := 124 }) (g_Pc D [.ref y, .ref sp, .int (c9)] w sz) (g_Qi D w sz (fun r u => r = (if mFails P (digs t) c9 = true then 1 else 0) ∧ g_at u y (.inr (10, mO mf (nI P.length) (cn) (nI (mOut P (digs t)).1) (mTo P (digs t)) (nI (mOut P (digs t)).2.2.1) (rn) (tt) (km) (fi) (nx) (fm) (th))) ∧ mRw D u mf (bsE (fun _ => false) (mOut P (digs t)).2.2.2) ∧ g_ex (fun q => q = y ∨ q = mf 14 ∨ q = mf 15) w u)) (0) (0) (g_A w sz) := by
  refine Met.ofW (cc := cX3_failsWith) (maxL := 3) (ret := (some .boolean)) (by decide) rfl ?_
  intro p e s m args below meth c s₁ B hml hv
  obtain ⟨rfl, hI⟩ := hv
  have hx := B.exec
  have hb := B.bytes
  have hr := B.returns
  have hts := atoms_spec (ws := ws_ yX3_failsWith cX3_failsWith 3 (some .boolean)) B.pre
  have hts : ∀ w ∈ lw_all, w.before _ s = true := fun w h => hts w (List.mem_cons_of_mem _ h)
  have hown : s.vm.findClass RX3 = some m.cls := findClass_of_methodNamed B.named
  have hlocks := B.notSynchronized
  have hsz := hI.1
  subst hsz
  have hW := g_W.start hI
  have hK := g_K hI
  have hE := g_E hI
  have hl := lv_entry ([.ref y, .ref sp, .int (c9)]) (n := 3) (by exact Nat.le_of_ble_eq_true rfl)
  rw [lg_entry_eq]
  generalize (lg_sl ([.ref y, .ref sp, .int (c9)]) ++ List.replicate (3 - (lg_sl ([.ref y, .ref sp, .int (c9)])).length) Slot.unset).toArray = ls at hl ⊢
  have hl : lv_has ls 3 [(0, .ref y), (1, .ref sp), (2, .int (c9))] := hl
  refine lv_aload_n hx hb dX3_failsWith_0 rfl (lv_at hl 0 rfl) ?_
  refine lv_aload_n hx hb dX3_failsWith_1 rfl (lv_at hl 1 rfl) ?_
  refine g_callv (va_runV (As := [.ref sp]) (rest := []) ⟨hx, hb, hml, hown, hts⟩ (mtX3_runs l D w s.heap.size y mf lab hL hly cn en td st rn tt km fi nx fm th P E hy hP hR sp t hst hkt) (cwV 1 hts (lw_V q2037 q2039 qs26 q47 q2040) rfl rfl rfl (by decide +kernel) ⟨Nat.le_of_ble_eq_true rfl, Nat.le_of_ble_eq_true rfl⟩) (g_preV hW hK hE hy rfl) rfl rfl hl.1 rfl (lv_room (Nat.le_of_ble_eq_true rfl)) dX3_failsWith_2 ⟨?_, ?_⟩) hW (fun u1 H locs hp hW => ?_)
  · (try simp only [headSpec]); omega
  · (try simp only [headSpec]); omega
  obtain ⟨hy1, hR1, hx1⟩ := hp
  have hv3 := mOut_lt (P := P) (xs := (digs t))
  refine lv_aload_n hx hb dX3_failsWith_5 rfl (lv_at hl 0 rfl) ?_
  refine g_get (ci := 10) (v := .int (nI (mOut P (digs t)).1)) (C := RX3) (T := TX3) (N := 28) hx hb hts in_X3 hown hK hW hy1 rfl 11 (by decide) q1895 (fun _ h9 => h9) rfl dX3_failsWith_6 ?_
  refine lv_iconst (v := 1) hx hb dX3_failsWith_9 (by decide) ?_
  refine lv_icmp_ne (tgt := 25) hx hb dX3_failsWith_10 (by decide) (fun hc => ?_) (fun hc => ?_)
  · have hf : mFails P (digs t) c9 = false := mFails_0 (fun z => hc (by rw [z.1]; rfl))
    refine lv_iconst (v := 0) hx hb dX3_failsWith_25 (by decide) ?_
    exact g_zret (v := 0) hx hb hr hlocks (by rfl) hW (⟨by rw [hf]; rfl, hy1, hR1, hx1⟩) (by omega) (by omega) dX3_failsWith_26
  · have hv1 : (mOut P (digs t)).1 = 1 := nI_inj (b := 1) (by omega) (by decide) (by first | exact hc | exact Classical.not_not.mp hc)
    refine lv_aload_n hx hb dX3_failsWith_13 rfl (lv_at hl 0 rfl) ?_
    refine g_get (ci := 10) (v := .int (mTo P (digs t))) (C := RX3) (T := TX3) (N := 28) hx hb hts in_X3 hown hK hW hy1 rfl 12 (by decide) q1896 (fun _ h9 => h9) rfl dX3_failsWith_14 ?_
    refine lv_iload_n hx hb dX3_failsWith_17 rfl (lv_at hl 2 rfl) ?_
    refine lv_icmp_ne (tgt := 25) hx hb dX3_failsWith_18 (by decide) (fun hd => ?_) (fun hd => ?_)
    · have hf : mFails P (digs t) c9 = false := mFails_0 (fun z => hd (by rw [mTo_c hv1]; exact z.2))
      refine lv_iconst (v := 0) hx hb dX3_failsWith_25 (by decide) ?_
      exact g_zret (v := 0) hx hb hr hlocks (by rfl) hW (⟨by rw [hf]; rfl, hy1, hR1, hx1⟩) (by omega) (by omega) dX3_failsWith_26
    · have hf : mFails P (digs t) c9 = true := mFails_1 hv1 (by rw [← mTo_c hv1]; first | exact hd | exact Classical.not_not.mp hd)
      refine lv_iconst (v := 1) hx hb dX3_failsWith_21 (by decide) ?_
      refine lv_goto (tgt := 26) hx hb dX3_failsWith_22 (by decide) ?_
      exact g_zret (v := 1) hx hb hr hlocks (by rfl) hW (⟨by rw [hf]; rfl, hy1, hR1, hx1⟩) (by omega) (by omega) dX3_failsWith_26
