/-! the model: reset *
-/
set_option maxRecDepth 100000
section MZ3
variable {D : va_G} {w w' : g_H} {lab : Nat → Nat} {y fq ac rn tt cK : Nat} {mf : Nat → Nat} {P : List mI} {C : List yC} {A : Nat → List (List Nat)} {cov : Nat → Bool} {K : List (List Nat)} {F : List yF} {en td st th : Int32} {E : Nat → Bool}
theorem g_MZ.reset {s : State} (hK : va_K D gCl (gT D) s) {f : Nat → Int32} (h : g_MZ D w lab y mf P C A cov K fq ac F rn tt cK en td st E th) (hy : g_at w' y (.inr (10, mO mf (nI P.length) (nI C.length) en td st 0 0 0 0 0 0 0))) (q : g_ex (fun q => q = y ∨ q = mf 18) w w') (h18 : g_at w' (mf 18) (.inl (D.1 102, 272, .inl f))) (hz : ∀ e, e < 272 → f e = 0) : g_MZ D w' lab y mf P C A (fun _ => false) [] 0 0 [] 0 0 cK en td st E 0 ∧ zCh w lab w' lab := by
  obtain ⟨f18, a18, -⟩ := h.2.2.2.2.2.2.1
  obtain ⟨-, hL, h1, h2, h3, h4, -, h6, h7, hb⟩ := h.parts (lab' := lab) q ((g_mut.obj h.1).or (g_mut.arr a18 (g_neA hK (i := 2) (j := 1) rfl rfl (fun z => by cases z)))) (fun _ _ => rfl) (fun n => n = 20 ∨ n = 39) (fun z _ hz => by
    rcases hz with hz | hz
    · rw [hz]; exact Or.inl h.2.1.1
    · rw [hz]; exact Or.inr (h.2.1.2 18 (by decide)))
  refine ⟨⟨hy, hL, h1 (by decide), h2 (by decide), h3 (by decide), h4 (by decide), ⟨f, h18, fun e he => hz e he⟩, ?_, ?_, by decide, by decide, by decide, Nat.zero_le _, Nat.zero_le _⟩, zCh.of q (fun z _ hz => by
    unfold mM
    rcases hz with hz | hz
    · rw [hz, h.2.1.1]; omega
    · rw [hz, h.2.1.2 18 (by decide)]; omega)⟩
  · obtain ⟨g, k1, -, k3, k4, -⟩ := h6 (by decide)
    exact ⟨g, k1, Nat.zero_le _, k3, k4, fun j hj => absurd hj (Nat.not_lt_zero _)⟩
  · obtain ⟨a, b, c, k1, k2, k3, -, -⟩ := h7 (by decide)
    exact ⟨a, b, c, k1, k2, k3, Nat.zero_le _, fun j hj => absurd hj (Nat.not_lt_zero _)⟩
end MZ3
set_option maxHeartbeats 4000000 in
set_option maxRecDepth 100000 in
/-- Model.reset: its loop -/
theorem lpX3_reset {p : Program} {l : Launch} {e : Env} {R : Room} {s : State} {m : MethodId} {args : Array Value} {below : List Frame} {meth : Method} {c : Code} {cells slots : Nat} {Q : State → Prop} {D : va_G} {A : Nat → Prop} (hx : p.tables.exec = Jvm.exec) (hb : c.code = cX3_reset) (hts : ∀ w ∈ lw_all, w.before args s = true) (hown : s.vm.findClass RX3 = some m.cls) (hK : va_K D gCl (gT D) s) (hE : g_Env D A s) (hml : c.maxLocals = 3) (hRf : 1 ≤ R.frames) (hRl : 12 ≤ R.locals) (hRc : cells ≤ R.cells) (hRs : slots ≤ R.slots) (y r0 : Nat) (mf : Nat → Nat) (cd cn en td st rn : Int32) (tt : Int64) (km fi nx fm th : Int32) (w : g_H) (hy : g_at w y (.inr (10, mO mf (cd) (cn) (en) (td) (st) (rn) (tt) (km) (fi) (nx) (fm) (th)))) (hyn : y ≠ mf 18)
    (kk : ∀ (w2 : g_H) (f2 : Nat → Int32) (H : Heap) (locs : List Loc) (ls : Array Slot), g_ex (fun q => q = mf 18) w w2 → g_at w2 (mf 18) (.inl (D.1 102, 272, .inl f2)) → (∀ e, e < 272 → f2 e = 0) → g_W D A s.heap H locs w2 → lv_has ls 3 [(0, .ref y), (1, .int (nI r0))] → W p l e R s m args below meth c H locs cells slots Q (F0 m 44 ls [])) :
    ∀ (k : Nat) (i : Nat) (f : Nat → Int32) (w1 : g_H) (H : Heap) (locs : List Loc) (ls : Array Slot), 272 < i + k → i ≤ 272 → g_ex (fun q => q = mf 18) w w1 → g_at w1 (mf 18) (.inl (D.1 102, 272, .inl f)) → (∀ e, e < i → f e = 0) → g_W D A s.heap H locs w1 → lv_has ls 3 [(2, .int (nI i)), (0, .ref y), (1, .int (nI r0))] → W p l e R s m args below meth c H locs cells slots Q (F0 m 22 ls []) := by
  intro k
  induction k with
  | zero => intro i f w1 H locs ls hfuel hi hex h18 hz hW hl; exact absurd hfuel (by omega)
  | succ k ih =>
    intro i f w1 H locs ls hfuel hi hex h18 hz hW hl
    have hyb := hex.at hy hyn
    refine lv_iload_n hx hb dX3_reset_22 rfl (lv_at hl 0 rfl) ?_
    refine lv_aload_n hx hb dX3_reset_23 rfl (lv_at hl 1 rfl) ?_
    refine g_get (ci := 10) (v := .ref (mf 18)) (C := RX3) (T := TX3) (N := 28) hx hb hts in_X3 hown hK hW hyb rfl 18 (by decide) q1902 (fun _ h9 => h9) rfl dX3_reset_24 ?_
    refine g_alen hx hb hK hW 2 h18 rfl dX3_reset_27 ?_
    refine g_icmp_ge (x := i) (y := 272) (tgt := 44) hx hb (by omega) (by decide) dX3_reset_28 (by decide) (fun hc => ?_) (fun hc => ?_)
    · exact kk w1 f H locs ls hex h18 (fun e he => hz e (by omega)) hW (lv_sub hl [1, 2] rfl)
    · refine lv_aload_n hx hb dX3_reset_31 rfl (lv_at hl 1 rfl) ?_
      refine g_get (ci := 10) (v := .ref (mf 18)) (C := RX3) (T := TX3) (N := 28) hx hb hts in_X3 hown hK hW hyb rfl 18 (by decide) q1902 (fun _ h9 => h9) rfl dX3_reset_32 ?_
      refine lv_iload_n hx hb dX3_reset_35 rfl (lv_at hl 0 rfl) ?_
      refine lv_iconst (v := 0) hx hb dX3_reset_36 (by decide) ?_
      refine g_zast (n := 272) (i := nI i) hx hb hK hW h18 (vp_in_nI hc (by decide)) dX3_reset_37 (fun H locs hW => ?_)
      rw [nI_clamp (by omega)] at hW
      obtain ⟨f_1, ef_1⟩ : ∃ z__, z__ = upd f i (vp_nar .boolean 0) := ⟨_, rfl⟩
      rw [← ef_1] at hW
      obtain ⟨w_2, ew_2⟩ : ∃ z__, z__ = g_put w1 (mf 18) (.inl (D.1 102, 272, .inl (f_1))) := ⟨_, rfl⟩
      have hW := g_W.ren hW ew_2 rfl
      have h_3 : g_at w_2 y (.inr (10, mO mf (cd) (cn) (en) (td) (st) (rn) (tt) (km) (fi) (nx) (fm) (th))) := by rw [ew_2]; exact hyb.put hyn
      have h_4 : g_at w_2 (mf 18) (.inl (D.1 102, 272, .inl (f_1))) := by rw [ew_2]; exact g_at.put_self h18.1
      have x_5 : g_ex (fun q => q = mf 18) w w_2 := by rw [ew_2]; exact hex.put (fun hz9 => rfl)
      refine lv_iinc (v := nI (i + 1)) (lv' := [(2, .int (nI (i + 1))), (0, .ref y), (1, .int (nI r0))]) hx hb dX3_reset_38 hl (k := 0) rfl (nI_1 i) (by decide) rfl (fun ls hl => ?_)
      refine lv_goto (tgt := 22) hx hb dX3_reset_41 (by decide) ?_
      exact ih (i + 1) f_1 w_2 H locs ls (by omega) (by omega) x_5 h_4 (fun e he => by rw [ef_1]; unfold upd; split; rfl; exact hz e (by omega)) hW (lv_sub hl [0, 1, 2] rfl)
set_option maxHeartbeats 4000000 in
set_option maxRecDepth 100000 in
/-- Model.reset -/
theorem mtX3_reset (l : Launch) (D : va_G) (w : g_H) (sz : Nat) (y : Nat) (mf : Nat → Nat) (lab : Nat → Nat) (P : List mI) (C : List yC) (A9 : Nat → List (List Nat)) (cov : Nat → Bool) (K : List (List Nat)) (fq ac : Nat) (F : List yF) (rn tt cK : Nat) (en td st : Int32) (E : Nat → Bool) (th : Int32) (hZ : g_MZ D w lab y mf P C A9 cov K fq ac F rn tt cK en td st E th) : Met l yX3_reset (ws_ yX3_reset cX3_reset 3 (some .int)) ({ frames := 1, cells := 0, slots := 0, locals := 12 }) (g_Pc D [.ref y] w sz) (g_Qi D w sz (fun r u => r = nI rn ∧ g_MZ D u lab y mf P C A9 (fun _ => false) [] 0 0 [] 0 0 cK en td st E 0 ∧ zCh w lab u lab)) (0) (0) (g_A w sz) := by
  refine Met.ofW (cc := cX3_reset) (maxL := 3) (ret := (some .int)) (by decide) rfl ?_
  intro p e s m args below meth c s₁ B hml hv
  obtain ⟨rfl, hI⟩ := hv
  have hx := B.exec
  have hb := B.bytes
  have hr := B.returns
  have hts := atoms_spec (ws := ws_ yX3_reset cX3_reset 3 (some .int)) B.pre
  have hts : ∀ w ∈ lw_all, w.before _ s = true := fun w h => hts w (List.mem_cons_of_mem _ h)
  have hown : s.vm.findClass RX3 = some m.cls := findClass_of_methodNamed B.named
  have hlocks := B.notSynchronized
  have hsz := hI.1
  subst hsz
  have hW := g_W.start hI
  have hK := g_K hI
  have hE := g_E hI
  have hl := lv_entry ([.ref y]) (n := 3) (by exact Nat.le_of_ble_eq_true rfl)
  rw [lg_entry_eq]
  generalize (lg_sl ([.ref y]) ++ List.replicate (3 - (lg_sl ([.ref y])).length) Slot.unset).toArray = ls at hl ⊢
  have hl : lv_has ls 3 [(0, .ref y)] := hl
  obtain ⟨hy, ⟨hly, hL⟩, hP, hR, hC0, hA0, hV0, hK0, hF0, hb9⟩ := id hZ
  obtain ⟨f18, a18, -⟩ := id hV0
  have hyn : y ≠ mf 18 := g_neOA hy a18
  have x_1 : g_ex (fun q => q = y ∨ q = (mf 18)) w w := g_ex.rf
  refine lv_aload_n hx hb dX3_reset_0 rfl (lv_at hl 0 rfl) ?_
  refine lv_iconst (v := 0) hx hb dX3_reset_1 (by decide) ?_
  refine g_putf (ci := 10) (v := .int (0)) (ty := .int) (C := RX3) (T := TX3) (N := 28) hx hb hts in_X3 tyX3 tyX3_ok nmX3 hown hK hW hy rfl 27 (by decide) q1911 (fun _ h9 => h9) rfl (by decide +kernel) rfl rfl (Nat.le_of_ble_eq_true rfl) dX3_reset_2 (fun H locs hW => ?_)
  obtain ⟨w_2, ew_2⟩ : ∃ z__, z__ = g_put w y (.inr (10, mO mf (nI P.length) (nI C.length) (en) (td) (st) (nI rn) (lN tt) (nI K.length) (nI fq) (nI ac) (nI F.length) (0))) := ⟨_, rfl⟩
  have hW := g_W.ren hW ew_2 rfl
  have h_3 : g_at w_2 y (.inr (10, mO mf (nI P.length) (nI C.length) (en) (td) (st) (nI rn) (lN tt) (nI K.length) (nI fq) (nI ac) (nI F.length) (0))) := by rw [ew_2]; exact g_at.put_self hy.1
  have h_4 : g_at w_2 (mf 18) (.inl (D.1 102, 272, .inl (f18))) := by rw [ew_2]; exact a18.put hyn.symm
  have x_5 : g_ex (fun q => q = y ∨ q = (mf 18)) w w_2 := by rw [ew_2]; exact x_1.put (fun hz9 => (Or.inl rfl))
  refine lv_aload_n hx hb dX3_reset_5 rfl (lv_at hl 0 rfl) ?_
  refine g_get (ci := 10) (v := .int (nI rn)) (C := RX3) (T := TX3) (N := 28) hx hb hts in_X3 hown hK hW h_3 rfl 16 (by decide) q1900 (fun _ h9 => h9) rfl dX3_reset_6 ?_
  refine lv_istore_n (lv' := [(1, .int (nI rn)), (0, .ref y)]) hx hb dX3_reset_9 rfl hl (by decide) rfl (fun ls hl => ?_)
  refine lv_aload_n hx hb dX3_reset_10 rfl (lv_at hl 1 rfl) ?_
  refine lv_iconst (v := 0) hx hb dX3_reset_11 (by decide) ?_
  refine g_putf (ci := 10) (v := .int (0)) (ty := .int) (C := RX3) (T := TX3) (N := 28) hx hb hts in_X3 tyX3 tyX3_ok nmX3 hown hK hW h_3 rfl 16 (by decide) q1900 (fun _ h9 => h9) rfl (by decide +kernel) rfl rfl (Nat.le_of_ble_eq_true rfl) dX3_reset_12 (fun H locs hW => ?_)
  obtain ⟨w_6, ew_6⟩ : ∃ z__, z__ = g_put w_2 y (.inr (10, mO mf (nI P.length) (nI C.length) (en) (td) (st) (0) (lN tt) (nI K.length) (nI fq) (nI ac) (nI F.length) (0))) := ⟨_, rfl⟩
  have hW := g_W.ren hW ew_6 rfl
  have h_7 : g_at w_6 y (.inr (10, mO mf (nI P.length) (nI C.length) (en) (td) (st) (0) (lN tt) (nI K.length) (nI fq) (nI ac) (nI F.length) (0))) := by rw [ew_6]; exact g_at.put_self h_3.1
  have h_8 : g_at w_6 (mf 18) (.inl (D.1 102, 272, .inl (f18))) := by rw [ew_6]; exact h_4.put hyn.symm
  have x_9 : g_ex (fun q => q = y ∨ q = (mf 18)) w w_6 := by rw [ew_6]; exact x_5.put (fun hz9 => (Or.inl rfl))
  refine lv_aload_n hx hb dX3_reset_15 rfl (lv_at hl 1 rfl) ?_
  refine lv_lconst (v := 0) hx hb dX3_reset_16 rfl ?_
  refine g_putf (ci := 10) (v := .long (0)) (ty := .long) (C := RX3) (T := TX3) (N := 28) hx hb hts in_X3 tyX3 tyX3_ok nmX3 hown hK hW h_7 rfl 17 (by decide) q1901 (fun _ h9 => h9) rfl (by decide +kernel) rfl rfl (Nat.le_of_ble_eq_true rfl) dX3_reset_17 (fun H locs hW => ?_)
  obtain ⟨w_10, ew_10⟩ : ∃ z__, z__ = g_put w_6 y (.inr (10, mO mf (nI P.length) (nI C.length) (en) (td) (st) (0) (0) (nI K.length) (nI fq) (nI ac) (nI F.length) (0))) := ⟨_, rfl⟩
  have hW := g_W.ren hW ew_10 rfl
  have h_11 : g_at w_10 y (.inr (10, mO mf (nI P.length) (nI C.length) (en) (td) (st) (0) (0) (nI K.length) (nI fq) (nI ac) (nI F.length) (0))) := by rw [ew_10]; exact g_at.put_self h_7.1
  have h_12 : g_at w_10 (mf 18) (.inl (D.1 102, 272, .inl (f18))) := by rw [ew_10]; exact h_8.put hyn.symm
  have x_13 : g_ex (fun q => q = y ∨ q = (mf 18)) w w_10 := by rw [ew_10]; exact x_9.put (fun hz9 => (Or.inl rfl))
  refine lv_iconst (v := 0) hx hb dX3_reset_20 (by decide) ?_
  refine lv_istore_n (lv' := [(2, .int (0)), (1, .int (nI rn)), (0, .ref y)]) hx hb dX3_reset_21 rfl hl (by decide) rfl (fun ls hl => ?_)
  refine lpX3_reset (D := D) hx hb hts hown hK hE hml (Nat.le_of_ble_eq_true rfl) (Nat.le_of_ble_eq_true rfl) ?_ ?_ y rn mf (nI P.length) (nI C.length) en td st 0 0 (nI K.length) (nI fq) (nI ac) (nI F.length) 0 w_10 h_11 hyn (fun w2 f2 H locs ls hex2 h18b hz2 hW hl => ?_) 273 0 f18 w_10 _ _ ls (by omega) (by omega) g_ex.rf h_12 (fun _ z => absurd z (Nat.not_lt_zero _)) hW (lv_sub hl [0, 2, 1] rfl)
  · (try simp only [headSpec]); omega
  · (try simp only [headSpec]); omega
  have hy2 := hex2.at h_11 hyn
  have hxA : g_ex (fun q => q = y ∨ q = (mf 18)) w w2 := x_13.tr (hex2.mono (fun _ _ z => Or.inr z))
  refine lv_aload_n hx hb dX3_reset_44 rfl (lv_at hl 0 rfl) ?_
  refine lv_iconst (v := 0) hx hb dX3_reset_45 (by decide) ?_
  refine g_putf (ci := 10) (v := .int (0)) (ty := .int) (C := RX3) (T := TX3) (N := 28) hx hb hts in_X3 tyX3 tyX3_ok nmX3 hown hK hW hy2 rfl 20 (by decide) q1904 (fun _ h9 => h9) rfl (by decide +kernel) rfl rfl (Nat.le_of_ble_eq_true rfl) dX3_reset_46 (fun H locs hW => ?_)
  obtain ⟨w_14, ew_14⟩ : ∃ z__, z__ = g_put w2 y (.inr (10, mO mf (nI P.length) (nI C.length) (en) (td) (st) (0) (0) (0) (nI fq) (nI ac) (nI F.length) (0))) := ⟨_, rfl⟩
  have hW := g_W.ren hW ew_14 rfl
  have h_15 : g_at w_14 y (.inr (10, mO mf (nI P.length) (nI C.length) (en) (td) (st) (0) (0) (0) (nI fq) (nI ac) (nI F.length) (0))) := by rw [ew_14]; exact g_at.put_self hy2.1
  have h_16 : g_at w_14 (mf 18) (.inl (D.1 102, 272, .inl (f2))) := by rw [ew_14]; exact h18b.put hyn.symm
  have x_17 : g_ex (fun q => q = y ∨ q = (mf 18)) w w_14 := by rw [ew_14]; exact hxA.put (fun hz9 => (Or.inl rfl))
  refine lv_aload_n hx hb dX3_reset_49 rfl (lv_at hl 0 rfl) ?_
  refine lv_iconst (v := 0) hx hb dX3_reset_50 (by decide) ?_
  refine g_putf (ci := 10) (v := .int (0)) (ty := .int) (C := RX3) (T := TX3) (N := 28) hx hb hts in_X3 tyX3 tyX3_ok nmX3 hown hK hW h_15 rfl 21 (by decide) q1905 (fun _ h9 => h9) rfl (by decide +kernel) rfl rfl (Nat.le_of_ble_eq_true rfl) dX3_reset_51 (fun H locs hW => ?_)
  obtain ⟨w_18, ew_18⟩ : ∃ z__, z__ = g_put w_14 y (.inr (10, mO mf (nI P.length) (nI C.length) (en) (td) (st) (0) (0) (0) (0) (nI ac) (nI F.length) (0))) := ⟨_, rfl⟩
  have hW := g_W.ren hW ew_18 rfl
  have h_19 : g_at w_18 y (.inr (10, mO mf (nI P.length) (nI C.length) (en) (td) (st) (0) (0) (0) (0) (nI ac) (nI F.length) (0))) := by rw [ew_18]; exact g_at.put_self h_15.1
  have h_20 : g_at w_18 (mf 18) (.inl (D.1 102, 272, .inl (f2))) := by rw [ew_18]; exact h_16.put hyn.symm
  have x_21 : g_ex (fun q => q = y ∨ q = (mf 18)) w w_18 := by rw [ew_18]; exact x_17.put (fun hz9 => (Or.inl rfl))
  refine lv_aload_n hx hb dX3_reset_54 rfl (lv_at hl 0 rfl) ?_
  refine lv_iconst (v := 0) hx hb dX3_reset_55 (by decide) ?_
  refine g_putf (ci := 10) (v := .int (0)) (ty := .int) (C := RX3) (T := TX3) (N := 28) hx hb hts in_X3 tyX3 tyX3_ok nmX3 hown hK hW h_19 rfl 22 (by decide) q1906 (fun _ h9 => h9) rfl (by decide +kernel) rfl rfl (Nat.le_of_ble_eq_true rfl) dX3_reset_56 (fun H locs hW => ?_)
  obtain ⟨w_22, ew_22⟩ : ∃ z__, z__ = g_put w_18 y (.inr (10, mO mf (nI P.length) (nI C.length) (en) (td) (st) (0) (0) (0) (0) (0) (nI F.length) (0))) := ⟨_, rfl⟩
  have hW := g_W.ren hW ew_22 rfl
  have h_23 : g_at w_22 y (.inr (10, mO mf (nI P.length) (nI C.length) (en) (td) (st) (0) (0) (0) (0) (0) (nI F.length) (0))) := by rw [ew_22]; exact g_at.put_self h_19.1
  have h_24 : g_at w_22 (mf 18) (.inl (D.1 102, 272, .inl (f2))) := by rw [ew_22]; exact h_20.put hyn.symm
  have x_25 : g_ex (fun q => q = y ∨ q = (mf 18)) w w_22 := by rw [ew_22]; exact x_21.put (fun hz9 => (Or.inl rfl))
  refine lv_aload_n hx hb dX3_reset_59 rfl (lv_at hl 0 rfl) ?_
  refine lv_iconst (v := 0) hx hb dX3_reset_60 (by decide) ?_
  refine g_putf (ci := 10) (v := .int (0)) (ty := .int) (C := RX3) (T := TX3) (N := 28) hx hb hts in_X3 tyX3 tyX3_ok nmX3 hown hK hW h_23 rfl 26 (by decide) q1910 (fun _ h9 => h9) rfl (by decide +kernel) rfl rfl (Nat.le_of_ble_eq_true rfl) dX3_reset_61 (fun H locs hW => ?_)
  obtain ⟨w_26, ew_26⟩ : ∃ z__, z__ = g_put w_22 y (.inr (10, mO mf (nI P.length) (nI C.length) (en) (td) (st) (0) (0) (0) (0) (0) (0) (0))) := ⟨_, rfl⟩
  have hW := g_W.ren hW ew_26 rfl
  have h_27 : g_at w_26 y (.inr (10, mO mf (nI P.length) (nI C.length) (en) (td) (st) (0) (0) (0) (0) (0) (0) (0))) := by rw [ew_26]; exact g_at.put_self h_23.1
  have h_28 : g_at w_26 (mf 18) (.inl (D.1 102, 272, .inl (f2))) := by rw [ew_26]; exact h_24.put hyn.symm
  have x_29 : g_ex (fun q => q = y ∨ q = (mf 18)) w w_26 := by rw [ew_26]; exact x_25.put (fun hz9 => (Or.inl rfl))
  refine lv_iload_n hx hb dX3_reset_64 rfl (lv_at hl 1 rfl) ?_
  obtain ⟨hZ9, hz9⟩ := hZ.reset hK h_27 x_29 h_28 hz2
  exact g_iret (v := nI rn) hx hb hr hlocks hW (⟨rfl, hZ9, hz9⟩) (by omega) (by omega) dX3_reset_65
