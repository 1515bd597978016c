/-! the model: takes *
-/
set_option maxRecDepth 100000
noncomputable def zFk (P : List mI) (xs : List Nat) (F : List yF) : List yF := if (mOut P xs).1 = 1 then zF P xs F (mCode P xs) else F
noncomputable def zTk (P : List mI) (xs : List Nat) (F : List yF) : Nat := if (mOut P xs).1 = 1 then zT P xs F (mCode P xs) else 0
def zCb (b : Bool) (n cK : Nat) : Bool := b && decide (n = cK)
def zC (b : Bool) (n cK : Nat) : Nat := if zCb b n cK = true then 2 * cK else cK
def z1 (b : Bool) (n cK : Nat) : Nat := if zCb b n cK = true then 1 else 0
def z2 (b : Bool) (n cK : Nat) : Nat := if zCb b n cK = true then 2 * cK else 0
theorem tkF_z {P : List mI} {xs : List Nat} {F : List yF} {cp : Nat → Nat} : tkF P xs F cp = zFk P xs F := by
  unfold tkF tF zFk zF tFl tSh
  by_cases h : (mOut P xs).1 = 1
  · rw [if_pos h, decide_eq_true h, Bool.true_and]
    cases e : fnd F (mCode P xs)
    · rw [if_pos (show (!false) = true from rfl), if_neg (show ¬ (false = true) by decide), sShr_1]
    · rw [if_neg (show ¬ ((!true) = true) by decide), if_pos (show true = true from rfl)]
  · rw [if_neg h, decide_eq_false h, Bool.false_and]
    rfl
section MZ2
variable {D : va_G} {w w' : g_H} {M : Nat → Prop} {lab lab2 : Nat → Nat} {y fq ac rn tt cK : Nat} {mf mf2 : Nat → Nat} {P : List mI} {C : List yC} {A : Nat → List (List Nat)} {cov : Nat → Bool} {K : List (List Nat)} {F : List yF} {en td st th : Int32} {E : Nat → Bool}
theorem g_MZ.covd {s : State} (hK : va_K D gCl (gT D) s) {cov2 : Nat → Bool} (h : g_MZ D w lab y mf P C A cov K fq ac F rn tt cK en td st E th) (hc : mCv D w' mf cov2) (q : g_ex (fun q => q = mf 18) w w') : g_MZ D w' lab y mf P C A cov2 K fq ac F rn tt cK en td st E th ∧ zCh w lab w' lab := by
  obtain ⟨f, a18, -⟩ := h.2.2.2.2.2.2.1
  obtain ⟨h0, hL, h1, h2, h3, h4, -, h6, h7, hb⟩ := h.parts (lab' := lab) q (g_mut.arr a18 (g_neA hK (i := 2) (j := 1) rfl rfl (fun z => by cases z))) (fun _ _ => rfl) (fun n => n = 39) (fun z _ hz => by rw [hz]; exact h.2.1.2 18 (by decide))
  exact ⟨⟨h0 (by decide), hL, h1 (by decide), h2 (by decide), h3 (by decide), h4 (by decide), hc, h6 (by decide), h7 (by decide), hb⟩, zCh.of q (fun z _ hz => by unfold mM; rw [hz, h.2.1.2 18 (by decide)]; omega)⟩
theorem g_MZ.kep {s : State} (hK : va_K D gCl (gT D) s) {xs : List Nat} {cK2 : Nat} (h : g_MZ D w lab y mf P C A cov K fq ac F rn tt cK en td st E th) (em : ∀ k, k ≠ 19 → mf2 k = mf k) (hy : g_at w' y (.inr (10, mO mf2 (nI P.length) (nI C.length) en td st (nI rn) (lN tt) (nI (K ++ [xs]).length) (nI fq) (nI ac) (nI F.length) th))) (hk : mKp D w' (mf2 19) (K ++ [xs]) cK2) (hl : ∀ z, z ∈ w.1 → lab2 z = lab z) (hl9 : lab2 (mf2 19) = 40) (q : g_ex (fun q => q = y ∨ q = mf 19) w w') (hK5 : K.length + 1 < 500) : g_MZ D w' lab2 y mf2 P C A cov (K ++ [xs]) fq ac F rn tt cK2 en td st E th ∧ zCh w lab w' lab2 := by
  obtain ⟨f, a19, -⟩ := h.2.2.2.2.2.2.2.1
  obtain ⟨-, hL, h1, h2, h3, h4, h5, -, h7, hb⟩ := h.parts (lab' := lab2) q ((g_mut.obj h.1).or (g_mut.arr a19 (g_neA hK (i := 5) (j := 1) rfl rfl (fun z => by cases z)))) hl (fun n => n = 20 ∨ n = 40) (fun z _ hz => by
    rcases hz with hz | hz
    · rw [hz]; exact Or.inl h.2.1.1
    · rw [hz]; exact Or.inr (h.2.1.2 19 (by decide)))
  have hlen : (K ++ [xs]).length = K.length + 1 := by rw [List.length_append]; rfl
  refine ⟨⟨hy, ⟨hL.1, fun k hk => ?_⟩, ?_, ?_, ?_, ?_, ?_, hk, ?_, by rw [hlen]; exact hK5, hb.2.1, hb.2.2.1, by rw [hlen]; omega, hb.2.2.2.2⟩, hl, q.mono (fun z _ hz => by
    unfold mM
    rcases hz with hz | hz
    · rw [hz, h.2.1.1]; omega
    · rw [hz, h.2.1.2 19 (by decide)]; omega)⟩
  · by_cases e : k = 19
    · rw [e]; exact hl9
    · rw [em k e]; exact hL.2 k hk
  · obtain ⟨f0, f1, f2, f3, r⟩ := h1 (by decide)
    exact ⟨f0, f1, f2, f3, by rw [em 0 (by decide), em 1 (by decide), em 2 (by decide), em 3 (by decide)]; exact r⟩
  · obtain ⟨fE, g, r⟩ := h2 (by decide)
    exact ⟨fE, g, by rw [em 14 (by decide), em 15 (by decide)]; exact r⟩
  · obtain ⟨a, b, c, r⟩ := h3 (by decide)
    exact ⟨a, b, c, by rw [em 5 (by decide), em 6 (by decide), em 7 (by decide)]; exact r⟩
  · obtain ⟨a, b, r⟩ := h4 (by decide)
    exact ⟨a, b, by rw [em 9 (by decide), em 10 (by decide)]; exact r⟩
  · obtain ⟨a, r⟩ := h5 (by decide)
    exact ⟨a, by rw [em 18 (by decide)]; exact r⟩
  · obtain ⟨a, b, c, r⟩ := h7 (by decide)
    exact ⟨a, b, c, by rw [em 23 (by decide), em 24 (by decide), em 25 (by decide)]; exact r⟩
theorem kp_app {xs : List Nat} {a n : Nat} {f g : Nat → Option Nat} {sp : Nat} (hg : g = va_up f K.length (some sp)) (ha : mA5 D w' a n g) (hn : K.length < n) (h16 : 16 ≤ n) (h2 : n < 2000) (hs : g_Str D w' sp (txt xs)) (hj : ∀ j, j < K.length → ∃ st, f j = some st ∧ g_Str D w' st (txt (K.getD j []))) : mKp D w' a (K ++ [xs]) n := by
  have hlen : (K ++ [xs]).length = K.length + 1 := by rw [List.length_append]; rfl
  refine ⟨g, ha, by rw [hlen]; omega, h16, h2, fun j hj2 => ?_⟩
  rw [hlen] at hj2
  by_cases e : j = K.length
  · subst e
    rw [show (K ++ [xs]).getD K.length [] = xs by rw [List.getD_eq_getElem?_getD, List.getElem?_append_right (Nat.le_refl _), Nat.sub_self]; rfl, hg]
    exact ⟨sp, va_up_self _ _ _, hs⟩
  · rw [show (K ++ [xs]).getD j [] = K.getD j [] by rw [List.getD_eq_getElem?_getD, List.getElem?_append_left (by omega), List.getD_eq_getElem?_getD], hg, va_up_ne _ _ e]
    exact hj j (by omega)
end MZ2
set_option maxHeartbeats 4000000 in
set_option maxRecDepth 100000 in
/-- Model.takes -/
theorem mtX3_takes (l : Launch) (D : va_G) (w : g_H) (sz : Nat) (y : Nat) (mf : Nat → Nat) (lab : Nat → Nat) (P : List mI) (C : List yC) (A9 : Nat → List (List Nat)) (cov : Nat → Bool) (K : List (List Nat)) (fq ac : Nat) (F : List yF) (rn tt cK : Nat) (en td st : Int32) (E : Nat → Bool) (th : Int32) (hZ : g_MZ D w lab y mf P C A9 cov K fq ac F rn tt cK en td st E th) (sp : Nat) (xs : List Nat) (hst : g_Str D w sp (txt xs)) (hxs : sDg xs) (hcv : eOk cov) (hK9 : K.length + 1 < 500) (hcK : cK < 1000) (hF15 : (mOut P xs).1 = 1 → fnd F (mCode P xs) = false → F.length < 16) (hrn : rn + 1 < 100000) (htt : tt + 65 < 100000000) : Met l yX3_takes (ws_ yX3_takes cX3_takes 4 (some .boolean)) ({ frames := 11, cells := z1 (tkB P xs cov) K.length cK + 4 * zTk P xs F, slots := z2 (tkB P xs cov) K.length cK + 32 * zTk P xs F, locals := 289 }) (g_Pc D [.ref y, .ref sp] w sz) (g_Qi D w sz (fun r u => r = (if tkB P xs cov = true then 1 else 0) ∧ ∃ lab2 mf2 en2 td2 st2 E2, g_MZ D u lab2 y mf2 P C A9 (cvO cov (mOut P xs).2.2.2) (tkL (tkB P xs cov) K xs) fq ac (zFk P xs F) (rn + 1) (tt + (mOut P xs).2.2.1) (zC (tkB P xs cov) K.length cK) en2 td2 st2 E2 th ∧ zCh w lab u lab2)) (z1 (tkB P xs cov) K.length cK + 4 * zTk P xs F) (z2 (tkB P xs cov) K.length cK + 32 * zTk P xs F) (g_A w sz) := by
  refine Met.ofW (cc := cX3_takes) (maxL := 4) (ret := (some .boolean)) (by decide) rfl ?_
  intro p e s m args below meth c s₁ B hml hv
  obtain ⟨rfl, hI⟩ := hv
  have hx := B.exec
  have hb := B.bytes
  have hr := B.returns
  have hts := atoms_spec (ws := ws_ yX3_takes cX3_takes 4 (some .boolean)) B.pre
  have hts : ∀ w ∈ lw_all, w.before _ s = true := fun w h => hts w (List.mem_cons_of_mem _ h)
  have hown : s.vm.findClass RX3 = some m.cls := findClass_of_methodNamed B.named
  have hlocks := B.notSynchronized
  have hsz := hI.1
  subst hsz
  have hW := g_W.start hI
  have hK := g_K hI
  have hE := g_E hI
  have hl := lv_entry ([.ref y, .ref sp]) (n := 4) (by exact Nat.le_of_ble_eq_true rfl)
  rw [lg_entry_eq]
  generalize (lg_sl ([.ref y, .ref sp]) ++ List.replicate (4 - (lg_sl ([.ref y, .ref sp])).length) Slot.unset).toArray = ls at hl ⊢
  have hl : lv_has ls 4 [(0, .ref y), (1, .ref sp)] := hl
  obtain ⟨hy, ⟨hly, hL⟩, hP, hR, -, -, -, -, -, hb9⟩ := id hZ
  have hPl : P.length ≤ 16 := by obtain ⟨_, _, _, _, _, _, _, _, h, _⟩ := hP; exact h
  have hst5 := mOut_steps (P := P) (xs := xs)
  have hv3 := mOut_lt (P := P) (xs := xs)
  refine lv_aload_n hx hb dX3_takes_0 rfl (lv_at hl 0 rfl) ?_
  refine lv_aload_n hx hb dX3_takes_1 rfl (lv_at hl 1 rfl) ?_
  refine g_callv (va_runV (As := [.ref sp]) (rest := []) ⟨hx, hb, hml, hown, hts⟩ (mtX3_runs l D w s.heap.size y mf lab hL hly (nI C.length) en td st (nI rn) (lN tt) (nI K.length) (nI fq) (nI ac) (nI F.length) th P E hy hP hR sp (txt xs) hst (txt_kHas hxs)) (cwV 1 hts (lw_V q2037 q2039 qs26 q47 q2040) rfl rfl rfl (by decide +kernel) ⟨Nat.le_of_ble_eq_true rfl, Nat.le_of_ble_eq_true rfl⟩) (g_preV hW hK hE hy rfl) rfl rfl hl.1 rfl (lv_room (Nat.le_of_ble_eq_true rfl)) dX3_takes_2 ⟨?_, ?_⟩) hW (fun u1 H locs hp hW => ?_)
  · (try simp only [headSpec]); omega
  · (try simp only [headSpec]); omega
  rw [digs_txt2] at hp
  obtain ⟨hy1, hR1, hx1⟩ := hp
  have hZ1 := hZ.run hK hy1 hR1 hx1
  have hz1 := hZ.zrun hx1
  obtain ⟨f14, g15, r14, rE14, r15⟩ := id hR
  have hst1 := str_no hst hy r14 r15 (g_neA hK (i := 2) (j := 1) rfl rfl (fun z => by cases z)) (g_neA hK (i := 0) (j := 1) rfl rfl (fun z => by cases z)) hx1
  have x_1 : g_ex (fun q => q = y) u1 u1 := g_ex.rf
  refine lv_aload_n hx hb dX3_takes_5 rfl (lv_at hl 0 rfl) ?_
  refine lv_dup hx hb dX3_takes_6 rfl ?_
  refine g_get (ci := 10) (v := .int (nI rn)) (C := RX3) (T := TX3) (N := 28) hx hb hts in_X3 hown hK hW hy1 rfl 16 (by decide) q1900 (fun _ h9 => h9) rfl dX3_takes_7 ?_
  refine lv_iconst (v := 1) hx hb dX3_takes_10 (by decide) ?_
  refine lv_iadd hx hb dX3_takes_11 ?_
  refine g_topi (y := nI (rn + 1)) (nI_1 rn) ?_
  refine g_putf (ci := 10) (v := .int (nI (rn + 1))) (ty := .int) (C := RX3) (T := TX3) (N := 28) hx hb hts in_X3 tyX3 tyX3_ok nmX3 hown hK hW hy1 rfl 16 (by decide) q1900 (fun _ h9 => h9) rfl (by decide +kernel) rfl rfl (Nat.le_of_ble_eq_true rfl) dX3_takes_12 (fun H locs hW => ?_)
  obtain ⟨w_2, ew_2⟩ : ∃ z__, z__ = g_put u1 y (.inr (10, mO mf (nI P.length) (nI C.length) (nI (mOut P xs).1) (mTo P xs) (nI (mOut P xs).2.2.1) (nI (rn + 1)) (lN tt) (nI K.length) (nI fq) (nI ac) (nI F.length) (th))) := ⟨_, rfl⟩
  have hW := g_W.ren hW ew_2 rfl
  have h_3 : g_at w_2 y (.inr (10, mO mf (nI P.length) (nI C.length) (nI (mOut P xs).1) (mTo P xs) (nI (mOut P xs).2.2.1) (nI (rn + 1)) (lN tt) (nI K.length) (nI fq) (nI ac) (nI F.length) (th))) := by rw [ew_2]; exact g_at.put_self hy1.1
  have x_4 : g_ex (fun q => q = y) u1 w_2 := by rw [ew_2]; exact x_1.put (fun hz9 => rfl)
  refine lv_aload_n hx hb dX3_takes_15 rfl (lv_at hl 0 rfl) ?_
  refine lv_dup hx hb dX3_takes_16 rfl ?_
  refine g_get (ci := 10) (v := .long (lN tt)) (C := RX3) (T := TX3) (N := 28) hx hb hts in_X3 hown hK hW h_3 rfl 17 (by decide) q1901 (fun _ h9 => h9) rfl dX3_takes_17 ?_
  refine lv_aload_n hx hb dX3_takes_20 rfl (lv_at hl 0 rfl) ?_
  refine g_get (ci := 10) (v := .int (nI (mOut P xs).2.2.1)) (C := RX3) (T := TX3) (N := 28) hx hb hts in_X3 hown hK hW h_3 rfl 13 (by decide) q1897 (fun _ h9 => h9) rfl dX3_takes_21 ?_
  refine lv_i2l (v := (nI (mOut P xs).2.2.1 : Int32).toInt64) hx hb dX3_takes_24 rfl ?_
  refine lv_ladd hx hb dX3_takes_25 ?_
  refine g_top (v' := .long (lN (tt + (mOut P xs).2.2.1))) (congrArg Value.long (by rw [nI_l (by omega), lN_add])) ?_
  refine g_putf (ci := 10) (v := .long (lN (tt + (mOut P xs).2.2.1))) (ty := .long) (C := RX3) (T := TX3) (N := 28) hx hb hts in_X3 tyX3 tyX3_ok nmX3 hown hK hW h_3 rfl 17 (by decide) q1901 (fun _ h9 => h9) rfl (by decide +kernel) rfl rfl (Nat.le_of_ble_eq_true rfl) dX3_takes_26 (fun H locs hW => ?_)
  obtain ⟨w_5, ew_5⟩ : ∃ z__, z__ = g_put w_2 y (.inr (10, mO mf (nI P.length) (nI C.length) (nI (mOut P xs).1) (mTo P xs) (nI (mOut P xs).2.2.1) (nI (rn + 1)) (lN (tt + (mOut P xs).2.2.1)) (nI K.length) (nI fq) (nI ac) (nI F.length) (th))) := ⟨_, rfl⟩
  have hW := g_W.ren hW ew_5 rfl
  have h_6 : g_at w_5 y (.inr (10, mO mf (nI P.length) (nI C.length) (nI (mOut P xs).1) (mTo P xs) (nI (mOut P xs).2.2.1) (nI (rn + 1)) (lN (tt + (mOut P xs).2.2.1)) (nI K.length) (nI fq) (nI ac) (nI F.length) (th))) := by rw [ew_5]; exact g_at.put_self h_3.1
  have x_7 : g_ex (fun q => q = y) u1 w_5 := by rw [ew_5]; exact x_4.put (fun hz9 => rfl)
  refine lv_iconst (v := 0) hx hb dX3_takes_29 (by decide) ?_
  refine lv_istore_n (lv' := [(2, .int (0)), (0, .ref y), (1, .ref sp)]) hx hb dX3_takes_30 rfl hl (by decide) rfl (fun ls hl => ?_)
  refine lv_iconst (v := 0) hx hb dX3_takes_31 (by decide) ?_
  refine lv_istore_n (lv' := [(3, .int (0)), (2, .int (0)), (0, .ref y), (1, .ref sp)]) hx hb dX3_takes_32 rfl hl (by decide) rfl (fun ls hl => ?_)
  have hZ2 := hZ1.obj (rn2 := rn + 1) (tt2 := tt + (mOut P xs).2.2.1) h_6 x_7 hrn (by omega) hb9.2.2.2.1 hb9.2.2.2.2
  have hz2 := hZ1.zobj x_7
  have hst2 : g_Str D w_5 sp (txt xs) := (g_mut.obj hy1).str hst1 x_7
  obtain ⟨fE, g9, a14, hE14, a15⟩ := hZ2.2.2.2.1
  obtain ⟨f18, a18, hE18⟩ := hZ2.2.2.2.2.2.2.1
  refine lpX3_cov (D := D) hx hb hts hown hK hE hml (Nat.le_of_ble_eq_true rfl) (Nat.le_of_ble_eq_true rfl) ?_ ?_ y sp mf lab hL hly (nI P.length) (nI C.length) (nI (mOut P xs).1) (mTo P xs) (nI (mOut P xs).2.2.1) (nI (rn + 1)) (lN (tt + (mOut P xs).2.2.1)) (nI K.length) (nI fq) (nI ac) (nI F.length) th cov (bsE (fun _ => false) (mOut P xs).2.2.2) fE w_5 hZ2.1 a14 hE14 (fun w3 g2 H locs ls hex3 h18 hg2 hW hl => ?_) 273 0 f18 w_5 _ _ ls (by decide) (by decide) g_ex.rf a18 (mEg_cong hE18 (fun e he => (if_neg (Nat.not_lt_zero e)).symm)) hW (lv_sub hl [2, 3, 1, 0] rfl)
  · (try simp only [headSpec]); omega
  · (try simp only [headSpec]); omega
  have hnw := nwE_cvM hcv (mOut_edge hPl (xs := xs))
  rw [hnw] at hl
  obtain ⟨hZ3, hz3⟩ := hZ2.covd hK ⟨g2, h18, hg2⟩ hex3
  have hst3 : g_Str D w3 sp (txt xs) := (g_mut.arr a18 (g_neA hK (i := 2) (j := 1) rfl rfl (fun z => by cases z))).str hst2 hex3
  have hzA := (hz1.tr hz2).tr hz3
  obtain ⟨MC, eMC⟩ : ∃ z__, z__ = z1 (tkB P xs cov) K.length cK + 4 * zTk P xs F := ⟨_, rfl⟩
  obtain ⟨MS, eMS⟩ : ∃ z__, z__ = z2 (tkB P xs cov) K.length cK + 32 * zTk P xs F := ⟨_, rfl⟩
  rw [← eMC, ← eMS]
  refine lv_iload_n hx hb dX3_takes_105 rfl (lv_at hl 2 rfl) ?_
  by_cases hq9 : cvM cov (mOut P xs).2.2.2 = true
  · rw [if_pos hq9]
    refine lv_if_eq (tgt := 120) hx hb dX3_takes_106 (by decide) (fun hz => absurd hz (by decide)) (fun _ => ?_)
    refine lv_aload_n hx hb dX3_takes_109 rfl (lv_at hl 0 rfl) ?_
    refine g_get (ci := 10) (v := .int (nI (mOut P xs).1)) (C := RX3) (T := TX3) (N := 28) hx hb hts in_X3 hown hK hW hZ3.1 rfl 11 (by decide) q1895 (fun _ h9 => h9) rfl dX3_takes_110 ?_
    refine lv_if_ne (tgt := 120) hx hb dX3_takes_113 (by decide) (fun hc => ?_) (fun hc => ?_)
    · have hv0 : (mOut P xs).1 ≠ 0 := fun z => hc (by rw [z]; rfl)
      have htk : tkB P xs cov = false := by unfold tkB; rw [decide_eq_false hv0, Bool.and_false]
      refine lv_iconst (v := 0) hx hb dX3_takes_120 (by decide) ?_
      refine lv_istore_n (lv' := [(3, .int (0)), (0, .ref y), (1, .ref sp), (2, .int ((if cvM cov (mOut P xs).2.2.2 = true then 1 else 0)))]) hx hb dX3_takes_121 rfl hl (by decide) rfl (fun ls hl => ?_)
      refine lv_iload_n hx hb dX3_takes_122 rfl (lv_at hl 0 rfl) ?_
      refine lv_if_eq (tgt := 176) hx hb dX3_takes_123 (by decide) (fun _ => ?_) (fun hz => absurd rfl hz)
      have ez : zCb (tkB P xs cov) K.length cK = false := by rw [htk]; rfl
      have hc1 : z1 (tkB P xs cov) K.length cK = 0 := by unfold z1; rw [ez]; rfl
      have hc2 : z2 (tkB P xs cov) K.length cK = 0 := by unfold z2; rw [ez]; rfl
      have hcc : zC (tkB P xs cov) K.length cK = cK := by unfold zC; rw [ez]; rfl
      refine lv_aload_n hx hb dX3_takes_176 rfl (lv_at hl 1 rfl) ?_
      refine g_get (ci := 10) (v := .int (nI (mOut P xs).1)) (C := RX3) (T := TX3) (N := 28) hx hb hts in_X3 hown hK hW hZ3.1 rfl 11 (by decide) q1895 (fun _ h9 => h9) rfl dX3_takes_177 ?_
      refine lv_iconst (v := 1) hx hb dX3_takes_180 (by decide) ?_
      refine lv_icmp_ne (tgt := 193) hx hb dX3_takes_181 (by decide) (fun hd => ?_) (fun hd => ?_)
      · have hv1 : (mOut P xs).1 ≠ 1 := fun z => hd (by rw [z]; rfl)
        have eF : zFk P xs F = F := if_neg hv1
        have eT : zTk P xs F = 0 := if_neg hv1
        refine lv_iload_n hx hb dX3_takes_193 rfl (lv_at hl 0 rfl) ?_
        exact g_zret (v := 0) hx hb hr hlocks (by rfl) hW (⟨by rw [htk]; rfl, lab, mf, _, _, _, _, by rw [hcc, eF, htk]; exact hZ3, hzA⟩) (by omega) (by omega) dX3_takes_194
      · have hv1 : (mOut P xs).1 = 1 := nI_inj (b := 1) (by omega) (by decide) (by first | exact hd | exact Classical.not_not.mp hd)
        have eF : zFk P xs F = zF P xs F (mCode P xs) := if_pos hv1
        have eT : zTk P xs F = zT P xs F (mCode P xs) := if_pos hv1
        refine lv_aload_n hx hb dX3_takes_184 rfl (lv_at hl 1 rfl) ?_
        refine lv_aload_n hx hb dX3_takes_185 rfl (lv_at hl 2 rfl) ?_
        refine lv_aload_n hx hb dX3_takes_186 rfl (lv_at hl 1 rfl) ?_
        refine g_get (ci := 10) (v := .int (mTo P xs)) (C := RX3) (T := TX3) (N := 28) hx hb hts in_X3 hown hK hW hZ3.1 rfl 12 (by decide) q1896 (fun _ h9 => h9) rfl dX3_takes_187 ?_
        refine g_topi (y := mCode P xs) (mTo_c hv1) ?_
        refine g_callv (va_runV (As := [.ref sp, .int (mCode P xs)]) (rest := []) ⟨hx, hb, hml, hown, hts⟩ (mtX3_finds l D w3 H.size y mf lab P C A9 (cvO cov (mOut P xs).2.2.2) K fq ac F (rn + 1) (tt + (mOut P xs).2.2.1) cK _ _ _ _ th hZ3 sp xs hst3 hxs (mCode P xs) (hF15 hv1)) (cwV 2 hts (lw_V q2057 q2059 qs28 q47 q2060) rfl rfl rfl (by decide +kernel) ⟨Nat.le_of_ble_eq_true rfl, Nat.le_of_ble_eq_true rfl⟩) (g_preV hW hK hE hZ3.1 rfl) rfl rfl hl.1 rfl (lv_room (Nat.le_of_ble_eq_true rfl)) dX3_takes_190 ⟨?_, ?_⟩) hW (fun u9 H locs hp hW => ?_)
        · (try simp only [headSpec]); rw [eT] at eMC eMS; omega
        · (try simp only [headSpec]); rw [eT] at eMC eMS; omega
        obtain ⟨⟨en2, td2, st2, E2, hZ9⟩, hz9⟩ := hp
        refine lv_iload_n hx hb dX3_takes_193 rfl (lv_at hl 0 rfl) ?_
        exact g_zret (v := 0) hx hb hr hlocks (by rfl) hW (⟨by rw [htk]; rfl, lab, mf, en2, td2, st2, E2, by rw [hcc, eF, htk]; exact hZ9, (hzA).tr hz9⟩) (by rw [eT] at eMC; omega) (by rw [eT] at eMS; omega) dX3_takes_194
    · have hv0 : (mOut P xs).1 = 0 := nI_inj (b := 0) (by omega) (by decide) (by first | exact hc | exact Classical.not_not.mp hc)
      have htk : tkB P xs cov = true := by unfold tkB; rw [hq9, decide_eq_true hv0]; rfl
      refine lv_iconst (v := 1) hx hb dX3_takes_116 (by decide) ?_
      refine lv_goto (tgt := 121) hx hb dX3_takes_117 (by decide) ?_
      refine lv_istore_n (lv' := [(3, .int (1)), (0, .ref y), (1, .ref sp), (2, .int ((if cvM cov (mOut P xs).2.2.2 = true then 1 else 0)))]) hx hb dX3_takes_121 rfl hl (by decide) rfl (fun ls hl => ?_)
      refine lv_iload_n hx hb dX3_takes_122 rfl (lv_at hl 0 rfl) ?_
      refine lv_if_eq (tgt := 176) hx hb dX3_takes_123 (by decide) (fun hz => absurd hz (by decide)) (fun _ => ?_)
      obtain ⟨f19, a19, hk1, hk2, hk3, hk4⟩ := hZ3.2.2.2.2.2.2.2.1
      refine lv_aload_n hx hb dX3_takes_126 rfl (lv_at hl 1 rfl) ?_
      refine lv_aload_n hx hb dX3_takes_127 rfl (lv_at hl 1 rfl) ?_
      refine g_get (ci := 10) (v := .int (nI K.length)) (C := RX3) (T := TX3) (N := 28) hx hb hts in_X3 hown hK hW hZ3.1 rfl 20 (by decide) q1904 (fun _ h9 => h9) rfl dX3_takes_128 ?_
      refine lv_aload_n hx hb dX3_takes_131 rfl (lv_at hl 1 rfl) ?_
      refine g_get (ci := 10) (v := .ref (mf 19)) (C := RX3) (T := TX3) (N := 28) hx hb hts in_X3 hown hK hW hZ3.1 rfl 19 (by decide) q1903 (fun _ h9 => h9) rfl dX3_takes_132 ?_
      refine g_alen hx hb hK hW 5 a19 rfl dX3_takes_135 ?_
      refine lv_icmp_ne (tgt := 149) hx hb dX3_takes_136 (by decide) (fun he => ?_) (fun he => ?_)
      · have hnf : K.length ≠ cK := fun z => he (by rw [z])
        have ez : zCb (tkB P xs cov) K.length cK = false := by unfold zCb; rw [decide_eq_false hnf, Bool.and_false]
        have hc1 : z1 (tkB P xs cov) K.length cK = 0 := by unfold z1; rw [ez]; rfl
        have hc2 : z2 (tkB P xs cov) K.length cK = 0 := by unfold z2; rw [ez]; rfl
        have hx0 : g_ex (fun q => q = y ∨ q = mf 19) w3 w3 := g_ex.rf
        have hmuK : g_mut D w3 (fun q => q = y ∨ q = mf 19) := (g_mut.obj hZ3.1).or (g_mut.arr a19 (g_neA hK (i := 5) (j := 1) rfl rfl (fun z => by cases z)))
        refine lv_aload_n hx hb dX3_takes_149 rfl (lv_at hl 1 rfl) ?_
        refine g_get (ci := 10) (v := .ref (mf 19)) (C := RX3) (T := TX3) (N := 28) hx hb hts in_X3 hown hK hW hZ3.1 rfl 19 (by decide) q1903 (fun _ h9 => h9) rfl dX3_takes_150 ?_
        refine g_putf (ci := 10) (v := .ref (mf 19)) (ty := (.array (.object "java/lang/String"))) (C := RX3) (T := TX3) (N := 28) hx hb hts in_X3 tyX3 tyX3_ok nmX3 hown hK hW hZ3.1 rfl 19 (by decide) q1903 (fun _ h9 => h9) rfl (by decide +kernel) rfl rfl (Nat.le_of_ble_eq_true rfl) dX3_takes_153 (fun H locs hW => ?_)
        obtain ⟨w_8, ew_8⟩ : ∃ z__, z__ = g_put w3 y (.inr (10, mO mf (nI P.length) (nI C.length) (nI (mOut P xs).1) (mTo P xs) (nI (mOut P xs).2.2.1) (nI (rn + 1)) (lN (tt + (mOut P xs).2.2.1)) (nI K.length) (nI fq) (nI ac) (nI F.length) (th))) := ⟨_, rfl⟩
        have hW := g_W.ren hW ew_8 rfl
        have h_9 : g_at w_8 y (.inr (10, mO mf (nI P.length) (nI C.length) (nI (mOut P xs).1) (mTo P xs) (nI (mOut P xs).2.2.1) (nI (rn + 1)) (lN (tt + (mOut P xs).2.2.1)) (nI K.length) (nI fq) (nI ac) (nI F.length) (th))) := by rw [ew_8]; exact g_at.put_self hZ3.1.1
        have h_10 : g_at w_8 (mf 19) (.inl (D.1 105, cK, .inr (.inr (.inr (.inr (f19)))))) := by rw [ew_8]; exact a19.put (g_neAO a19 hZ3.1)
        have x_11 : g_ex (fun q => q = y ∨ q = mf 19) w3 w_8 := by rw [ew_8]; exact hx0.put (fun hz9 => (Or.inl rfl))
        refine lv_aload_n hx hb dX3_takes_156 rfl (lv_at hl 1 rfl) ?_
        refine g_get (ci := 10) (v := .ref (mf 19)) (C := RX3) (T := TX3) (N := 28) hx hb hts in_X3 hown hK hW h_9 rfl 19 (by decide) q1903 (fun _ h9 => h9) rfl dX3_takes_157 ?_
        refine lv_aload_n hx hb dX3_takes_160 rfl (lv_at hl 1 rfl) ?_
        refine g_get (ci := 10) (v := .int (nI K.length)) (C := RX3) (T := TX3) (N := 28) hx hb hts in_X3 hown hK hW h_9 rfl 20 (by decide) q1904 (fun _ h9 => h9) rfl dX3_takes_161 ?_
        refine lv_aload_n hx hb dX3_takes_164 rfl (lv_at hl 2 rfl) ?_
        refine g_astSt (n := cK) (i := K.length) (y := sp) hx hb hK hE hW h_10 (hmuK.str hst3 x_11).ob (by omega) (by omega) dX3_takes_165 (fun H locs hW => ?_)
        obtain ⟨f_12, ef_12⟩ : ∃ z__, z__ = va_up f19 K.length (some sp) := ⟨_, rfl⟩
        rw [← ef_12] at hW
        obtain ⟨w_13, ew_13⟩ : ∃ z__, z__ = g_put w_8 (mf 19) (.inl (D.1 105, cK, .inr (.inr (.inr (.inr (f_12)))))) := ⟨_, rfl⟩
        have hW := g_W.ren hW ew_13 rfl
        have h_14 : g_at w_13 y (.inr (10, mO mf (nI P.length) (nI C.length) (nI (mOut P xs).1) (mTo P xs) (nI (mOut P xs).2.2.1) (nI (rn + 1)) (lN (tt + (mOut P xs).2.2.1)) (nI K.length) (nI fq) (nI ac) (nI F.length) (th))) := by rw [ew_13]; exact h_9.put (g_neOA h_9 h_10)
        have h_15 : g_at w_13 (mf 19) (.inl (D.1 105, cK, .inr (.inr (.inr (.inr (f_12)))))) := by rw [ew_13]; exact g_at.put_self h_10.1
        have x_16 : g_ex (fun q => q = y ∨ q = mf 19) w3 w_13 := by rw [ew_13]; exact x_11.put (fun hz9 => (Or.inr (rfl)))
        refine lv_aload_n hx hb dX3_takes_166 rfl (lv_at hl 1 rfl) ?_
        refine lv_dup hx hb dX3_takes_167 rfl ?_
        refine g_get (ci := 10) (v := .int (nI K.length)) (C := RX3) (T := TX3) (N := 28) hx hb hts in_X3 hown hK hW h_14 rfl 20 (by decide) q1904 (fun _ h9 => h9) rfl dX3_takes_168 ?_
        refine lv_iconst (v := 1) hx hb dX3_takes_171 (by decide) ?_
        refine lv_iadd hx hb dX3_takes_172 ?_
        refine g_topi (y := nI (K.length + 1)) (nI_1 _) ?_
        refine g_putf (ci := 10) (v := .int (nI (K.length + 1))) (ty := .int) (C := RX3) (T := TX3) (N := 28) hx hb hts in_X3 tyX3 tyX3_ok nmX3 hown hK hW h_14 rfl 20 (by decide) q1904 (fun _ h9 => h9) rfl (by decide +kernel) rfl rfl (Nat.le_of_ble_eq_true rfl) dX3_takes_173 (fun H locs hW => ?_)
        obtain ⟨w_17, ew_17⟩ : ∃ z__, z__ = g_put w_13 y (.inr (10, mO mf (nI P.length) (nI C.length) (nI (mOut P xs).1) (mTo P xs) (nI (mOut P xs).2.2.1) (nI (rn + 1)) (lN (tt + (mOut P xs).2.2.1)) (nI (K.length + 1)) (nI fq) (nI ac) (nI F.length) (th))) := ⟨_, rfl⟩
        have hW := g_W.ren hW ew_17 rfl
        have h_18 : g_at w_17 y (.inr (10, mO mf (nI P.length) (nI C.length) (nI (mOut P xs).1) (mTo P xs) (nI (mOut P xs).2.2.1) (nI (rn + 1)) (lN (tt + (mOut P xs).2.2.1)) (nI (K.length + 1)) (nI fq) (nI ac) (nI F.length) (th))) := by rw [ew_17]; exact g_at.put_self h_14.1
        have h_19 : g_at w_17 (mf 19) (.inl (D.1 105, cK, .inr (.inr (.inr (.inr (f_12)))))) := by rw [ew_17]; exact h_15.put (g_neAO h_15 h_14)
        have x_20 : g_ex (fun q => q = y ∨ q = mf 19) w3 w_17 := by rw [ew_17]; exact x_16.put (fun hz9 => (Or.inl rfl))
        have hlen : (K ++ [xs]).length = K.length + 1 := by rw [List.length_append]; rfl
        have hyk := h_18
        rw [← hlen] at hyk
        have hkk := kp_app (xs := xs) ef_12 h_19 (by omega) hk2 hk3 (hmuK.str hst3 x_20) (fun j hj => by obtain ⟨t9, e1, e2⟩ := hk4 j hj; exact ⟨t9, e1, hmuK.str e2 x_20⟩)
        obtain ⟨hZ4, hz4⟩ := hZ3.kep hK (mf2 := mf) (lab2 := lab) (fun _ _ => rfl) hyk hkk (fun _ _ => rfl) (hL 19 (by decide)) x_20 hK9
        have hst4 := hmuK.str hst3 x_20
        have hcc : zC (tkB P xs cov) K.length cK = cK := by unfold zC; rw [ez]; rfl
        refine lv_aload_n hx hb dX3_takes_176 rfl (lv_at hl 1 rfl) ?_
        refine g_get (ci := 10) (v := .int (nI (mOut P xs).1)) (C := RX3) (T := TX3) (N := 28) hx hb hts in_X3 hown hK hW hZ4.1 rfl 11 (by decide) q1895 (fun _ h9 => h9) rfl dX3_takes_177 ?_
        refine lv_iconst (v := 1) hx hb dX3_takes_180 (by decide) ?_
        refine lv_icmp_ne (tgt := 193) hx hb dX3_takes_181 (by decide) (fun hd => ?_) (fun hd => ?_)
        · have hv1 : (mOut P xs).1 ≠ 1 := fun z => hd (by rw [z]; rfl)
          have eF : zFk P xs F = F := if_neg hv1
          have eT : zTk P xs F = 0 := if_neg hv1
          refine lv_iload_n hx hb dX3_takes_193 rfl (lv_at hl 0 rfl) ?_
          exact g_zret (v := 1) hx hb hr hlocks (by rfl) hW (⟨by rw [htk]; rfl, lab, mf, _, _, _, _, by rw [hcc, eF, htk]; exact hZ4, hzA.tr hz4⟩) (by omega) (by omega) dX3_takes_194
        · have hv1 : (mOut P xs).1 = 1 := nI_inj (b := 1) (by omega) (by decide) (by first | exact hd | exact Classical.not_not.mp hd)
          have eF : zFk P xs F = zF P xs F (mCode P xs) := if_pos hv1
          have eT : zTk P xs F = zT P xs F (mCode P xs) := if_pos hv1
          refine lv_aload_n hx hb dX3_takes_184 rfl (lv_at hl 1 rfl) ?_
          refine lv_aload_n hx hb dX3_takes_185 rfl (lv_at hl 2 rfl) ?_
          refine lv_aload_n hx hb dX3_takes_186 rfl (lv_at hl 1 rfl) ?_
          refine g_get (ci := 10) (v := .int (mTo P xs)) (C := RX3) (T := TX3) (N := 28) hx hb hts in_X3 hown hK hW hZ4.1 rfl 12 (by decide) q1896 (fun _ h9 => h9) rfl dX3_takes_187 ?_
          refine g_topi (y := mCode P xs) (mTo_c hv1) ?_
          refine g_callv (va_runV (As := [.ref sp, .int (mCode P xs)]) (rest := []) ⟨hx, hb, hml, hown, hts⟩ (mtX3_finds l D w_17 H.size y mf lab P C A9 (cvO cov (mOut P xs).2.2.2) (K ++ [xs]) fq ac F (rn + 1) (tt + (mOut P xs).2.2.1) cK _ _ _ _ th hZ4 sp xs hst4 hxs (mCode P xs) (hF15 hv1)) (cwV 2 hts (lw_V q2057 q2059 qs28 q47 q2060) rfl rfl rfl (by decide +kernel) ⟨Nat.le_of_ble_eq_true rfl, Nat.le_of_ble_eq_true rfl⟩) (g_preV hW hK hE hZ4.1 rfl) rfl rfl hl.1 rfl (lv_room (Nat.le_of_ble_eq_true rfl)) dX3_takes_190 ⟨?_, ?_⟩) hW (fun u9 H locs hp hW => ?_)
          · (try simp only [headSpec]); rw [eT] at eMC eMS; omega
          · (try simp only [headSpec]); rw [eT] at eMC eMS; omega
          obtain ⟨⟨en2, td2, st2, E2, hZ9⟩, hz9⟩ := hp
          refine lv_iload_n hx hb dX3_takes_193 rfl (lv_at hl 0 rfl) ?_
          exact g_zret (v := 1) hx hb hr hlocks (by rfl) hW (⟨by rw [htk]; rfl, lab, mf, en2, td2, st2, E2, by rw [hcc, eF, htk]; exact hZ9, (hzA.tr hz4).tr hz9⟩) (by rw [eT] at eMC; omega) (by rw [eT] at eMS; omega) dX3_takes_194
      · have hfl : K.length = cK := nI_inj (by omega) (by omega) (by first | exact he | exact Classical.not_not.mp he)
        have ez : zCb (tkB P xs cov) K.length cK = true := by unfold zCb; rw [htk, decide_eq_true hfl]; rfl
        have hc1 : z1 (tkB P xs cov) K.length cK = 1 := by unfold z1; rw [ez]; rfl
        have hc2 : z2 (tkB P xs cov) K.length cK = 2 * cK := by unfold z2; rw [ez]; rfl
        refine lv_aload_n hx hb dX3_takes_139 rfl (lv_at hl 1 rfl) ?_
        refine g_get (ci := 10) (v := .ref (mf 19)) (C := RX3) (T := TX3) (N := 28) hx hb hts in_X3 hown hK hW hZ3.1 rfl 19 (by decide) q1903 (fun _ h9 => h9) rfl dX3_takes_140 ?_
        refine g_callq (va_runS (As := [.ref (mf 19)]) (rest := [.ref y]) ⟨hx, hb, hml, hown, hts⟩ (mtX3_grown l D w3 H.size (mf 19) cK f19 a19 (fun j hj v hv => by obtain ⟨t9, e1, e2⟩ := hk4 j (by omega); rw [e1] at hv; cases hv; exact e2.ob) hcK) (va_cwS 1 hts (lw_S q2054 q2055 q47 q2056) rfl rfl rfl (by decide +kernel) ⟨Nat.le_of_ble_eq_true rfl, Nat.le_of_ble_eq_true rfl⟩) (g_preS hW hK hE) rfl rfl hl.1 rfl (lv_room (Nat.le_of_ble_eq_true rfl)) dX3_takes_143 ⟨?_, ?_⟩) hW (fun r_ u3 H locs hp hW => ?_)
        · (try simp only [headSpec]); omega
        · (try simp only [headSpec]); omega
        obtain ⟨q9, g19, er, hq9w, aq9, hg19, hex4⟩ := hp
        subst er
        have hyu := hex4.at hZ3.1 (fun z => z)
        have hx0 : g_ex (fun q => q = y ∨ q = mf 19) w3 u3 := hex4.mono (fun _ _ z => z.elim)
        have hmuK : g_mut D w3 (fun q => q = y ∨ q = mf 19) := (g_mut.obj hZ3.1).or (g_mut.arr a19 (g_neA hK (i := 5) (j := 1) rfl rfl (fun z => by cases z)))
        refine lv_goto (tgt := 153) hx hb dX3_takes_146 (by decide) ?_
        refine g_putf (ci := 10) (v := .ref q9) (ty := (.array (.object "java/lang/String"))) (C := RX3) (T := TX3) (N := 28) hx hb hts in_X3 tyX3 tyX3_ok nmX3 hown hK hW hyu rfl 19 (by decide) q1903 (fun _ h9 => h9) rfl (by decide +kernel) rfl rfl (Nat.le_of_ble_eq_true rfl) dX3_takes_153 (fun H locs hW => ?_)
        obtain ⟨w_21, ew_21⟩ : ∃ z__, z__ = g_put u3 y (.inr (10, mO (fun k9 => if k9 = 19 then q9 else mf k9) (nI P.length) (nI C.length) (nI (mOut P xs).1) (mTo P xs) (nI (mOut P xs).2.2.1) (nI (rn + 1)) (lN (tt + (mOut P xs).2.2.1)) (nI K.length) (nI fq) (nI ac) (nI F.length) (th))) := ⟨_, rfl⟩
        have hW := g_W.ren hW ew_21 rfl
        have h_22 : g_at w_21 y (.inr (10, mO (fun k9 => if k9 = 19 then q9 else mf k9) (nI P.length) (nI C.length) (nI (mOut P xs).1) (mTo P xs) (nI (mOut P xs).2.2.1) (nI (rn + 1)) (lN (tt + (mOut P xs).2.2.1)) (nI K.length) (nI fq) (nI ac) (nI F.length) (th))) := by rw [ew_21]; exact g_at.put_self hyu.1
        have h_23 : g_at w_21 q9 (.inl (D.1 105, (2 * cK), .inr (.inr (.inr (.inr (g19)))))) := by rw [ew_21]; exact aq9.put (g_neAO aq9 hyu)
        have x_24 : g_ex (fun q => q = y ∨ q = mf 19) w3 w_21 := by rw [ew_21]; exact hx0.put (fun hz9 => (Or.inl rfl))
        refine lv_aload_n hx hb dX3_takes_156 rfl (lv_at hl 1 rfl) ?_
        refine g_get (ci := 10) (v := .ref q9) (C := RX3) (T := TX3) (N := 28) hx hb hts in_X3 hown hK hW h_22 rfl 19 (by decide) q1903 (fun _ h9 => h9) rfl dX3_takes_157 ?_
        refine lv_aload_n hx hb dX3_takes_160 rfl (lv_at hl 1 rfl) ?_
        refine g_get (ci := 10) (v := .int (nI K.length)) (C := RX3) (T := TX3) (N := 28) hx hb hts in_X3 hown hK hW h_22 rfl 20 (by decide) q1904 (fun _ h9 => h9) rfl dX3_takes_161 ?_
        refine lv_aload_n hx hb dX3_takes_164 rfl (lv_at hl 2 rfl) ?_
        refine g_astSt (n := 2 * cK) (i := K.length) (y := sp) hx hb hK hE hW h_23 (hmuK.str hst3 x_24).ob (by omega) (by omega) dX3_takes_165 (fun H locs hW => ?_)
        obtain ⟨f_25, ef_25⟩ : ∃ z__, z__ = va_up g19 K.length (some sp) := ⟨_, rfl⟩
        rw [← ef_25] at hW
        obtain ⟨w_26, ew_26⟩ : ∃ z__, z__ = g_put w_21 q9 (.inl (D.1 105, (2 * cK), .inr (.inr (.inr (.inr (f_25)))))) := ⟨_, rfl⟩
        have hW := g_W.ren hW ew_26 rfl
        have h_27 : g_at w_26 y (.inr (10, mO (fun k9 => if k9 = 19 then q9 else mf k9) (nI P.length) (nI C.length) (nI (mOut P xs).1) (mTo P xs) (nI (mOut P xs).2.2.1) (nI (rn + 1)) (lN (tt + (mOut P xs).2.2.1)) (nI K.length) (nI fq) (nI ac) (nI F.length) (th))) := by rw [ew_26]; exact h_22.put (g_neOA h_22 h_23)
        have h_28 : g_at w_26 q9 (.inl (D.1 105, (2 * cK), .inr (.inr (.inr (.inr (f_25)))))) := by rw [ew_26]; exact g_at.put_self h_23.1
        have x_29 : g_ex (fun q => q = y ∨ q = mf 19) w3 w_26 := by rw [ew_26]; exact x_24.put (fun hz9 => (absurd hz9 hq9w))
        refine lv_aload_n hx hb dX3_takes_166 rfl (lv_at hl 1 rfl) ?_
        refine lv_dup hx hb dX3_takes_167 rfl ?_
        refine g_get (ci := 10) (v := .int (nI K.length)) (C := RX3) (T := TX3) (N := 28) hx hb hts in_X3 hown hK hW h_27 rfl 20 (by decide) q1904 (fun _ h9 => h9) rfl dX3_takes_168 ?_
        refine lv_iconst (v := 1) hx hb dX3_takes_171 (by decide) ?_
        refine lv_iadd hx hb dX3_takes_172 ?_
        refine g_topi (y := nI (K.length + 1)) (nI_1 _) ?_
        refine g_putf (ci := 10) (v := .int (nI (K.length + 1))) (ty := .int) (C := RX3) (T := TX3) (N := 28) hx hb hts in_X3 tyX3 tyX3_ok nmX3 hown hK hW h_27 rfl 20 (by decide) q1904 (fun _ h9 => h9) rfl (by decide +kernel) rfl rfl (Nat.le_of_ble_eq_true rfl) dX3_takes_173 (fun H locs hW => ?_)
        obtain ⟨w_30, ew_30⟩ : ∃ z__, z__ = g_put w_26 y (.inr (10, mO (fun k9 => if k9 = 19 then q9 else mf k9) (nI P.length) (nI C.length) (nI (mOut P xs).1) (mTo P xs) (nI (mOut P xs).2.2.1) (nI (rn + 1)) (lN (tt + (mOut P xs).2.2.1)) (nI (K.length + 1)) (nI fq) (nI ac) (nI F.length) (th))) := ⟨_, rfl⟩
        have hW := g_W.ren hW ew_30 rfl
        have h_31 : g_at w_30 y (.inr (10, mO (fun k9 => if k9 = 19 then q9 else mf k9) (nI P.length) (nI C.length) (nI (mOut P xs).1) (mTo P xs) (nI (mOut P xs).2.2.1) (nI (rn + 1)) (lN (tt + (mOut P xs).2.2.1)) (nI (K.length + 1)) (nI fq) (nI ac) (nI F.length) (th))) := by rw [ew_30]; exact g_at.put_self h_27.1
        have h_32 : g_at w_30 q9 (.inl (D.1 105, (2 * cK), .inr (.inr (.inr (.inr (f_25)))))) := by rw [ew_30]; exact h_28.put (g_neAO h_28 h_27)
        have x_33 : g_ex (fun q => q = y ∨ q = mf 19) w3 w_30 := by rw [ew_30]; exact x_29.put (fun hz9 => (Or.inl rfl))
        have hlen : (K ++ [xs]).length = K.length + 1 := by rw [List.length_append]; rfl
        have hyk := h_31
        rw [← hlen] at hyk
        have hkk := kp_app (xs := xs) ef_25 h_32 (by omega) (by omega) (by omega) (hmuK.str hst3 x_33) (fun j hj => by obtain ⟨t9, e1, e2⟩ := hk4 j hj; exact ⟨t9, (hg19 j (by omega)).trans e1, hmuK.str e2 x_33⟩)
        obtain ⟨hZ4, hz4⟩ := hZ3.kep hK (mf2 := (fun k9 => if k9 = 19 then q9 else mf k9)) (lab2 := lb lab w3 40) (fun k hk => if_neg hk) hyk hkk lb_in (lb_out hq9w) x_33 hK9
        have hst4 := hmuK.str hst3 x_33
        have hcc : zC (tkB P xs cov) K.length cK = (2 * cK) := by unfold zC; rw [ez]; rfl
        refine lv_aload_n hx hb dX3_takes_176 rfl (lv_at hl 1 rfl) ?_
        refine g_get (ci := 10) (v := .int (nI (mOut P xs).1)) (C := RX3) (T := TX3) (N := 28) hx hb hts in_X3 hown hK hW hZ4.1 rfl 11 (by decide) q1895 (fun _ h9 => h9) rfl dX3_takes_177 ?_
        refine lv_iconst (v := 1) hx hb dX3_takes_180 (by decide) ?_
        refine lv_icmp_ne (tgt := 193) hx hb dX3_takes_181 (by decide) (fun hd => ?_) (fun hd => ?_)
        · have hv1 : (mOut P xs).1 ≠ 1 := fun z => hd (by rw [z]; rfl)
          have eF : zFk P xs F = F := if_neg hv1
          have eT : zTk P xs F = 0 := if_neg hv1
          refine lv_iload_n hx hb dX3_takes_193 rfl (lv_at hl 0 rfl) ?_
          exact g_zret (v := 1) hx hb hr hlocks (by rfl) hW (⟨by rw [htk]; rfl, (lb lab w3 40), (fun k9 => if k9 = 19 then q9 else mf k9), _, _, _, _, by rw [hcc, eF, htk]; exact hZ4, hzA.tr hz4⟩) (by omega) (by omega) dX3_takes_194
        · have hv1 : (mOut P xs).1 = 1 := nI_inj (b := 1) (by omega) (by decide) (by first | exact hd | exact Classical.not_not.mp hd)
          have eF : zFk P xs F = zF P xs F (mCode P xs) := if_pos hv1
          have eT : zTk P xs F = zT P xs F (mCode P xs) := if_pos hv1
          refine lv_aload_n hx hb dX3_takes_184 rfl (lv_at hl 1 rfl) ?_
          refine lv_aload_n hx hb dX3_takes_185 rfl (lv_at hl 2 rfl) ?_
          refine lv_aload_n hx hb dX3_takes_186 rfl (lv_at hl 1 rfl) ?_
          refine g_get (ci := 10) (v := .int (mTo P xs)) (C := RX3) (T := TX3) (N := 28) hx hb hts in_X3 hown hK hW hZ4.1 rfl 12 (by decide) q1896 (fun _ h9 => h9) rfl dX3_takes_187 ?_
          refine g_topi (y := mCode P xs) (mTo_c hv1) ?_
          refine g_callv (va_runV (As := [.ref sp, .int (mCode P xs)]) (rest := []) ⟨hx, hb, hml, hown, hts⟩ (mtX3_finds l D w_30 H.size y (fun k9 => if k9 = 19 then q9 else mf k9) (lb lab w3 40) P C A9 (cvO cov (mOut P xs).2.2.2) (K ++ [xs]) fq ac F (rn + 1) (tt + (mOut P xs).2.2.1) (2 * cK) _ _ _ _ th hZ4 sp xs hst4 hxs (mCode P xs) (hF15 hv1)) (cwV 2 hts (lw_V q2057 q2059 qs28 q47 q2060) rfl rfl rfl (by decide +kernel) ⟨Nat.le_of_ble_eq_true rfl, Nat.le_of_ble_eq_true rfl⟩) (g_preV hW hK hE hZ4.1 rfl) rfl rfl hl.1 rfl (lv_room (Nat.le_of_ble_eq_true rfl)) dX3_takes_190 ⟨?_, ?_⟩) hW (fun u9 H locs hp hW => ?_)
          · (try simp only [headSpec]); rw [eT] at eMC eMS; omega
          · (try simp only [headSpec]); rw [eT] at eMC eMS; omega
          obtain ⟨⟨en2, td2, st2, E2, hZ9⟩, hz9⟩ := hp
          refine lv_iload_n hx hb dX3_takes_193 rfl (lv_at hl 0 rfl) ?_
          exact g_zret (v := 1) hx hb hr hlocks (by rfl) hW (⟨by rw [htk]; rfl, (lb lab w3 40), (fun k9 => if k9 = 19 then q9 else mf k9), en2, td2, st2, E2, by rw [hcc, eF, htk]; exact hZ9, (hzA.tr hz4).tr hz9⟩) (by rw [eT] at eMC; omega) (by rw [eT] at eMS; omega) dX3_takes_194
  · rw [if_neg hq9]
    refine lv_if_eq (tgt := 120) hx hb dX3_takes_106 (by decide) (fun _ => ?_) (fun hz => absurd rfl hz)
    have htk : tkB P xs cov = false := by unfold tkB; rw [Bool.eq_false_iff.mpr hq9, Bool.false_and]
    refine lv_iconst (v := 0) hx hb dX3_takes_120 (by decide) ?_
    refine lv_istore_n (lv' := [(3, .int (0)), (0, .ref y), (1, .ref sp), (2, .int ((if cvM cov (mOut P xs).2.2.2 = true then 1 else 0)))]) hx hb dX3_takes_121 rfl hl (by decide) rfl (fun ls hl => ?_)
    refine lv_iload_n hx hb dX3_takes_122 rfl (lv_at hl 0 rfl) ?_
    refine lv_if_eq (tgt := 176) hx hb dX3_takes_123 (by decide) (fun _ => ?_) (fun hz => absurd rfl hz)
    have ez : zCb (tkB P xs cov) K.length cK = false := by rw [htk]; rfl
    have hc1 : z1 (tkB P xs cov) K.length cK = 0 := by unfold z1; rw [ez]; rfl
    have hc2 : z2 (tkB P xs cov) K.length cK = 0 := by unfold z2; rw [ez]; rfl
    have hcc : zC (tkB P xs cov) K.length cK = cK := by unfold zC; rw [ez]; rfl
    refine lv_aload_n hx hb dX3_takes_176 rfl (lv_at hl 1 rfl) ?_
    refine g_get (ci := 10) (v := .int (nI (mOut P xs).1)) (C := RX3) (T := TX3) (N := 28) hx hb hts in_X3 hown hK hW hZ3.1 rfl 11 (by decide) q1895 (fun _ h9 => h9) rfl dX3_takes_177 ?_
    refine lv_iconst (v := 1) hx hb dX3_takes_180 (by decide) ?_
    refine lv_icmp_ne (tgt := 193) hx hb dX3_takes_181 (by decide) (fun hd => ?_) (fun hd => ?_)
    · have hv1 : (mOut P xs).1 ≠ 1 := fun z => hd (by rw [z]; rfl)
      have eF : zFk P xs F = F := if_neg hv1
      have eT : zTk P xs F = 0 := if_neg hv1
      refine lv_iload_n hx hb dX3_takes_193 rfl (lv_at hl 0 rfl) ?_
      exact g_zret (v := 0) hx hb hr hlocks (by rfl) hW (⟨by rw [htk]; rfl, lab, mf, _, _, _, _, by rw [hcc, eF, htk]; exact hZ3, hzA⟩) (by omega) (by omega) dX3_takes_194
    · have hv1 : (mOut P xs).1 = 1 := nI_inj (b := 1) (by omega) (by decide) (by first | exact hd | exact Classical.not_not.mp hd)
      have eF : zFk P xs F = zF P xs F (mCode P xs) := if_pos hv1
      have eT : zTk P xs F = zT P xs F (mCode P xs) := if_pos hv1
      refine lv_aload_n hx hb dX3_takes_184 rfl (lv_at hl 1 rfl) ?_
      refine lv_aload_n hx hb dX3_takes_185 rfl (lv_at hl 2 rfl) ?_
      refine lv_aload_n hx hb dX3_takes_186 rfl (lv_at hl 1 rfl) ?_
      refine g_get (ci := 10) (v := .int (mTo P xs)) (C := RX3) (T := TX3) (N := 28) hx hb hts in_X3 hown hK hW hZ3.1 rfl 12 (by decide) q1896 (fun _ h9 => h9) rfl dX3_takes_187 ?_
      refine g_topi (y := mCode P xs) (mTo_c hv1) ?_
      refine g_callv (va_runV (As := [.ref sp, .int (mCode P xs)]) (rest := []) ⟨hx, hb, hml, hown, hts⟩ (mtX3_finds l D w3 H.size y mf lab P C A9 (cvO cov (mOut P xs).2.2.2) K fq ac F (rn + 1) (tt + (mOut P xs).2.2.1) cK _ _ _ _ th hZ3 sp xs hst3 hxs (mCode P xs) (hF15 hv1)) (cwV 2 hts (lw_V q2057 q2059 qs28 q47 q2060) rfl rfl rfl (by decide +kernel) ⟨Nat.le_of_ble_eq_true rfl, Nat.le_of_ble_eq_true rfl⟩) (g_preV hW hK hE hZ3.1 rfl) rfl rfl hl.1 rfl (lv_room (Nat.le_of_ble_eq_true rfl)) dX3_takes_190 ⟨?_, ?_⟩) hW (fun u9 H locs hp hW => ?_)
      · (try simp only [headSpec]); rw [eT] at eMC eMS; omega
      · (try simp only [headSpec]); rw [eT] at eMC eMS; omega
      obtain ⟨⟨en2, td2, st2, E2, hZ9⟩, hz9⟩ := hp
      refine lv_iload_n hx hb dX3_takes_193 rfl (lv_at hl 0 rfl) ?_
      exact g_zret (v := 0) hx hb hr hlocks (by rfl) hW (⟨by rw [htk]; rfl, lab, mf, en2, td2, st2, E2, by rw [hcc, eF, htk]; exact hZ9, (hzA).tr hz9⟩) (by rw [eT] at eMC; omega) (by rw [eT] at eMS; omega) dX3_takes_194
