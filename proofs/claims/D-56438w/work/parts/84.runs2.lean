/-! the model: runs *
-/
set_option maxRecDepth 100000
theorem mNext_j {op rg tg ad : Nat} {vl : Int32} {g : Nat → Int32} (h9 : op < 9) (h7 : op ≠ 7) (h8 : op ≠ 8) : mNext (op, rg, vl, tg) g ad = some (if mJmp (op, rg, vl, tg) g = true then tg else ad + 1) := by
  unfold mNext mJmp
  have h : op = 0 ∨ op = 1 ∨ op = 2 ∨ op = 3 ∨ op = 4 ∨ op = 5 ∨ op = 6 := by omega
  rcases h with rfl | rfl | rfl | rfl | rfl | rfl | rfl <;> simp
theorem mNext_n {op rg tg ad : Nat} {vl : Int32} {g : Nat → Int32} (h : op = 7 ∨ op = 8) : mNext (op, rg, vl, tg) g ad = none := by
  unfold mNext
  rcases h with rfl | rfl <;> simp
/-- the edges of the model's row -/
def mEg (f : Nat → Int32) (E : Nat → Bool) : Prop := ∀ e, e < 272 → f e = if E e = true then 1 else 0
theorem mEg.set {f g : Nat → Int32} {E : Nat → Bool} {x : Nat} (h : mEg f E) (hg : g = upd f x (vp_nar .boolean 1)) : mEg g (fun z => z == x || E z) := by
  intro e he
  rw [hg]
  unfold upd
  show (if e = x then _ else f e) = if (e == x || E e) = true then 1 else 0
  by_cases q : e = x
  · rw [if_pos q, q, beq_self_eq_true, Bool.true_or]; rfl
  · rw [if_neg q, h e he, beq_eq_false_iff_ne.mpr q, Bool.false_or]
def mTd (v : Nat) (c : Option Int32) : Int32 := if v = 1 then c.getD 0 else 0
set_option maxHeartbeats 4000000 in
set_option maxRecDepth 100000 in
/-- Model.runs: its loop -/
theorem lpX3_runs {p : Program} {l : Launch} {e : Env} {R : Room} {s : State} {m : MethodId} {args : Array Value} {below : List Frame} {meth : Method} {c : Code} {cells slots : Nat} {Q : State → Prop} {D : va_G} {A : Nat → Prop} (hx : p.tables.exec = Jvm.exec) (hb : c.code = cX3_runs) (hts : ∀ w ∈ lw_all, w.before args s = true) (hown : s.vm.findClass RX3 = some m.cls) (hK : va_K D gCl (gT D) s) (hE : g_Env D A s) (hml : c.maxLocals = 8) (hRf : 5 ≤ R.frames) (hRl : 97 ≤ R.locals) (hRc : cells ≤ R.cells) (hRs : slots ≤ R.slots) (y sp : Nat) (mf : Nat → Nat) (lab : Nat → Nat) (hL : mLab lab mf) (t : List Nat) (hkt : kHas t 0 = true) (cn rn : Int32) (tt : Int64) (km fi nx9 fm th : Int32) (f0 f1 f2 f3 : Nat → Int32) (P : List mI) (hPl : P.length ≤ 16) (hok : ∀ j, j < P.length → mOk (P.getD j mI0)) (hf0 : ∀ j, j < P.length → f0 j = nI (P.getD j mI0).1) (hf1 : ∀ j, j < P.length → f1 j = nI (P.getD j mI0).2.1) (hf2 : ∀ j, j < P.length → f2 j = (P.getD j mI0).2.2.1) (hf3 : ∀ j, j < P.length → f3 j = nI (P.getD j mI0).2.2.2) (w : g_H) (hstr : ∀ w1, g_ex (fun q => q = y ∨ q = mf 14 ∨ q = mf 15) w w1 → g_Str D w1 sp t) (h0 : g_at w (mf 0) (.inl (D.1 100, 16, .inl f0))) (h1 : g_at w (mf 1) (.inl (D.1 100, 16, .inl f1))) (h2 : g_at w (mf 2) (.inl (D.1 100, 16, .inl f2))) (h3 : g_at w (mf 3) (.inl (D.1 100, 16, .inl f3))) (hly : lab y = 20) (v0 s0 : Nat) (c0 : Option Int32) (E0 : Nat → Bool)
    (kk : ∀ (w2 : g_H) (g2 fE2 : Nat → Int32) (H : Heap) (locs : List Loc) (ls : Array Slot), g_ex (fun q => q = y ∨ q = mf 14 ∨ q = mf 15) w w2 → g_at w2 y (.inr (10, mO mf (nI P.length) (cn) (nI v0) (mTd v0 c0) (nI s0) (rn) (tt) (km) (fi) (nx9) (fm) (th))) → g_at w2 (mf 14) (.inl (D.1 102, 272, .inl fE2)) → mEg fE2 E0 → g_at w2 (mf 15) (.inl (D.1 100, 4, .inl g2)) → g_W D A s.heap H locs w2 → W p l e R s m args below meth c H locs cells slots Q (F0 m 412 ls [])) :
    ∀ (k : Nat) (ad : Nat) (rd : Nat) (st : Nat) (g : Nat → Int32) (E : Nat → Bool) (fE : Nat → Int32) (w1 : g_H) (H : Heap) (locs : List Loc) (ls : Array Slot), st + k = 65 → st ≤ 63 → ad < P.length → (mRun P (digs t) k ad g rd st).1 = v0 → (mRun P (digs t) k ad g rd st).2.1 = c0 → (mRun P (digs t) k ad g rd st).2.2.1 = s0 → bsE E (mRun P (digs t) k ad g rd st).2.2.2 = E0 → rd ≤ st → g_ex (fun q => q = y ∨ q = mf 14 ∨ q = mf 15) w w1 → g_at w1 y (.inr (10, mO mf (nI P.length) (cn) (0) (0) (nI st) (rn) (tt) (km) (fi) (nx9) (fm) (th))) → g_at w1 (mf 14) (.inl (D.1 102, 272, .inl fE)) → mEg fE E → g_at w1 (mf 15) (.inl (D.1 100, 4, .inl g)) → g_W D A s.heap H locs w1 → lv_has ls 8 [(0, .ref y), (1, .ref sp), (2, .int (nI rd)), (3, .int (nI ad)), (4, .int (1))] → W p l e R s m args below meth c H locs cells slots Q (F0 m 82 ls []) := by
  intro k
  induction k with
  | zero => intro ad rd st g E fE w1 H locs ls hfuel hst63 had hR1 hR2 hR3 hR4 hrd hex hy h14 hE14 h15 hW hl; exact absurd hfuel (by omega)
  | succ k ih =>
    intro ad rd st g E fE w1 H locs ls hfuel hst63 had hR1 hR2 hR3 hR4 hrd hex hy h14 hE14 h15 hW hl
    have nK : ∀ k, k ∈ [0, 1, 2, 3] → ¬ (mf k = y ∨ mf k = mf 14 ∨ mf k = mf 15) := by
      intro k hk z
      have hk2 : k ∈ mKs := by simp at hk; rcases hk with rfl | rfl | rfl | rfl <;> decide
      have hk3 : k ≤ 3 := by simp at hk; omega
      have e9 := hL k hk2
      rcases z with z | z | z
      · rw [z, hly] at e9; omega
      · rw [z, hL 14 (by decide)] at e9; omega
      · rw [z, hL 15 (by decide)] at e9; omega
    have h0b := hex.at h0 (nK 0 (by decide))
    have h1b := hex.at h1 (nK 1 (by decide))
    have h2b := hex.at h2 (nK 2 (by decide))
    have h3b := hex.at h3 (nK 3 (by decide))
    have had16 : ad < 16 := by omega
    have hoka := hok ad had
    have ea0 := hf0 ad had
    have ea1 := hf1 ad had
    have ea2 := hf2 ad had
    have ea3 := hf3 ad had
    unfold mRun at hR1 hR2 hR3 hR4
    rw [if_pos had] at hR1 hR2 hR3 hR4
    obtain ⟨I9, eI⟩ : ∃ z__, z__ = P.getD ad mI0 := ⟨_, rfl⟩
    rw [← eI] at hoka ea0 ea1 ea2 ea3 hR1 hR2 hR3 hR4
    obtain ⟨op, rg, vl, tg⟩ := I9
    have hop : op < 9 := hoka.1
    have hrg : rg < 4 := hoka.2.1
    have htg : tg < 32 := hoka.2.2.1
    have hstb : g_Str D w1 sp t := hstr w1 hex
    refine lv_iload hx hb dX3_runs_82 (lv_at hl 4 rfl) ?_
    refine lv_if_eq (tgt := 412) hx hb dX3_runs_84 (by decide) (fun hz => absurd hz (by decide)) (fun _ => ?_)
    refine lv_aload_n hx hb dX3_runs_87 rfl (lv_at hl 0 rfl) ?_
    refine g_get (ci := 10) (v := .ref (mf 0)) (C := RX3) (T := TX3) (N := 28) hx hb hts in_X3 hown hK hW hy rfl 0 (by decide) q1884 (fun _ h9 => h9) rfl dX3_runs_88 ?_
    refine lv_iload_n hx hb dX3_runs_91 rfl (lv_at hl 3 rfl) ?_
    refine g_iald (i := ad) hx hb hK hW h0b (had16) (by decide) dX3_runs_92 ?_
    refine g_topi (y := nI op) (ea0) ?_
    refine lv_istore (lv' := [(5, .int (nI op)), (0, .ref y), (1, .ref sp), (2, .int (nI rd)), (3, .int (nI ad)), (4, .int (1))]) hx hb dX3_runs_93 hl (by decide) rfl (fun ls hl => ?_)
    refine lv_aload_n hx hb dX3_runs_95 rfl (lv_at hl 1 rfl) ?_
    refine g_get (ci := 10) (v := .ref (mf 1)) (C := RX3) (T := TX3) (N := 28) hx hb hts in_X3 hown hK hW hy rfl 1 (by decide) q1885 (fun _ h9 => h9) rfl dX3_runs_96 ?_
    refine lv_iload_n hx hb dX3_runs_99 rfl (lv_at hl 4 rfl) ?_
    refine g_iald (i := ad) hx hb hK hW h1b (had16) (by decide) dX3_runs_100 ?_
    refine g_topi (y := nI rg) (ea1) ?_
    refine lv_istore (lv' := [(6, .int (nI rg)), (5, .int (nI op)), (0, .ref y), (1, .ref sp), (2, .int (nI rd)), (3, .int (nI ad)), (4, .int (1))]) hx hb dX3_runs_101 hl (by decide) rfl (fun ls hl => ?_)
    refine lv_aload_n hx hb dX3_runs_103 rfl (lv_at hl 2 rfl) ?_
    refine lv_dup hx hb dX3_runs_104 rfl ?_
    refine g_get (ci := 10) (v := .int (nI st)) (C := RX3) (T := TX3) (N := 28) hx hb hts in_X3 hown hK hW hy rfl 13 (by decide) q1897 (fun _ h9 => h9) rfl dX3_runs_105 ?_
    refine lv_iconst (v := 1) hx hb dX3_runs_108 (by decide) ?_
    refine lv_iadd hx hb dX3_runs_109 ?_
    refine g_topi (y := nI (st + 1)) (nI_1 st) ?_
    refine g_putf (ci := 10) (v := .int (nI (st + 1))) (ty := .int) (C := RX3) (T := TX3) (N := 28) hx hb hts in_X3 tyX3 tyX3_ok nmX3 hown hK hW hy rfl 13 (by decide) q1897 (fun _ h9 => h9) rfl (by decide +kernel) rfl rfl (Nat.le_of_ble_eq_true rfl) dX3_runs_110 (fun H locs hW => ?_)
    obtain ⟨w_1, ew_1⟩ : ∃ z__, z__ = g_put w1 y (.inr (10, mO mf (nI P.length) (cn) (0) (0) (nI (st + 1)) (rn) (tt) (km) (fi) (nx9) (fm) (th))) := ⟨_, rfl⟩
    have hW := g_W.ren hW ew_1 rfl
    have h_2 : g_at w_1 y (.inr (10, mO mf (nI P.length) (cn) (0) (0) (nI (st + 1)) (rn) (tt) (km) (fi) (nx9) (fm) (th))) := by rw [ew_1]; exact g_at.put_self hy.1
    have h_3 : g_at w_1 (mf 0) (.inl (D.1 100, 16, .inl (f0))) := by rw [ew_1]; exact h0b.put (g_neAO h0b hy)
    have h_4 : g_at w_1 (mf 1) (.inl (D.1 100, 16, .inl (f1))) := by rw [ew_1]; exact h1b.put (g_neAO h1b hy)
    have h_5 : g_at w_1 (mf 2) (.inl (D.1 100, 16, .inl (f2))) := by rw [ew_1]; exact h2b.put (g_neAO h2b hy)
    have h_6 : g_at w_1 (mf 3) (.inl (D.1 100, 16, .inl (f3))) := by rw [ew_1]; exact h3b.put (g_neAO h3b hy)
    have h_7 : g_at w_1 (mf 14) (.inl (D.1 102, 272, .inl (fE))) := by rw [ew_1]; exact h14.put (g_neAO h14 hy)
    have h_8 : g_at w_1 (mf 15) (.inl (D.1 100, 4, .inl (g))) := by rw [ew_1]; exact h15.put (g_neAO h15 hy)
    have x_9 : g_ex (fun q => q = y ∨ q = mf 14 ∨ q = mf 15) w w_1 := by rw [ew_1]; exact hex.put (fun hz9 => (Or.inl rfl))
    refine lpX3_regs (D := D) hx hb hts hown hK hE hml (Nat.le_trans (Nat.le_of_ble_eq_true rfl) hRf) (Nat.le_trans (Nat.le_of_ble_eq_true rfl) hRl) hRc hRs y sp mf lab hL t hkt (nI P.length) cn 0 0 (nI (st + 1)) rn tt km fi nx9 fm th f0 f1 f2 f3 g ad op rg tg rd vl 1 w_1 (hstr w_1 x_9) h_2 h_5 h_6 h_8 had16 hoka ea2 ea3 (by omega) (fun w3 g2 H locs ls eg hex3 h15c hW hl => ?_) 1 _ _ _ (by decide) hW (lv_sub hl [2, 3, 4, 5, 6, 1, 0] rfl)
    have hexB : g_ex (fun q => q = y ∨ q = mf 14 ∨ q = mf 15) w w3 := x_9.tr (hex3.mono (fun _ _ z => Or.inr (Or.inr z)))
    have h_10 := hex3.at h_2 (g_neOA h_2 h_8)
    have h_11 := hex3.at h_3 (g_lne (hL 0 (by decide)) (hL 15 (by decide)) (by decide))
    have h_12 := hex3.at h_4 (g_lne (hL 1 (by decide)) (hL 15 (by decide)) (by decide))
    have h_13 := hex3.at h_5 (g_lne (hL 2 (by decide)) (hL 15 (by decide)) (by decide))
    have h_14 := hex3.at h_6 (g_lne (hL 3 (by decide)) (hL 15 (by decide)) (by decide))
    have h_15 := hex3.at h_7 (g_lne (hL 14 (by decide)) (hL 15 (by decide)) (by decide))
    rw [← eg] at hR1 hR2 hR3 hR4
    have hrd2 : mRd (op, rg, vl, tg) rd ≤ st + 1 := by unfold mRd; split <;> omega
    by_cases h7 : op = 7
    · subst h7
      rw [mNext_n (Or.inl rfl)] at hR1 hR2 hR3 hR4
      refine lv_iload hx hb dX3_runs_246 (lv_at hl 5 rfl) ?_
      refine va_gets hx hb ((hE.2.2.2.2.2.2.1.1 7 (by decide)).1) hW.2.2.1 hown (hts _ q2044) (fun _ h9 => h9) dX3_runs_248 ?_
      refine g_calli (va_runU (As := []) (rest := [.int (nI 7)]) ⟨hx, hb, hml, hown, hts⟩ (mtJ10_ordinal l D w3 H.size (D.2 1002 7) (nI 7) (fun s hE => g_op (by decide) s hE)) (va_cwU (owner := "java/lang/Enum") (x := ⟨"Op", "ordinal", "()I"⟩) 0 hts (lw_app (lw_in _ [1990, 1208, 1209, 678, 50] (by decide +kernel) (by decide +kernel)) (lw_meth q679)) rfl rfl rfl rfl (by decide +kernel) ⟨Nat.le_trans (Nat.le_of_ble_eq_true rfl) hRf, Nat.le_trans (Nat.le_of_ble_eq_true rfl) hRl⟩) (g_preVR hW hK hE (g_opO hE hW (by decide))) rfl rfl hl.1 rfl (lv_room (Nat.le_of_ble_eq_true rfl)) dX3_runs_251 ⟨hRc, hRs⟩) hW (fun r_ u_ H locs hp hW => ?_)
      obtain ⟨er, rfl⟩ := hp
      subst er
      refine lv_icmp_eq (tgt := 268) hx hb dX3_runs_254 (by decide) (fun _ => ?_) (fun hz => absurd rfl hz)
      refine lv_aload_n hx hb dX3_runs_268 rfl (lv_at hl 0 rfl) ?_
      refine lv_iload hx hb dX3_runs_269 (lv_at hl 5 rfl) ?_
      refine va_gets hx hb ((hE.2.2.2.2.2.2.1.1 7 (by decide)).1) hW.2.2.1 hown (hts _ q2044) (fun _ h9 => h9) dX3_runs_271 ?_
      refine g_calli (va_runU (As := []) (rest := [.int (nI 7), .ref y]) ⟨hx, hb, hml, hown, hts⟩ (mtJ10_ordinal l D w3 H.size (D.2 1002 7) (nI 7) (fun s hE => g_op (by decide) s hE)) (va_cwU (owner := "java/lang/Enum") (x := ⟨"Op", "ordinal", "()I"⟩) 0 hts (lw_app (lw_in _ [1990, 1208, 1209, 678, 50] (by decide +kernel) (by decide +kernel)) (lw_meth q679)) rfl rfl rfl rfl (by decide +kernel) ⟨Nat.le_trans (Nat.le_of_ble_eq_true rfl) hRf, Nat.le_trans (Nat.le_of_ble_eq_true rfl) hRl⟩) (g_preVR hW hK hE (g_opO hE hW (by decide))) rfl rfl hl.1 rfl (lv_room (Nat.le_of_ble_eq_true rfl)) dX3_runs_274 ⟨hRc, hRs⟩) hW (fun r_ u_ H locs hp hW => ?_)
      obtain ⟨er, rfl⟩ := hp
      subst er
      refine lv_icmp_ne (tgt := 284) hx hb dX3_runs_277 (by decide) (fun hz => absurd rfl hz) (fun _ => ?_)
      refine lv_iconst (v := 1) hx hb dX3_runs_280 (by decide) ?_
      refine lv_goto (tgt := 285) hx hb dX3_runs_281 (by decide) ?_
      refine g_putf (ci := 10) (v := .int (1)) (ty := .int) (C := RX3) (T := TX3) (N := 28) hx hb hts in_X3 tyX3 tyX3_ok nmX3 hown hK hW h_10 rfl 11 (by decide) q1895 (fun _ h9 => h9) rfl (by decide +kernel) rfl rfl (Nat.le_of_ble_eq_true rfl) dX3_runs_285 (fun H locs hW => ?_)
      obtain ⟨w_16, ew_16⟩ : ∃ z__, z__ = g_put w3 y (.inr (10, mO mf (nI P.length) (cn) (1) (0) (nI (st + 1)) (rn) (tt) (km) (fi) (nx9) (fm) (th))) := ⟨_, rfl⟩
      have hW := g_W.ren hW ew_16 rfl
      have h_17 : g_at w_16 y (.inr (10, mO mf (nI P.length) (cn) (1) (0) (nI (st + 1)) (rn) (tt) (km) (fi) (nx9) (fm) (th))) := by rw [ew_16]; exact g_at.put_self h_10.1
      have h_18 : g_at w_16 (mf 0) (.inl (D.1 100, 16, .inl (f0))) := by rw [ew_16]; exact h_11.put (g_neAO h_11 h_10)
      have h_19 : g_at w_16 (mf 1) (.inl (D.1 100, 16, .inl (f1))) := by rw [ew_16]; exact h_12.put (g_neAO h_12 h_10)
      have h_20 : g_at w_16 (mf 2) (.inl (D.1 100, 16, .inl (f2))) := by rw [ew_16]; exact h_13.put (g_neAO h_13 h_10)
      have h_21 : g_at w_16 (mf 3) (.inl (D.1 100, 16, .inl (f3))) := by rw [ew_16]; exact h_14.put (g_neAO h_14 h_10)
      have h_22 : g_at w_16 (mf 14) (.inl (D.1 102, 272, .inl (fE))) := by rw [ew_16]; exact h_15.put (g_neAO h_15 h_10)
      have h_23 : g_at w_16 (mf 15) (.inl (D.1 100, 4, .inl (g2))) := by rw [ew_16]; exact h15c.put (g_neAO h15c h_10)
      have x_24 : g_ex (fun q => q = y ∨ q = mf 14 ∨ q = mf 15) w w_16 := by rw [ew_16]; exact hexB.put (fun hz9 => (Or.inl rfl))
      refine lv_aload_n hx hb dX3_runs_288 rfl (lv_at hl 0 rfl) ?_
      refine lv_iload hx hb dX3_runs_289 (lv_at hl 5 rfl) ?_
      refine va_gets hx hb ((hE.2.2.2.2.2.2.1.1 7 (by decide)).1) hW.2.2.1 hown (hts _ q2044) (fun _ h9 => h9) dX3_runs_291 ?_
      refine g_calli (va_runU (As := []) (rest := [.int (nI 7), .ref y]) ⟨hx, hb, hml, hown, hts⟩ (mtJ10_ordinal l D w_16 H.size (D.2 1002 7) (nI 7) (fun s hE => g_op (by decide) s hE)) (va_cwU (owner := "java/lang/Enum") (x := ⟨"Op", "ordinal", "()I"⟩) 0 hts (lw_app (lw_in _ [1990, 1208, 1209, 678, 50] (by decide +kernel) (by decide +kernel)) (lw_meth q679)) rfl rfl rfl rfl (by decide +kernel) ⟨Nat.le_trans (Nat.le_of_ble_eq_true rfl) hRf, Nat.le_trans (Nat.le_of_ble_eq_true rfl) hRl⟩) (g_preVR hW hK hE (g_opO hE hW (by decide))) rfl rfl hl.1 rfl (lv_room (Nat.le_of_ble_eq_true rfl)) dX3_runs_294 ⟨hRc, hRs⟩) hW (fun r_ u_ H locs hp hW => ?_)
      obtain ⟨er, rfl⟩ := hp
      subst er
      refine lv_icmp_ne (tgt := 309) hx hb dX3_runs_297 (by decide) (fun hz => absurd rfl hz) (fun _ => ?_)
      refine lv_aload_n hx hb dX3_runs_300 rfl (lv_at hl 0 rfl) ?_
      refine g_get (ci := 10) (v := .ref (mf 2)) (C := RX3) (T := TX3) (N := 28) hx hb hts in_X3 hown hK hW h_17 rfl 2 (by decide) q1886 (fun _ h9 => h9) rfl dX3_runs_301 ?_
      refine lv_iload_n hx hb dX3_runs_304 rfl (lv_at hl 3 rfl) ?_
      refine g_iald (i := ad) hx hb hK hW h_20 (had16) (by decide) dX3_runs_305 ?_
      refine g_topi (y := vl) (ea2) ?_
      refine lv_goto (tgt := 310) hx hb dX3_runs_306 (by decide) ?_
      refine g_putf (ci := 10) (v := .int (vl)) (ty := .int) (C := RX3) (T := TX3) (N := 28) hx hb hts in_X3 tyX3 tyX3_ok nmX3 hown hK hW h_17 rfl 12 (by decide) q1896 (fun _ h9 => h9) rfl (by decide +kernel) rfl rfl (Nat.le_of_ble_eq_true rfl) dX3_runs_310 (fun H locs hW => ?_)
      obtain ⟨w_25, ew_25⟩ : ∃ z__, z__ = g_put w_16 y (.inr (10, mO mf (nI P.length) (cn) (1) (vl) (nI (st + 1)) (rn) (tt) (km) (fi) (nx9) (fm) (th))) := ⟨_, rfl⟩
      have hW := g_W.ren hW ew_25 rfl
      have h_26 : g_at w_25 y (.inr (10, mO mf (nI P.length) (cn) (1) (vl) (nI (st + 1)) (rn) (tt) (km) (fi) (nx9) (fm) (th))) := by rw [ew_25]; exact g_at.put_self h_17.1
      have h_27 : g_at w_25 (mf 0) (.inl (D.1 100, 16, .inl (f0))) := by rw [ew_25]; exact h_18.put (g_neAO h_18 h_17)
      have h_28 : g_at w_25 (mf 1) (.inl (D.1 100, 16, .inl (f1))) := by rw [ew_25]; exact h_19.put (g_neAO h_19 h_17)
      have h_29 : g_at w_25 (mf 2) (.inl (D.1 100, 16, .inl (f2))) := by rw [ew_25]; exact h_20.put (g_neAO h_20 h_17)
      have h_30 : g_at w_25 (mf 3) (.inl (D.1 100, 16, .inl (f3))) := by rw [ew_25]; exact h_21.put (g_neAO h_21 h_17)
      have h_31 : g_at w_25 (mf 14) (.inl (D.1 102, 272, .inl (fE))) := by rw [ew_25]; exact h_22.put (g_neAO h_22 h_17)
      have h_32 : g_at w_25 (mf 15) (.inl (D.1 100, 4, .inl (g2))) := by rw [ew_25]; exact h_23.put (g_neAO h_23 h_17)
      have x_33 : g_ex (fun q => q = y ∨ q = mf 14 ∨ q = mf 15) w w_25 := by rw [ew_25]; exact x_24.put (fun hz9 => (Or.inl rfl))
      refine lv_iconst (v := 0) hx hb dX3_runs_313 (by decide) ?_
      refine lv_istore (lv' := [(4, .int (0)), (0, .ref y), (1, .ref sp), (2, .int (nI (mRd (7, rg, vl, tg) rd))), (3, .int (nI ad)), (5, .int (nI 7)), (6, .int (nI rg))]) hx hb dX3_runs_314 hl (by decide) rfl (fun ls hl => ?_)
      refine lv_goto (tgt := 409) hx hb dX3_runs_316 (by decide) ?_
      refine lv_goto (tgt := 82) hx hb dX3_runs_409 (by decide) ?_
      refine lv_iload hx hb dX3_runs_82 (lv_at hl 0 rfl) ?_
      refine lv_if_eq (tgt := 412) hx hb dX3_runs_84 (by decide) (fun _ => ?_) (fun hz => absurd rfl hz)
      exact kk w_25 g2 fE H locs ls x_33 (by rw [← hR1, ← hR2, ← hR3]; exact h_26) h_31 (by rw [← hR4]; exact hE14) h_32 hW
    · by_cases h8 : op = 8
      · subst h8
        rw [mNext_n (Or.inr rfl)] at hR1 hR2 hR3 hR4
        refine lv_iload hx hb dX3_runs_246 (lv_at hl 5 rfl) ?_
        refine va_gets hx hb ((hE.2.2.2.2.2.2.1.1 7 (by decide)).1) hW.2.2.1 hown (hts _ q2044) (fun _ h9 => h9) dX3_runs_248 ?_
        refine g_calli (va_runU (As := []) (rest := [.int (nI 8)]) ⟨hx, hb, hml, hown, hts⟩ (mtJ10_ordinal l D w3 H.size (D.2 1002 7) (nI 7) (fun s hE => g_op (by decide) s hE)) (va_cwU (owner := "java/lang/Enum") (x := ⟨"Op", "ordinal", "()I"⟩) 0 hts (lw_app (lw_in _ [1990, 1208, 1209, 678, 50] (by decide +kernel) (by decide +kernel)) (lw_meth q679)) rfl rfl rfl rfl (by decide +kernel) ⟨Nat.le_trans (Nat.le_of_ble_eq_true rfl) hRf, Nat.le_trans (Nat.le_of_ble_eq_true rfl) hRl⟩) (g_preVR hW hK hE (g_opO hE hW (by decide))) rfl rfl hl.1 rfl (lv_room (Nat.le_of_ble_eq_true rfl)) dX3_runs_251 ⟨hRc, hRs⟩) hW (fun r_ u_ H locs hp hW => ?_)
        obtain ⟨er, rfl⟩ := hp
        subst er
        refine lv_icmp_eq (tgt := 268) hx hb dX3_runs_254 (by decide) (fun hz => absurd hz (by decide)) (fun _ => ?_)
        refine lv_iload hx hb dX3_runs_257 (lv_at hl 5 rfl) ?_
        refine va_gets hx hb ((hE.2.2.2.2.2.2.1.1 8 (by decide)).1) hW.2.2.1 hown (hts _ q2045) (fun _ h9 => h9) dX3_runs_259 ?_
        refine g_calli (va_runU (As := []) (rest := [.int (nI 8)]) ⟨hx, hb, hml, hown, hts⟩ (mtJ10_ordinal l D w3 H.size (D.2 1002 8) (nI 8) (fun s hE => g_op (by decide) s hE)) (va_cwU (owner := "java/lang/Enum") (x := ⟨"Op", "ordinal", "()I"⟩) 0 hts (lw_app (lw_in _ [1990, 1208, 1209, 678, 50] (by decide +kernel) (by decide +kernel)) (lw_meth q679)) rfl rfl rfl rfl (by decide +kernel) ⟨Nat.le_trans (Nat.le_of_ble_eq_true rfl) hRf, Nat.le_trans (Nat.le_of_ble_eq_true rfl) hRl⟩) (g_preVR hW hK hE (g_opO hE hW (by decide))) rfl rfl hl.1 rfl (lv_room (Nat.le_of_ble_eq_true rfl)) dX3_runs_262 ⟨hRc, hRs⟩) hW (fun r_ u_ H locs hp hW => ?_)
        obtain ⟨er, rfl⟩ := hp
        subst er
        refine lv_icmp_ne (tgt := 319) hx hb dX3_runs_265 (by decide) (fun hz => absurd rfl hz) (fun _ => ?_)
        refine lv_aload_n hx hb dX3_runs_268 rfl (lv_at hl 0 rfl) ?_
        refine lv_iload hx hb dX3_runs_269 (lv_at hl 5 rfl) ?_
        refine va_gets hx hb ((hE.2.2.2.2.2.2.1.1 7 (by decide)).1) hW.2.2.1 hown (hts _ q2044) (fun _ h9 => h9) dX3_runs_271 ?_
        refine g_calli (va_runU (As := []) (rest := [.int (nI 8), .ref y]) ⟨hx, hb, hml, hown, hts⟩ (mtJ10_ordinal l D w3 H.size (D.2 1002 7) (nI 7) (fun s hE => g_op (by decide) s hE)) (va_cwU (owner := "java/lang/Enum") (x := ⟨"Op", "ordinal", "()I"⟩) 0 hts (lw_app (lw_in _ [1990, 1208, 1209, 678, 50] (by decide +kernel) (by decide +kernel)) (lw_meth q679)) rfl rfl rfl rfl (by decide +kernel) ⟨Nat.le_trans (Nat.le_of_ble_eq_true rfl) hRf, Nat.le_trans (Nat.le_of_ble_eq_true rfl) hRl⟩) (g_preVR hW hK hE (g_opO hE hW (by decide))) rfl rfl hl.1 rfl (lv_room (Nat.le_of_ble_eq_true rfl)) dX3_runs_274 ⟨hRc, hRs⟩) hW (fun r_ u_ H locs hp hW => ?_)
        obtain ⟨er, rfl⟩ := hp
        subst er
        refine lv_icmp_ne (tgt := 284) hx hb dX3_runs_277 (by decide) (fun _ => ?_) (fun hz => absurd (by first | exact hz | exact Classical.not_not.mp hz) (by decide))
        refine lv_iconst (v := 0) hx hb dX3_runs_284 (by decide) ?_
        refine g_putf (ci := 10) (v := .int (0)) (ty := .int) (C := RX3) (T := TX3) (N := 28) hx hb hts in_X3 tyX3 tyX3_ok nmX3 hown hK hW h_10 rfl 11 (by decide) q1895 (fun _ h9 => h9) rfl (by decide +kernel) rfl rfl (Nat.le_of_ble_eq_true rfl) dX3_runs_285 (fun H locs hW => ?_)
        obtain ⟨w_34, ew_34⟩ : ∃ z__, z__ = g_put w3 y (.inr (10, mO mf (nI P.length) (cn) (0) (0) (nI (st + 1)) (rn) (tt) (km) (fi) (nx9) (fm) (th))) := ⟨_, rfl⟩
        have hW := g_W.ren hW ew_34 rfl
        have h_35 : g_at w_34 y (.inr (10, mO mf (nI P.length) (cn) (0) (0) (nI (st + 1)) (rn) (tt) (km) (fi) (nx9) (fm) (th))) := by rw [ew_34]; exact g_at.put_self h_10.1
        have h_36 : g_at w_34 (mf 0) (.inl (D.1 100, 16, .inl (f0))) := by rw [ew_34]; exact h_11.put (g_neAO h_11 h_10)
        have h_37 : g_at w_34 (mf 1) (.inl (D.1 100, 16, .inl (f1))) := by rw [ew_34]; exact h_12.put (g_neAO h_12 h_10)
        have h_38 : g_at w_34 (mf 2) (.inl (D.1 100, 16, .inl (f2))) := by rw [ew_34]; exact h_13.put (g_neAO h_13 h_10)
        have h_39 : g_at w_34 (mf 3) (.inl (D.1 100, 16, .inl (f3))) := by rw [ew_34]; exact h_14.put (g_neAO h_14 h_10)
        have h_40 : g_at w_34 (mf 14) (.inl (D.1 102, 272, .inl (fE))) := by rw [ew_34]; exact h_15.put (g_neAO h_15 h_10)
        have h_41 : g_at w_34 (mf 15) (.inl (D.1 100, 4, .inl (g2))) := by rw [ew_34]; exact h15c.put (g_neAO h15c h_10)
        have x_42 : g_ex (fun q => q = y ∨ q = mf 14 ∨ q = mf 15) w w_34 := by rw [ew_34]; exact hexB.put (fun hz9 => (Or.inl rfl))
        refine lv_aload_n hx hb dX3_runs_288 rfl (lv_at hl 0 rfl) ?_
        refine lv_iload hx hb dX3_runs_289 (lv_at hl 5 rfl) ?_
        refine va_gets hx hb ((hE.2.2.2.2.2.2.1.1 7 (by decide)).1) hW.2.2.1 hown (hts _ q2044) (fun _ h9 => h9) dX3_runs_291 ?_
        refine g_calli (va_runU (As := []) (rest := [.int (nI 8), .ref y]) ⟨hx, hb, hml, hown, hts⟩ (mtJ10_ordinal l D w_34 H.size (D.2 1002 7) (nI 7) (fun s hE => g_op (by decide) s hE)) (va_cwU (owner := "java/lang/Enum") (x := ⟨"Op", "ordinal", "()I"⟩) 0 hts (lw_app (lw_in _ [1990, 1208, 1209, 678, 50] (by decide +kernel) (by decide +kernel)) (lw_meth q679)) rfl rfl rfl rfl (by decide +kernel) ⟨Nat.le_trans (Nat.le_of_ble_eq_true rfl) hRf, Nat.le_trans (Nat.le_of_ble_eq_true rfl) hRl⟩) (g_preVR hW hK hE (g_opO hE hW (by decide))) rfl rfl hl.1 rfl (lv_room (Nat.le_of_ble_eq_true rfl)) dX3_runs_294 ⟨hRc, hRs⟩) hW (fun r_ u_ H locs hp hW => ?_)
        obtain ⟨er, rfl⟩ := hp
        subst er
        refine lv_icmp_ne (tgt := 309) hx hb dX3_runs_297 (by decide) (fun _ => ?_) (fun hz => absurd (by first | exact hz | exact Classical.not_not.mp hz) (by decide))
        refine lv_iconst (v := 0) hx hb dX3_runs_309 (by decide) ?_
        refine g_putf (ci := 10) (v := .int (0)) (ty := .int) (C := RX3) (T := TX3) (N := 28) hx hb hts in_X3 tyX3 tyX3_ok nmX3 hown hK hW h_35 rfl 12 (by decide) q1896 (fun _ h9 => h9) rfl (by decide +kernel) rfl rfl (Nat.le_of_ble_eq_true rfl) dX3_runs_310 (fun H locs hW => ?_)
        obtain ⟨w_43, ew_43⟩ : ∃ z__, z__ = g_put w_34 y (.inr (10, mO mf (nI P.length) (cn) (0) (0) (nI (st + 1)) (rn) (tt) (km) (fi) (nx9) (fm) (th))) := ⟨_, rfl⟩
        have hW := g_W.ren hW ew_43 rfl
        have h_44 : g_at w_43 y (.inr (10, mO mf (nI P.length) (cn) (0) (0) (nI (st + 1)) (rn) (tt) (km) (fi) (nx9) (fm) (th))) := by rw [ew_43]; exact g_at.put_self h_35.1
        have h_45 : g_at w_43 (mf 0) (.inl (D.1 100, 16, .inl (f0))) := by rw [ew_43]; exact h_36.put (g_neAO h_36 h_35)
        have h_46 : g_at w_43 (mf 1) (.inl (D.1 100, 16, .inl (f1))) := by rw [ew_43]; exact h_37.put (g_neAO h_37 h_35)
        have h_47 : g_at w_43 (mf 2) (.inl (D.1 100, 16, .inl (f2))) := by rw [ew_43]; exact h_38.put (g_neAO h_38 h_35)
        have h_48 : g_at w_43 (mf 3) (.inl (D.1 100, 16, .inl (f3))) := by rw [ew_43]; exact h_39.put (g_neAO h_39 h_35)
        have h_49 : g_at w_43 (mf 14) (.inl (D.1 102, 272, .inl (fE))) := by rw [ew_43]; exact h_40.put (g_neAO h_40 h_35)
        have h_50 : g_at w_43 (mf 15) (.inl (D.1 100, 4, .inl (g2))) := by rw [ew_43]; exact h_41.put (g_neAO h_41 h_35)
        have x_51 : g_ex (fun q => q = y ∨ q = mf 14 ∨ q = mf 15) w w_43 := by rw [ew_43]; exact x_42.put (fun hz9 => (Or.inl rfl))
        refine lv_iconst (v := 0) hx hb dX3_runs_313 (by decide) ?_
        refine lv_istore (lv' := [(4, .int (0)), (0, .ref y), (1, .ref sp), (2, .int (nI (mRd (8, rg, vl, tg) rd))), (3, .int (nI ad)), (5, .int (nI 8)), (6, .int (nI rg))]) hx hb dX3_runs_314 hl (by decide) rfl (fun ls hl => ?_)
        refine lv_goto (tgt := 409) hx hb dX3_runs_316 (by decide) ?_
        refine lv_goto (tgt := 82) hx hb dX3_runs_409 (by decide) ?_
        refine lv_iload hx hb dX3_runs_82 (lv_at hl 0 rfl) ?_
        refine lv_if_eq (tgt := 412) hx hb dX3_runs_84 (by decide) (fun _ => ?_) (fun hz => absurd rfl hz)
        exact kk w_43 g2 fE H locs ls x_51 (by rw [← hR1, ← hR2, ← hR3]; exact h_44) h_49 (by rw [← hR4]; exact hE14) h_50 hW
      · rw [mNext_j hop h7 h8] at hR1 hR2 hR3 hR4
        dsimp only at hR1 hR2 hR3 hR4
        refine lv_iload hx hb dX3_runs_246 (lv_at hl 5 rfl) ?_
        refine va_gets hx hb ((hE.2.2.2.2.2.2.1.1 7 (by decide)).1) hW.2.2.1 hown (hts _ q2044) (fun _ h9 => h9) dX3_runs_248 ?_
        refine g_calli (va_runU (As := []) (rest := [.int (nI op)]) ⟨hx, hb, hml, hown, hts⟩ (mtJ10_ordinal l D w3 H.size (D.2 1002 7) (nI 7) (fun s hE => g_op (by decide) s hE)) (va_cwU (owner := "java/lang/Enum") (x := ⟨"Op", "ordinal", "()I"⟩) 0 hts (lw_app (lw_in _ [1990, 1208, 1209, 678, 50] (by decide +kernel) (by decide +kernel)) (lw_meth q679)) rfl rfl rfl rfl (by decide +kernel) ⟨Nat.le_trans (Nat.le_of_ble_eq_true rfl) hRf, Nat.le_trans (Nat.le_of_ble_eq_true rfl) hRl⟩) (g_preVR hW hK hE (g_opO hE hW (by decide))) rfl rfl hl.1 rfl (lv_room (Nat.le_of_ble_eq_true rfl)) dX3_runs_251 ⟨hRc, hRs⟩) hW (fun r_ u_ H locs hp hW => ?_)
        obtain ⟨er, rfl⟩ := hp
        subst er
        refine lv_icmp_eq (tgt := 268) hx hb dX3_runs_254 (by decide) (fun hz => absurd (nI_inj (by omega) (by decide) hz) h7) (fun _ => ?_)
        refine lv_iload hx hb dX3_runs_257 (lv_at hl 5 rfl) ?_
        refine va_gets hx hb ((hE.2.2.2.2.2.2.1.1 8 (by decide)).1) hW.2.2.1 hown (hts _ q2045) (fun _ h9 => h9) dX3_runs_259 ?_
        refine g_calli (va_runU (As := []) (rest := [.int (nI op)]) ⟨hx, hb, hml, hown, hts⟩ (mtJ10_ordinal l D w3 H.size (D.2 1002 8) (nI 8) (fun s hE => g_op (by decide) s hE)) (va_cwU (owner := "java/lang/Enum") (x := ⟨"Op", "ordinal", "()I"⟩) 0 hts (lw_app (lw_in _ [1990, 1208, 1209, 678, 50] (by decide +kernel) (by decide +kernel)) (lw_meth q679)) rfl rfl rfl rfl (by decide +kernel) ⟨Nat.le_trans (Nat.le_of_ble_eq_true rfl) hRf, Nat.le_trans (Nat.le_of_ble_eq_true rfl) hRl⟩) (g_preVR hW hK hE (g_opO hE hW (by decide))) rfl rfl hl.1 rfl (lv_room (Nat.le_of_ble_eq_true rfl)) dX3_runs_262 ⟨hRc, hRs⟩) hW (fun r_ u_ H locs hp hW => ?_)
        obtain ⟨er, rfl⟩ := hp
        subst er
        refine lv_icmp_ne (tgt := 319) hx hb dX3_runs_265 (by decide) (fun _ => ?_) (fun hz => absurd (nI_inj (by omega) (by decide) (by first | exact hz | exact Classical.not_not.mp hz)) h8)
        refine lv_aload_n hx hb dX3_runs_319 rfl (lv_at hl 0 rfl) ?_
        refine g_get (ci := 10) (v := .int (nI P.length)) (C := RX3) (T := TX3) (N := 28) hx hb hts in_X3 hown hK hW h_10 rfl 4 (by decide) q1888 (fun _ h9 => h9) rfl dX3_runs_320 ?_
        refine lv_aload_n hx hb dX3_runs_323 rfl (lv_at hl 0 rfl) ?_
        refine lv_iload_n hx hb dX3_runs_324 rfl (lv_at hl 3 rfl) ?_
        refine g_calli (va_runV (As := [.int (nI ad)]) (rest := [.int (nI P.length)]) ⟨hx, hb, hml, hown, hts⟩ (mtX3_jumps l D w3 H.size y mf (nI P.length) cn 0 0 (nI (st + 1)) rn tt km fi nx9 fm th ad op rg tg vl f0 f1 f2 g2 h_10 h_11 h_12 h_13 h15c had16 hop hrg ea0 ea1 ea2) (cwV 1 hts (lw_V q2046 q2048 qs27 q47 q2049) rfl rfl rfl (by decide +kernel) ⟨Nat.le_trans (Nat.le_of_ble_eq_true rfl) hRf, Nat.le_trans (Nat.le_of_ble_eq_true rfl) hRl⟩) (g_preV hW hK hE h_10 rfl) rfl rfl hl.1 rfl (lv_room (Nat.le_of_ble_eq_true rfl)) dX3_runs_325 ⟨hRc, hRs⟩) hW (fun r_ u_ H locs hp hW => ?_)
        obtain ⟨er, rfl⟩ := hp
        subst er
        obtain ⟨nx, enx⟩ : ∃ z__, z__ = (if mJmp (op, rg, vl, tg) g2 = true then tg else ad + 1) := ⟨_, rfl⟩
        rw [← enx] at hR1 hR2 hR3 hR4
        have hnx : nx < 33 := by rw [enx]; split <;> omega
        cases hq9 : mJmp (op, rg, vl, tg) g2
        · rw [if_neg (by decide)]
          rw [hq9, if_neg (by decide)] at enx
          refine lv_if_eq (tgt := 340) hx hb dX3_runs_328 (by decide) (fun _ => ?_) (fun hz => absurd rfl hz)
          refine lv_iload_n hx hb dX3_runs_340 rfl (lv_at hl 3 rfl) ?_
          refine lv_iconst (v := 1) hx hb dX3_runs_341 (by decide) ?_
          refine lv_iadd hx hb dX3_runs_342 ?_
          refine g_topi (y := nI nx) (by rw [enx]; exact nI_1 ad) ?_
          refine g_calli (va_runS (As := [.int (nI P.length), .int (nI nx)]) (rest := []) ⟨hx, hb, hml, hown, hts⟩ (mtJ7_min l D w3 H.size P.length nx (by omega) (by omega)) (va_cwS 2 hts (lw_S q2053 q315 q43 q316) rfl rfl rfl (by decide +kernel) ⟨Nat.le_trans (Nat.le_of_ble_eq_true rfl) hRf, Nat.le_trans (Nat.le_of_ble_eq_true rfl) hRl⟩) (g_preS hW hK hE) rfl rfl hl.1 rfl (lv_room (Nat.le_of_ble_eq_true rfl)) dX3_runs_343 ⟨hRc, hRs⟩) hW (fun r_ u_ H locs hp hW => ?_)
          obtain ⟨er, rfl⟩ := hp
          subst er
          have hmn : min nx P.length = min P.length nx := Nat.min_comm _ _
          rw [hmn] at hR4
          obtain ⟨tn, etn⟩ : ∃ z__, z__ = min P.length nx := ⟨_, rfl⟩
          rw [← etn] at hR4 ⊢
          have htn : tn ≤ P.length := by omega
          refine lv_istore (lv' := [(7, .int (nI tn)), (0, .ref y), (1, .ref sp), (2, .int (nI (mRd (op, rg, vl, tg) rd))), (3, .int (nI ad)), (4, .int (1)), (5, .int (nI op)), (6, .int (nI rg))]) hx hb dX3_runs_346 hl (by decide) rfl (fun ls hl => ?_)
          refine lv_iload hx hb dX3_runs_348 (lv_at hl 0 rfl) ?_
          refine lv_aload_n hx hb dX3_runs_350 rfl (lv_at hl 1 rfl) ?_
          refine g_get (ci := 10) (v := .int (nI P.length)) (C := RX3) (T := TX3) (N := 28) hx hb hts in_X3 hown hK hW h_10 rfl 4 (by decide) q1888 (fun _ h9 => h9) rfl dX3_runs_351 ?_
          refine g_icmp_ge (x := tn) (y := P.length) (tgt := 377) hx hb (by omega) (by omega) dX3_runs_354 (by decide) (fun hc => ?_) (fun hc => ?_)
          · rw [if_neg (by omega)] at hR1 hR2 hR3 hR4
            refine lv_aload_n hx hb dX3_runs_377 rfl (lv_at hl 1 rfl) ?_
            refine g_get (ci := 10) (v := .ref (mf 14)) (C := RX3) (T := TX3) (N := 28) hx hb hts in_X3 hown hK hW h_10 rfl 14 (by decide) q1898 (fun _ h9 => h9) rfl dX3_runs_378 ?_
            refine lv_bipush (v := 17) hx hb dX3_runs_381 (by decide) ?_
            refine lv_iload_n hx hb dX3_runs_383 rfl (lv_at hl 4 rfl) ?_
            refine lv_imul hx hb dX3_runs_384 ?_
            refine g_topi (y := nI (17 * ad)) (pk_mul 17 ad) ?_
            refine lv_iload hx hb dX3_runs_385 (lv_at hl 0 rfl) ?_
            refine lv_iadd hx hb dX3_runs_387 ?_
            refine g_topi (y := nI (17 * ad + tn)) (nI_add _ _) ?_
            refine lv_iconst (v := 1) hx hb dX3_runs_388 (by decide) ?_
            have hi9 : 17 * ad + tn < 272 := by omega
            refine g_zast (n := 272) (i := nI (17 * ad + tn)) hx hb hK hW h_15 (vp_in_nI hi9 (by decide)) dX3_runs_389 (fun H locs hW => ?_)
            rw [nI_clamp (by omega)] at hW
            obtain ⟨f_52, ef_52⟩ : ∃ z__, z__ = upd fE (17 * ad + tn) (vp_nar .boolean 1) := ⟨_, rfl⟩
            rw [← ef_52] at hW
            obtain ⟨w_53, ew_53⟩ : ∃ z__, z__ = g_put w3 (mf 14) (.inl (D.1 102, 272, .inl (f_52))) := ⟨_, rfl⟩
            have hW := g_W.ren hW ew_53 rfl
            have h_54 : g_at w_53 y (.inr (10, mO mf (nI P.length) (cn) (0) (0) (nI (st + 1)) (rn) (tt) (km) (fi) (nx9) (fm) (th))) := by rw [ew_53]; exact h_10.put (g_neOA h_10 h_15)
            have h_55 : g_at w_53 (mf 0) (.inl (D.1 100, 16, .inl (f0))) := by rw [ew_53]; exact h_11.put (g_lne (hL 0 (by decide)) (hL 14 (by decide)) (by decide))
            have h_56 : g_at w_53 (mf 1) (.inl (D.1 100, 16, .inl (f1))) := by rw [ew_53]; exact h_12.put (g_lne (hL 1 (by decide)) (hL 14 (by decide)) (by decide))
            have h_57 : g_at w_53 (mf 2) (.inl (D.1 100, 16, .inl (f2))) := by rw [ew_53]; exact h_13.put (g_lne (hL 2 (by decide)) (hL 14 (by decide)) (by decide))
            have h_58 : g_at w_53 (mf 3) (.inl (D.1 100, 16, .inl (f3))) := by rw [ew_53]; exact h_14.put (g_lne (hL 3 (by decide)) (hL 14 (by decide)) (by decide))
            have h_59 : g_at w_53 (mf 14) (.inl (D.1 102, 272, .inl (f_52))) := by rw [ew_53]; exact g_at.put_self h_15.1
            have h_60 : g_at w_53 (mf 15) (.inl (D.1 100, 4, .inl (g2))) := by rw [ew_53]; exact h15c.put (g_lne (hL 15 (by decide)) (hL 14 (by decide)) (by decide))
            have x_61 : g_ex (fun q => q = y ∨ q = mf 14 ∨ q = mf 15) w w_53 := by rw [ew_53]; exact hexB.put (fun hz9 => (Or.inr (Or.inl rfl)))
            have hE15 := hE14.set ef_52
            refine lv_iload hx hb dX3_runs_390 (lv_at hl 0 rfl) ?_
            refine lv_istore_n (lv' := [(3, .int (nI tn)), (7, .int (nI tn)), (0, .ref y), (1, .ref sp), (2, .int (nI (mRd (op, rg, vl, tg) rd))), (4, .int (1)), (5, .int (nI op)), (6, .int (nI rg))]) hx hb dX3_runs_392 rfl hl (by decide) rfl (fun ls hl => ?_)
            refine lv_iload hx hb dX3_runs_393 (lv_at hl 1 rfl) ?_
            refine lv_aload_n hx hb dX3_runs_395 rfl (lv_at hl 2 rfl) ?_
            refine g_get (ci := 10) (v := .int (nI P.length)) (C := RX3) (T := TX3) (N := 28) hx hb hts in_X3 hown hK hW h_54 rfl 4 (by decide) q1888 (fun _ h9 => h9) rfl dX3_runs_396 ?_
            refine g_icmp_ge (x := tn) (y := P.length) (tgt := 406) hx hb (by omega) (by omega) dX3_runs_399 (by decide) (fun _ => ?_) (fun hz => absurd hz (by omega))
            refine lv_iconst (v := 0) hx hb dX3_runs_406 (by decide) ?_
            refine lv_istore (lv' := [(4, .int (0)), (3, .int (nI tn)), (7, .int (nI tn)), (0, .ref y), (1, .ref sp), (2, .int (nI (mRd (op, rg, vl, tg) rd))), (5, .int (nI op)), (6, .int (nI rg))]) hx hb dX3_runs_407 hl (by decide) rfl (fun ls hl => ?_)
            refine lv_goto (tgt := 82) hx hb dX3_runs_409 (by decide) ?_
            have hnl : ¬ nx < P.length := by omega
            obtain ⟨k, rfl⟩ : ∃ k2, k = k2 + 1 := ⟨k - 1, by omega⟩
            unfold mRun at hR1 hR2 hR3 hR4
            rw [if_neg hnl] at hR1 hR2 hR3 hR4
            refine lv_iload hx hb dX3_runs_82 (lv_at hl 0 rfl) ?_
            refine lv_if_eq (tgt := 412) hx hb dX3_runs_84 (by decide) (fun _ => ?_) (fun hz => absurd rfl hz)
            exact kk w_53 g2 f_52 H locs ls x_61 (by rw [← hR1, ← hR2, ← hR3]; exact h_54) h_59 (by rw [← hR4]; exact hE15) h_60 hW
          · have hxl : nx < P.length := by omega
            refine lv_aload_n hx hb dX3_runs_357 rfl (lv_at hl 1 rfl) ?_
            refine g_get (ci := 10) (v := .int (nI (st + 1))) (C := RX3) (T := TX3) (N := 28) hx hb hts in_X3 hown hK hW h_10 rfl 13 (by decide) q1897 (fun _ h9 => h9) rfl dX3_runs_358 ?_
            refine lv_bipush (v := 64) hx hb dX3_runs_361 (by decide) ?_
            refine lv_icmp_ne (tgt := 377) hx hb dX3_runs_363 (by decide) (fun hd => ?_) (fun hd => ?_)
            · have hd2 : st + 1 ≠ 64 := fun z => hd (by rw [z]; rfl)
              rw [if_neg (fun z => hd (by rw [z.2]; rfl))] at hR1 hR2 hR3 hR4
              refine lv_aload_n hx hb dX3_runs_377 rfl (lv_at hl 1 rfl) ?_
              refine g_get (ci := 10) (v := .ref (mf 14)) (C := RX3) (T := TX3) (N := 28) hx hb hts in_X3 hown hK hW h_10 rfl 14 (by decide) q1898 (fun _ h9 => h9) rfl dX3_runs_378 ?_
              refine lv_bipush (v := 17) hx hb dX3_runs_381 (by decide) ?_
              refine lv_iload_n hx hb dX3_runs_383 rfl (lv_at hl 4 rfl) ?_
              refine lv_imul hx hb dX3_runs_384 ?_
              refine g_topi (y := nI (17 * ad)) (pk_mul 17 ad) ?_
              refine lv_iload hx hb dX3_runs_385 (lv_at hl 0 rfl) ?_
              refine lv_iadd hx hb dX3_runs_387 ?_
              refine g_topi (y := nI (17 * ad + tn)) (nI_add _ _) ?_
              refine lv_iconst (v := 1) hx hb dX3_runs_388 (by decide) ?_
              have hi9 : 17 * ad + tn < 272 := by omega
              refine g_zast (n := 272) (i := nI (17 * ad + tn)) hx hb hK hW h_15 (vp_in_nI hi9 (by decide)) dX3_runs_389 (fun H locs hW => ?_)
              rw [nI_clamp (by omega)] at hW
              obtain ⟨f_62, ef_62⟩ : ∃ z__, z__ = upd fE (17 * ad + tn) (vp_nar .boolean 1) := ⟨_, rfl⟩
              rw [← ef_62] at hW
              obtain ⟨w_63, ew_63⟩ : ∃ z__, z__ = g_put w3 (mf 14) (.inl (D.1 102, 272, .inl (f_62))) := ⟨_, rfl⟩
              have hW := g_W.ren hW ew_63 rfl
              have h_64 : g_at w_63 y (.inr (10, mO mf (nI P.length) (cn) (0) (0) (nI (st + 1)) (rn) (tt) (km) (fi) (nx9) (fm) (th))) := by rw [ew_63]; exact h_10.put (g_neOA h_10 h_15)
              have h_65 : g_at w_63 (mf 0) (.inl (D.1 100, 16, .inl (f0))) := by rw [ew_63]; exact h_11.put (g_lne (hL 0 (by decide)) (hL 14 (by decide)) (by decide))
              have h_66 : g_at w_63 (mf 1) (.inl (D.1 100, 16, .inl (f1))) := by rw [ew_63]; exact h_12.put (g_lne (hL 1 (by decide)) (hL 14 (by decide)) (by decide))
              have h_67 : g_at w_63 (mf 2) (.inl (D.1 100, 16, .inl (f2))) := by rw [ew_63]; exact h_13.put (g_lne (hL 2 (by decide)) (hL 14 (by decide)) (by decide))
              have h_68 : g_at w_63 (mf 3) (.inl (D.1 100, 16, .inl (f3))) := by rw [ew_63]; exact h_14.put (g_lne (hL 3 (by decide)) (hL 14 (by decide)) (by decide))
              have h_69 : g_at w_63 (mf 14) (.inl (D.1 102, 272, .inl (f_62))) := by rw [ew_63]; exact g_at.put_self h_15.1
              have h_70 : g_at w_63 (mf 15) (.inl (D.1 100, 4, .inl (g2))) := by rw [ew_63]; exact h15c.put (g_lne (hL 15 (by decide)) (hL 14 (by decide)) (by decide))
              have x_71 : g_ex (fun q => q = y ∨ q = mf 14 ∨ q = mf 15) w w_63 := by rw [ew_63]; exact hexB.put (fun hz9 => (Or.inr (Or.inl rfl)))
              have hE15 := hE14.set ef_62
              refine lv_iload hx hb dX3_runs_390 (lv_at hl 0 rfl) ?_
              refine lv_istore_n (lv' := [(3, .int (nI tn)), (7, .int (nI tn)), (0, .ref y), (1, .ref sp), (2, .int (nI (mRd (op, rg, vl, tg) rd))), (4, .int (1)), (5, .int (nI op)), (6, .int (nI rg))]) hx hb dX3_runs_392 rfl hl (by decide) rfl (fun ls hl => ?_)
              refine lv_iload hx hb dX3_runs_393 (lv_at hl 1 rfl) ?_
              refine lv_aload_n hx hb dX3_runs_395 rfl (lv_at hl 2 rfl) ?_
              refine g_get (ci := 10) (v := .int (nI P.length)) (C := RX3) (T := TX3) (N := 28) hx hb hts in_X3 hown hK hW h_64 rfl 4 (by decide) q1888 (fun _ h9 => h9) rfl dX3_runs_396 ?_
              refine g_icmp_ge (x := tn) (y := P.length) (tgt := 406) hx hb (by omega) (by omega) dX3_runs_399 (by decide) (fun hz => absurd hz (by omega)) (fun _ => ?_)
              refine lv_iconst (v := 1) hx hb dX3_runs_402 (by decide) ?_
              refine lv_goto (tgt := 407) hx hb dX3_runs_403 (by decide) ?_
              refine lv_istore (lv' := [(4, .int (1)), (3, .int (nI tn)), (7, .int (nI tn)), (0, .ref y), (1, .ref sp), (2, .int (nI (mRd (op, rg, vl, tg) rd))), (5, .int (nI op)), (6, .int (nI rg))]) hx hb dX3_runs_407 hl (by decide) rfl (fun ls hl => ?_)
              refine lv_goto (tgt := 82) hx hb dX3_runs_409 (by decide) ?_
              have enn : tn = nx := by omega
              subst enn
              exact ih tn (mRd (op, rg, vl, tg) rd) (st + 1) g2 _ f_62 w_63 H locs ls (by omega) (by omega) hc hR1 hR2 hR3 hR4 hrd2 x_71 h_64 h_69 hE15 h_70 hW (lv_sub hl [3, 4, 5, 1, 0] rfl)
            · have h64 : st + 1 = 64 := nI_inj (b := 64) (by omega) (by decide) (by first | exact hd | exact Classical.not_not.mp hd)
              rw [if_pos ⟨hxl, h64⟩] at hR1 hR2 hR3 hR4
              refine lv_aload_n hx hb dX3_runs_366 rfl (lv_at hl 1 rfl) ?_
              refine lv_iconst (v := 2) hx hb dX3_runs_367 (by decide) ?_
              refine g_putf (ci := 10) (v := .int (2)) (ty := .int) (C := RX3) (T := TX3) (N := 28) hx hb hts in_X3 tyX3 tyX3_ok nmX3 hown hK hW h_10 rfl 11 (by decide) q1895 (fun _ h9 => h9) rfl (by decide +kernel) rfl rfl (Nat.le_of_ble_eq_true rfl) dX3_runs_368 (fun H locs hW => ?_)
              obtain ⟨w_72, ew_72⟩ : ∃ z__, z__ = g_put w3 y (.inr (10, mO mf (nI P.length) (cn) (2) (0) (nI (st + 1)) (rn) (tt) (km) (fi) (nx9) (fm) (th))) := ⟨_, rfl⟩
              have hW := g_W.ren hW ew_72 rfl
              have h_73 : g_at w_72 y (.inr (10, mO mf (nI P.length) (cn) (2) (0) (nI (st + 1)) (rn) (tt) (km) (fi) (nx9) (fm) (th))) := by rw [ew_72]; exact g_at.put_self h_10.1
              have h_74 : g_at w_72 (mf 0) (.inl (D.1 100, 16, .inl (f0))) := by rw [ew_72]; exact h_11.put (g_neAO h_11 h_10)
              have h_75 : g_at w_72 (mf 1) (.inl (D.1 100, 16, .inl (f1))) := by rw [ew_72]; exact h_12.put (g_neAO h_12 h_10)
              have h_76 : g_at w_72 (mf 2) (.inl (D.1 100, 16, .inl (f2))) := by rw [ew_72]; exact h_13.put (g_neAO h_13 h_10)
              have h_77 : g_at w_72 (mf 3) (.inl (D.1 100, 16, .inl (f3))) := by rw [ew_72]; exact h_14.put (g_neAO h_14 h_10)
              have h_78 : g_at w_72 (mf 14) (.inl (D.1 102, 272, .inl (fE))) := by rw [ew_72]; exact h_15.put (g_neAO h_15 h_10)
              have h_79 : g_at w_72 (mf 15) (.inl (D.1 100, 4, .inl (g2))) := by rw [ew_72]; exact h15c.put (g_neAO h15c h_10)
              have x_80 : g_ex (fun q => q = y ∨ q = mf 14 ∨ q = mf 15) w w_72 := by rw [ew_72]; exact hexB.put (fun hz9 => (Or.inl rfl))
              refine lv_iconst (v := 0) hx hb dX3_runs_371 (by decide) ?_
              refine lv_istore (lv' := [(4, .int (0)), (7, .int (nI tn)), (0, .ref y), (1, .ref sp), (2, .int (nI (mRd (op, rg, vl, tg) rd))), (3, .int (nI ad)), (5, .int (nI op)), (6, .int (nI rg))]) hx hb dX3_runs_372 hl (by decide) rfl (fun ls hl => ?_)
              refine lv_goto (tgt := 409) hx hb dX3_runs_374 (by decide) ?_
              refine lv_goto (tgt := 82) hx hb dX3_runs_409 (by decide) ?_
              refine lv_iload hx hb dX3_runs_82 (lv_at hl 0 rfl) ?_
              refine lv_if_eq (tgt := 412) hx hb dX3_runs_84 (by decide) (fun _ => ?_) (fun hz => absurd rfl hz)
              exact kk w_72 g2 fE H locs ls x_80 (by rw [← hR1, ← hR2, ← hR3]; exact h_73) h_78 (by rw [← hR4]; exact hE14) h_79 hW
        · rw [if_pos (by decide)]
          rw [hq9, if_pos (by decide)] at enx
          refine lv_if_eq (tgt := 340) hx hb dX3_runs_328 (by decide) (fun hz => absurd hz (by decide)) (fun _ => ?_)
          refine lv_aload_n hx hb dX3_runs_331 rfl (lv_at hl 0 rfl) ?_
          refine g_get (ci := 10) (v := .ref (mf 3)) (C := RX3) (T := TX3) (N := 28) hx hb hts in_X3 hown hK hW h_10 rfl 3 (by decide) q1887 (fun _ h9 => h9) rfl dX3_runs_332 ?_
          refine lv_iload_n hx hb dX3_runs_335 rfl (lv_at hl 3 rfl) ?_
          refine g_iald (i := ad) hx hb hK hW h_14 (had16) (by decide) dX3_runs_336 ?_
          refine g_topi (y := nI nx) (by rw [ea3, enx]) ?_
          refine lv_goto (tgt := 343) hx hb dX3_runs_337 (by decide) ?_
          refine g_calli (va_runS (As := [.int (nI P.length), .int (nI nx)]) (rest := []) ⟨hx, hb, hml, hown, hts⟩ (mtJ7_min l D w3 H.size P.length nx (by omega) (by omega)) (va_cwS 2 hts (lw_S q2053 q315 q43 q316) rfl rfl rfl (by decide +kernel) ⟨Nat.le_trans (Nat.le_of_ble_eq_true rfl) hRf, Nat.le_trans (Nat.le_of_ble_eq_true rfl) hRl⟩) (g_preS hW hK hE) rfl rfl hl.1 rfl (lv_room (Nat.le_of_ble_eq_true rfl)) dX3_runs_343 ⟨hRc, hRs⟩) hW (fun r_ u_ H locs hp hW => ?_)
          obtain ⟨er, rfl⟩ := hp
          subst er
          have hmn : min nx P.length = min P.length nx := Nat.min_comm _ _
          rw [hmn] at hR4
          obtain ⟨tn, etn⟩ : ∃ z__, z__ = min P.length nx := ⟨_, rfl⟩
          rw [← etn] at hR4 ⊢
          have htn : tn ≤ P.length := by omega
          refine lv_istore (lv' := [(7, .int (nI tn)), (0, .ref y), (1, .ref sp), (2, .int (nI (mRd (op, rg, vl, tg) rd))), (3, .int (nI ad)), (4, .int (1)), (5, .int (nI op)), (6, .int (nI rg))]) hx hb dX3_runs_346 hl (by decide) rfl (fun ls hl => ?_)
          refine lv_iload hx hb dX3_runs_348 (lv_at hl 0 rfl) ?_
          refine lv_aload_n hx hb dX3_runs_350 rfl (lv_at hl 1 rfl) ?_
          refine g_get (ci := 10) (v := .int (nI P.length)) (C := RX3) (T := TX3) (N := 28) hx hb hts in_X3 hown hK hW h_10 rfl 4 (by decide) q1888 (fun _ h9 => h9) rfl dX3_runs_351 ?_
          refine g_icmp_ge (x := tn) (y := P.length) (tgt := 377) hx hb (by omega) (by omega) dX3_runs_354 (by decide) (fun hc => ?_) (fun hc => ?_)
          · rw [if_neg (by omega)] at hR1 hR2 hR3 hR4
            refine lv_aload_n hx hb dX3_runs_377 rfl (lv_at hl 1 rfl) ?_
            refine g_get (ci := 10) (v := .ref (mf 14)) (C := RX3) (T := TX3) (N := 28) hx hb hts in_X3 hown hK hW h_10 rfl 14 (by decide) q1898 (fun _ h9 => h9) rfl dX3_runs_378 ?_
            refine lv_bipush (v := 17) hx hb dX3_runs_381 (by decide) ?_
            refine lv_iload_n hx hb dX3_runs_383 rfl (lv_at hl 4 rfl) ?_
            refine lv_imul hx hb dX3_runs_384 ?_
            refine g_topi (y := nI (17 * ad)) (pk_mul 17 ad) ?_
            refine lv_iload hx hb dX3_runs_385 (lv_at hl 0 rfl) ?_
            refine lv_iadd hx hb dX3_runs_387 ?_
            refine g_topi (y := nI (17 * ad + tn)) (nI_add _ _) ?_
            refine lv_iconst (v := 1) hx hb dX3_runs_388 (by decide) ?_
            have hi9 : 17 * ad + tn < 272 := by omega
            refine g_zast (n := 272) (i := nI (17 * ad + tn)) hx hb hK hW h_15 (vp_in_nI hi9 (by decide)) dX3_runs_389 (fun H locs hW => ?_)
            rw [nI_clamp (by omega)] at hW
            obtain ⟨f_81, ef_81⟩ : ∃ z__, z__ = upd fE (17 * ad + tn) (vp_nar .boolean 1) := ⟨_, rfl⟩
            rw [← ef_81] at hW
            obtain ⟨w_82, ew_82⟩ : ∃ z__, z__ = g_put w3 (mf 14) (.inl (D.1 102, 272, .inl (f_81))) := ⟨_, rfl⟩
            have hW := g_W.ren hW ew_82 rfl
            have h_83 : g_at w_82 y (.inr (10, mO mf (nI P.length) (cn) (0) (0) (nI (st + 1)) (rn) (tt) (km) (fi) (nx9) (fm) (th))) := by rw [ew_82]; exact h_10.put (g_neOA h_10 h_15)
            have h_84 : g_at w_82 (mf 0) (.inl (D.1 100, 16, .inl (f0))) := by rw [ew_82]; exact h_11.put (g_lne (hL 0 (by decide)) (hL 14 (by decide)) (by decide))
            have h_85 : g_at w_82 (mf 1) (.inl (D.1 100, 16, .inl (f1))) := by rw [ew_82]; exact h_12.put (g_lne (hL 1 (by decide)) (hL 14 (by decide)) (by decide))
            have h_86 : g_at w_82 (mf 2) (.inl (D.1 100, 16, .inl (f2))) := by rw [ew_82]; exact h_13.put (g_lne (hL 2 (by decide)) (hL 14 (by decide)) (by decide))
            have h_87 : g_at w_82 (mf 3) (.inl (D.1 100, 16, .inl (f3))) := by rw [ew_82]; exact h_14.put (g_lne (hL 3 (by decide)) (hL 14 (by decide)) (by decide))
            have h_88 : g_at w_82 (mf 14) (.inl (D.1 102, 272, .inl (f_81))) := by rw [ew_82]; exact g_at.put_self h_15.1
            have h_89 : g_at w_82 (mf 15) (.inl (D.1 100, 4, .inl (g2))) := by rw [ew_82]; exact h15c.put (g_lne (hL 15 (by decide)) (hL 14 (by decide)) (by decide))
            have x_90 : g_ex (fun q => q = y ∨ q = mf 14 ∨ q = mf 15) w w_82 := by rw [ew_82]; exact hexB.put (fun hz9 => (Or.inr (Or.inl rfl)))
            have hE15 := hE14.set ef_81
            refine lv_iload hx hb dX3_runs_390 (lv_at hl 0 rfl) ?_
            refine lv_istore_n (lv' := [(3, .int (nI tn)), (7, .int (nI tn)), (0, .ref y), (1, .ref sp), (2, .int (nI (mRd (op, rg, vl, tg) rd))), (4, .int (1)), (5, .int (nI op)), (6, .int (nI rg))]) hx hb dX3_runs_392 rfl hl (by decide) rfl (fun ls hl => ?_)
            refine lv_iload hx hb dX3_runs_393 (lv_at hl 1 rfl) ?_
            refine lv_aload_n hx hb dX3_runs_395 rfl (lv_at hl 2 rfl) ?_
            refine g_get (ci := 10) (v := .int (nI P.length)) (C := RX3) (T := TX3) (N := 28) hx hb hts in_X3 hown hK hW h_83 rfl 4 (by decide) q1888 (fun _ h9 => h9) rfl dX3_runs_396 ?_
            refine g_icmp_ge (x := tn) (y := P.length) (tgt := 406) hx hb (by omega) (by omega) dX3_runs_399 (by decide) (fun _ => ?_) (fun hz => absurd hz (by omega))
            refine lv_iconst (v := 0) hx hb dX3_runs_406 (by decide) ?_
            refine lv_istore (lv' := [(4, .int (0)), (3, .int (nI tn)), (7, .int (nI tn)), (0, .ref y), (1, .ref sp), (2, .int (nI (mRd (op, rg, vl, tg) rd))), (5, .int (nI op)), (6, .int (nI rg))]) hx hb dX3_runs_407 hl (by decide) rfl (fun ls hl => ?_)
            refine lv_goto (tgt := 82) hx hb dX3_runs_409 (by decide) ?_
            have hnl : ¬ nx < P.length := by omega
            obtain ⟨k, rfl⟩ : ∃ k2, k = k2 + 1 := ⟨k - 1, by omega⟩
            unfold mRun at hR1 hR2 hR3 hR4
            rw [if_neg hnl] at hR1 hR2 hR3 hR4
            refine lv_iload hx hb dX3_runs_82 (lv_at hl 0 rfl) ?_
            refine lv_if_eq (tgt := 412) hx hb dX3_runs_84 (by decide) (fun _ => ?_) (fun hz => absurd rfl hz)
            exact kk w_82 g2 f_81 H locs ls x_90 (by rw [← hR1, ← hR2, ← hR3]; exact h_83) h_88 (by rw [← hR4]; exact hE15) h_89 hW
          · have hxl : nx < P.length := by omega
            refine lv_aload_n hx hb dX3_runs_357 rfl (lv_at hl 1 rfl) ?_
            refine g_get (ci := 10) (v := .int (nI (st + 1))) (C := RX3) (T := TX3) (N := 28) hx hb hts in_X3 hown hK hW h_10 rfl 13 (by decide) q1897 (fun _ h9 => h9) rfl dX3_runs_358 ?_
            refine lv_bipush (v := 64) hx hb dX3_runs_361 (by decide) ?_
            refine lv_icmp_ne (tgt := 377) hx hb dX3_runs_363 (by decide) (fun hd => ?_) (fun hd => ?_)
            · have hd2 : st + 1 ≠ 64 := fun z => hd (by rw [z]; rfl)
              rw [if_neg (fun z => hd (by rw [z.2]; rfl))] at hR1 hR2 hR3 hR4
              refine lv_aload_n hx hb dX3_runs_377 rfl (lv_at hl 1 rfl) ?_
              refine g_get (ci := 10) (v := .ref (mf 14)) (C := RX3) (T := TX3) (N := 28) hx hb hts in_X3 hown hK hW h_10 rfl 14 (by decide) q1898 (fun _ h9 => h9) rfl dX3_runs_378 ?_
              refine lv_bipush (v := 17) hx hb dX3_runs_381 (by decide) ?_
              refine lv_iload_n hx hb dX3_runs_383 rfl (lv_at hl 4 rfl) ?_
              refine lv_imul hx hb dX3_runs_384 ?_
              refine g_topi (y := nI (17 * ad)) (pk_mul 17 ad) ?_
              refine lv_iload hx hb dX3_runs_385 (lv_at hl 0 rfl) ?_
              refine lv_iadd hx hb dX3_runs_387 ?_
              refine g_topi (y := nI (17 * ad + tn)) (nI_add _ _) ?_
              refine lv_iconst (v := 1) hx hb dX3_runs_388 (by decide) ?_
              have hi9 : 17 * ad + tn < 272 := by omega
              refine g_zast (n := 272) (i := nI (17 * ad + tn)) hx hb hK hW h_15 (vp_in_nI hi9 (by decide)) dX3_runs_389 (fun H locs hW => ?_)
              rw [nI_clamp (by omega)] at hW
              obtain ⟨f_91, ef_91⟩ : ∃ z__, z__ = upd fE (17 * ad + tn) (vp_nar .boolean 1) := ⟨_, rfl⟩
              rw [← ef_91] at hW
              obtain ⟨w_92, ew_92⟩ : ∃ z__, z__ = g_put w3 (mf 14) (.inl (D.1 102, 272, .inl (f_91))) := ⟨_, rfl⟩
              have hW := g_W.ren hW ew_92 rfl
              have h_93 : g_at w_92 y (.inr (10, mO mf (nI P.length) (cn) (0) (0) (nI (st + 1)) (rn) (tt) (km) (fi) (nx9) (fm) (th))) := by rw [ew_92]; exact h_10.put (g_neOA h_10 h_15)
              have h_94 : g_at w_92 (mf 0) (.inl (D.1 100, 16, .inl (f0))) := by rw [ew_92]; exact h_11.put (g_lne (hL 0 (by decide)) (hL 14 (by decide)) (by decide))
              have h_95 : g_at w_92 (mf 1) (.inl (D.1 100, 16, .inl (f1))) := by rw [ew_92]; exact h_12.put (g_lne (hL 1 (by decide)) (hL 14 (by decide)) (by decide))
              have h_96 : g_at w_92 (mf 2) (.inl (D.1 100, 16, .inl (f2))) := by rw [ew_92]; exact h_13.put (g_lne (hL 2 (by decide)) (hL 14 (by decide)) (by decide))
              have h_97 : g_at w_92 (mf 3) (.inl (D.1 100, 16, .inl (f3))) := by rw [ew_92]; exact h_14.put (g_lne (hL 3 (by decide)) (hL 14 (by decide)) (by decide))
              have h_98 : g_at w_92 (mf 14) (.inl (D.1 102, 272, .inl (f_91))) := by rw [ew_92]; exact g_at.put_self h_15.1
              have h_99 : g_at w_92 (mf 15) (.inl (D.1 100, 4, .inl (g2))) := by rw [ew_92]; exact h15c.put (g_lne (hL 15 (by decide)) (hL 14 (by decide)) (by decide))
              have x_100 : g_ex (fun q => q = y ∨ q = mf 14 ∨ q = mf 15) w w_92 := by rw [ew_92]; exact hexB.put (fun hz9 => (Or.inr (Or.inl rfl)))
              have hE15 := hE14.set ef_91
              refine lv_iload hx hb dX3_runs_390 (lv_at hl 0 rfl) ?_
              refine lv_istore_n (lv' := [(3, .int (nI tn)), (7, .int (nI tn)), (0, .ref y), (1, .ref sp), (2, .int (nI (mRd (op, rg, vl, tg) rd))), (4, .int (1)), (5, .int (nI op)), (6, .int (nI rg))]) hx hb dX3_runs_392 rfl hl (by decide) rfl (fun ls hl => ?_)
              refine lv_iload hx hb dX3_runs_393 (lv_at hl 1 rfl) ?_
              refine lv_aload_n hx hb dX3_runs_395 rfl (lv_at hl 2 rfl) ?_
              refine g_get (ci := 10) (v := .int (nI P.length)) (C := RX3) (T := TX3) (N := 28) hx hb hts in_X3 hown hK hW h_93 rfl 4 (by decide) q1888 (fun _ h9 => h9) rfl dX3_runs_396 ?_
              refine g_icmp_ge (x := tn) (y := P.length) (tgt := 406) hx hb (by omega) (by omega) dX3_runs_399 (by decide) (fun hz => absurd hz (by omega)) (fun _ => ?_)
              refine lv_iconst (v := 1) hx hb dX3_runs_402 (by decide) ?_
              refine lv_goto (tgt := 407) hx hb dX3_runs_403 (by decide) ?_
              refine lv_istore (lv' := [(4, .int (1)), (3, .int (nI tn)), (7, .int (nI tn)), (0, .ref y), (1, .ref sp), (2, .int (nI (mRd (op, rg, vl, tg) rd))), (5, .int (nI op)), (6, .int (nI rg))]) hx hb dX3_runs_407 hl (by decide) rfl (fun ls hl => ?_)
              refine lv_goto (tgt := 82) hx hb dX3_runs_409 (by decide) ?_
              have enn : tn = nx := by omega
              subst enn
              exact ih tn (mRd (op, rg, vl, tg) rd) (st + 1) g2 _ f_91 w_92 H locs ls (by omega) (by omega) hc hR1 hR2 hR3 hR4 hrd2 x_100 h_93 h_98 hE15 h_99 hW (lv_sub hl [3, 4, 5, 1, 0] rfl)
            · have h64 : st + 1 = 64 := nI_inj (b := 64) (by omega) (by decide) (by first | exact hd | exact Classical.not_not.mp hd)
              rw [if_pos ⟨hxl, h64⟩] at hR1 hR2 hR3 hR4
              refine lv_aload_n hx hb dX3_runs_366 rfl (lv_at hl 1 rfl) ?_
              refine lv_iconst (v := 2) hx hb dX3_runs_367 (by decide) ?_
              refine g_putf (ci := 10) (v := .int (2)) (ty := .int) (C := RX3) (T := TX3) (N := 28) hx hb hts in_X3 tyX3 tyX3_ok nmX3 hown hK hW h_10 rfl 11 (by decide) q1895 (fun _ h9 => h9) rfl (by decide +kernel) rfl rfl (Nat.le_of_ble_eq_true rfl) dX3_runs_368 (fun H locs hW => ?_)
              obtain ⟨w_101, ew_101⟩ : ∃ z__, z__ = g_put w3 y (.inr (10, mO mf (nI P.length) (cn) (2) (0) (nI (st + 1)) (rn) (tt) (km) (fi) (nx9) (fm) (th))) := ⟨_, rfl⟩
              have hW := g_W.ren hW ew_101 rfl
              have h_102 : g_at w_101 y (.inr (10, mO mf (nI P.length) (cn) (2) (0) (nI (st + 1)) (rn) (tt) (km) (fi) (nx9) (fm) (th))) := by rw [ew_101]; exact g_at.put_self h_10.1
              have h_103 : g_at w_101 (mf 0) (.inl (D.1 100, 16, .inl (f0))) := by rw [ew_101]; exact h_11.put (g_neAO h_11 h_10)
              have h_104 : g_at w_101 (mf 1) (.inl (D.1 100, 16, .inl (f1))) := by rw [ew_101]; exact h_12.put (g_neAO h_12 h_10)
              have h_105 : g_at w_101 (mf 2) (.inl (D.1 100, 16, .inl (f2))) := by rw [ew_101]; exact h_13.put (g_neAO h_13 h_10)
              have h_106 : g_at w_101 (mf 3) (.inl (D.1 100, 16, .inl (f3))) := by rw [ew_101]; exact h_14.put (g_neAO h_14 h_10)
              have h_107 : g_at w_101 (mf 14) (.inl (D.1 102, 272, .inl (fE))) := by rw [ew_101]; exact h_15.put (g_neAO h_15 h_10)
              have h_108 : g_at w_101 (mf 15) (.inl (D.1 100, 4, .inl (g2))) := by rw [ew_101]; exact h15c.put (g_neAO h15c h_10)
              have x_109 : g_ex (fun q => q = y ∨ q = mf 14 ∨ q = mf 15) w w_101 := by rw [ew_101]; exact hexB.put (fun hz9 => (Or.inl rfl))
              refine lv_iconst (v := 0) hx hb dX3_runs_371 (by decide) ?_
              refine lv_istore (lv' := [(4, .int (0)), (7, .int (nI tn)), (0, .ref y), (1, .ref sp), (2, .int (nI (mRd (op, rg, vl, tg) rd))), (3, .int (nI ad)), (5, .int (nI op)), (6, .int (nI rg))]) hx hb dX3_runs_372 hl (by decide) rfl (fun ls hl => ?_)
              refine lv_goto (tgt := 409) hx hb dX3_runs_374 (by decide) ?_
              refine lv_goto (tgt := 82) hx hb dX3_runs_409 (by decide) ?_
              refine lv_iload hx hb dX3_runs_82 (lv_at hl 0 rfl) ?_
              refine lv_if_eq (tgt := 412) hx hb dX3_runs_84 (by decide) (fun _ => ?_) (fun hz => absurd rfl hz)
              exact kk w_101 g2 fE H locs ls x_109 (by rw [← hR1, ← hR2, ← hR3]; exact h_102) h_107 (by rw [← hR4]; exact hE14) h_108 hW
