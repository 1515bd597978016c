/-! the model: reachable *
-/
set_option maxRecDepth 100000
def a272 (D : va_G) (w : g_H) (q : Nat) (R0 : Nat → Bool) : Prop := ∃ g : Nat → Int32, g_at w q (.inl (D.1 102, 272, .inl g)) ∧ mEg g R0
set_option maxHeartbeats 4000000 in
set_option maxRecDepth 100000 in
/-- Model.reachable: the edges of one run -/
theorem lpX3_reach1 {p : Program} {l : Launch} {e : Env} {R : Room} {s : State} {m : MethodId} {args : Array Value} {below : List Frame} {meth : Method} {c : Code} {cells slots : Nat} {Q : State → Prop} {D : va_G} {A : Nat → Prop} (hx : p.tables.exec = Jvm.exec) (hb : c.code = cX3_reachable) (hts : ∀ w ∈ lw_all, w.before args s = true) (hown : s.vm.findClass RX3 = some m.cls) (hK : va_K D gCl (gT D) s) (hE : g_Env D A s) (hml : c.maxLocals = 6) (hRf : 1 ≤ R.frames) (hRl : 12 ≤ R.locals) (hRc : cells ≤ R.cells) (hRs : slots ≤ R.slots) (y q : Nat) (mf : Nat → Nat) (cd cn en td st rn : Int32) (tt : Int64) (km fi nx fm th : Int32) (R0 E : Nat → Bool) (fE : Nat → Int32) (w : g_H) (hy : g_at w y (.inr (10, mO mf (cd) (cn) (en) (td) (st) (rn) (tt) (km) (fi) (nx) (fm) (th)))) (h14 : g_at w (mf 14) (.inl (D.1 102, 272, .inl fE))) (hE14 : mEg fE E) (nqy : y ≠ q) (nq14 : mf 14 ≠ q) (n9 : Int32) (n j : Nat)
    (kk : ∀ (w2 : g_H) (g2 : Nat → Int32) (H : Heap) (locs : List Loc) (ls : Array Slot), g_ex (fun z => z = q) w w2 → g_at w2 q (.inl (D.1 102, 272, .inl g2)) → mEg g2 (fun e => R0 e || E e) → g_W D A s.heap H locs w2 → lv_has ls 6 [(0, .ref y), (1, .int (n9)), (2, .ref q), (3, .int (nI n)), (4, .int (nI j))] → W p l e R s m args below meth c H locs cells slots Q (F0 m 108 ls [])) :
    ∀ (k : Nat) (i : Nat) (g : Nat → Int32) (w1 : g_H) (H : Heap) (locs : List Loc) (ls : Array Slot), 272 < i + k → i ≤ 272 → g_ex (fun z => z = q) w w1 → g_at w1 q (.inl (D.1 102, 272, .inl g)) → mEg g (cvI R0 E i) → g_W D A s.heap H locs w1 → lv_has ls 6 [(5, .int (nI i)), (0, .ref y), (1, .int (n9)), (2, .ref q), (3, .int (nI n)), (4, .int (nI j))] → W p l e R s m args below meth c H locs cells slots Q (F0 m 66 ls []) := by
  intro k
  induction k with
  | zero => intro i g w1 H locs ls hfuel hi hex hq9 hg hW hl; exact absurd hfuel (by omega)
  | succ k ih =>
    intro i g w1 H locs ls hfuel hi hex hq9 hg hW hl
    have hyb := hex.at hy nqy
    have h14b := hex.at h14 nq14
    refine lv_iload hx hb dX3_reachable_66 (lv_at hl 0 rfl) ?_
    refine lv_aload_n hx hb dX3_reachable_68 rfl (lv_at hl 1 rfl) ?_
    refine g_get (ci := 10) (v := .ref (mf 14)) (C := RX3) (T := TX3) (N := 28) hx hb hts in_X3 hown hK hW hyb rfl 14 (by decide) q1898 (fun _ h9 => h9) rfl dX3_reachable_69 ?_
    refine g_alen hx hb hK hW 2 h14b rfl dX3_reachable_72 ?_
    refine g_icmp_ge (x := i) (y := 272) (tgt := 108) hx hb (by omega) (by decide) dX3_reachable_73 (by decide) (fun hc => ?_) (fun hc => ?_)
    · have e0 : i = 272 := by omega
      subst e0
      exact kk w1 g H locs ls hex hq9 (mEg_cong hg (fun e he => if_pos he)) hW (lv_sub hl [1, 2, 3, 4, 5] rfl)
    · have gi : g i = if R0 i = true then 1 else 0 := by rw [hg i hc]; unfold cvI; rw [if_neg (Nat.lt_irrefl i)]
      have ei := hE14 i hc
      cases b2 : E i <;> cases b3 : R0 i
      · rw [b2] at ei
        rw [b3] at gi
        refine lv_aload_n hx hb dX3_reachable_76 rfl (lv_at hl 3 rfl) ?_
        refine lv_iload hx hb dX3_reachable_77 (lv_at hl 0 rfl) ?_
        refine lv_aload_n hx hb dX3_reachable_79 rfl (lv_at hl 3 rfl) ?_
        refine lv_iload hx hb dX3_reachable_80 (lv_at hl 0 rfl) ?_
        refine g_zald (n := 272) (i := nI i) hx hb hK hW hq9 (vp_in_nI hc (by decide)) dX3_reachable_82 ?_
        rw [nI_clamp (by omega), gi]
        refine W.eq (g2 := F0 m 83 ls [.int (0), .int (nI i), .ref q]) rfl ?_
        refine lv_if_ne (tgt := 96) hx hb dX3_reachable_83 (by decide) (fun hz => absurd rfl hz) (fun _ => ?_)
        refine lv_aload_n hx hb dX3_reachable_86 rfl (lv_at hl 1 rfl) ?_
        refine g_get (ci := 10) (v := .ref (mf 14)) (C := RX3) (T := TX3) (N := 28) hx hb hts in_X3 hown hK hW hyb rfl 14 (by decide) q1898 (fun _ h9 => h9) rfl dX3_reachable_87 ?_
        refine lv_iload hx hb dX3_reachable_90 (lv_at hl 0 rfl) ?_
        refine g_zald (n := 272) (i := nI i) hx hb hK hW h14b (vp_in_nI hc (by decide)) dX3_reachable_92 ?_
        rw [nI_clamp (by omega), ei]
        refine W.eq (g2 := F0 m 93 ls [.int (0), .int (nI i), .ref q]) rfl ?_
        refine lv_if_eq (tgt := 100) hx hb dX3_reachable_93 (by decide) (fun _ => ?_) (fun hz => absurd rfl hz)
        refine lv_iconst (v := 0) hx hb dX3_reachable_100 (by decide) ?_
        refine g_zast (n := 272) (i := nI i) hx hb hK hW hq9 (vp_in_nI hc (by decide)) dX3_reachable_101 (fun H locs hW => ?_)
        rw [nI_clamp (by omega)] at hW
        obtain ⟨f_1, ef_1⟩ : ∃ z__, z__ = upd g i (vp_nar .boolean 0) := ⟨_, rfl⟩
        rw [← ef_1] at hW
        obtain ⟨w_2, ew_2⟩ : ∃ z__, z__ = g_put w1 q (.inl (D.1 102, 272, .inl (f_1))) := ⟨_, rfl⟩
        have hW := g_W.ren hW ew_2 rfl
        have h_3 : g_at w_2 y (.inr (10, mO mf (cd) (cn) (en) (td) (st) (rn) (tt) (km) (fi) (nx) (fm) (th))) := by rw [ew_2]; exact hyb.put nqy
        have h_4 : g_at w_2 (mf 14) (.inl (D.1 102, 272, .inl (fE))) := by rw [ew_2]; exact h14b.put nq14
        have h_5 : g_at w_2 q (.inl (D.1 102, 272, .inl (f_1))) := by rw [ew_2]; exact g_at.put_self hq9.1
        have x_6 : g_ex (fun z => z = q) w w_2 := by rw [ew_2]; exact hex.put (fun hz9 => rfl)
        refine lv_iinc (v := nI (i + 1)) (lv' := [(5, .int (nI (i + 1))), (0, .ref y), (1, .int (n9)), (2, .ref q), (3, .int (nI n)), (4, .int (nI j))]) hx hb dX3_reachable_102 hl (k := 0) rfl (nI_1 i) (by decide) rfl (fun ls hl => ?_)
        refine lv_goto (tgt := 66) hx hb dX3_reachable_105 (by decide) ?_
        exact ih (i + 1) f_1 w_2 H locs ls (by omega) (by omega) x_6 h_5 (cvI_set hg ef_1 (by rw [b2, b3]; rfl)) hW (lv_sub hl [0, 1, 2, 3, 4, 5] rfl)
      · rw [b2] at ei
        rw [b3] at gi
        refine lv_aload_n hx hb dX3_reachable_76 rfl (lv_at hl 3 rfl) ?_
        refine lv_iload hx hb dX3_reachable_77 (lv_at hl 0 rfl) ?_
        refine lv_aload_n hx hb dX3_reachable_79 rfl (lv_at hl 3 rfl) ?_
        refine lv_iload hx hb dX3_reachable_80 (lv_at hl 0 rfl) ?_
        refine g_zald (n := 272) (i := nI i) hx hb hK hW hq9 (vp_in_nI hc (by decide)) dX3_reachable_82 ?_
        rw [nI_clamp (by omega), gi]
        refine W.eq (g2 := F0 m 83 ls [.int (1), .int (nI i), .ref q]) rfl ?_
        refine lv_if_ne (tgt := 96) hx hb dX3_reachable_83 (by decide) (fun _ => ?_) (fun hz => absurd (by first | exact hz | exact Classical.not_not.mp hz) (by decide))
        refine lv_iconst (v := 1) hx hb dX3_reachable_96 (by decide) ?_
        refine lv_goto (tgt := 101) hx hb dX3_reachable_97 (by decide) ?_
        refine g_zast (n := 272) (i := nI i) hx hb hK hW hq9 (vp_in_nI hc (by decide)) dX3_reachable_101 (fun H locs hW => ?_)
        rw [nI_clamp (by omega)] at hW
        obtain ⟨f_7, ef_7⟩ : ∃ z__, z__ = upd g i (vp_nar .boolean 1) := ⟨_, rfl⟩
        rw [← ef_7] at hW
        obtain ⟨w_8, ew_8⟩ : ∃ z__, z__ = g_put w1 q (.inl (D.1 102, 272, .inl (f_7))) := ⟨_, rfl⟩
        have hW := g_W.ren hW ew_8 rfl
        have h_9 : g_at w_8 y (.inr (10, mO mf (cd) (cn) (en) (td) (st) (rn) (tt) (km) (fi) (nx) (fm) (th))) := by rw [ew_8]; exact hyb.put nqy
        have h_10 : g_at w_8 (mf 14) (.inl (D.1 102, 272, .inl (fE))) := by rw [ew_8]; exact h14b.put nq14
        have h_11 : g_at w_8 q (.inl (D.1 102, 272, .inl (f_7))) := by rw [ew_8]; exact g_at.put_self hq9.1
        have x_12 : g_ex (fun z => z = q) w w_8 := by rw [ew_8]; exact hex.put (fun hz9 => rfl)
        refine lv_iinc (v := nI (i + 1)) (lv' := [(5, .int (nI (i + 1))), (0, .ref y), (1, .int (n9)), (2, .ref q), (3, .int (nI n)), (4, .int (nI j))]) hx hb dX3_reachable_102 hl (k := 0) rfl (nI_1 i) (by decide) rfl (fun ls hl => ?_)
        refine lv_goto (tgt := 66) hx hb dX3_reachable_105 (by decide) ?_
        exact ih (i + 1) f_7 w_8 H locs ls (by omega) (by omega) x_12 h_11 (cvI_set hg ef_7 (by rw [b2, b3]; rfl)) hW (lv_sub hl [0, 1, 2, 3, 4, 5] rfl)
      · rw [b2] at ei
        rw [b3] at gi
        refine lv_aload_n hx hb dX3_reachable_76 rfl (lv_at hl 3 rfl) ?_
        refine lv_iload hx hb dX3_reachable_77 (lv_at hl 0 rfl) ?_
        refine lv_aload_n hx hb dX3_reachable_79 rfl (lv_at hl 3 rfl) ?_
        refine lv_iload hx hb dX3_reachable_80 (lv_at hl 0 rfl) ?_
        refine g_zald (n := 272) (i := nI i) hx hb hK hW hq9 (vp_in_nI hc (by decide)) dX3_reachable_82 ?_
        rw [nI_clamp (by omega), gi]
        refine W.eq (g2 := F0 m 83 ls [.int (0), .int (nI i), .ref q]) rfl ?_
        refine lv_if_ne (tgt := 96) hx hb dX3_reachable_83 (by decide) (fun hz => absurd rfl hz) (fun _ => ?_)
        refine lv_aload_n hx hb dX3_reachable_86 rfl (lv_at hl 1 rfl) ?_
        refine g_get (ci := 10) (v := .ref (mf 14)) (C := RX3) (T := TX3) (N := 28) hx hb hts in_X3 hown hK hW hyb rfl 14 (by decide) q1898 (fun _ h9 => h9) rfl dX3_reachable_87 ?_
        refine lv_iload hx hb dX3_reachable_90 (lv_at hl 0 rfl) ?_
        refine g_zald (n := 272) (i := nI i) hx hb hK hW h14b (vp_in_nI hc (by decide)) dX3_reachable_92 ?_
        rw [nI_clamp (by omega), ei]
        refine W.eq (g2 := F0 m 93 ls [.int (1), .int (nI i), .ref q]) rfl ?_
        refine lv_if_eq (tgt := 100) hx hb dX3_reachable_93 (by decide) (fun hz => absurd hz (by decide)) (fun _ => ?_)
        refine lv_iconst (v := 1) hx hb dX3_reachable_96 (by decide) ?_
        refine lv_goto (tgt := 101) hx hb dX3_reachable_97 (by decide) ?_
        refine g_zast (n := 272) (i := nI i) hx hb hK hW hq9 (vp_in_nI hc (by decide)) dX3_reachable_101 (fun H locs hW => ?_)
        rw [nI_clamp (by omega)] at hW
        obtain ⟨f_13, ef_13⟩ : ∃ z__, z__ = upd g i (vp_nar .boolean 1) := ⟨_, rfl⟩
        rw [← ef_13] at hW
        obtain ⟨w_14, ew_14⟩ : ∃ z__, z__ = g_put w1 q (.inl (D.1 102, 272, .inl (f_13))) := ⟨_, rfl⟩
        have hW := g_W.ren hW ew_14 rfl
        have h_15 : g_at w_14 y (.inr (10, mO mf (cd) (cn) (en) (td) (st) (rn) (tt) (km) (fi) (nx) (fm) (th))) := by rw [ew_14]; exact hyb.put nqy
        have h_16 : g_at w_14 (mf 14) (.inl (D.1 102, 272, .inl (fE))) := by rw [ew_14]; exact h14b.put nq14
        have h_17 : g_at w_14 q (.inl (D.1 102, 272, .inl (f_13))) := by rw [ew_14]; exact g_at.put_self hq9.1
        have x_18 : g_ex (fun z => z = q) w w_14 := by rw [ew_14]; exact hex.put (fun hz9 => rfl)
        refine lv_iinc (v := nI (i + 1)) (lv' := [(5, .int (nI (i + 1))), (0, .ref y), (1, .int (n9)), (2, .ref q), (3, .int (nI n)), (4, .int (nI j))]) hx hb dX3_reachable_102 hl (k := 0) rfl (nI_1 i) (by decide) rfl (fun ls hl => ?_)
        refine lv_goto (tgt := 66) hx hb dX3_reachable_105 (by decide) ?_
        exact ih (i + 1) f_13 w_14 H locs ls (by omega) (by omega) x_18 h_17 (cvI_set hg ef_13 (by rw [b2, b3]; rfl)) hW (lv_sub hl [0, 1, 2, 3, 4, 5] rfl)
      · rw [b2] at ei
        rw [b3] at gi
        refine lv_aload_n hx hb dX3_reachable_76 rfl (lv_at hl 3 rfl) ?_
        refine lv_iload hx hb dX3_reachable_77 (lv_at hl 0 rfl) ?_
        refine lv_aload_n hx hb dX3_reachable_79 rfl (lv_at hl 3 rfl) ?_
        refine lv_iload hx hb dX3_reachable_80 (lv_at hl 0 rfl) ?_
        refine g_zald (n := 272) (i := nI i) hx hb hK hW hq9 (vp_in_nI hc (by decide)) dX3_reachable_82 ?_
        rw [nI_clamp (by omega), gi]
        refine W.eq (g2 := F0 m 83 ls [.int (1), .int (nI i), .ref q]) rfl ?_
        refine lv_if_ne (tgt := 96) hx hb dX3_reachable_83 (by decide) (fun _ => ?_) (fun hz => absurd (by first | exact hz | exact Classical.not_not.mp hz) (by decide))
        refine lv_iconst (v := 1) hx hb dX3_reachable_96 (by decide) ?_
        refine lv_goto (tgt := 101) hx hb dX3_reachable_97 (by decide) ?_
        refine g_zast (n := 272) (i := nI i) hx hb hK hW hq9 (vp_in_nI hc (by decide)) dX3_reachable_101 (fun H locs hW => ?_)
        rw [nI_clamp (by omega)] at hW
        obtain ⟨f_19, ef_19⟩ : ∃ z__, z__ = upd g i (vp_nar .boolean 1) := ⟨_, rfl⟩
        rw [← ef_19] at hW
        obtain ⟨w_20, ew_20⟩ : ∃ z__, z__ = g_put w1 q (.inl (D.1 102, 272, .inl (f_19))) := ⟨_, rfl⟩
        have hW := g_W.ren hW ew_20 rfl
        have h_21 : g_at w_20 y (.inr (10, mO mf (cd) (cn) (en) (td) (st) (rn) (tt) (km) (fi) (nx) (fm) (th))) := by rw [ew_20]; exact hyb.put nqy
        have h_22 : g_at w_20 (mf 14) (.inl (D.1 102, 272, .inl (fE))) := by rw [ew_20]; exact h14b.put nq14
        have h_23 : g_at w_20 q (.inl (D.1 102, 272, .inl (f_19))) := by rw [ew_20]; exact g_at.put_self hq9.1
        have x_24 : g_ex (fun z => z = q) w w_20 := by rw [ew_20]; exact hex.put (fun hz9 => rfl)
        refine lv_iinc (v := nI (i + 1)) (lv' := [(5, .int (nI (i + 1))), (0, .ref y), (1, .int (n9)), (2, .ref q), (3, .int (nI n)), (4, .int (nI j))]) hx hb dX3_reachable_102 hl (k := 0) rfl (nI_1 i) (by decide) rfl (fun ls hl => ?_)
        refine lv_goto (tgt := 66) hx hb dX3_reachable_105 (by decide) ?_
        exact ih (i + 1) f_19 w_20 H locs ls (by omega) (by omega) x_24 h_23 (cvI_set hg ef_19 (by rw [b2, b3]; rfl)) hW (lv_sub hl [0, 1, 2, 3, 4, 5] rfl)
set_option maxHeartbeats 4000000 in
set_option maxRecDepth 100000 in
/-- Model.reachable: of one length -/
theorem lpX3_reach2 {p : Program} {l : Launch} {e : Env} {R : Room} {s : State} {m : MethodId} {args : Array Value} {below : List Frame} {meth : Method} {c : Code} {Q : State → Prop} {D : va_G} {A : Nat → Prop} (hx : p.tables.exec = Jvm.exec) (hb : c.code = cX3_reachable) (hts : ∀ w ∈ lw_all, w.before args s = true) (hown : s.vm.findClass RX3 = some m.cls) (hK : va_K D gCl (gT D) s) (hE : g_Env D A s) (hml : c.maxLocals = 6) (hRf : 8 ≤ R.frames) (hRl : 214 ≤ R.locals) (y : Nat) (mf : Nat → Nat) (lab : Nat → Nat) (hL : mLab lab mf) (hly : lab y = 20) (cn rn : Int32) (tt : Int64) (km fi nx fm th : Int32) (P : List mI) (w : g_H) (hP : mPr D w mf P) (nM : ∀ k, k ∈ [0, 1, 2, 3] → ¬ (mf k = y ∨ mf k = mf 14 ∨ mf k = mf 15)) (N : Nat) (hN : N ≤ 3) (CF SF : Nat) (hRc : CF ≤ R.cells) (hRs : SF ≤ R.slots) (q : Nat) (hqw : q ∉ w.1) (nqy : y ≠ q) (nq14 : mf 14 ≠ q) (nq15 : mf 15 ≠ q) (RF : Nat → Bool) (n : Nat) (hn : n ≤ N) (rest : List (List Nat))
    (kk : ∀ (R0 : Nat → Bool) (en : Int32) (td : Int32) (st : Int32) (E : Nat → Bool) (w1 : g_H) (cells : Nat) (slots : Nat) (H : Heap) (locs : List Loc) (ls : Array Slot), rE P (rest) R0 = RF → cells + 4 * (rest).length ≤ CF → slots + 27 * (rest).length ≤ SF → g_ex (fun q => q = y ∨ q = mf 14 ∨ q = mf 15) w w1 → a272 D w1 q R0 → g_at w1 y (.inr (10, mO mf (nI P.length) (cn) (en) (td) (st) (rn) (tt) (km) (fi) (nx) (fm) (th))) → mRw D w1 mf E → g_W D A s.heap H locs w1 → lv_has ls 6 [(0, .ref y), (1, .int (nI N)), (2, .ref q), (3, .int (nI n))] → W p l e R s m args below meth c H locs cells slots Q (F0 m 114 ls [])) :
    ∀ (k : Nat) (j : Nat) (R0 : Nat → Bool) (en : Int32) (td : Int32) (st : Int32) (E : Nat → Bool) (w1 : g_H) (cells : Nat) (slots : Nat) (H : Heap) (locs : List Loc) (ls : Array Slot), 8 ^ n < j + k → j ≤ 8 ^ n → rE P (octR n j ++ rest) R0 = RF → cells + 4 * (octR n j ++ rest).length ≤ CF → slots + 27 * (octR n j ++ rest).length ≤ SF → g_ex (fun q => q = y ∨ q = mf 14 ∨ q = mf 15) w w1 → a272 D w1 q R0 → g_at w1 y (.inr (10, mO mf (nI P.length) (cn) (en) (td) (st) (rn) (tt) (km) (fi) (nx) (fm) (th))) → mRw D w1 mf E → g_W D A s.heap H locs w1 → lv_has ls 6 [(4, .int (nI j)), (0, .ref y), (1, .int (nI N)), (2, .ref q), (3, .int (nI n))] → W p l e R s m args below meth c H locs cells slots Q (F0 m 44 ls []) := by
  intro k
  induction k with
  | zero => intro j R0 en td st E w1 cells slots H locs ls hfuel hj hre hcl hsl hex hqa hy hR hW hl; exact absurd hfuel (by omega)
  | succ k ih =>
    intro j R0 en td st E w1 cells slots H locs ls hfuel hj hre hcl hsl hex hqa hy hR hW hl
    have hp8 := p8_le (n := n) (by omega)
    refine lv_iload hx hb dX3_reachable_44 (lv_at hl 0 rfl) ?_
    refine lv_iload_n hx hb dX3_reachable_46 rfl (lv_at hl 4 rfl) ?_
    refine g_calli (va_runS (As := [.int (nI n)]) (rest := [.int (nI j)]) ⟨hx, hb, hml, hown, hts⟩ (mtX3_inputMany l D w1 H.size n (by omega)) (va_cwS 1 hts (lw_S q2191 q2192 q47 q2193) rfl rfl rfl (by decide +kernel) ⟨Nat.le_trans (Nat.le_of_ble_eq_true rfl) hRf, Nat.le_trans (Nat.le_of_ble_eq_true rfl) hRl⟩) (g_preS hW hK hE) rfl rfl hl.1 rfl (lv_room (Nat.le_of_ble_eq_true rfl)) dX3_reachable_47 ⟨?_, ?_⟩) hW (fun r_ u_ H locs hp hW => ?_)
    · (try simp only [headSpec]); omega
    · (try simp only [headSpec]); omega
    obtain ⟨er, rfl⟩ := hp
    subst er
    refine g_icmp_ge (x := j) (y := 8 ^ n) (tgt := 114) hx hb (by omega) (by omega) dX3_reachable_50 (by decide) (fun hc => ?_) (fun hc => ?_)
    · rw [octR_end (by omega), List.nil_append] at hre hcl hsl
      exact kk R0 en td st E w1 cells slots H locs ls hre hcl hsl hex hqa hy hR hW (lv_sub hl [1, 2, 3, 4] rfl)
    · rw [octR_cons hc, List.cons_append] at hre hcl hsl
      unfold rE at hre
      rw [List.length_cons] at hcl hsl
      refine lv_aload_n hx hb dX3_reachable_53 rfl (lv_at hl 1 rfl) ?_
      refine lv_iload_n hx hb dX3_reachable_54 rfl (lv_at hl 4 rfl) ?_
      refine lv_iload hx hb dX3_reachable_55 (lv_at hl 0 rfl) ?_
      refine g_callq (va_runS (As := [.int (nI n), .int (nI j)]) (rest := [.ref y]) ⟨hx, hb, hml, hown, hts⟩ (mtX3_inputAt l D w1 H.size n j (by omega) (by omega)) (va_cwS 2 hts (lw_S q2194 q2195 q47 q2196) rfl rfl rfl (by decide +kernel) ⟨Nat.le_trans (Nat.le_of_ble_eq_true rfl) hRf, Nat.le_trans (Nat.le_of_ble_eq_true rfl) hRl⟩) (g_preS hW hK hE) rfl rfl hl.1 rfl (lv_room (Nat.le_of_ble_eq_true rfl)) dX3_reachable_57 ⟨?_, ?_⟩) hW (fun r_ u1 H locs hp hW => ?_)
      · (try simp only [headSpec]); omega
      · (try simp only [headSpec]); omega
      obtain ⟨s9, er, fs, hs9, hx9⟩ := hp
      subst er
      have hexu := hex.tr (hx9.mono (fun _ _ z => z.elim))
      have hyu := hx9.at hy (fun z => z.elim)
      have hRu := hR.ex hx9 (fun z => z.elim) (fun z => z.elim)
      have hPu := hP.ex hexu nM
      refine g_callv (va_runV (As := [.ref s9]) (rest := []) ⟨hx, hb, hml, hown, hts⟩ (mtX3_runs l D u1 H.size y mf lab hL hly cn en td st rn tt km fi nx fm th P E hyu hPu hRu s9 (txt (oct n j)) hs9 (txt_kHas (oct_sDg (by omega)))) (cwV 1 hts (lw_V q2037 q2039 qs26 q47 q2040) rfl rfl rfl (by decide +kernel) ⟨Nat.le_trans (Nat.le_of_ble_eq_true rfl) hRf, Nat.le_trans (Nat.le_of_ble_eq_true rfl) hRl⟩) (g_preV hW hK hE hyu rfl) rfl rfl hl.1 rfl (lv_room (Nat.le_of_ble_eq_true rfl)) dX3_reachable_60 ⟨?_, ?_⟩) hW (fun u2 H locs hp hW => ?_)
      · (try simp only [headSpec]); omega
      · (try simp only [headSpec]); omega
      obtain ⟨hy2, hR2, hx2⟩ := hp
      rw [digs_txt2] at hy2 hR2
      have hexv := hexu.tr hx2
      have hv3 := mOut_lt (P := P) (xs := oct n j)
      refine lv_iconst (v := 0) hx hb dX3_reachable_63 (by decide) ?_
      refine lv_istore (lv' := [(5, .int (0)), (4, .int (nI j)), (0, .ref y), (1, .int (nI N)), (2, .ref q), (3, .int (nI n))]) hx hb dX3_reachable_64 hl (by decide) rfl (fun ls hl => ?_)
      obtain ⟨gq, hq1, hq2⟩ := hqa
      have hqb := hx2.at (hx9.at hq1 (fun z => z)) (fun z => by rcases z with z | z | z; exact nqy z.symm; exact nq14 z.symm; exact nq15 z.symm)
      obtain ⟨fE9, g9, r14, rE14, r15⟩ := id hR2
      refine lpX3_reach1 (D := D) hx hb hts hown hK hE hml (Nat.le_trans (Nat.le_of_ble_eq_true rfl) hRf) (Nat.le_trans (Nat.le_of_ble_eq_true rfl) hRl) ?_ ?_ y q mf (nI P.length) cn (nI (mOut P (oct n j)).1) (mTo P (oct n j)) (nI (mOut P (oct n j)).2.2.1) rn tt km fi nx fm th R0 _ fE9 u2 hy2 r14 rE14 nqy nq14 (nI N) n j (fun w3 g3 H locs ls hex3 hq3 hg3 hW hl => ?_) 273 0 gq u2 H locs ls (by omega) (by omega) g_ex.rf hqb (mEg_cong hq2 (fun e _ => (if_neg (Nat.not_lt_zero e)).symm)) hW (lv_sub hl [0, 2, 3, 4, 5, 1] rfl)
      · (try simp only [headSpec]); omega
      · (try simp only [headSpec]); omega
      refine lv_iinc (v := nI (j + 1)) (lv' := [(4, .int (nI (j + 1))), (0, .ref y), (1, .int (nI N)), (2, .ref q), (3, .int (nI n))]) hx hb dX3_reachable_108 hl (k := 4) rfl (nI_1 j) (by decide) rfl (fun ls hl => ?_)
      refine lv_goto (tgt := 44) hx hb dX3_reachable_111 (by decide) ?_
      exact ih (j + 1) _ _ _ _ _ w3 _ _ H locs ls (by omega) (by omega) hre (by omega) (by omega) (hexv.trM hex3 (fun z hz e => absurd (e ▸ hz) hqw)) ⟨g3, hq3, hg3⟩ (hex3.at hy2 nqy) (hR2.ex hex3 nq14 nq15) hW (lv_sub hl [0, 1, 2, 3, 4] rfl)
set_option maxHeartbeats 4000000 in
set_option maxRecDepth 100000 in
/-- Model.reachable: its loop -/
theorem lpX3_reach3 {p : Program} {l : Launch} {e : Env} {R : Room} {s : State} {m : MethodId} {args : Array Value} {below : List Frame} {meth : Method} {c : Code} {Q : State → Prop} {D : va_G} {A : Nat → Prop} (hx : p.tables.exec = Jvm.exec) (hb : c.code = cX3_reachable) (hts : ∀ w ∈ lw_all, w.before args s = true) (hown : s.vm.findClass RX3 = some m.cls) (hK : va_K D gCl (gT D) s) (hE : g_Env D A s) (hml : c.maxLocals = 6) (hRf : 8 ≤ R.frames) (hRl : 214 ≤ R.locals) (y : Nat) (mf : Nat → Nat) (lab : Nat → Nat) (hL : mLab lab mf) (hly : lab y = 20) (cn rn : Int32) (tt : Int64) (km fi nx fm : Int32) (P : List mI) (w : g_H) (hP : mPr D w mf P) (nM : ∀ k, k ∈ [0, 1, 2, 3] → ¬ (mf k = y ∨ mf k = mf 14 ∨ mf k = mf 15)) (N : Nat) (hN : N ≤ 3) (CF SF : Nat) (hRc : CF ≤ R.cells) (hRs : SF ≤ R.slots) (q : Nat) (hqw : q ∉ w.1) (nqy : y ≠ q) (nq14 : mf 14 ≠ q) (nq15 : mf 15 ≠ q) (RF : Nat → Bool)
    (kk : ∀ (en td st : Int32) (E : Nat → Bool) (w1 : g_H) (cells slots : Nat) (H : Heap) (locs : List Loc) (ls : Array Slot), cells ≤ CF → slots ≤ SF → g_ex (fun q => q = y ∨ q = mf 14 ∨ q = mf 15) w w1 → a272 D w1 q RF → g_at w1 y (.inr (10, mO mf (nI P.length) (cn) (en) (td) (st) (rn) (tt) (km) (fi) (nx) (fm) (0))) → mRw D w1 mf E → g_W D A s.heap H locs w1 → lv_has ls 6 [(0, .ref y), (2, .ref q)] → W p l e R s m args below meth c H locs cells slots Q (F0 m 120 ls [])) :
    ∀ (k : Nat) (n : Nat) (R0 : Nat → Bool) (en : Int32) (td : Int32) (st : Int32) (E : Nat → Bool) (w1 : g_H) (cells : Nat) (slots : Nat) (H : Heap) (locs : List Loc) (ls : Array Slot), N + 1 < n + k → n ≤ N + 1 → rE P (octs n N) R0 = RF → cells + 4 * (octs n N).length ≤ CF → slots + 27 * (octs n N).length ≤ SF → g_ex (fun q => q = y ∨ q = mf 14 ∨ q = mf 15) w w1 → a272 D w1 q R0 → g_at w1 y (.inr (10, mO mf (nI P.length) (cn) (en) (td) (st) (rn) (tt) (km) (fi) (nx) (fm) (0))) → mRw D w1 mf E → g_W D A s.heap H locs w1 → lv_has ls 6 [(3, .int (nI n)), (0, .ref y), (1, .int (nI N)), (2, .ref q)] → W p l e R s m args below meth c H locs cells slots Q (F0 m 29 ls []) := by
  intro k
  induction k with
  | zero => intro n R0 en td st E w1 cells slots H locs ls hfuel hn hre hcl hsl hex hqa hy hR hW hl; exact absurd hfuel (by omega)
  | succ k ih =>
    intro n R0 en td st E w1 cells slots H locs ls hfuel hn hre hcl hsl hex hqa hy hR hW hl
    refine lv_iload_n hx hb dX3_reachable_29 rfl (lv_at hl 0 rfl) ?_
    refine lv_iload_n hx hb dX3_reachable_30 rfl (lv_at hl 2 rfl) ?_
    refine g_icmp_gt (x := n) (y := N) (tgt := 120) hx hb (by omega) (by omega) dX3_reachable_31 (by decide) (fun hc => ?_) (fun hc => ?_)
    · rw [octs_end (by omega)] at hre hcl hsl
      have hre2 : R0 = RF := hre
      subst hre2
      exact kk en td st E w1 cells slots H locs ls (Nat.le_trans (Nat.le_add_right _ _) hcl) (Nat.le_trans (Nat.le_add_right _ _) hsl) hex hqa hy hR hW (lv_sub hl [1, 3] rfl)
    · rw [octs_cons (by omega)] at hre hcl hsl
      refine lv_aload_n hx hb dX3_reachable_34 rfl (lv_at hl 1 rfl) ?_
      refine g_get (ci := 10) (v := .int (0)) (C := RX3) (T := TX3) (N := 28) hx hb hts in_X3 hown hK hW hy rfl 27 (by decide) q1911 (fun _ h9 => h9) rfl dX3_reachable_35 ?_
      refine lv_if_ne (tgt := 120) hx hb dX3_reachable_38 (by decide) (fun hz => absurd rfl hz) (fun _ => ?_)
      refine lv_iconst (v := 0) hx hb dX3_reachable_41 (by decide) ?_
      refine lv_istore (lv' := [(4, .int (0)), (3, .int (nI n)), (0, .ref y), (1, .int (nI N)), (2, .ref q)]) hx hb dX3_reachable_42 hl (by decide) rfl (fun ls hl => ?_)
      refine lpX3_reach2 (D := D) hx hb hts hown hK hE hml (Nat.le_trans (Nat.le_of_ble_eq_true rfl) hRf) (Nat.le_trans (Nat.le_of_ble_eq_true rfl) hRl) y mf lab hL hly cn rn tt km fi nx fm 0 P w hP nM N hN CF SF hRc hRs q hqw nqy nq14 nq15 RF n (by omega) (octs (n + 1) N) (fun R2 en2 td2 st2 E2 w2 cells slots H locs ls hre2 hcl2 hsl2 hex2 hqa2 hy2 hR2 hW hl => ?_) (8 ^ n + 1) 0 R0 en td st E w1 _ _ H locs ls (by omega) (Nat.zero_le _) hre hcl hsl hex hqa hy hR hW (lv_sub hl [0, 2, 3, 4, 1] rfl)
      refine lv_iinc (v := nI (n + 1)) (lv' := [(3, .int (nI (n + 1))), (0, .ref y), (1, .int (nI N)), (2, .ref q)]) hx hb dX3_reachable_114 hl (k := 3) rfl (nI_1 n) (by decide) rfl (fun ls hl => ?_)
      refine lv_goto (tgt := 29) hx hb dX3_reachable_117 (by decide) ?_
      exact ih (n + 1) R2 en2 td2 st2 E2 w2 cells slots H locs ls (by omega) (by omega) hre2 hcl2 hsl2 hex2 hqa2 hy2 hR2 hW (lv_sub hl [0, 1, 2, 3] rfl)
set_option maxHeartbeats 4000000 in
set_option maxRecDepth 100000 in
/-- Model.reachable -/
theorem mtX3_reachable (l : Launch) (D : va_G) (w : g_H) (sz : Nat) (y : Nat) (mf : Nat → Nat) (lab : Nat → Nat) (P : List mI) (C : List yC) (A9 : Nat → List (List Nat)) (cov : Nat → Bool) (K : List (List Nat)) (fq ac : Nat) (F : List yF) (rn tt cK : Nat) (en td st : Int32) (E : Nat → Bool) (th : Int32) (hZ : g_MZ D w lab y mf P C A9 cov K fq ac F rn tt cK en td st E th) (n9 : Int32) : Met l yX3_reachable (ws_ yX3_reachable cX3_reachable 6 (some .int)) ({ frames := 8, cells := 4 * ocN n9 + 1, slots := 27 * ocN n9 + 272, locals := 214 }) (g_Pc D [.ref y, .int (n9)] w sz) (g_Qi D w sz (fun r u => ((0 ≤ n9 ∧ n9 ≤ 3) → r = nI (fb_ct (rE P (octs 0 n9.toNatClampNeg) (fun _ => false)) 272)) ∧ ∃ lab2 en2 td2 st2 E2, g_MZ D u lab2 y mf P C A9 cov K fq ac F rn tt cK en2 td2 st2 E2 (thN n9) ∧ zCh w lab u lab2)) (4 * ocN n9 + 1) (27 * ocN n9 + 272) (g_A w sz) := by
  refine Met.ofW (cc := cX3_reachable) (maxL := 6) (ret := (some .int)) (by decide) rfl ?_
  intro p e s m args below meth c s₁ B hml hv
  obtain ⟨rfl, hI⟩ := hv
  have hx := B.exec
  have hb := B.bytes
  have hr := B.returns
  have hts := atoms_spec (ws := ws_ yX3_reachable cX3_reachable 6 (some .int)) B.pre
  have hts : ∀ w ∈ lw_all, w.before _ s = true := fun w h => hts w (List.mem_cons_of_mem _ h)
  have hown : s.vm.findClass RX3 = some m.cls := findClass_of_methodNamed B.named
  have hlocks := B.notSynchronized
  have hsz := hI.1
  subst hsz
  have hW := g_W.start hI
  have hK := g_K hI
  have hE := g_E hI
  have hl := lv_entry ([.ref y, .int (n9)]) (n := 6) (by exact Nat.le_of_ble_eq_true rfl)
  rw [lg_entry_eq]
  generalize (lg_sl ([.ref y, .int (n9)]) ++ List.replicate (6 - (lg_sl ([.ref y, .int (n9)])).length) Slot.unset).toArray = ls at hl ⊢
  have hl : lv_has ls 6 [(0, .ref y), (1, .int (n9))] := hl
  obtain ⟨hy, ⟨hly, hL⟩, hP, hR, hC0, hA0, hV0, hK0, hF0, hb9⟩ := id hZ
  have x_1 : g_ex (fun q => q = y) w w := g_ex.rf
  refine lv_aload_n hx hb dX3_reachable_0 rfl (lv_at hl 0 rfl) ?_
  refine lv_iload_n hx hb dX3_reachable_1 rfl (lv_at hl 1 rfl) ?_
  refine lv_i2l (v := (n9 : Int32).toInt64) hx hb dX3_reachable_2 rfl ?_
  refine lv_lconst (v := 0) hx hb dX3_reachable_3 rfl ?_
  refine lv_ldc2 hx hb hown (hts _ q1979) dX3_reachable_4 ?_
  refine g_calli (va_runS (As := [.long ((n9 : Int32).toInt64), .long (0), .long (3)]) (rest := [.ref y]) ⟨hx, hb, hml, hown, hts⟩ (mtX3_in l D w s.heap.size (n9 : Int32).toInt64 (0) (3)) (va_cwS 3 hts (lw_S q1980 q1981 q47 q1982) rfl rfl rfl (by decide +kernel) ⟨Nat.le_of_ble_eq_true rfl, Nat.le_of_ble_eq_true rfl⟩) (g_preS hW hK hE) rfl rfl hl.1 rfl (lv_room (Nat.le_of_ble_eq_true rfl)) dX3_reachable_7 ⟨Nat.le_of_ble_eq_true rfl, Nat.le_of_ble_eq_true rfl⟩) hW (fun r_ u_ H locs hp hW => ?_)
  obtain ⟨er, rfl⟩ := hp
  subst er
  by_cases hq9 : (0 : Int64) ≤ (n9 : Int32).toInt64 ∧ (n9 : Int32).toInt64 ≤ 3
  · rw [if_pos hq9]
    refine lv_if_eq (tgt := 17) hx hb dX3_reachable_10 (by decide) (fun hz => absurd hz (by decide)) (fun _ => ?_)
    have hin : (0 : Int32) ≤ n9 ∧ n9 ≤ 3 := (i2l_in rfl rfl).mp hq9
    clear hq9
    have eN : ocN n9 = (octs 0 n9.toNatClampNeg).length := if_pos hin
    have eT : thN n9 = 0 := if_pos hin
    obtain ⟨N, eN9, hN, eC⟩ := n3_n hin
    subst eN9
    rw [eC] at eN ⊢
    refine lv_iconst (v := 0) hx hb dX3_reachable_13 (by decide) ?_
    refine lv_goto (tgt := 18) hx hb dX3_reachable_14 (by decide) ?_
    refine g_putf (ci := 10) (v := .int (0)) (ty := .int) (C := RX3) (T := TX3) (N := 28) hx hb hts in_X3 tyX3 tyX3_ok nmX3 hown hK hW hy rfl 27 (by decide) q1911 (fun _ h9 => h9) rfl (by decide +kernel) rfl rfl (Nat.le_of_ble_eq_true rfl) dX3_reachable_18 (fun H locs hW => ?_)
    obtain ⟨w_2, ew_2⟩ : ∃ z__, z__ = g_put w y (.inr (10, mO mf (nI P.length) (nI C.length) (en) (td) (st) (nI rn) (lN tt) (nI K.length) (nI fq) (nI ac) (nI F.length) (0))) := ⟨_, rfl⟩
    have hW := g_W.ren hW ew_2 rfl
    have h_3 : g_at w_2 y (.inr (10, mO mf (nI P.length) (nI C.length) (en) (td) (st) (nI rn) (lN tt) (nI K.length) (nI fq) (nI ac) (nI F.length) (0))) := by rw [ew_2]; exact g_at.put_self hy.1
    have x_4 : g_ex (fun q => q = y) w w_2 := by rw [ew_2]; exact x_1.put (fun hz9 => rfl)
    have hZ1 := hZ.obj (rn2 := rn) (tt2 := tt) (fq2 := fq) (ac2 := ac) h_3 x_4 hb9.2.1 hb9.2.2.1 hb9.2.2.2.1 hb9.2.2.2.2
    have hz1 := hZ.zobj x_4
    refine lv_sipush (v := 272) hx hb dX3_reachable_21 (by decide) ?_
    have x_5 : g_ex (fun _ => False) w_2 w_2 := g_ex.rf
    refine g_newa (k := 2) (atype := .boolean) (ty := .boolean) (cB := D.1 102) hx hb rfl (hts _ q1969) hK hW rfl 272 (272, .inl (fun _ => 0)) (fun _ => rfl) (by decide) (by decide +kernel) (by decide +kernel) ((by (try simp only [headSpec]); omega)) ((by (try simp only [headSpec]); omega)) dX3_reachable_24 (fun q_6 H hq hW => ?_)
    have hq_6 := hq
    obtain ⟨w_7, ew_7⟩ : ∃ z__, z__ = g_push w_2 q_6 (.inl (D.1 102, 272, .inl ((fun _ => 0)))) := ⟨_, rfl⟩
    have hW := g_W.ren hW ew_7 rfl
    have h_8 : g_at w_7 y (.inr (10, mO mf (nI P.length) (nI C.length) (en) (td) (st) (nI rn) (lN tt) (nI K.length) (nI fq) (nI ac) (nI F.length) (0))) := by rw [ew_7]; exact h_3.push hq
    have h_9 : g_at w_7 q_6 (.inl (D.1 102, 272, .inl ((fun _ => 0)))) := by rw [ew_7]; exact g_at.push_self
    have x_10 : g_ex (fun _ => False) w_2 w_7 := by rw [ew_7]; exact x_5.push hq
    have hZ2 := hZ1.keep (lab' := lb lab w_2 0) x_10 g_mut.non lb_in (fun _ _ z => z.elim)
    have hz2 : zCh w lab w_7 (lb lab w_2 0) := hz1.tr (zCh.nw x_10 0)
    obtain ⟨my, mk⟩ := hZ1.mem
    have nqy : y ≠ q_6 := fun z => hq_6 (z ▸ my)
    have nq14 : mf 14 ≠ q_6 := fun z => hq_6 (z ▸ mk 14 (by decide))
    have nq15 : mf 15 ≠ q_6 := fun z => hq_6 (z ▸ mk 15 (by decide))
    refine lv_astore_n (lv' := [(2, .ref q_6), (0, .ref y), (1, .int (nI N))]) hx hb dX3_reachable_26 rfl hl (by decide) rfl (fun ls hl => ?_)
    refine lv_iconst (v := 0) hx hb dX3_reachable_27 (by decide) ?_
    refine lv_istore_n (lv' := [(3, .int (0)), (2, .ref q_6), (0, .ref y), (1, .int (nI N))]) hx hb dX3_reachable_28 rfl hl (by decide) rfl (fun ls hl => ?_)
    refine lpX3_reach3 (D := D) hx hb hts hown hK hE hml (Nat.le_of_ble_eq_true rfl) (Nat.le_of_ble_eq_true rfl) y mf lab hL hly (nI C.length) (nI rn) (lN tt) (nI K.length) (nI fq) (nI ac) (nI F.length) P w_2 hZ1.2.2.1 (mNo hL hly) N hN (4 * ocN (nI N) + 1) (27 * ocN (nI N) + 272) ?_ ?_ q_6 hq_6 nqy nq14 nq15 (rE P (octs 0 N) (fun _ => false)) (fun en2 td2 st2 E2 w2 cells slots H locs ls hcl hsl hex2 hqa2 hy2 hR2 hW hl => ?_) (N + 2) 0 (fun _ => false) en td st E w_7 _ _ _ _ ls (by omega) (by omega) rfl (by rw [eN]; omega) (by rw [eN]; omega) (x_10.mono (N := fun q => q = y ∨ q = mf 14 ∨ q = mf 15) (fun _ _ z => z.elim)) ⟨_, h_9, fun e _ => rfl⟩ h_8 hZ2.2.2.2.1 hW (lv_sub hl [0, 2, 3, 1] rfl)
    · (try simp only [headSpec]); omega
    · (try simp only [headSpec]); omega
    refine lv_aload_n hx hb dX3_reachable_120 rfl (lv_at hl 0 rfl) ?_
    refine g_get (ci := 10) (v := .int (0)) (C := RX3) (T := TX3) (N := 28) hx hb hts in_X3 hown hK hW hy2 rfl 27 (by decide) q1911 (fun _ h9 => h9) rfl dX3_reachable_121 ?_
    refine lv_if_ne (tgt := 135) hx hb dX3_reachable_124 (by decide) (fun hz => absurd rfl hz) (fun _ => ?_)
    refine lv_aload_n hx hb dX3_reachable_127 rfl (lv_at hl 0 rfl) ?_
    refine lv_aload_n hx hb dX3_reachable_128 rfl (lv_at hl 1 rfl) ?_
    obtain ⟨g9, hq1, hq2⟩ := hqa2
    refine g_calli (va_runV (As := [.ref q_6]) (rest := []) ⟨hx, hb, hml, hown, hts⟩ (mtX3_edgeMany l D w2 H.size y q_6 272 (rE P (octs 0 N) (fun _ => false)) g9 hq1 (by decide) (fun e he => hq2 e he)) (cwV 1 hts (lw_V q2119 q2121 qs31 q47 q2122) rfl rfl rfl (by decide +kernel) ⟨Nat.le_of_ble_eq_true rfl, Nat.le_of_ble_eq_true rfl⟩) (g_preV hW hK hE hy2 rfl) rfl rfl hl.1 rfl (lv_room (Nat.le_of_ble_eq_true rfl)) dX3_reachable_129 ⟨?_, ?_⟩) hW (fun r_ u_ H locs hp hW => ?_)
    · (try simp only [headSpec]); omega
    · (try simp only [headSpec]); omega
    obtain ⟨er, rfl⟩ := hp
    subst er
    refine lv_goto (tgt := 136) hx hb dX3_reachable_132 (by decide) ?_
    have hZ4 := hZ1.run hK hy2 hR2 hex2
    exact g_iret (v := nI (fb_ct (rE P (octs 0 N) (fun _ => false)) 272)) hx hb hr hlocks hW (⟨fun _ => rfl, lab, _, _, _, _, by rw [eT]; exact hZ4, hz1.tr (hZ1.zrun hex2)⟩) (by omega) (by omega) dX3_reachable_136
  · rw [if_neg hq9]
    refine lv_if_eq (tgt := 17) hx hb dX3_reachable_10 (by decide) (fun _ => ?_) (fun hz => absurd rfl hz)
    have hin : ¬ ((0 : Int32) ≤ n9 ∧ n9 ≤ 3) := fun z => hq9 ((i2l_in rfl rfl).mpr z)
    clear hq9
    have eT : thN n9 = 1 := if_neg hin
    refine lv_iconst (v := 1) hx hb dX3_reachable_17 (by decide) ?_
    refine g_putf (ci := 10) (v := .int (1)) (ty := .int) (C := RX3) (T := TX3) (N := 28) hx hb hts in_X3 tyX3 tyX3_ok nmX3 hown hK hW hy rfl 27 (by decide) q1911 (fun _ h9 => h9) rfl (by decide +kernel) rfl rfl (Nat.le_of_ble_eq_true rfl) dX3_reachable_18 (fun H locs hW => ?_)
    obtain ⟨w_11, ew_11⟩ : ∃ z__, z__ = g_put w y (.inr (10, mO mf (nI P.length) (nI C.length) (en) (td) (st) (nI rn) (lN tt) (nI K.length) (nI fq) (nI ac) (nI F.length) (1))) := ⟨_, rfl⟩
    have hW := g_W.ren hW ew_11 rfl
    have h_12 : g_at w_11 y (.inr (10, mO mf (nI P.length) (nI C.length) (en) (td) (st) (nI rn) (lN tt) (nI K.length) (nI fq) (nI ac) (nI F.length) (1))) := by rw [ew_11]; exact g_at.put_self hy.1
    have x_13 : g_ex (fun q => q = y) w w_11 := by rw [ew_11]; exact x_1.put (fun hz9 => rfl)
    have hZ1 := hZ.obj (rn2 := rn) (tt2 := tt) (fq2 := fq) (ac2 := ac) h_12 x_13 hb9.2.1 hb9.2.2.1 hb9.2.2.2.1 hb9.2.2.2.2
    have hz1 := hZ.zobj x_13
    refine lv_sipush (v := 272) hx hb dX3_reachable_21 (by decide) ?_
    have x_14 : g_ex (fun _ => False) w_11 w_11 := g_ex.rf
    refine g_newa (k := 2) (atype := .boolean) (ty := .boolean) (cB := D.1 102) hx hb rfl (hts _ q1969) hK hW rfl 272 (272, .inl (fun _ => 0)) (fun _ => rfl) (by decide) (by decide +kernel) (by decide +kernel) ((by (try simp only [headSpec]); omega)) ((by (try simp only [headSpec]); omega)) dX3_reachable_24 (fun q_15 H hq hW => ?_)
    have hq_15 := hq
    obtain ⟨w_16, ew_16⟩ : ∃ z__, z__ = g_push w_11 q_15 (.inl (D.1 102, 272, .inl ((fun _ => 0)))) := ⟨_, rfl⟩
    have hW := g_W.ren hW ew_16 rfl
    have h_17 : g_at w_16 y (.inr (10, mO mf (nI P.length) (nI C.length) (en) (td) (st) (nI rn) (lN tt) (nI K.length) (nI fq) (nI ac) (nI F.length) (1))) := by rw [ew_16]; exact h_12.push hq
    have h_18 : g_at w_16 q_15 (.inl (D.1 102, 272, .inl ((fun _ => 0)))) := by rw [ew_16]; exact g_at.push_self
    have x_19 : g_ex (fun _ => False) w_11 w_16 := by rw [ew_16]; exact x_14.push hq
    have hZ2 := hZ1.keep (lab' := lb lab w_11 0) x_19 g_mut.non lb_in (fun _ _ z => z.elim)
    have hz2 : zCh w lab w_16 (lb lab w_11 0) := hz1.tr (zCh.nw x_19 0)
    refine lv_astore_n (lv' := [(2, .ref q_15), (0, .ref y), (1, .int (n9))]) hx hb dX3_reachable_26 rfl hl (by decide) rfl (fun ls hl => ?_)
    refine lv_iconst (v := 0) hx hb dX3_reachable_27 (by decide) ?_
    refine lv_istore_n (lv' := [(3, .int (0)), (2, .ref q_15), (0, .ref y), (1, .int (n9))]) hx hb dX3_reachable_28 rfl hl (by decide) rfl (fun ls hl => ?_)
    refine lv_iload_n hx hb dX3_reachable_29 rfl (lv_at hl 0 rfl) ?_
    refine lv_iload_n hx hb dX3_reachable_30 rfl (lv_at hl 3 rfl) ?_
    refine lv_icmp_gt (tgt := 120) hx hb dX3_reachable_31 (by decide) (fun hc => ?_) (fun hc => ?_)
    · refine lv_aload_n hx hb dX3_reachable_120 rfl (lv_at hl 2 rfl) ?_
      refine g_get (ci := 10) (v := .int (1)) (C := RX3) (T := TX3) (N := 28) hx hb hts in_X3 hown hK hW h_17 rfl 27 (by decide) q1911 (fun _ h9 => h9) rfl dX3_reachable_121 ?_
      refine lv_if_ne (tgt := 135) hx hb dX3_reachable_124 (by decide) (fun _ => ?_) (fun hz => absurd (by first | exact hz | exact Classical.not_not.mp hz) (by decide))
      refine lv_iconst (v := (-1)) hx hb dX3_reachable_135 (by decide) ?_
      exact g_iret (v := (-1)) hx hb hr hlocks hW (⟨fun z => absurd z hin, _, _, _, _, _, by rw [eT]; exact hZ2, hz2⟩) (by omega) (by omega) dX3_reachable_136
    · refine lv_aload_n hx hb dX3_reachable_34 rfl (lv_at hl 2 rfl) ?_
      refine g_get (ci := 10) (v := .int (1)) (C := RX3) (T := TX3) (N := 28) hx hb hts in_X3 hown hK hW h_17 rfl 27 (by decide) q1911 (fun _ h9 => h9) rfl dX3_reachable_35 ?_
      refine lv_if_ne (tgt := 120) hx hb dX3_reachable_38 (by decide) (fun _ => ?_) (fun hz => absurd (by first | exact hz | exact Classical.not_not.mp hz) (by decide))
      refine lv_aload_n hx hb dX3_reachable_120 rfl (lv_at hl 2 rfl) ?_
      refine g_get (ci := 10) (v := .int (1)) (C := RX3) (T := TX3) (N := 28) hx hb hts in_X3 hown hK hW h_17 rfl 27 (by decide) q1911 (fun _ h9 => h9) rfl dX3_reachable_121 ?_
      refine lv_if_ne (tgt := 135) hx hb dX3_reachable_124 (by decide) (fun _ => ?_) (fun hz => absurd (by first | exact hz | exact Classical.not_not.mp hz) (by decide))
      refine lv_iconst (v := (-1)) hx hb dX3_reachable_135 (by decide) ?_
      exact g_iret (v := (-1)) hx hb hr hlocks hW (⟨fun z => absurd z hin, _, _, _, _, _, by rw [eT]; exact hZ2, hz2⟩) (by omega) (by omega) dX3_reachable_136
