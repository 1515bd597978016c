/-! the model: the covered edges, finds *
-/
set_option maxRecDepth 100000
/-- the covered edges, the first i of them joined -/
def cvI (cov E : Nat → Bool) (i : Nat) : Nat → Bool := fun e => if e < i then (cov e || E e) else cov e
theorem cvI_set {cov E : Nat → Bool} {g g2 : Nat → Int32} {i : Nat} {v : Int32} (hg : mEg g (cvI cov E i)) (e2 : g2 = upd g i v) (hv : v = if (cov i || E i) = true then 1 else 0) : mEg g2 (cvI cov E (i + 1)) := by
  intro e he
  rw [e2]
  unfold upd
  by_cases q : e = i
  · subst q
    show (if e = e then v else g e) = _
    rw [if_pos rfl, show cvI cov E (e + 1) e = (cov e || E e) from if_pos (Nat.lt_succ_self e)]
    exact hv
  · show (if e = i then v else g e) = _
    rw [if_neg q, hg e he]
    by_cases z : e < i
    · rw [show cvI cov E (i + 1) e = cvI cov E i e from (if_pos (by omega)).trans (if_pos z).symm]
    · rw [show cvI cov E (i + 1) e = cvI cov E i e from (if_neg (by omega)).trans (if_neg z).symm]
theorem mEg_cong {f : Nat → Int32} {E G : Nat → Bool} (h : mEg f E) (k : ∀ e, e < 272 → E e = G e) : mEg f G := fun e he => by rw [h e he, k e he]
noncomputable def zF (P : List mI) (xs : List Nat) (F : List yF) (c : Int32) : List yF := if fnd F c = true then F else F ++ [(txt xs, txt (mShr P c (sMs xs + 1) xs).1, c)]
noncomputable def zT (P : List mI) (xs : List Nat) (F : List yF) (c : Int32) : Nat := if fnd F c = true then 0 else (mShr P c (sMs xs + 1) xs).2
set_option maxHeartbeats 4000000 in
set_option maxRecDepth 100000 in
/-- Model.takes: the covered edges -/
theorem lpX3_cov {p : Program} {l : Launch} {e : Env} {R : Room} {s : State} {m : MethodId} {args : Array Value} {below : List Frame} {meth : Method} {c : Code} {cells slots : Nat} {Q : State → Prop} {D : va_G} {A : Nat → Prop} (hx : p.tables.exec = Jvm.exec) (hb : c.code = cX3_takes) (hts : ∀ w ∈ lw_all, w.before args s = true) (hown : s.vm.findClass RX3 = some m.cls) (hK : va_K D gCl (gT D) s) (hE : g_Env D A s) (hml : c.maxLocals = 4) (hRf : 1 ≤ R.frames) (hRl : 12 ≤ R.locals) (hRc : cells ≤ R.cells) (hRs : slots ≤ R.slots) (y sp : Nat) (mf : Nat → Nat) (lab : Nat → Nat) (hL : mLab lab mf) (hly : lab y = 20) (cd cn en td st rn : Int32) (tt : Int64) (km fi nx fm th : Int32) (cov E : Nat → Bool) (fE : Nat → Int32) (w : g_H) (hy : g_at w y (.inr (10, mO mf (cd) (cn) (en) (td) (st) (rn) (tt) (km) (fi) (nx) (fm) (th)))) (h14 : g_at w (mf 14) (.inl (D.1 102, 272, .inl fE))) (hE14 : mEg fE E)
    (kk : ∀ (w2 : g_H) (g2 : Nat → Int32) (H : Heap) (locs : List Loc) (ls : Array Slot), g_ex (fun q => q = mf 18) w w2 → g_at w2 (mf 18) (.inl (D.1 102, 272, .inl g2)) → mEg g2 (fun e => cov e || E e) → g_W D A s.heap H locs w2 → lv_has ls 4 [(0, .ref y), (1, .ref sp), (2, .int (if nwE cov E 272 = true then 1 else 0))] → W p l e R s m args below meth c H locs cells slots Q (F0 m 105 ls [])) :
    ∀ (k : Nat) (i : Nat) (g : Nat → Int32) (w1 : g_H) (H : Heap) (locs : List Loc) (ls : Array Slot), 272 < i + k → i ≤ 272 → g_ex (fun q => q = mf 18) w w1 → g_at w1 (mf 18) (.inl (D.1 102, 272, .inl g)) → mEg g (cvI cov E i) → g_W D A s.heap H locs w1 → lv_has ls 4 [(0, .ref y), (1, .ref sp), (2, .int ((if nwE cov E i = true then 1 else 0))), (3, .int (nI i))] → W p l e R s m args below meth c H locs cells slots Q (F0 m 33 ls []) := by
  intro k
  induction k with
  | zero => intro i g w1 H locs ls hfuel hi hex h18 hg hW hl; exact absurd hfuel (by omega)
  | succ k ih =>
    intro i g w1 H locs ls hfuel hi hex h18 hg hW hl
    have n18 : y ≠ mf 18 := fun z => by have h9 := hL 18 (by decide); rw [← z, hly] at h9; omega
    have n1418 : mf 14 ≠ mf 18 := g_lne (hL 14 (by decide)) (hL 18 (by decide)) (by decide)
    have hyb := hex.at hy n18
    have h14b := hex.at h14 n1418
    refine lv_iload_n hx hb dX3_takes_33 rfl (lv_at hl 3 rfl) ?_
    refine lv_aload_n hx hb dX3_takes_34 rfl (lv_at hl 0 rfl) ?_
    refine g_get (ci := 10) (v := .ref (mf 14)) (C := RX3) (T := TX3) (N := 28) hx hb hts in_X3 hown hK hW hyb rfl 14 (by decide) q1898 (fun _ h9 => h9) rfl dX3_takes_35 ?_
    refine g_alen hx hb hK hW 2 h14b rfl dX3_takes_38 ?_
    refine g_icmp_ge (x := i) (y := 272) (tgt := 105) hx hb (by omega) (by decide) dX3_takes_39 (by decide) (fun hc => ?_) (fun hc => ?_)
    · have e0 : i = 272 := by omega
      subst e0
      exact kk w1 g H locs ls hex h18 (mEg_cong hg (fun e he => if_pos he)) hW (lv_sub hl [0, 1, 2] rfl)
    · have gi : g i = if cov i = true then 1 else 0 := by rw [hg i hc]; unfold cvI; rw [if_neg (Nat.lt_irrefl i)]
      have ei := hE14 i hc
      have hnw : nwE cov E (i + 1) = (nwE cov E i || (E i && !cov i)) := rfl
      cases b1 : nwE cov E i <;> cases b2 : E i <;> cases b3 : cov i
      · rw [b1] at hl hnw
        rw [b2] at hnw ei
        rw [b3] at hnw gi
        refine lv_iload_n hx hb dX3_takes_42 rfl (lv_at hl 2 rfl) ?_
        refine W.eq (g2 := F0 m 43 ls [.int 0]) rfl ?_
        refine lv_if_ne (tgt := 64) hx hb dX3_takes_43 (by decide) (fun hz => absurd rfl hz) (fun _ => ?_)
        refine lv_aload_n hx hb dX3_takes_46 rfl (lv_at hl 0 rfl) ?_
        refine g_get (ci := 10) (v := .ref (mf 14)) (C := RX3) (T := TX3) (N := 28) hx hb hts in_X3 hown hK hW hyb rfl 14 (by decide) q1898 (fun _ h9 => h9) rfl dX3_takes_47 ?_
        refine lv_iload_n hx hb dX3_takes_50 rfl (lv_at hl 3 rfl) ?_
        refine g_zald (n := 272) (i := nI i) hx hb hK hW h14b (vp_in_nI hc (by decide)) dX3_takes_51 ?_
        rw [nI_clamp (by omega), ei]
        refine W.eq (g2 := F0 m 52 ls [.int (0)]) rfl ?_
        refine lv_if_eq (tgt := 68) hx hb dX3_takes_52 (by decide) (fun _ => ?_) (fun hz => absurd rfl hz)
        refine lv_iconst (v := 0) hx hb dX3_takes_68 (by decide) ?_
        refine g_topi (y := (if nwE cov E (i + 1) = true then 1 else 0)) (by rw [hnw]; rfl) ?_
        refine lv_istore_n (lv' := [(2, .int ((if nwE cov E (i + 1) = true then 1 else 0))), (0, .ref y), (1, .ref sp), (3, .int (nI i))]) hx hb dX3_takes_69 rfl hl (by decide) rfl (fun ls hl => ?_)
        refine lv_aload_n hx hb dX3_takes_70 rfl (lv_at hl 1 rfl) ?_
        refine g_get (ci := 10) (v := .ref (mf 18)) (C := RX3) (T := TX3) (N := 28) hx hb hts in_X3 hown hK hW hyb rfl 18 (by decide) q1902 (fun _ h9 => h9) rfl dX3_takes_71 ?_
        refine lv_iload_n hx hb dX3_takes_74 rfl (lv_at hl 3 rfl) ?_
        refine lv_aload_n hx hb dX3_takes_75 rfl (lv_at hl 1 rfl) ?_
        refine g_get (ci := 10) (v := .ref (mf 18)) (C := RX3) (T := TX3) (N := 28) hx hb hts in_X3 hown hK hW hyb rfl 18 (by decide) q1902 (fun _ h9 => h9) rfl dX3_takes_76 ?_
        refine lv_iload_n hx hb dX3_takes_79 rfl (lv_at hl 3 rfl) ?_
        refine g_zald (n := 272) (i := nI i) hx hb hK hW h18 (vp_in_nI hc (by decide)) dX3_takes_80 ?_
        rw [nI_clamp (by omega), gi]
        refine W.eq (g2 := F0 m 81 ls [.int (0), .int (nI i), .ref (mf 18)]) rfl ?_
        refine lv_if_ne (tgt := 93) hx hb dX3_takes_81 (by decide) (fun hz => absurd rfl hz) (fun _ => ?_)
        refine lv_aload_n hx hb dX3_takes_84 rfl (lv_at hl 1 rfl) ?_
        refine g_get (ci := 10) (v := .ref (mf 14)) (C := RX3) (T := TX3) (N := 28) hx hb hts in_X3 hown hK hW hyb rfl 14 (by decide) q1898 (fun _ h9 => h9) rfl dX3_takes_85 ?_
        refine lv_iload_n hx hb dX3_takes_88 rfl (lv_at hl 3 rfl) ?_
        refine g_zald (n := 272) (i := nI i) hx hb hK hW h14b (vp_in_nI hc (by decide)) dX3_takes_89 ?_
        rw [nI_clamp (by omega), ei]
        refine W.eq (g2 := F0 m 90 ls [.int (0), .int (nI i), .ref (mf 18)]) rfl ?_
        refine lv_if_eq (tgt := 97) hx hb dX3_takes_90 (by decide) (fun _ => ?_) (fun hz => absurd rfl hz)
        refine lv_iconst (v := 0) hx hb dX3_takes_97 (by decide) ?_
        refine g_zast (n := 272) (i := nI i) hx hb hK hW h18 (vp_in_nI hc (by decide)) dX3_takes_98 (fun H locs hW => ?_)
        rw [nI_clamp (by omega)] at hW
        obtain ⟨f_1, ef_1⟩ : ∃ z__, z__ = upd g i (vp_nar .boolean 0) := ⟨_, rfl⟩
        rw [← ef_1] at hW
        obtain ⟨w_2, ew_2⟩ : ∃ z__, z__ = g_put w1 (mf 18) (.inl (D.1 102, 272, .inl (f_1))) := ⟨_, rfl⟩
        have hW := g_W.ren hW ew_2 rfl
        have h_3 : g_at w_2 y (.inr (10, mO mf (cd) (cn) (en) (td) (st) (rn) (tt) (km) (fi) (nx) (fm) (th))) := by rw [ew_2]; exact hyb.put (g_neOA hyb h18)
        have h_4 : g_at w_2 (mf 14) (.inl (D.1 102, 272, .inl (fE))) := by rw [ew_2]; exact h14b.put n1418
        have h_5 : g_at w_2 (mf 18) (.inl (D.1 102, 272, .inl (f_1))) := by rw [ew_2]; exact g_at.put_self h18.1
        have x_6 : g_ex (fun q => q = mf 18) w w_2 := by rw [ew_2]; exact hex.put (fun hz9 => rfl)
        refine lv_iinc (v := nI (i + 1)) (lv' := [(3, .int (nI (i + 1))), (2, .int ((if nwE cov E (i + 1) = true then 1 else 0))), (0, .ref y), (1, .ref sp)]) hx hb dX3_takes_99 hl (k := 3) rfl (nI_1 i) (by decide) rfl (fun ls hl => ?_)
        refine lv_goto (tgt := 33) hx hb dX3_takes_102 (by decide) ?_
        exact ih (i + 1) f_1 w_2 H locs ls (by omega) (by omega) x_6 h_5 (cvI_set hg ef_1 (by rw [b2, b3]; rfl)) hW (lv_sub hl [2, 3, 1, 0] rfl)
      · rw [b1] at hl hnw
        rw [b2] at hnw ei
        rw [b3] at hnw gi
        refine lv_iload_n hx hb dX3_takes_42 rfl (lv_at hl 2 rfl) ?_
        refine W.eq (g2 := F0 m 43 ls [.int 0]) rfl ?_
        refine lv_if_ne (tgt := 64) hx hb dX3_takes_43 (by decide) (fun hz => absurd rfl hz) (fun _ => ?_)
        refine lv_aload_n hx hb dX3_takes_46 rfl (lv_at hl 0 rfl) ?_
        refine g_get (ci := 10) (v := .ref (mf 14)) (C := RX3) (T := TX3) (N := 28) hx hb hts in_X3 hown hK hW hyb rfl 14 (by decide) q1898 (fun _ h9 => h9) rfl dX3_takes_47 ?_
        refine lv_iload_n hx hb dX3_takes_50 rfl (lv_at hl 3 rfl) ?_
        refine g_zald (n := 272) (i := nI i) hx hb hK hW h14b (vp_in_nI hc (by decide)) dX3_takes_51 ?_
        rw [nI_clamp (by omega), ei]
        refine W.eq (g2 := F0 m 52 ls [.int (0)]) rfl ?_
        refine lv_if_eq (tgt := 68) hx hb dX3_takes_52 (by decide) (fun _ => ?_) (fun hz => absurd rfl hz)
        refine lv_iconst (v := 0) hx hb dX3_takes_68 (by decide) ?_
        refine g_topi (y := (if nwE cov E (i + 1) = true then 1 else 0)) (by rw [hnw]; rfl) ?_
        refine lv_istore_n (lv' := [(2, .int ((if nwE cov E (i + 1) = true then 1 else 0))), (0, .ref y), (1, .ref sp), (3, .int (nI i))]) hx hb dX3_takes_69 rfl hl (by decide) rfl (fun ls hl => ?_)
        refine lv_aload_n hx hb dX3_takes_70 rfl (lv_at hl 1 rfl) ?_
        refine g_get (ci := 10) (v := .ref (mf 18)) (C := RX3) (T := TX3) (N := 28) hx hb hts in_X3 hown hK hW hyb rfl 18 (by decide) q1902 (fun _ h9 => h9) rfl dX3_takes_71 ?_
        refine lv_iload_n hx hb dX3_takes_74 rfl (lv_at hl 3 rfl) ?_
        refine lv_aload_n hx hb dX3_takes_75 rfl (lv_at hl 1 rfl) ?_
        refine g_get (ci := 10) (v := .ref (mf 18)) (C := RX3) (T := TX3) (N := 28) hx hb hts in_X3 hown hK hW hyb rfl 18 (by decide) q1902 (fun _ h9 => h9) rfl dX3_takes_76 ?_
        refine lv_iload_n hx hb dX3_takes_79 rfl (lv_at hl 3 rfl) ?_
        refine g_zald (n := 272) (i := nI i) hx hb hK hW h18 (vp_in_nI hc (by decide)) dX3_takes_80 ?_
        rw [nI_clamp (by omega), gi]
        refine W.eq (g2 := F0 m 81 ls [.int (1), .int (nI i), .ref (mf 18)]) rfl ?_
        refine lv_if_ne (tgt := 93) hx hb dX3_takes_81 (by decide) (fun _ => ?_) (fun hz => absurd (by first | exact hz | exact Classical.not_not.mp hz) (by decide))
        refine lv_iconst (v := 1) hx hb dX3_takes_93 (by decide) ?_
        refine lv_goto (tgt := 98) hx hb dX3_takes_94 (by decide) ?_
        refine g_zast (n := 272) (i := nI i) hx hb hK hW h18 (vp_in_nI hc (by decide)) dX3_takes_98 (fun H locs hW => ?_)
        rw [nI_clamp (by omega)] at hW
        obtain ⟨f_7, ef_7⟩ : ∃ z__, z__ = upd g i (vp_nar .boolean 1) := ⟨_, rfl⟩
        rw [← ef_7] at hW
        obtain ⟨w_8, ew_8⟩ : ∃ z__, z__ = g_put w1 (mf 18) (.inl (D.1 102, 272, .inl (f_7))) := ⟨_, rfl⟩
        have hW := g_W.ren hW ew_8 rfl
        have h_9 : g_at w_8 y (.inr (10, mO mf (cd) (cn) (en) (td) (st) (rn) (tt) (km) (fi) (nx) (fm) (th))) := by rw [ew_8]; exact hyb.put (g_neOA hyb h18)
        have h_10 : g_at w_8 (mf 14) (.inl (D.1 102, 272, .inl (fE))) := by rw [ew_8]; exact h14b.put n1418
        have h_11 : g_at w_8 (mf 18) (.inl (D.1 102, 272, .inl (f_7))) := by rw [ew_8]; exact g_at.put_self h18.1
        have x_12 : g_ex (fun q => q = mf 18) w w_8 := by rw [ew_8]; exact hex.put (fun hz9 => rfl)
        refine lv_iinc (v := nI (i + 1)) (lv' := [(3, .int (nI (i + 1))), (2, .int ((if nwE cov E (i + 1) = true then 1 else 0))), (0, .ref y), (1, .ref sp)]) hx hb dX3_takes_99 hl (k := 3) rfl (nI_1 i) (by decide) rfl (fun ls hl => ?_)
        refine lv_goto (tgt := 33) hx hb dX3_takes_102 (by decide) ?_
        exact ih (i + 1) f_7 w_8 H locs ls (by omega) (by omega) x_12 h_11 (cvI_set hg ef_7 (by rw [b2, b3]; rfl)) hW (lv_sub hl [2, 3, 1, 0] rfl)
      · rw [b1] at hl hnw
        rw [b2] at hnw ei
        rw [b3] at hnw gi
        refine lv_iload_n hx hb dX3_takes_42 rfl (lv_at hl 2 rfl) ?_
        refine W.eq (g2 := F0 m 43 ls [.int 0]) rfl ?_
        refine lv_if_ne (tgt := 64) hx hb dX3_takes_43 (by decide) (fun hz => absurd rfl hz) (fun _ => ?_)
        refine lv_aload_n hx hb dX3_takes_46 rfl (lv_at hl 0 rfl) ?_
        refine g_get (ci := 10) (v := .ref (mf 14)) (C := RX3) (T := TX3) (N := 28) hx hb hts in_X3 hown hK hW hyb rfl 14 (by decide) q1898 (fun _ h9 => h9) rfl dX3_takes_47 ?_
        refine lv_iload_n hx hb dX3_takes_50 rfl (lv_at hl 3 rfl) ?_
        refine g_zald (n := 272) (i := nI i) hx hb hK hW h14b (vp_in_nI hc (by decide)) dX3_takes_51 ?_
        rw [nI_clamp (by omega), ei]
        refine W.eq (g2 := F0 m 52 ls [.int (1)]) rfl ?_
        refine lv_if_eq (tgt := 68) hx hb dX3_takes_52 (by decide) (fun hz => absurd hz (by decide)) (fun _ => ?_)
        refine lv_aload_n hx hb dX3_takes_55 rfl (lv_at hl 0 rfl) ?_
        refine g_get (ci := 10) (v := .ref (mf 18)) (C := RX3) (T := TX3) (N := 28) hx hb hts in_X3 hown hK hW hyb rfl 18 (by decide) q1902 (fun _ h9 => h9) rfl dX3_takes_56 ?_
        refine lv_iload_n hx hb dX3_takes_59 rfl (lv_at hl 3 rfl) ?_
        refine g_zald (n := 272) (i := nI i) hx hb hK hW h18 (vp_in_nI hc (by decide)) dX3_takes_60 ?_
        rw [nI_clamp (by omega), gi]
        refine W.eq (g2 := F0 m 61 ls [.int (0)]) rfl ?_
        refine lv_if_ne (tgt := 68) hx hb dX3_takes_61 (by decide) (fun hz => absurd rfl hz) (fun _ => ?_)
        refine lv_iconst (v := 1) hx hb dX3_takes_64 (by decide) ?_
        refine lv_goto (tgt := 69) hx hb dX3_takes_65 (by decide) ?_
        refine g_topi (y := (if nwE cov E (i + 1) = true then 1 else 0)) (by rw [hnw]; rfl) ?_
        refine lv_istore_n (lv' := [(2, .int ((if nwE cov E (i + 1) = true then 1 else 0))), (0, .ref y), (1, .ref sp), (3, .int (nI i))]) hx hb dX3_takes_69 rfl hl (by decide) rfl (fun ls hl => ?_)
        refine lv_aload_n hx hb dX3_takes_70 rfl (lv_at hl 1 rfl) ?_
        refine g_get (ci := 10) (v := .ref (mf 18)) (C := RX3) (T := TX3) (N := 28) hx hb hts in_X3 hown hK hW hyb rfl 18 (by decide) q1902 (fun _ h9 => h9) rfl dX3_takes_71 ?_
        refine lv_iload_n hx hb dX3_takes_74 rfl (lv_at hl 3 rfl) ?_
        refine lv_aload_n hx hb dX3_takes_75 rfl (lv_at hl 1 rfl) ?_
        refine g_get (ci := 10) (v := .ref (mf 18)) (C := RX3) (T := TX3) (N := 28) hx hb hts in_X3 hown hK hW hyb rfl 18 (by decide) q1902 (fun _ h9 => h9) rfl dX3_takes_76 ?_
        refine lv_iload_n hx hb dX3_takes_79 rfl (lv_at hl 3 rfl) ?_
        refine g_zald (n := 272) (i := nI i) hx hb hK hW h18 (vp_in_nI hc (by decide)) dX3_takes_80 ?_
        rw [nI_clamp (by omega), gi]
        refine W.eq (g2 := F0 m 81 ls [.int (0), .int (nI i), .ref (mf 18)]) rfl ?_
        refine lv_if_ne (tgt := 93) hx hb dX3_takes_81 (by decide) (fun hz => absurd rfl hz) (fun _ => ?_)
        refine lv_aload_n hx hb dX3_takes_84 rfl (lv_at hl 1 rfl) ?_
        refine g_get (ci := 10) (v := .ref (mf 14)) (C := RX3) (T := TX3) (N := 28) hx hb hts in_X3 hown hK hW hyb rfl 14 (by decide) q1898 (fun _ h9 => h9) rfl dX3_takes_85 ?_
        refine lv_iload_n hx hb dX3_takes_88 rfl (lv_at hl 3 rfl) ?_
        refine g_zald (n := 272) (i := nI i) hx hb hK hW h14b (vp_in_nI hc (by decide)) dX3_takes_89 ?_
        rw [nI_clamp (by omega), ei]
        refine W.eq (g2 := F0 m 90 ls [.int (1), .int (nI i), .ref (mf 18)]) rfl ?_
        refine lv_if_eq (tgt := 97) hx hb dX3_takes_90 (by decide) (fun hz => absurd hz (by decide)) (fun _ => ?_)
        refine lv_iconst (v := 1) hx hb dX3_takes_93 (by decide) ?_
        refine lv_goto (tgt := 98) hx hb dX3_takes_94 (by decide) ?_
        refine g_zast (n := 272) (i := nI i) hx hb hK hW h18 (vp_in_nI hc (by decide)) dX3_takes_98 (fun H locs hW => ?_)
        rw [nI_clamp (by omega)] at hW
        obtain ⟨f_13, ef_13⟩ : ∃ z__, z__ = upd g i (vp_nar .boolean 1) := ⟨_, rfl⟩
        rw [← ef_13] at hW
        obtain ⟨w_14, ew_14⟩ : ∃ z__, z__ = g_put w1 (mf 18) (.inl (D.1 102, 272, .inl (f_13))) := ⟨_, rfl⟩
        have hW := g_W.ren hW ew_14 rfl
        have h_15 : g_at w_14 y (.inr (10, mO mf (cd) (cn) (en) (td) (st) (rn) (tt) (km) (fi) (nx) (fm) (th))) := by rw [ew_14]; exact hyb.put (g_neOA hyb h18)
        have h_16 : g_at w_14 (mf 14) (.inl (D.1 102, 272, .inl (fE))) := by rw [ew_14]; exact h14b.put n1418
        have h_17 : g_at w_14 (mf 18) (.inl (D.1 102, 272, .inl (f_13))) := by rw [ew_14]; exact g_at.put_self h18.1
        have x_18 : g_ex (fun q => q = mf 18) w w_14 := by rw [ew_14]; exact hex.put (fun hz9 => rfl)
        refine lv_iinc (v := nI (i + 1)) (lv' := [(3, .int (nI (i + 1))), (2, .int ((if nwE cov E (i + 1) = true then 1 else 0))), (0, .ref y), (1, .ref sp)]) hx hb dX3_takes_99 hl (k := 3) rfl (nI_1 i) (by decide) rfl (fun ls hl => ?_)
        refine lv_goto (tgt := 33) hx hb dX3_takes_102 (by decide) ?_
        exact ih (i + 1) f_13 w_14 H locs ls (by omega) (by omega) x_18 h_17 (cvI_set hg ef_13 (by rw [b2, b3]; rfl)) hW (lv_sub hl [2, 3, 1, 0] rfl)
      · rw [b1] at hl hnw
        rw [b2] at hnw ei
        rw [b3] at hnw gi
        refine lv_iload_n hx hb dX3_takes_42 rfl (lv_at hl 2 rfl) ?_
        refine W.eq (g2 := F0 m 43 ls [.int 0]) rfl ?_
        refine lv_if_ne (tgt := 64) hx hb dX3_takes_43 (by decide) (fun hz => absurd rfl hz) (fun _ => ?_)
        refine lv_aload_n hx hb dX3_takes_46 rfl (lv_at hl 0 rfl) ?_
        refine g_get (ci := 10) (v := .ref (mf 14)) (C := RX3) (T := TX3) (N := 28) hx hb hts in_X3 hown hK hW hyb rfl 14 (by decide) q1898 (fun _ h9 => h9) rfl dX3_takes_47 ?_
        refine lv_iload_n hx hb dX3_takes_50 rfl (lv_at hl 3 rfl) ?_
        refine g_zald (n := 272) (i := nI i) hx hb hK hW h14b (vp_in_nI hc (by decide)) dX3_takes_51 ?_
        rw [nI_clamp (by omega), ei]
        refine W.eq (g2 := F0 m 52 ls [.int (1)]) rfl ?_
        refine lv_if_eq (tgt := 68) hx hb dX3_takes_52 (by decide) (fun hz => absurd hz (by decide)) (fun _ => ?_)
        refine lv_aload_n hx hb dX3_takes_55 rfl (lv_at hl 0 rfl) ?_
        refine g_get (ci := 10) (v := .ref (mf 18)) (C := RX3) (T := TX3) (N := 28) hx hb hts in_X3 hown hK hW hyb rfl 18 (by decide) q1902 (fun _ h9 => h9) rfl dX3_takes_56 ?_
        refine lv_iload_n hx hb dX3_takes_59 rfl (lv_at hl 3 rfl) ?_
        refine g_zald (n := 272) (i := nI i) hx hb hK hW h18 (vp_in_nI hc (by decide)) dX3_takes_60 ?_
        rw [nI_clamp (by omega), gi]
        refine W.eq (g2 := F0 m 61 ls [.int (1)]) rfl ?_
        refine lv_if_ne (tgt := 68) hx hb dX3_takes_61 (by decide) (fun _ => ?_) (fun hz => absurd (by first | exact hz | exact Classical.not_not.mp hz) (by decide))
        refine lv_iconst (v := 0) hx hb dX3_takes_68 (by decide) ?_
        refine g_topi (y := (if nwE cov E (i + 1) = true then 1 else 0)) (by rw [hnw]; rfl) ?_
        refine lv_istore_n (lv' := [(2, .int ((if nwE cov E (i + 1) = true then 1 else 0))), (0, .ref y), (1, .ref sp), (3, .int (nI i))]) hx hb dX3_takes_69 rfl hl (by decide) rfl (fun ls hl => ?_)
        refine lv_aload_n hx hb dX3_takes_70 rfl (lv_at hl 1 rfl) ?_
        refine g_get (ci := 10) (v := .ref (mf 18)) (C := RX3) (T := TX3) (N := 28) hx hb hts in_X3 hown hK hW hyb rfl 18 (by decide) q1902 (fun _ h9 => h9) rfl dX3_takes_71 ?_
        refine lv_iload_n hx hb dX3_takes_74 rfl (lv_at hl 3 rfl) ?_
        refine lv_aload_n hx hb dX3_takes_75 rfl (lv_at hl 1 rfl) ?_
        refine g_get (ci := 10) (v := .ref (mf 18)) (C := RX3) (T := TX3) (N := 28) hx hb hts in_X3 hown hK hW hyb rfl 18 (by decide) q1902 (fun _ h9 => h9) rfl dX3_takes_76 ?_
        refine lv_iload_n hx hb dX3_takes_79 rfl (lv_at hl 3 rfl) ?_
        refine g_zald (n := 272) (i := nI i) hx hb hK hW h18 (vp_in_nI hc (by decide)) dX3_takes_80 ?_
        rw [nI_clamp (by omega), gi]
        refine W.eq (g2 := F0 m 81 ls [.int (1), .int (nI i), .ref (mf 18)]) rfl ?_
        refine lv_if_ne (tgt := 93) hx hb dX3_takes_81 (by decide) (fun _ => ?_) (fun hz => absurd (by first | exact hz | exact Classical.not_not.mp hz) (by decide))
        refine lv_iconst (v := 1) hx hb dX3_takes_93 (by decide) ?_
        refine lv_goto (tgt := 98) hx hb dX3_takes_94 (by decide) ?_
        refine g_zast (n := 272) (i := nI i) hx hb hK hW h18 (vp_in_nI hc (by decide)) dX3_takes_98 (fun H locs hW => ?_)
        rw [nI_clamp (by omega)] at hW
        obtain ⟨f_19, ef_19⟩ : ∃ z__, z__ = upd g i (vp_nar .boolean 1) := ⟨_, rfl⟩
        rw [← ef_19] at hW
        obtain ⟨w_20, ew_20⟩ : ∃ z__, z__ = g_put w1 (mf 18) (.inl (D.1 102, 272, .inl (f_19))) := ⟨_, rfl⟩
        have hW := g_W.ren hW ew_20 rfl
        have h_21 : g_at w_20 y (.inr (10, mO mf (cd) (cn) (en) (td) (st) (rn) (tt) (km) (fi) (nx) (fm) (th))) := by rw [ew_20]; exact hyb.put (g_neOA hyb h18)
        have h_22 : g_at w_20 (mf 14) (.inl (D.1 102, 272, .inl (fE))) := by rw [ew_20]; exact h14b.put n1418
        have h_23 : g_at w_20 (mf 18) (.inl (D.1 102, 272, .inl (f_19))) := by rw [ew_20]; exact g_at.put_self h18.1
        have x_24 : g_ex (fun q => q = mf 18) w w_20 := by rw [ew_20]; exact hex.put (fun hz9 => rfl)
        refine lv_iinc (v := nI (i + 1)) (lv' := [(3, .int (nI (i + 1))), (2, .int ((if nwE cov E (i + 1) = true then 1 else 0))), (0, .ref y), (1, .ref sp)]) hx hb dX3_takes_99 hl (k := 3) rfl (nI_1 i) (by decide) rfl (fun ls hl => ?_)
        refine lv_goto (tgt := 33) hx hb dX3_takes_102 (by decide) ?_
        exact ih (i + 1) f_19 w_20 H locs ls (by omega) (by omega) x_24 h_23 (cvI_set hg ef_19 (by rw [b2, b3]; rfl)) hW (lv_sub hl [2, 3, 1, 0] rfl)
      · rw [b1] at hl hnw
        rw [b2] at hnw ei
        rw [b3] at hnw gi
        refine lv_iload_n hx hb dX3_takes_42 rfl (lv_at hl 2 rfl) ?_
        refine W.eq (g2 := F0 m 43 ls [.int 1]) rfl ?_
        refine lv_if_ne (tgt := 64) hx hb dX3_takes_43 (by decide) (fun _ => ?_) (fun hz => absurd (by first | exact hz | exact Classical.not_not.mp hz) (by decide))
        refine lv_iconst (v := 1) hx hb dX3_takes_64 (by decide) ?_
        refine lv_goto (tgt := 69) hx hb dX3_takes_65 (by decide) ?_
        refine g_topi (y := (if nwE cov E (i + 1) = true then 1 else 0)) (by rw [hnw]; rfl) ?_
        refine lv_istore_n (lv' := [(2, .int ((if nwE cov E (i + 1) = true then 1 else 0))), (0, .ref y), (1, .ref sp), (3, .int (nI i))]) hx hb dX3_takes_69 rfl hl (by decide) rfl (fun ls hl => ?_)
        refine lv_aload_n hx hb dX3_takes_70 rfl (lv_at hl 1 rfl) ?_
        refine g_get (ci := 10) (v := .ref (mf 18)) (C := RX3) (T := TX3) (N := 28) hx hb hts in_X3 hown hK hW hyb rfl 18 (by decide) q1902 (fun _ h9 => h9) rfl dX3_takes_71 ?_
        refine lv_iload_n hx hb dX3_takes_74 rfl (lv_at hl 3 rfl) ?_
        refine lv_aload_n hx hb dX3_takes_75 rfl (lv_at hl 1 rfl) ?_
        refine g_get (ci := 10) (v := .ref (mf 18)) (C := RX3) (T := TX3) (N := 28) hx hb hts in_X3 hown hK hW hyb rfl 18 (by decide) q1902 (fun _ h9 => h9) rfl dX3_takes_76 ?_
        refine lv_iload_n hx hb dX3_takes_79 rfl (lv_at hl 3 rfl) ?_
        refine g_zald (n := 272) (i := nI i) hx hb hK hW h18 (vp_in_nI hc (by decide)) dX3_takes_80 ?_
        rw [nI_clamp (by omega), gi]
        refine W.eq (g2 := F0 m 81 ls [.int (0), .int (nI i), .ref (mf 18)]) rfl ?_
        refine lv_if_ne (tgt := 93) hx hb dX3_takes_81 (by decide) (fun hz => absurd rfl hz) (fun _ => ?_)
        refine lv_aload_n hx hb dX3_takes_84 rfl (lv_at hl 1 rfl) ?_
        refine g_get (ci := 10) (v := .ref (mf 14)) (C := RX3) (T := TX3) (N := 28) hx hb hts in_X3 hown hK hW hyb rfl 14 (by decide) q1898 (fun _ h9 => h9) rfl dX3_takes_85 ?_
        refine lv_iload_n hx hb dX3_takes_88 rfl (lv_at hl 3 rfl) ?_
        refine g_zald (n := 272) (i := nI i) hx hb hK hW h14b (vp_in_nI hc (by decide)) dX3_takes_89 ?_
        rw [nI_clamp (by omega), ei]
        refine W.eq (g2 := F0 m 90 ls [.int (0), .int (nI i), .ref (mf 18)]) rfl ?_
        refine lv_if_eq (tgt := 97) hx hb dX3_takes_90 (by decide) (fun _ => ?_) (fun hz => absurd rfl hz)
        refine lv_iconst (v := 0) hx hb dX3_takes_97 (by decide) ?_
        refine g_zast (n := 272) (i := nI i) hx hb hK hW h18 (vp_in_nI hc (by decide)) dX3_takes_98 (fun H locs hW => ?_)
        rw [nI_clamp (by omega)] at hW
        obtain ⟨f_25, ef_25⟩ : ∃ z__, z__ = upd g i (vp_nar .boolean 0) := ⟨_, rfl⟩
        rw [← ef_25] at hW
        obtain ⟨w_26, ew_26⟩ : ∃ z__, z__ = g_put w1 (mf 18) (.inl (D.1 102, 272, .inl (f_25))) := ⟨_, rfl⟩
        have hW := g_W.ren hW ew_26 rfl
        have h_27 : g_at w_26 y (.inr (10, mO mf (cd) (cn) (en) (td) (st) (rn) (tt) (km) (fi) (nx) (fm) (th))) := by rw [ew_26]; exact hyb.put (g_neOA hyb h18)
        have h_28 : g_at w_26 (mf 14) (.inl (D.1 102, 272, .inl (fE))) := by rw [ew_26]; exact h14b.put n1418
        have h_29 : g_at w_26 (mf 18) (.inl (D.1 102, 272, .inl (f_25))) := by rw [ew_26]; exact g_at.put_self h18.1
        have x_30 : g_ex (fun q => q = mf 18) w w_26 := by rw [ew_26]; exact hex.put (fun hz9 => rfl)
        refine lv_iinc (v := nI (i + 1)) (lv' := [(3, .int (nI (i + 1))), (2, .int ((if nwE cov E (i + 1) = true then 1 else 0))), (0, .ref y), (1, .ref sp)]) hx hb dX3_takes_99 hl (k := 3) rfl (nI_1 i) (by decide) rfl (fun ls hl => ?_)
        refine lv_goto (tgt := 33) hx hb dX3_takes_102 (by decide) ?_
        exact ih (i + 1) f_25 w_26 H locs ls (by omega) (by omega) x_30 h_29 (cvI_set hg ef_25 (by rw [b2, b3]; rfl)) hW (lv_sub hl [2, 3, 1, 0] rfl)
      · rw [b1] at hl hnw
        rw [b2] at hnw ei
        rw [b3] at hnw gi
        refine lv_iload_n hx hb dX3_takes_42 rfl (lv_at hl 2 rfl) ?_
        refine W.eq (g2 := F0 m 43 ls [.int 1]) rfl ?_
        refine lv_if_ne (tgt := 64) hx hb dX3_takes_43 (by decide) (fun _ => ?_) (fun hz => absurd (by first | exact hz | exact Classical.not_not.mp hz) (by decide))
        refine lv_iconst (v := 1) hx hb dX3_takes_64 (by decide) ?_
        refine lv_goto (tgt := 69) hx hb dX3_takes_65 (by decide) ?_
        refine g_topi (y := (if nwE cov E (i + 1) = true then 1 else 0)) (by rw [hnw]; rfl) ?_
        refine lv_istore_n (lv' := [(2, .int ((if nwE cov E (i + 1) = true then 1 else 0))), (0, .ref y), (1, .ref sp), (3, .int (nI i))]) hx hb dX3_takes_69 rfl hl (by decide) rfl (fun ls hl => ?_)
        refine lv_aload_n hx hb dX3_takes_70 rfl (lv_at hl 1 rfl) ?_
        refine g_get (ci := 10) (v := .ref (mf 18)) (C := RX3) (T := TX3) (N := 28) hx hb hts in_X3 hown hK hW hyb rfl 18 (by decide) q1902 (fun _ h9 => h9) rfl dX3_takes_71 ?_
        refine lv_iload_n hx hb dX3_takes_74 rfl (lv_at hl 3 rfl) ?_
        refine lv_aload_n hx hb dX3_takes_75 rfl (lv_at hl 1 rfl) ?_
        refine g_get (ci := 10) (v := .ref (mf 18)) (C := RX3) (T := TX3) (N := 28) hx hb hts in_X3 hown hK hW hyb rfl 18 (by decide) q1902 (fun _ h9 => h9) rfl dX3_takes_76 ?_
        refine lv_iload_n hx hb dX3_takes_79 rfl (lv_at hl 3 rfl) ?_
        refine g_zald (n := 272) (i := nI i) hx hb hK hW h18 (vp_in_nI hc (by decide)) dX3_takes_80 ?_
        rw [nI_clamp (by omega), gi]
        refine W.eq (g2 := F0 m 81 ls [.int (1), .int (nI i), .ref (mf 18)]) rfl ?_
        refine lv_if_ne (tgt := 93) hx hb dX3_takes_81 (by decide) (fun _ => ?_) (fun hz => absurd (by first | exact hz | exact Classical.not_not.mp hz) (by decide))
        refine lv_iconst (v := 1) hx hb dX3_takes_93 (by decide) ?_
        refine lv_goto (tgt := 98) hx hb dX3_takes_94 (by decide) ?_
        refine g_zast (n := 272) (i := nI i) hx hb hK hW h18 (vp_in_nI hc (by decide)) dX3_takes_98 (fun H locs hW => ?_)
        rw [nI_clamp (by omega)] at hW
        obtain ⟨f_31, ef_31⟩ : ∃ z__, z__ = upd g i (vp_nar .boolean 1) := ⟨_, rfl⟩
        rw [← ef_31] at hW
        obtain ⟨w_32, ew_32⟩ : ∃ z__, z__ = g_put w1 (mf 18) (.inl (D.1 102, 272, .inl (f_31))) := ⟨_, rfl⟩
        have hW := g_W.ren hW ew_32 rfl
        have h_33 : g_at w_32 y (.inr (10, mO mf (cd) (cn) (en) (td) (st) (rn) (tt) (km) (fi) (nx) (fm) (th))) := by rw [ew_32]; exact hyb.put (g_neOA hyb h18)
        have h_34 : g_at w_32 (mf 14) (.inl (D.1 102, 272, .inl (fE))) := by rw [ew_32]; exact h14b.put n1418
        have h_35 : g_at w_32 (mf 18) (.inl (D.1 102, 272, .inl (f_31))) := by rw [ew_32]; exact g_at.put_self h18.1
        have x_36 : g_ex (fun q => q = mf 18) w w_32 := by rw [ew_32]; exact hex.put (fun hz9 => rfl)
        refine lv_iinc (v := nI (i + 1)) (lv' := [(3, .int (nI (i + 1))), (2, .int ((if nwE cov E (i + 1) = true then 1 else 0))), (0, .ref y), (1, .ref sp)]) hx hb dX3_takes_99 hl (k := 3) rfl (nI_1 i) (by decide) rfl (fun ls hl => ?_)
        refine lv_goto (tgt := 33) hx hb dX3_takes_102 (by decide) ?_
        exact ih (i + 1) f_31 w_32 H locs ls (by omega) (by omega) x_36 h_35 (cvI_set hg ef_31 (by rw [b2, b3]; rfl)) hW (lv_sub hl [2, 3, 1, 0] rfl)
      · rw [b1] at hl hnw
        rw [b2] at hnw ei
        rw [b3] at hnw gi
        refine lv_iload_n hx hb dX3_takes_42 rfl (lv_at hl 2 rfl) ?_
        refine W.eq (g2 := F0 m 43 ls [.int 1]) rfl ?_
        refine lv_if_ne (tgt := 64) hx hb dX3_takes_43 (by decide) (fun _ => ?_) (fun hz => absurd (by first | exact hz | exact Classical.not_not.mp hz) (by decide))
        refine lv_iconst (v := 1) hx hb dX3_takes_64 (by decide) ?_
        refine lv_goto (tgt := 69) hx hb dX3_takes_65 (by decide) ?_
        refine g_topi (y := (if nwE cov E (i + 1) = true then 1 else 0)) (by rw [hnw]; rfl) ?_
        refine lv_istore_n (lv' := [(2, .int ((if nwE cov E (i + 1) = true then 1 else 0))), (0, .ref y), (1, .ref sp), (3, .int (nI i))]) hx hb dX3_takes_69 rfl hl (by decide) rfl (fun ls hl => ?_)
        refine lv_aload_n hx hb dX3_takes_70 rfl (lv_at hl 1 rfl) ?_
        refine g_get (ci := 10) (v := .ref (mf 18)) (C := RX3) (T := TX3) (N := 28) hx hb hts in_X3 hown hK hW hyb rfl 18 (by decide) q1902 (fun _ h9 => h9) rfl dX3_takes_71 ?_
        refine lv_iload_n hx hb dX3_takes_74 rfl (lv_at hl 3 rfl) ?_
        refine lv_aload_n hx hb dX3_takes_75 rfl (lv_at hl 1 rfl) ?_
        refine g_get (ci := 10) (v := .ref (mf 18)) (C := RX3) (T := TX3) (N := 28) hx hb hts in_X3 hown hK hW hyb rfl 18 (by decide) q1902 (fun _ h9 => h9) rfl dX3_takes_76 ?_
        refine lv_iload_n hx hb dX3_takes_79 rfl (lv_at hl 3 rfl) ?_
        refine g_zald (n := 272) (i := nI i) hx hb hK hW h18 (vp_in_nI hc (by decide)) dX3_takes_80 ?_
        rw [nI_clamp (by omega), gi]
        refine W.eq (g2 := F0 m 81 ls [.int (0), .int (nI i), .ref (mf 18)]) rfl ?_
        refine lv_if_ne (tgt := 93) hx hb dX3_takes_81 (by decide) (fun hz => absurd rfl hz) (fun _ => ?_)
        refine lv_aload_n hx hb dX3_takes_84 rfl (lv_at hl 1 rfl) ?_
        refine g_get (ci := 10) (v := .ref (mf 14)) (C := RX3) (T := TX3) (N := 28) hx hb hts in_X3 hown hK hW hyb rfl 14 (by decide) q1898 (fun _ h9 => h9) rfl dX3_takes_85 ?_
        refine lv_iload_n hx hb dX3_takes_88 rfl (lv_at hl 3 rfl) ?_
        refine g_zald (n := 272) (i := nI i) hx hb hK hW h14b (vp_in_nI hc (by decide)) dX3_takes_89 ?_
        rw [nI_clamp (by omega), ei]
        refine W.eq (g2 := F0 m 90 ls [.int (1), .int (nI i), .ref (mf 18)]) rfl ?_
        refine lv_if_eq (tgt := 97) hx hb dX3_takes_90 (by decide) (fun hz => absurd hz (by decide)) (fun _ => ?_)
        refine lv_iconst (v := 1) hx hb dX3_takes_93 (by decide) ?_
        refine lv_goto (tgt := 98) hx hb dX3_takes_94 (by decide) ?_
        refine g_zast (n := 272) (i := nI i) hx hb hK hW h18 (vp_in_nI hc (by decide)) dX3_takes_98 (fun H locs hW => ?_)
        rw [nI_clamp (by omega)] at hW
        obtain ⟨f_37, ef_37⟩ : ∃ z__, z__ = upd g i (vp_nar .boolean 1) := ⟨_, rfl⟩
        rw [← ef_37] at hW
        obtain ⟨w_38, ew_38⟩ : ∃ z__, z__ = g_put w1 (mf 18) (.inl (D.1 102, 272, .inl (f_37))) := ⟨_, rfl⟩
        have hW := g_W.ren hW ew_38 rfl
        have h_39 : g_at w_38 y (.inr (10, mO mf (cd) (cn) (en) (td) (st) (rn) (tt) (km) (fi) (nx) (fm) (th))) := by rw [ew_38]; exact hyb.put (g_neOA hyb h18)
        have h_40 : g_at w_38 (mf 14) (.inl (D.1 102, 272, .inl (fE))) := by rw [ew_38]; exact h14b.put n1418
        have h_41 : g_at w_38 (mf 18) (.inl (D.1 102, 272, .inl (f_37))) := by rw [ew_38]; exact g_at.put_self h18.1
        have x_42 : g_ex (fun q => q = mf 18) w w_38 := by rw [ew_38]; exact hex.put (fun hz9 => rfl)
        refine lv_iinc (v := nI (i + 1)) (lv' := [(3, .int (nI (i + 1))), (2, .int ((if nwE cov E (i + 1) = true then 1 else 0))), (0, .ref y), (1, .ref sp)]) hx hb dX3_takes_99 hl (k := 3) rfl (nI_1 i) (by decide) rfl (fun ls hl => ?_)
        refine lv_goto (tgt := 33) hx hb dX3_takes_102 (by decide) ?_
        exact ih (i + 1) f_37 w_38 H locs ls (by omega) (by omega) x_42 h_41 (cvI_set hg ef_37 (by rw [b2, b3]; rfl)) hW (lv_sub hl [2, 3, 1, 0] rfl)
      · rw [b1] at hl hnw
        rw [b2] at hnw ei
        rw [b3] at hnw gi
        refine lv_iload_n hx hb dX3_takes_42 rfl (lv_at hl 2 rfl) ?_
        refine W.eq (g2 := F0 m 43 ls [.int 1]) rfl ?_
        refine lv_if_ne (tgt := 64) hx hb dX3_takes_43 (by decide) (fun _ => ?_) (fun hz => absurd (by first | exact hz | exact Classical.not_not.mp hz) (by decide))
        refine lv_iconst (v := 1) hx hb dX3_takes_64 (by decide) ?_
        refine lv_goto (tgt := 69) hx hb dX3_takes_65 (by decide) ?_
        refine g_topi (y := (if nwE cov E (i + 1) = true then 1 else 0)) (by rw [hnw]; rfl) ?_
        refine lv_istore_n (lv' := [(2, .int ((if nwE cov E (i + 1) = true then 1 else 0))), (0, .ref y), (1, .ref sp), (3, .int (nI i))]) hx hb dX3_takes_69 rfl hl (by decide) rfl (fun ls hl => ?_)
        refine lv_aload_n hx hb dX3_takes_70 rfl (lv_at hl 1 rfl) ?_
        refine g_get (ci := 10) (v := .ref (mf 18)) (C := RX3) (T := TX3) (N := 28) hx hb hts in_X3 hown hK hW hyb rfl 18 (by decide) q1902 (fun _ h9 => h9) rfl dX3_takes_71 ?_
        refine lv_iload_n hx hb dX3_takes_74 rfl (lv_at hl 3 rfl) ?_
        refine lv_aload_n hx hb dX3_takes_75 rfl (lv_at hl 1 rfl) ?_
        refine g_get (ci := 10) (v := .ref (mf 18)) (C := RX3) (T := TX3) (N := 28) hx hb hts in_X3 hown hK hW hyb rfl 18 (by decide) q1902 (fun _ h9 => h9) rfl dX3_takes_76 ?_
        refine lv_iload_n hx hb dX3_takes_79 rfl (lv_at hl 3 rfl) ?_
        refine g_zald (n := 272) (i := nI i) hx hb hK hW h18 (vp_in_nI hc (by decide)) dX3_takes_80 ?_
        rw [nI_clamp (by omega), gi]
        refine W.eq (g2 := F0 m 81 ls [.int (1), .int (nI i), .ref (mf 18)]) rfl ?_
        refine lv_if_ne (tgt := 93) hx hb dX3_takes_81 (by decide) (fun _ => ?_) (fun hz => absurd (by first | exact hz | exact Classical.not_not.mp hz) (by decide))
        refine lv_iconst (v := 1) hx hb dX3_takes_93 (by decide) ?_
        refine lv_goto (tgt := 98) hx hb dX3_takes_94 (by decide) ?_
        refine g_zast (n := 272) (i := nI i) hx hb hK hW h18 (vp_in_nI hc (by decide)) dX3_takes_98 (fun H locs hW => ?_)
        rw [nI_clamp (by omega)] at hW
        obtain ⟨f_43, ef_43⟩ : ∃ z__, z__ = upd g i (vp_nar .boolean 1) := ⟨_, rfl⟩
        rw [← ef_43] at hW
        obtain ⟨w_44, ew_44⟩ : ∃ z__, z__ = g_put w1 (mf 18) (.inl (D.1 102, 272, .inl (f_43))) := ⟨_, rfl⟩
        have hW := g_W.ren hW ew_44 rfl
        have h_45 : g_at w_44 y (.inr (10, mO mf (cd) (cn) (en) (td) (st) (rn) (tt) (km) (fi) (nx) (fm) (th))) := by rw [ew_44]; exact hyb.put (g_neOA hyb h18)
        have h_46 : g_at w_44 (mf 14) (.inl (D.1 102, 272, .inl (fE))) := by rw [ew_44]; exact h14b.put n1418
        have h_47 : g_at w_44 (mf 18) (.inl (D.1 102, 272, .inl (f_43))) := by rw [ew_44]; exact g_at.put_self h18.1
        have x_48 : g_ex (fun q => q = mf 18) w w_44 := by rw [ew_44]; exact hex.put (fun hz9 => rfl)
        refine lv_iinc (v := nI (i + 1)) (lv' := [(3, .int (nI (i + 1))), (2, .int ((if nwE cov E (i + 1) = true then 1 else 0))), (0, .ref y), (1, .ref sp)]) hx hb dX3_takes_99 hl (k := 3) rfl (nI_1 i) (by decide) rfl (fun ls hl => ?_)
        refine lv_goto (tgt := 33) hx hb dX3_takes_102 (by decide) ?_
        exact ih (i + 1) f_43 w_44 H locs ls (by omega) (by omega) x_48 h_47 (cvI_set hg ef_43 (by rw [b2, b3]; rfl)) hW (lv_sub hl [2, 3, 1, 0] rfl)
set_option maxHeartbeats 4000000 in
set_option maxRecDepth 100000 in
/-- Model.finds: its loop -/
theorem lpX3_finds {p : Program} {l : Launch} {e : Env} {R : Room} {s : State} {m : MethodId} {args : Array Value} {below : List Frame} {meth : Method} {c : Code} {cells slots : Nat} {Q : State → Prop} {D : va_G} {A : Nat → Prop} (hx : p.tables.exec = Jvm.exec) (hb : c.code = cX3_finds) (hts : ∀ w ∈ lw_all, w.before args s = true) (hown : s.vm.findClass RX3 = some m.cls) (hK : va_K D gCl (gT D) s) (hE : g_Env D A s) (hml : c.maxLocals = 6) (hRf : 1 ≤ R.frames) (hRl : 12 ≤ R.locals) (hRc : cells ≤ R.cells) (hRs : slots ≤ R.slots) (y sp : Nat) (mf : Nat → Nat) (cd cn en td st rn : Int32) (tt : Int64) (km fi nx fm th : Int32) (w : g_H) (F : List yF) (c9 : Int32) (h9 : Nat → Int32) (hy : g_at w y (.inr (10, mO mf (cd) (cn) (en) (td) (st) (rn) (tt) (km) (fi) (nx) (nI F.length) (th)))) (h25 : g_at w (mf 25) (.inl (D.1 100, 16, .inl h9))) (hF : F.length ≤ 16) (hh : ∀ j, j < F.length → h9 j = (F.getD j ([], [], 0)).2.2)
    (kk : ∀ (H : Heap) (locs : List Loc) (ls : Array Slot), g_W D A s.heap H locs w → lv_has ls 6 [(0, .ref y), (1, .ref sp), (2, .int c9), (3, .int (if fnd F c9 = true then 1 else 0))] → W p l e R s m args below meth c H locs cells slots Q (F0 m 41 ls [])) :
    ∀ (k : Nat) (i : Nat) (H : Heap) (locs : List Loc) (ls : Array Slot), F.length < i + k → i ≤ F.length → g_W D A s.heap H locs w → lv_has ls 6 [(0, .ref y), (1, .ref sp), (2, .int (c9)), (3, .int ((if fnd (F.take i) c9 = true then 1 else 0))), (4, .int (nI i))] → W p l e R s m args below meth c H locs cells slots Q (F0 m 5 ls []) := by
  intro k
  induction k with
  | zero => intro i H locs ls hfuel hi hW hl; exact absurd hfuel (by omega)
  | succ k ih =>
    intro i H locs ls hfuel hi hW hl
    refine lv_iload hx hb dX3_finds_5 (lv_at hl 4 rfl) ?_
    refine lv_aload_n hx hb dX3_finds_7 rfl (lv_at hl 0 rfl) ?_
    refine g_get (ci := 10) (v := .int (nI F.length)) (C := RX3) (T := TX3) (N := 28) hx hb hts in_X3 hown hK hW hy rfl 26 (by decide) q1910 (fun _ h9 => h9) rfl dX3_finds_8 ?_
    refine g_icmp_ge (x := i) (y := F.length) (tgt := 41) hx hb (by omega) (by omega) dX3_finds_11 (by decide) (fun hc => ?_) (fun hc => ?_)
    · have e0 : i = F.length := by omega
      subst e0
      rw [List.take_length] at hl
      exact kk H locs ls hW (lv_sub hl [0, 1, 2, 3] rfl)
    · have hft := fnd_take (c := c9) hc
      refine lv_iload_n hx hb dX3_finds_14 rfl (lv_at hl 3 rfl) ?_
      by_cases hq9 : fnd (F.take i) c9 = true
      · rw [if_pos hq9]
        refine lv_if_ne (tgt := 29) hx hb dX3_finds_15 (by decide) (fun _ => ?_) (fun hz => absurd (by first | exact hz | exact Classical.not_not.mp hz) (by decide))
        refine lv_iconst (v := 1) hx hb dX3_finds_29 (by decide) ?_
        refine lv_goto (tgt := 34) hx hb dX3_finds_30 (by decide) ?_
        refine g_topi (y := (if fnd (F.take (i + 1)) c9 = true then 1 else 0)) (by rw [hft, hq9]; rfl) ?_
        refine lv_istore_n (lv' := [(3, .int ((if fnd (F.take (i + 1)) c9 = true then 1 else 0))), (0, .ref y), (1, .ref sp), (2, .int (c9)), (4, .int (nI i))]) hx hb dX3_finds_34 rfl hl (by decide) rfl (fun ls hl => ?_)
        refine lv_iinc (v := nI (i + 1)) (lv' := [(4, .int (nI (i + 1))), (3, .int ((if fnd (F.take (i + 1)) c9 = true then 1 else 0))), (0, .ref y), (1, .ref sp), (2, .int (c9))]) hx hb dX3_finds_35 hl (k := 4) rfl (nI_1 i) (by decide) rfl (fun ls hl => ?_)
        refine lv_goto (tgt := 5) hx hb dX3_finds_38 (by decide) ?_
        exact ih (i + 1) H locs ls (by omega) (by omega) hW (lv_sub hl [2, 3, 4, 1, 0] rfl)
      · rw [if_neg hq9]
        refine lv_if_ne (tgt := 29) hx hb dX3_finds_15 (by decide) (fun hz => absurd rfl hz) (fun _ => ?_)
        refine lv_aload_n hx hb dX3_finds_18 rfl (lv_at hl 0 rfl) ?_
        refine g_get (ci := 10) (v := .ref (mf 25)) (C := RX3) (T := TX3) (N := 28) hx hb hts in_X3 hown hK hW hy rfl 25 (by decide) q1909 (fun _ h9 => h9) rfl dX3_finds_19 ?_
        refine lv_iload hx hb dX3_finds_22 (lv_at hl 4 rfl) ?_
        refine g_iald (i := i) hx hb hK hW h25 (by omega) (by decide) dX3_finds_24 ?_
        refine g_topi (y := (F.getD i ([], [], 0)).2.2) (hh i hc) ?_
        refine lv_iload_n hx hb dX3_finds_25 rfl (lv_at hl 2 rfl) ?_
        refine lv_icmp_ne (tgt := 33) hx hb dX3_finds_26 (by decide) (fun hd => ?_) (fun hd => ?_)
        · refine lv_iconst (v := 0) hx hb dX3_finds_33 (by decide) ?_
          refine g_topi (y := (if fnd (F.take (i + 1)) c9 = true then 1 else 0)) (by rw [hft, Bool.eq_false_iff.mpr hq9, beq_eq_false_iff_ne.mpr hd]; rfl) ?_
          refine lv_istore_n (lv' := [(3, .int ((if fnd (F.take (i + 1)) c9 = true then 1 else 0))), (0, .ref y), (1, .ref sp), (2, .int (c9)), (4, .int (nI i))]) hx hb dX3_finds_34 rfl hl (by decide) rfl (fun ls hl => ?_)
          refine lv_iinc (v := nI (i + 1)) (lv' := [(4, .int (nI (i + 1))), (3, .int ((if fnd (F.take (i + 1)) c9 = true then 1 else 0))), (0, .ref y), (1, .ref sp), (2, .int (c9))]) hx hb dX3_finds_35 hl (k := 4) rfl (nI_1 i) (by decide) rfl (fun ls hl => ?_)
          refine lv_goto (tgt := 5) hx hb dX3_finds_38 (by decide) ?_
          exact ih (i + 1) H locs ls (by omega) (by omega) hW (lv_sub hl [2, 3, 4, 1, 0] rfl)
        · have hd1 : ((F.getD i ([], [], 0)).2.2 == c9) = true := beq_iff_eq.mpr (by first | exact hd | exact Classical.not_not.mp hd)
          refine lv_iconst (v := 1) hx hb dX3_finds_29 (by decide) ?_
          refine lv_goto (tgt := 34) hx hb dX3_finds_30 (by decide) ?_
          refine g_topi (y := (if fnd (F.take (i + 1)) c9 = true then 1 else 0)) (by rw [hft, hd1, Bool.or_true]; rfl) ?_
          refine lv_istore_n (lv' := [(3, .int ((if fnd (F.take (i + 1)) c9 = true then 1 else 0))), (0, .ref y), (1, .ref sp), (2, .int (c9)), (4, .int (nI i))]) hx hb dX3_finds_34 rfl hl (by decide) rfl (fun ls hl => ?_)
          refine lv_iinc (v := nI (i + 1)) (lv' := [(4, .int (nI (i + 1))), (3, .int ((if fnd (F.take (i + 1)) c9 = true then 1 else 0))), (0, .ref y), (1, .ref sp), (2, .int (c9))]) hx hb dX3_finds_35 hl (k := 4) rfl (nI_1 i) (by decide) rfl (fun ls hl => ?_)
          refine lv_goto (tgt := 5) hx hb dX3_finds_38 (by decide) ?_
          exact ih (i + 1) H locs ls (by omega) (by omega) hW (lv_sub hl [2, 3, 4, 1, 0] rfl)
set_option maxHeartbeats 4000000 in
set_option maxRecDepth 100000 in
/-- Model.finds -/
theorem mtX3_finds (l : Launch) (D : va_G) (w : g_H) (sz : Nat) (y : Nat) (mf : Nat → Nat) (lab : Nat → Nat) (P : List mI) (C : List yC) (A9 : Nat → List (List Nat)) (cov : Nat → Bool) (K : List (List Nat)) (fq ac : Nat) (F : List yF) (rn tt cK : Nat) (en td st : Int32) (E : Nat → Bool) (th : Int32) (hZ : g_MZ D w lab y mf P C A9 cov K fq ac F rn tt cK en td st E th) (sp : Nat) (xs : List Nat) (hst : g_Str D w sp (txt xs)) (hxs : sDg xs) (c9 : Int32) (hF15 : fnd F c9 = false → F.length < 16) : Met l yX3_finds (ws_ yX3_finds cX3_finds 6 none) ({ frames := 10, cells := 4 * zT P xs F c9, slots := 32 * zT P xs F c9, locals := 264 }) (g_Pc D [.ref y, .ref sp, .int (c9)] w sz) (g_Qv D w sz (fun u => (∃ en2 td2 st2 E2, g_MZ D u lab y mf P C A9 cov K fq ac (zF P xs F c9) rn tt cK en2 td2 st2 E2 th) ∧ zCh w lab u lab)) (4 * zT P xs F c9) (32 * zT P xs F c9) (g_A w sz) := by
  refine Met.ofW (cc := cX3_finds) (maxL := 6) (ret := none) (by decide) rfl ?_
  intro p e s m args below meth c s₁ B hml hv
  obtain ⟨rfl, hI⟩ := hv
  have hx := B.exec
  have hb := B.bytes
  have hr := B.returns
  have hts := atoms_spec (ws := ws_ yX3_finds cX3_finds 6 none) B.pre
  have hts : ∀ w ∈ lw_all, w.before _ s = true := fun w h => hts w (List.mem_cons_of_mem _ h)
  have hown : s.vm.findClass RX3 = some m.cls := findClass_of_methodNamed B.named
  have hlocks := B.notSynchronized
  have hsz := hI.1
  subst hsz
  have hW := g_W.start hI
  have hK := g_K hI
  have hE := g_E hI
  have hl := lv_entry ([.ref y, .ref sp, .int (c9)]) (n := 6) (by exact Nat.le_of_ble_eq_true rfl)
  rw [lg_entry_eq]
  generalize (lg_sl ([.ref y, .ref sp, .int (c9)]) ++ List.replicate (6 - (lg_sl ([.ref y, .ref sp, .int (c9)])).length) Slot.unset).toArray = ls at hl ⊢
  have hl : lv_has ls 6 [(0, .ref y), (1, .ref sp), (2, .int (c9))] := hl
  obtain ⟨hy, ⟨hly, hL⟩, hP, hR, -, -, -, -, ⟨f23, f24, f25, a23, a24, a25, hF16, hFj⟩, hb9⟩ := id hZ
  have hms := sMs_le hxs
  refine lv_iconst (v := 0) hx hb dX3_finds_0 (by decide) ?_
  refine lv_istore_n (lv' := [(3, .int (0)), (0, .ref y), (1, .ref sp), (2, .int (c9))]) hx hb dX3_finds_1 rfl hl (by decide) rfl (fun ls hl => ?_)
  refine lv_iconst (v := 0) hx hb dX3_finds_2 (by decide) ?_
  refine lv_istore (lv' := [(4, .int (0)), (3, .int (0)), (0, .ref y), (1, .ref sp), (2, .int (c9))]) hx hb dX3_finds_3 hl (by decide) rfl (fun ls hl => ?_)
  refine lpX3_finds (D := D) hx hb hts hown hK hE hml (Nat.le_of_ble_eq_true rfl) (Nat.le_of_ble_eq_true rfl) ?_ ?_ y sp mf (nI P.length) (nI C.length) en td st (nI rn) (lN tt) (nI K.length) (nI fq) (nI ac) (nI F.length) th w F c9 f25 hy a25 hF16 (fun j hj => (hFj j hj).2.2) (fun H locs ls hW hl => ?_) (F.length + 1) 0 _ _ ls (by omega) (Nat.zero_le _) hW (lv_sub hl [2, 3, 4, 1, 0] rfl)
  · (try simp only [headSpec]); exact Nat.zero_le _
  · (try simp only [headSpec]); exact Nat.zero_le _
  refine lv_iload_n hx hb dX3_finds_41 rfl (lv_at hl 3 rfl) ?_
  by_cases hq9 : fnd F c9 = true
  · rw [if_pos hq9]
    refine lv_if_eq (tgt := 46) hx hb dX3_finds_42 (by decide) (fun hz => absurd hz (by decide)) (fun _ => ?_)
    have ez : zF P xs F c9 = F := if_pos hq9
    exact g_vret hx hb hr hlocks hW (⟨⟨en, td, st, E, by rw [ez]; exact hZ⟩, zCh.rf⟩) (Nat.zero_le _) (Nat.zero_le _) dX3_finds_45
  · rw [if_neg hq9]
    refine lv_if_eq (tgt := 46) hx hb dX3_finds_42 (by decide) (fun _ => ?_) (fun hz => absurd rfl hz)
    have ezF : zF P xs F c9 = F ++ [(txt xs, txt (mShr P c9 (sMs xs + 1) xs).1, c9)] := if_neg hq9
    have ezT : zT P xs F c9 = (mShr P c9 (sMs xs + 1) xs).2 := if_neg hq9
    have hF9 := hF15 (Bool.eq_false_iff.mpr hq9)
    rw [ezT]
    refine lv_aload_n hx hb dX3_finds_46 rfl (lv_at hl 0 rfl) ?_
    refine g_get (ci := 10) (v := .int (nI F.length)) (C := RX3) (T := TX3) (N := 28) hx hb hts in_X3 hown hK hW hy rfl 26 (by decide) q1910 (fun _ h9 => h9) rfl dX3_finds_47 ?_
    refine lv_aload_n hx hb dX3_finds_50 rfl (lv_at hl 0 rfl) ?_
    refine g_get (ci := 10) (v := .ref (mf 25)) (C := RX3) (T := TX3) (N := 28) hx hb hts in_X3 hown hK hW hy rfl 25 (by decide) q1909 (fun _ h9 => h9) rfl dX3_finds_51 ?_
    refine g_alen hx hb hK hW 0 a25 rfl dX3_finds_54 ?_
    refine lv_icmp_ne (tgt := 126) hx hb dX3_finds_55 (by decide) (fun _ => ?_) (fun hz => absurd (nI_inj (a := F.length) (b := 16) (by omega) (by decide) (by first | exact hz | exact Classical.not_not.mp hz)) (by omega))
    have hx0 : g_ex (fun q => q = y ∨ q = mf 14 ∨ q = mf 15 ∨ q = mf 23 ∨ q = mf 24 ∨ q = mf 25) w w := g_ex.rf
    refine lv_aload_n hx hb dX3_finds_126 rfl (lv_at hl 0 rfl) ?_
    refine g_get (ci := 10) (v := .ref (mf 23)) (C := RX3) (T := TX3) (N := 28) hx hb hts in_X3 hown hK hW hy rfl 23 (by decide) q1907 (fun _ h9 => h9) rfl dX3_finds_127 ?_
    refine lv_aload_n hx hb dX3_finds_130 rfl (lv_at hl 0 rfl) ?_
    refine g_get (ci := 10) (v := .int (nI F.length)) (C := RX3) (T := TX3) (N := 28) hx hb hts in_X3 hown hK hW hy rfl 26 (by decide) q1910 (fun _ h9 => h9) rfl dX3_finds_131 ?_
    refine lv_aload_n hx hb dX3_finds_134 rfl (lv_at hl 1 rfl) ?_
    refine g_astSt (n := 16) (i := F.length) (y := sp) hx hb hK hE hW a23 hst.ob hF9 (by decide) dX3_finds_135 (fun H locs hW => ?_)
    obtain ⟨f_1, ef_1⟩ : ∃ z__, z__ = va_up f23 F.length (some sp) := ⟨_, rfl⟩
    rw [← ef_1] at hW
    obtain ⟨w_2, ew_2⟩ : ∃ z__, z__ = g_put w (mf 23) (.inl (D.1 105, 16, .inr (.inr (.inr (.inr (f_1)))))) := ⟨_, rfl⟩
    have hW := g_W.ren hW ew_2 rfl
    have h_3 : g_at w_2 y (.inr (10, mO mf (nI P.length) (nI C.length) (en) (td) (st) (nI rn) (lN tt) (nI K.length) (nI fq) (nI ac) (nI F.length) (th))) := by rw [ew_2]; exact hy.put (g_neOA hy a23)
    have h_4 : g_at w_2 (mf 23) (.inl (D.1 105, 16, .inr (.inr (.inr (.inr (f_1)))))) := by rw [ew_2]; exact g_at.put_self a23.1
    have h_5 : g_at w_2 (mf 24) (.inl (D.1 105, 16, .inr (.inr (.inr (.inr (f24)))))) := by rw [ew_2]; exact a24.put (g_lne (hL 24 (by decide)) (hL 23 (by decide)) (by decide))
    have h_6 : g_at w_2 (mf 25) (.inl (D.1 100, 16, .inl (f25))) := by rw [ew_2]; exact a25.put (g_lne (hL 25 (by decide)) (hL 23 (by decide)) (by decide))
    have x_7 : g_ex (fun q => q = y ∨ q = mf 14 ∨ q = mf 15 ∨ q = mf 23 ∨ q = mf 24 ∨ q = mf 25) w w_2 := by rw [ew_2]; exact hx0.put (fun hz9 => (Or.inr (Or.inr (Or.inr (Or.inl rfl)))))
    refine lv_aload_n hx hb dX3_finds_136 rfl (lv_at hl 0 rfl) ?_
    refine g_get (ci := 10) (v := .ref (mf 25)) (C := RX3) (T := TX3) (N := 28) hx hb hts in_X3 hown hK hW h_3 rfl 25 (by decide) q1909 (fun _ h9 => h9) rfl dX3_finds_137 ?_
    refine lv_aload_n hx hb dX3_finds_140 rfl (lv_at hl 0 rfl) ?_
    refine g_get (ci := 10) (v := .int (nI F.length)) (C := RX3) (T := TX3) (N := 28) hx hb hts in_X3 hown hK hW h_3 rfl 26 (by decide) q1910 (fun _ h9 => h9) rfl dX3_finds_141 ?_
    refine lv_iload_n hx hb dX3_finds_144 rfl (lv_at hl 2 rfl) ?_
    refine g_iast (i := F.length) hx hb hK hW h_6 (hF9) (by decide) dX3_finds_145 (fun H locs hW => ?_)
    obtain ⟨f_8, ef_8⟩ : ∃ z__, z__ = upd (f25) (F.length) (c9) := ⟨_, rfl⟩
    rw [← ef_8] at hW
    obtain ⟨w_9, ew_9⟩ : ∃ z__, z__ = g_put w_2 (mf 25) (.inl (D.1 100, 16, .inl (f_8))) := ⟨_, rfl⟩
    have hW := g_W.ren hW ew_9 rfl
    have h_10 : g_at w_9 y (.inr (10, mO mf (nI P.length) (nI C.length) (en) (td) (st) (nI rn) (lN tt) (nI K.length) (nI fq) (nI ac) (nI F.length) (th))) := by rw [ew_9]; exact h_3.put (g_neOA h_3 h_6)
    have h_11 : g_at w_9 (mf 23) (.inl (D.1 105, 16, .inr (.inr (.inr (.inr (f_1)))))) := by rw [ew_9]; exact h_4.put (g_lne (hL 23 (by decide)) (hL 25 (by decide)) (by decide))
    have h_12 : g_at w_9 (mf 24) (.inl (D.1 105, 16, .inr (.inr (.inr (.inr (f24)))))) := by rw [ew_9]; exact h_5.put (g_lne (hL 24 (by decide)) (hL 25 (by decide)) (by decide))
    have h_13 : g_at w_9 (mf 25) (.inl (D.1 100, 16, .inl (f_8))) := by rw [ew_9]; exact g_at.put_self h_6.1
    have x_14 : g_ex (fun q => q = y ∨ q = mf 14 ∨ q = mf 15 ∨ q = mf 23 ∨ q = mf 24 ∨ q = mf 25) w w_9 := by rw [ew_9]; exact x_7.put (fun hz9 => (Or.inr (Or.inr (Or.inr (Or.inr (Or.inr (rfl)))))))
    refine lv_aload_n hx hb dX3_finds_146 rfl (lv_at hl 0 rfl) ?_
    refine g_get (ci := 10) (v := .ref (mf 24)) (C := RX3) (T := TX3) (N := 28) hx hb hts in_X3 hown hK hW h_10 rfl 24 (by decide) q1908 (fun _ h9 => h9) rfl dX3_finds_147 ?_
    refine lv_aload_n hx hb dX3_finds_150 rfl (lv_at hl 0 rfl) ?_
    refine g_get (ci := 10) (v := .int (nI F.length)) (C := RX3) (T := TX3) (N := 28) hx hb hts in_X3 hown hK hW h_10 rfl 26 (by decide) q1910 (fun _ h9 => h9) rfl dX3_finds_151 ?_
    refine lv_aload_n hx hb dX3_finds_154 rfl (lv_at hl 0 rfl) ?_
    refine lv_aload_n hx hb dX3_finds_155 rfl (lv_at hl 1 rfl) ?_
    refine lv_iload_n hx hb dX3_finds_156 rfl (lv_at hl 2 rfl) ?_
    have hn01 : ∀ k, k ∈ mKs → k ≠ 23 → k ≠ 25 → ¬ (mf k = mf 23 ∨ mf k = mf 25) := fun k hk k1 k2 z => z.elim (g_lne (hL k hk) (hL 23 (by decide)) (by omega)) (g_lne (hL k hk) (hL 25 (by decide)) (by omega))
    have hxn : g_ex (fun q => q = mf 23 ∨ q = mf 25) w w_9 := by rw [ew_9]; exact (by rw [ew_2]; exact (g_ex.rf (M := fun q => q = mf 23 ∨ q = mf 25) (w := w)).put (fun _ => Or.inl rfl) : g_ex (fun q => q = mf 23 ∨ q = mf 25) w w_2).put (fun _ => Or.inr rfl)
    have hP1 := hP.ex hxn (fun k hk => hn01 k (by simp only [List.mem_cons, List.not_mem_nil, or_false] at hk; rcases hk with rfl | rfl | rfl | rfl <;> decide) (by simp only [List.mem_cons, List.not_mem_nil, or_false] at hk; omega) (by simp only [List.mem_cons, List.not_mem_nil, or_false] at hk; omega))
    have hR1 := hR.ex hxn (hn01 14 (by decide) (by decide) (by decide)) (hn01 15 (by decide) (by decide) (by decide))
    have hmu1 : g_mut D w (fun q => q = mf 23 ∨ q = mf 25) := (g_mut.arr a23 (g_neA hK (i := 5) (j := 1) rfl rfl (fun z => by cases z))).or (g_mut.arr a25 (g_neA hK (i := 0) (j := 1) rfl rfl (fun z => by cases z)))
    have hst1 := hmu1.str hst hxn
    refine g_callq (va_runV (As := [.ref sp, .int (c9)]) (rest := [.int (nI F.length), .ref (mf 24)]) ⟨hx, hb, hml, hown, hts⟩ (mtX3_shrinks l D w_9 H.size y mf lab hL hly (nI C.length) (nI rn) (lN tt) (nI K.length) (nI fq) (nI ac) (nI F.length) th P en td st E h_10 hP1 hR1 sp xs hst1 hxs c9) (cwV 2 hts (lw_V q2061 q2063 qs29 q47 q2064) rfl rfl rfl (by decide +kernel) ⟨Nat.le_of_ble_eq_true rfl, Nat.le_of_ble_eq_true rfl⟩) (g_preV hW hK hE h_10 rfl) rfl rfl hl.1 rfl (lv_room (Nat.le_of_ble_eq_true rfl)) dX3_finds_157 ⟨?_, ?_⟩) hW (fun r_ u1 H locs hp hW => ?_)
    · (try simp only [headSpec]); omega
    · (try simp only [headSpec]); omega
    obtain ⟨⟨s9, er, hs9⟩, ⟨en2, td2, st2, E2, hy2, hR2⟩, hx2⟩ := hp
    subst er
    have hnR : ∀ k, k ∈ mKs → k ≠ 14 → k ≠ 15 → ¬ (mf k = y ∨ mf k = mf 14 ∨ mf k = mf 15) := fun k hk k1 k2 z => by
      have e9 := hL k hk
      rcases z with z | z | z
      · rw [z, hly] at e9; omega
      · exact g_lne e9 (hL 14 (by decide)) (by omega) z
      · exact g_lne e9 (hL 15 (by decide)) (by omega) z
    have h23u := hx2.at h_11 (hnR 23 (by decide) (by decide) (by decide))
    have h24u := hx2.at h_12 (hnR 24 (by decide) (by decide) (by decide))
    have h25u := hx2.at h_13 (hnR 25 (by decide) (by decide) (by decide))
    have hx3 : g_ex (fun q => q = y ∨ q = mf 14 ∨ q = mf 15 ∨ q = mf 23 ∨ q = mf 24 ∨ q = mf 25) w u1 := x_14.tr (hx2.mono (fun _ _ z => z.elim Or.inl (fun z => Or.inr (z.elim Or.inl (fun z => Or.inr (Or.inl z))))))
    refine g_astSt (n := 16) (i := F.length) (y := s9) hx hb hK hE hW h24u hs9.ob hF9 (by decide) dX3_finds_160 (fun H locs hW => ?_)
    obtain ⟨f_15, ef_15⟩ : ∃ z__, z__ = va_up f24 F.length (some s9) := ⟨_, rfl⟩
    rw [← ef_15] at hW
    obtain ⟨w_16, ew_16⟩ : ∃ z__, z__ = g_put u1 (mf 24) (.inl (D.1 105, 16, .inr (.inr (.inr (.inr (f_15)))))) := ⟨_, rfl⟩
    have hW := g_W.ren hW ew_16 rfl
    have h_17 : g_at w_16 y (.inr (10, mO mf (nI P.length) (nI C.length) (en2) (td2) (st2) (nI rn) (lN tt) (nI K.length) (nI fq) (nI ac) (nI F.length) (th))) := by rw [ew_16]; exact hy2.put (g_neOA hy2 h24u)
    have h_18 : g_at w_16 (mf 23) (.inl (D.1 105, 16, .inr (.inr (.inr (.inr (f_1)))))) := by rw [ew_16]; exact h23u.put (g_lne (hL 23 (by decide)) (hL 24 (by decide)) (by decide))
    have h_19 : g_at w_16 (mf 24) (.inl (D.1 105, 16, .inr (.inr (.inr (.inr (f_15)))))) := by rw [ew_16]; exact g_at.put_self h24u.1
    have h_20 : g_at w_16 (mf 25) (.inl (D.1 100, 16, .inl (f_8))) := by rw [ew_16]; exact h25u.put (g_lne (hL 25 (by decide)) (hL 24 (by decide)) (by decide))
    have x_21 : g_ex (fun q => q = y ∨ q = mf 14 ∨ q = mf 15 ∨ q = mf 23 ∨ q = mf 24 ∨ q = mf 25) w w_16 := by rw [ew_16]; exact hx3.put (fun hz9 => (Or.inr (Or.inr (Or.inr (Or.inr (Or.inl rfl))))))
    refine lv_aload_n hx hb dX3_finds_161 rfl (lv_at hl 0 rfl) ?_
    refine lv_dup hx hb dX3_finds_162 rfl ?_
    refine g_get (ci := 10) (v := .int (nI F.length)) (C := RX3) (T := TX3) (N := 28) hx hb hts in_X3 hown hK hW h_17 rfl 26 (by decide) q1910 (fun _ h9 => h9) rfl dX3_finds_163 ?_
    refine lv_iconst (v := 1) hx hb dX3_finds_166 (by decide) ?_
    refine lv_iadd hx hb dX3_finds_167 ?_
    refine g_topi (y := nI (F.length + 1)) (nI_1 _) ?_
    refine g_putf (ci := 10) (v := .int (nI (F.length + 1))) (ty := .int) (C := RX3) (T := TX3) (N := 28) hx hb hts in_X3 tyX3 tyX3_ok nmX3 hown hK hW h_17 rfl 26 (by decide) q1910 (fun _ h9 => h9) rfl (by decide +kernel) rfl rfl (Nat.le_of_ble_eq_true rfl) dX3_finds_168 (fun H locs hW => ?_)
    obtain ⟨w_22, ew_22⟩ : ∃ z__, z__ = g_put w_16 y (.inr (10, mO mf (nI P.length) (nI C.length) (en2) (td2) (st2) (nI rn) (lN tt) (nI K.length) (nI fq) (nI ac) (nI (F.length + 1)) (th))) := ⟨_, rfl⟩
    have hW := g_W.ren hW ew_22 rfl
    have h_23 : g_at w_22 y (.inr (10, mO mf (nI P.length) (nI C.length) (en2) (td2) (st2) (nI rn) (lN tt) (nI K.length) (nI fq) (nI ac) (nI (F.length + 1)) (th))) := by rw [ew_22]; exact g_at.put_self h_17.1
    have h_24 : g_at w_22 (mf 23) (.inl (D.1 105, 16, .inr (.inr (.inr (.inr (f_1)))))) := by rw [ew_22]; exact h_18.put (g_neAO h_18 h_17)
    have h_25 : g_at w_22 (mf 24) (.inl (D.1 105, 16, .inr (.inr (.inr (.inr (f_15)))))) := by rw [ew_22]; exact h_19.put (g_neAO h_19 h_17)
    have h_26 : g_at w_22 (mf 25) (.inl (D.1 100, 16, .inl (f_8))) := by rw [ew_22]; exact h_20.put (g_neAO h_20 h_17)
    have x_27 : g_ex (fun q => q = y ∨ q = mf 14 ∨ q = mf 15 ∨ q = mf 23 ∨ q = mf 24 ∨ q = mf 25) w w_22 := by rw [ew_22]; exact x_21.put (fun hz9 => (Or.inl rfl))
    have hmuF : g_mut D w (fun q => q = y ∨ q = mf 14 ∨ q = mf 15 ∨ q = mf 23 ∨ q = mf 24 ∨ q = mf 25) := (g_mut.obj hy).or (let ⟨_, _, r14, _, r15⟩ := hR; (g_mut.arr r14 (g_neA hK (i := 2) (j := 1) rfl rfl (fun z => by cases z))).or ((g_mut.arr r15 (g_neA hK (i := 0) (j := 1) rfl rfl (fun z => by cases z))).or ((g_mut.arr a23 (g_neA hK (i := 5) (j := 1) rfl rfl (fun z => by cases z))).or ((g_mut.arr a24 (g_neA hK (i := 5) (j := 1) rfl rfl (fun z => by cases z))).or (g_mut.arr a25 (g_neA hK (i := 0) (j := 1) rfl rfl (fun z => by cases z)))))))
    have hT : ∀ z, z ∈ w.1 → (fun q => q = y ∨ q = mf 14 ∨ q = mf 15 ∨ q = mf 23 ∨ q = mf 24 ∨ q = mf 25) z → (lab z = 20 ∨ lab z = 35 ∨ lab z = 36 ∨ lab z = 44 ∨ lab z = 45 ∨ lab z = 46) := fun z _ hz => by
      rcases hz with hz | hz | hz | hz | hz | hz <;> rw [hz]
      · exact Or.inl hly
      · have := hL 14 (by decide); omega
      · have := hL 15 (by decide); omega
      · have := hL 23 (by decide); omega
      · have := hL 24 (by decide); omega
      · have := hL 25 (by decide); omega
    obtain ⟨-, -, q1, -, q3, q4, q5, q6, -, -⟩ := hZ.parts (lab' := lab) x_27 hmuF (fun _ _ => rfl) (fun n => n = 20 ∨ n = 35 ∨ n = 36 ∨ n = 44 ∨ n = 45 ∨ n = 46) hT
    have hRF := hR2.ex (M := fun q => q = mf 24 ∨ q = y) (w' := w_22) (by rw [ew_22]; exact (show g_ex (fun q => q = mf 24 ∨ q = y) u1 w_16 by rw [ew_16]; exact g_ex.rf.put (fun _ => Or.inl rfl)).put (fun _ => Or.inr rfl)) (fun z => z.elim (g_lne (hL 14 (by decide)) (hL 24 (by decide)) (by decide)) (fun z => by have e9 := hL 14 (by decide); rw [z, hly] at e9; omega)) (fun z => z.elim (g_lne (hL 15 (by decide)) (hL 24 (by decide)) (by decide)) (fun z => by have e9 := hL 15 (by decide); rw [z, hly] at e9; omega))
    have hlen : (F ++ [(txt xs, txt (mShr P c9 (sMs xs + 1) xs).1, c9)]).length = F.length + 1 := by rw [List.length_append]; rfl
    have hsp9 := hmuF.str hst x_27
    have hs99 : g_Str D w_22 s9 (txt (mShr P c9 (sMs xs + 1) xs).1) := ((g_mut.obj hy2).or (g_mut.arr h24u (g_neA hK (i := 5) (j := 1) rfl rfl (fun z => by cases z)))).str hs9 (by rw [ew_22]; exact (show g_ex (fun q => q = y ∨ q = mf 24) u1 w_16 by rw [ew_16]; exact g_ex.rf.put (fun _ => Or.inr rfl)).put (fun _ => Or.inl rfl))
    have hFF : mFi D w_22 mf (F ++ [(txt xs, txt (mShr P c9 (sMs xs + 1) xs).1, c9)]) := ⟨f_1, f_15, f_8, h_24, h_25, h_26, by rw [hlen]; omega, fun j hj => by
      rw [hlen] at hj
      by_cases ej : j = F.length
      · subst ej
        have eg : (F ++ [(txt xs, txt (mShr P c9 (sMs xs + 1) xs).1, c9)]).getD F.length ([], [], 0) = (txt xs, txt (mShr P c9 (sMs xs + 1) xs).1, c9) := by rw [List.getD_eq_getElem?_getD, List.getElem?_append_right (Nat.le_refl _), Nat.sub_self]; rfl
        rw [eg]
        exact ⟨⟨sp, by rw [ef_1]; exact va_up_self _ _ _, hsp9⟩, ⟨s9, by rw [ef_15]; exact va_up_self _ _ _, hs99⟩, by rw [ef_8]; exact if_pos rfl⟩
      · have eg : (F ++ [(txt xs, txt (mShr P c9 (sMs xs + 1) xs).1, c9)]).getD j ([], [], 0) = F.getD j ([], [], 0) := by rw [List.getD_eq_getElem?_getD, List.getElem?_append_left (by omega), List.getD_eq_getElem?_getD]
        rw [eg]
        obtain ⟨⟨t1, k1, k2⟩, ⟨t2, k3, k4⟩, k5⟩ := hFj j (by omega)
        exact ⟨⟨t1, by rw [ef_1, va_up_ne _ _ ej]; exact k1, hmuF.str k2 x_27⟩, ⟨t2, by rw [ef_15, va_up_ne _ _ ej]; exact k3, hmuF.str k4 x_27⟩, by rw [ef_8]; exact (if_neg ej).trans k5⟩⟩
    have hyF := h_23
    rw [← hlen] at hyF
    exact g_vret hx hb hr hlocks hW (⟨⟨en2, td2, st2, E2, by rw [ezF]; exact ⟨hyF, ⟨hly, hL⟩, q1 (by decide), hRF, q3 (by decide), q4 (by decide), q5 (by decide), q6 (by decide), hFF, hb9⟩⟩, zCh.of x_27 (fun z hz hq => by have := hT z hz hq; unfold mM; omega)⟩) (by omega) (by omega) dX3_finds_171
