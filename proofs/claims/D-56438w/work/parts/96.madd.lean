/-! the model: changed, addChange *
-/
set_option maxRecDepth 100000
theorem i2l_in {a lo hi : Int32} {l h : Int64} (e1 : l = lo.toInt64) (e2 : h = hi.toInt64) : (l ≤ a.toInt64 ∧ a.toInt64 ≤ h) ↔ (lo ≤ a ∧ a ≤ hi) := by rw [e1, e2, i2l_le, i2l_le]
theorem up_self {f : Nat → Int32} {i : Nat} {v : Int32} : upd f i v i = v := if_pos rfl
theorem up_ne {f : Nat → Int32} {i j : Nat} {v : Int32} (h : j ≠ i) : upd f i v j = f j := if_neg h
theorem kEd_n {p9 d9 : Int32} (h : kEd p9 d9) : ∃ p d, p9 = nI p ∧ d9 = nI d ∧ p < 8 ∧ d < 8 ∧ p9.toNatClampNeg = p ∧ d9.toNatClampNeg = d := by
  obtain ⟨⟨h1, h2⟩, h3, h4⟩ := h
  obtain ⟨p, hp, rfl⟩ := nI_of (Int32.not_lt.mpr h1)
  obtain ⟨d, hd, rfl⟩ := nI_of (Int32.not_lt.mpr h3)
  have q1 : p ≤ 7 := Nat.le_of_not_lt (fun z => Int32.not_le.mpr ((nI_ltI (a := 7) (by decide) hp).mpr z) h2)
  have q2 : d ≤ 7 := Nat.le_of_not_lt (fun z => Int32.not_le.mpr ((nI_ltI (a := 7) (by decide) hd).mpr z) h4)
  exact ⟨p, d, rfl, rfl, by omega, by omega, nI_clamp hp, nI_clamp hd⟩
theorem getD_app {α : Type} {xs : List α} {z d : α} : (xs ++ [z]).getD xs.length d = z := by rw [List.getD_eq_getElem?_getD, List.getElem?_append_right (Nat.le_refl _), Nat.sub_self]; rfl
theorem getD_apl {α : Type} {xs : List α} {z d : α} {j : Nat} (h : j < xs.length) : (xs ++ [z]).getD j d = xs.getD j d := by rw [List.getD_eq_getElem?_getD, List.getElem?_append_left h, List.getD_eq_getElem?_getD]
section MZ4
variable {D : va_G} {w w' : g_H} {lab : Nat → Nat} {y fq ac rn tt cK : Nat} {mf : Nat → Nat} {P : List mI} {C : List yC} {A : Nat → List (List Nat)} {cov : Nat → Bool} {K : List (List Nat)} {F : List yF} {en td st th : Int32} {E : Nat → Bool}
theorem g_MZ.addC {s : State} (hK : va_K D gCl (gT D) s) {k p d : Nat} {f5 f6 f7 g5 g6 g7 : Nat → Int32} (h : g_MZ D w lab y mf P C A cov K fq ac F rn tt cK en td st E th) (e5 : g_at w (mf 5) (.inl (D.1 100, 8, .inl f5))) (e6 : g_at w (mf 6) (.inl (D.1 100, 8, .inl f6))) (e7 : g_at w (mf 7) (.inl (D.1 100, 8, .inl f7))) (hC : ∀ j, j < C.length → (f5 j = nI (C.getD j (0, 0, 0)).1 ∧ f6 j = nI (C.getD j (0, 0, 0)).2.1 ∧ f7 j = nI (C.getD j (0, 0, 0)).2.2) ∧ (C.getD j (0, 0, 0)).1 < 4 ∧ (C.getD j (0, 0, 0)).2.1 < 8 ∧ (C.getD j (0, 0, 0)).2.2 < 8) (h8 : C.length < 8) (hk : k < 4) (hp : p < 8) (hd : d < 8) (hy : g_at w' y (.inr (10, mO mf (nI P.length) (nI (C.length + 1)) en td st (nI rn) (lN tt) (nI K.length) (nI fq) (nI ac) (nI F.length) 0))) (q : g_ex (fun q => q = y ∨ q = mf 5 ∨ q = mf 6 ∨ q = mf 7) w w') (h5 : g_at w' (mf 5) (.inl (D.1 100, 8, .inl g5))) (h6 : g_at w' (mf 6) (.inl (D.1 100, 8, .inl g6))) (h7 : g_at w' (mf 7) (.inl (D.1 100, 8, .inl g7))) (u5 : g5 = upd f5 C.length (nI k)) (u6 : g6 = upd f6 C.length (nI p)) (u7 : g7 = upd f7 C.length (nI d)) : g_MZ D w' lab y mf P (C ++ [(k, p, d)]) A cov K fq ac F rn tt cK en td st E 0 ∧ zCh w lab w' lab := by
  have n5 : D.1 100 ≠ D.1 101 := g_neA hK (i := 0) (j := 1) rfl rfl (fun z => by cases z)
  have hlen : (C ++ [(k, p, d)]).length = C.length + 1 := by rw [List.length_append]; rfl
  obtain ⟨-, hL, r1, r2, -, r4, r5, r6, r7, hb⟩ := h.parts (lab' := lab) q ((g_mut.obj h.1).or ((g_mut.arr e5 n5).or ((g_mut.arr e6 n5).or (g_mut.arr e7 n5)))) (fun _ _ => rfl) (fun n => n = 20 ∨ n = 26 ∨ n = 27 ∨ n = 28) (fun z _ hz => by
    rcases hz with hz | hz | hz | hz
    · rw [hz]; exact Or.inl h.2.1.1
    · rw [hz]; exact Or.inr (Or.inl (h.2.1.2 5 (by decide)))
    · rw [hz]; exact Or.inr (Or.inr (Or.inl (h.2.1.2 6 (by decide))))
    · rw [hz]; exact Or.inr (Or.inr (Or.inr (h.2.1.2 7 (by decide)))))
  refine ⟨⟨by rw [hlen]; exact hy, hL, r1 (by decide), r2 (by decide), ⟨g5, g6, g7, h5, h6, h7, by rw [hlen]; omega, fun j hj => ?_⟩, r4 (by decide), r5 (by decide), r6 (by decide), r7 (by decide), hb.1, hb.2.1, hb.2.2.1, hb.2.2.2.1, by rw [hlen]; omega⟩, zCh.of q (fun z _ hz => by
    unfold mM
    rcases hz with hz | hz | hz | hz
    · rw [hz, h.2.1.1]; omega
    · rw [hz, h.2.1.2 5 (by decide)]; omega
    · rw [hz, h.2.1.2 6 (by decide)]; omega
    · rw [hz, h.2.1.2 7 (by decide)]; omega)⟩
  rw [hlen] at hj
  by_cases e : j = C.length
  · subst e
    rw [getD_app, u5, u6, u7, up_self, up_self, up_self]
    exact ⟨⟨rfl, rfl, rfl⟩, hk, hp, hd⟩
  · rw [getD_apl (by omega), u5, u6, u7, up_ne e, up_ne e, up_ne e]
    exact hC j (by omega)
end MZ4
set_option maxHeartbeats 4000000 in
set_option maxRecDepth 100000 in
/-- Model.changed -/
theorem mtX3_changed (l : Launch) (D : va_G) (w : g_H) (sz : Nat) (y : Nat) (mf : Nat → Nat) (lab : Nat → Nat) (P : List mI) (C : List yC) (A9 : Nat → List (List Nat)) (cov : Nat → Bool) (K : List (List Nat)) (fq ac : Nat) (F : List yF) (rn tt cK : Nat) (en td st : Int32) (E : Nat → Bool) (th : Int32) (hZ : g_MZ D w lab y mf P C A9 cov K fq ac F rn tt cK en td st E th) (k9 : Nat) (p9 d9 : Int32) (hk9 : k9 < 4) (sp : Nat) (t : List Nat) (hst : g_Str D w sp t) : Met l yX3_changed (ws_ yX3_changed cX3_changed 6 (some (.object "java/lang/String"))) ({ frames := 9, cells := 8, slots := 70, locals := 239 }) (g_Pc D [.ref y, .ref (D.2 1004 k9), .int (p9), .int (d9), .ref sp] w sz) (g_Qq D w sz (fun r u => ∃ s9 th2 lab2, r = some s9 ∧ g_MZ D u lab2 y mf P C A9 cov K fq ac F rn tt cK en td st E th2 ∧ zCh w lab u lab2 ∧ (((kEd p9 d9 ∧ isIn t) ∧ eFits k9 p9.toNatClampNeg d9.toNatClampNeg (digs t) = true ∧ th2 = 0 ∧ g_Str D u s9 (txt (eAct k9 p9.toNatClampNeg d9.toNatClampNeg (digs t)))) ∨ ((kEd p9 d9 ∧ isIn t) ∧ ¬ eFits k9 p9.toNatClampNeg d9.toNatClampNeg (digs t) = true ∧ th2 = 2) ∨ (¬ (kEd p9 d9 ∧ isIn t) ∧ th2 = 1)))) (8) (70) (g_A w sz) := by
  refine Met.ofW (cc := cX3_changed) (maxL := 6) (ret := (some (.object "java/lang/String"))) (by decide) rfl ?_
  intro p e s m args below meth c s₁ B hml hv
  obtain ⟨rfl, hI⟩ := hv
  have hx := B.exec
  have hb := B.bytes
  have hr := B.returns
  have hts := atoms_spec (ws := ws_ yX3_changed cX3_changed 6 (some (.object "java/lang/String"))) B.pre
  have hts : ∀ w ∈ lw_all, w.before _ s = true := fun w h => hts w (List.mem_cons_of_mem _ h)
  have hown : s.vm.findClass RX3 = some m.cls := findClass_of_methodNamed B.named
  have hlocks := B.notSynchronized
  have hsz := hI.1
  subst hsz
  have hW := g_W.start hI
  have hK := g_K hI
  have hE := g_E hI
  have hl := lv_entry ([.ref y, .ref (D.2 1004 k9), .int (p9), .int (d9), .ref sp]) (n := 6) (by exact Nat.le_of_ble_eq_true rfl)
  rw [lg_entry_eq]
  generalize (lg_sl ([.ref y, .ref (D.2 1004 k9), .int (p9), .int (d9), .ref sp]) ++ List.replicate (6 - (lg_sl ([.ref y, .ref (D.2 1004 k9), .int (p9), .int (d9), .ref sp])).length) Slot.unset).toArray = ls at hl ⊢
  have hl : lv_has ls 6 [(0, .ref y), (1, .ref (D.2 1004 k9)), (2, .int (p9)), (3, .int (d9)), (4, .ref sp)] := hl
  obtain ⟨hy, ⟨hly, hL⟩, hP, hR, hC0, hA0, hV0, hK0, hF0, hb9⟩ := id hZ
  have x_1 : g_ex (fun q => q = y) w w := g_ex.rf
  refine lv_iload_n hx hb dX3_changed_0 rfl (lv_at hl 2 rfl) ?_
  refine lv_i2l (v := (p9 : Int32).toInt64) hx hb dX3_changed_1 rfl ?_
  refine lv_lconst (v := 0) hx hb dX3_changed_2 rfl ?_
  refine lv_ldc2 hx hb hown (hts _ q1995) dX3_changed_3 ?_
  refine g_calli (va_runS (As := [.long ((p9 : Int32).toInt64), .long (0), .long (7)]) (rest := []) ⟨hx, hb, hml, hown, hts⟩ (mtX3_in l D w s.heap.size (p9 : Int32).toInt64 (0) (7)) (va_cwS 3 hts (lw_S q1980 q1981 q47 q1982) rfl rfl rfl (by decide +kernel) ⟨Nat.le_of_ble_eq_true rfl, Nat.le_of_ble_eq_true rfl⟩) (g_preS hW hK hE) rfl rfl hl.1 rfl (lv_room (Nat.le_of_ble_eq_true rfl)) dX3_changed_6 ⟨Nat.le_of_ble_eq_true rfl, Nat.le_of_ble_eq_true rfl⟩) hW (fun r_ u_ H locs hp hW => ?_)
  obtain ⟨er, rfl⟩ := hp
  subst er
  by_cases hq9 : (0 : Int64) ≤ (p9 : Int32).toInt64 ∧ (p9 : Int32).toInt64 ≤ 7
  · rw [if_pos hq9]
    refine lv_if_eq (tgt := 36) hx hb dX3_changed_9 (by decide) (fun hz => absurd hz (by decide)) (fun _ => ?_)
    have hin : (0 : Int32) ≤ p9 ∧ p9 ≤ 7 := (i2l_in rfl rfl).mp hq9
    clear hq9
    have hp9 := hin
    clear hin
    refine lv_iload_n hx hb dX3_changed_12 rfl (lv_at hl 3 rfl) ?_
    refine lv_i2l (v := (d9 : Int32).toInt64) hx hb dX3_changed_13 rfl ?_
    refine lv_lconst (v := 0) hx hb dX3_changed_14 rfl ?_
    refine lv_ldc2 hx hb hown (hts _ q1995) dX3_changed_15 ?_
    refine g_calli (va_runS (As := [.long ((d9 : Int32).toInt64), .long (0), .long (7)]) (rest := []) ⟨hx, hb, hml, hown, hts⟩ (mtX3_in l D w H.size (d9 : Int32).toInt64 (0) (7)) (va_cwS 3 hts (lw_S q1980 q1981 q47 q1982) rfl rfl rfl (by decide +kernel) ⟨Nat.le_of_ble_eq_true rfl, Nat.le_of_ble_eq_true rfl⟩) (g_preS hW hK hE) rfl rfl hl.1 rfl (lv_room (Nat.le_of_ble_eq_true rfl)) dX3_changed_18 ⟨Nat.le_of_ble_eq_true rfl, Nat.le_of_ble_eq_true rfl⟩) hW (fun r_ u_ H locs hp hW => ?_)
    obtain ⟨er, rfl⟩ := hp
    subst er
    by_cases hq9 : (0 : Int64) ≤ (d9 : Int32).toInt64 ∧ (d9 : Int32).toInt64 ≤ 7
    · rw [if_pos hq9]
      refine lv_if_eq (tgt := 36) hx hb dX3_changed_21 (by decide) (fun hz => absurd hz (by decide)) (fun _ => ?_)
      have hin : (0 : Int32) ≤ d9 ∧ d9 ≤ 7 := (i2l_in rfl rfl).mp hq9
      clear hq9
      have hke : kEd p9 d9 := ⟨hp9, hin⟩
      refine lv_aload hx hb dX3_changed_24 (lv_at hl 4 rfl) ?_
      refine g_calli (va_runS (As := [.ref sp]) (rest := []) ⟨hx, hb, hml, hown, hts⟩ (mtX3_isInput l D w H.size sp t hst) (va_cwS 1 hts (lw_S q2030 q2031 q47 q2032) rfl rfl rfl (by decide +kernel) ⟨Nat.le_of_ble_eq_true rfl, Nat.le_of_ble_eq_true rfl⟩) (g_preS hW hK hE) rfl rfl hl.1 rfl (lv_room (Nat.le_of_ble_eq_true rfl)) dX3_changed_26 ⟨Nat.le_of_ble_eq_true rfl, Nat.le_of_ble_eq_true rfl⟩) hW (fun r_ u_ H locs hp hW => ?_)
      obtain ⟨er, rfl⟩ := hp
      subst er
      by_cases hq9 : inB t = true
      · rw [if_pos hq9]
        refine lv_if_eq (tgt := 36) hx hb dX3_changed_29 (by decide) (fun hz => absurd hz (by decide)) (fun _ => ?_)
        have hI := inB_iff.mp hq9
        clear hq9
        obtain ⟨pl, dg, rfl, rfl, hpl, hdg, ep, ed⟩ := kEd_n hke
        rw [ep, ed]
        have hst2 : g_Str D w sp (txt (digs t)) := by rw [txt_digs hI.2]; exact hst
        refine lv_iconst (v := 1) hx hb dX3_changed_32 (by decide) ?_
        refine lv_goto (tgt := 37) hx hb dX3_changed_33 (by decide) ?_
        refine lv_istore (lv' := [(5, .int (1)), (0, .ref y), (1, .ref (D.2 1004 k9)), (2, .int (nI pl)), (3, .int (nI dg)), (4, .ref sp)]) hx hb dX3_changed_37 hl (by decide) rfl (fun ls hl => ?_)
        refine lv_aload_n hx hb dX3_changed_39 rfl (lv_at hl 1 rfl) ?_
        refine lv_iload hx hb dX3_changed_40 (lv_at hl 0 rfl) ?_
        refine lv_if_ne (tgt := 49) hx hb dX3_changed_42 (by decide) (fun _ => ?_) (fun hz => absurd (by first | exact hz | exact Classical.not_not.mp hz) (by decide))
        refine lv_aload_n hx hb dX3_changed_49 rfl (lv_at hl 2 rfl) ?_
        refine g_calli (va_runU (As := []) (rest := [.ref y]) ⟨hx, hb, hml, hown, hts⟩ (mtJ10_ordinal l D w H.size (D.2 1004 k9) (nI k9) (fun s hE => g_chg hk9 s hE)) (va_cwU (owner := "java/lang/Enum") (x := ⟨"Change", "ordinal", "()I"⟩) 0 hts (lw_app (lw_in _ [1996, 675, 677, 678, 50] (by decide +kernel) (by decide +kernel)) (lw_meth q679)) rfl rfl rfl rfl (by decide +kernel) ⟨Nat.le_of_ble_eq_true rfl, Nat.le_of_ble_eq_true rfl⟩) (g_preVR hW hK hE (g_chgO hE hW hk9)) rfl rfl hl.1 rfl (lv_room (Nat.le_of_ble_eq_true rfl)) dX3_changed_50 ⟨Nat.le_of_ble_eq_true rfl, Nat.le_of_ble_eq_true rfl⟩) hW (fun r_ u_ H locs hp hW => ?_)
        obtain ⟨er, rfl⟩ := hp
        subst er
        refine lv_iload_n hx hb dX3_changed_53 rfl (lv_at hl 3 rfl) ?_
        refine lv_iload_n hx hb dX3_changed_54 rfl (lv_at hl 4 rfl) ?_
        refine lv_aload hx hb dX3_changed_55 (lv_at hl 5 rfl) ?_
        refine g_calli (va_runS (As := [.int (nI k9), .int (nI pl), .int (nI dg), .ref sp]) (rest := [.ref y]) ⟨hx, hb, hml, hown, hts⟩ (mtX3_applies l D w H.size k9 pl dg sp (digs t) hk9 hpl hdg hst2 (isIn_sDg hI)) (va_cwS 4 hts (lw_S q2091 q2092 q47 q2093) rfl rfl rfl (by decide +kernel) ⟨Nat.le_of_ble_eq_true rfl, Nat.le_of_ble_eq_true rfl⟩) (g_preS hW hK hE) rfl rfl hl.1 rfl (lv_room (Nat.le_of_ble_eq_true rfl)) dX3_changed_57 ⟨Nat.le_of_ble_eq_true rfl, Nat.le_of_ble_eq_true rfl⟩) hW (fun r_ u_ H locs hp hW => ?_)
        obtain ⟨er, rfl⟩ := hp
        subst er
        by_cases hq9 : eFits k9 pl dg (digs t) = true
        · rw [if_pos hq9]
          refine lv_if_ne (tgt := 67) hx hb dX3_changed_60 (by decide) (fun _ => ?_) (fun hz => absurd (by first | exact hz | exact Classical.not_not.mp hz) (by decide))
          refine lv_iconst (v := 0) hx hb dX3_changed_67 (by decide) ?_
          refine g_putf (ci := 10) (v := .int (0)) (ty := .int) (C := RX3) (T := TX3) (N := 28) hx hb hts in_X3 tyX3 tyX3_ok nmX3 hown hK hW hy rfl 27 (by decide) q1911 (fun _ h9 => h9) rfl (by decide +kernel) rfl rfl (Nat.le_of_ble_eq_true rfl) dX3_changed_68 (fun H locs hW => ?_)
          obtain ⟨w_2, ew_2⟩ : ∃ z__, z__ = g_put w y (.inr (10, mO mf (nI P.length) (nI C.length) (en) (td) (st) (nI rn) (lN tt) (nI K.length) (nI fq) (nI ac) (nI F.length) (0))) := ⟨_, rfl⟩
          have hW := g_W.ren hW ew_2 rfl
          have h_3 : g_at w_2 y (.inr (10, mO mf (nI P.length) (nI C.length) (en) (td) (st) (nI rn) (lN tt) (nI K.length) (nI fq) (nI ac) (nI F.length) (0))) := by rw [ew_2]; exact g_at.put_self hy.1
          have x_4 : g_ex (fun q => q = y) w w_2 := by rw [ew_2]; exact x_1.put (fun hz9 => rfl)
          have hZ1 := hZ.obj (rn2 := rn) (tt2 := tt) (fq2 := fq) (ac2 := ac) h_3 x_4 hb9.2.1 hb9.2.2.1 hb9.2.2.2.1 hb9.2.2.2.2
          have hz1 := hZ.zobj x_4
          have hst3 := (g_mut.obj hy).str hst2 x_4
          refine lv_aload_n hx hb dX3_changed_71 rfl (lv_at hl 1 rfl) ?_
          refine g_get (ci := 10) (v := .int (0)) (C := RX3) (T := TX3) (N := 28) hx hb hts in_X3 hown hK hW h_3 rfl 27 (by decide) q1911 (fun _ h9 => h9) rfl dX3_changed_72 ?_
          refine lv_if_ne (tgt := 92) hx hb dX3_changed_75 (by decide) (fun hz => absurd rfl hz) (fun _ => ?_)
          refine lv_aload_n hx hb dX3_changed_78 rfl (lv_at hl 2 rfl) ?_
          refine g_calli (va_runU (As := []) (rest := []) ⟨hx, hb, hml, hown, hts⟩ (mtJ10_ordinal l D w_2 H.size (D.2 1004 k9) (nI k9) (fun s hE => g_chg hk9 s hE)) (va_cwU (owner := "java/lang/Enum") (x := ⟨"Change", "ordinal", "()I"⟩) 0 hts (lw_app (lw_in _ [1996, 675, 677, 678, 50] (by decide +kernel) (by decide +kernel)) (lw_meth q679)) rfl rfl rfl rfl (by decide +kernel) ⟨Nat.le_of_ble_eq_true rfl, Nat.le_of_ble_eq_true rfl⟩) (g_preVR hW hK hE (g_chgO hE hW hk9)) rfl rfl hl.1 rfl (lv_room (Nat.le_of_ble_eq_true rfl)) dX3_changed_79 ⟨Nat.le_of_ble_eq_true rfl, Nat.le_of_ble_eq_true rfl⟩) hW (fun r_ u_ H locs hp hW => ?_)
          obtain ⟨er, rfl⟩ := hp
          subst er
          refine lv_iload_n hx hb dX3_changed_82 rfl (lv_at hl 3 rfl) ?_
          refine lv_iload_n hx hb dX3_changed_83 rfl (lv_at hl 4 rfl) ?_
          refine lv_aload hx hb dX3_changed_84 (lv_at hl 5 rfl) ?_
          have haC : aC k9 ≤ 8 := by unfold aC; split <;> omega
          refine g_callq (va_runS (As := [.int (nI k9), .int (nI pl), .int (nI dg), .ref sp]) (rest := []) ⟨hx, hb, hml, hown, hts⟩ (mtX3_applied l D w_2 H.size k9 pl dg sp (digs t) hk9 hpl hdg hst3 (isIn_sDg hI) hq9) (va_cwS 4 hts (lw_S q2097 q2098 q47 q2099) rfl rfl rfl (by decide +kernel) ⟨Nat.le_of_ble_eq_true rfl, Nat.le_of_ble_eq_true rfl⟩) (g_preS hW hK hE) rfl rfl hl.1 rfl (lv_room (Nat.le_of_ble_eq_true rfl)) dX3_changed_86 ⟨?_, ?_⟩) hW (fun r_ u1 H locs hp hW => ?_)
          · (try simp only [headSpec]); omega
          · (try simp only [headSpec]); omega
          obtain ⟨s9, er, fs9, hs9, hx9⟩ := hp
          subst er
          refine lv_goto (tgt := 94) hx hb dX3_changed_89 (by decide) ?_
          have hZ2 := hZ1.keep (lab' := lab) hx9 g_mut.non (fun _ _ => rfl) (fun _ _ z => z.elim)
          exact g_qret (v := some s9) hx hb hr (Or.inl ⟨_, rfl⟩) hlocks hW (⟨s9, 0, lab, rfl, hZ2, hz1.tr (zCh.of hx9 (fun _ _ z => z.elim)), Or.inl ⟨⟨hke, hI⟩, hq9, rfl, hs9⟩⟩) (by omega) (by omega) dX3_changed_94
        · rw [if_neg hq9]
          refine lv_if_ne (tgt := 67) hx hb dX3_changed_60 (by decide) (fun hz => absurd rfl hz) (fun _ => ?_)
          refine lv_iconst (v := 2) hx hb dX3_changed_63 (by decide) ?_
          refine lv_goto (tgt := 68) hx hb dX3_changed_64 (by decide) ?_
          refine g_putf (ci := 10) (v := .int (2)) (ty := .int) (C := RX3) (T := TX3) (N := 28) hx hb hts in_X3 tyX3 tyX3_ok nmX3 hown hK hW hy rfl 27 (by decide) q1911 (fun _ h9 => h9) rfl (by decide +kernel) rfl rfl (Nat.le_of_ble_eq_true rfl) dX3_changed_68 (fun H locs hW => ?_)
          obtain ⟨w_5, ew_5⟩ : ∃ z__, z__ = g_put w y (.inr (10, mO mf (nI P.length) (nI C.length) (en) (td) (st) (nI rn) (lN tt) (nI K.length) (nI fq) (nI ac) (nI F.length) (2))) := ⟨_, rfl⟩
          have hW := g_W.ren hW ew_5 rfl
          have h_6 : g_at w_5 y (.inr (10, mO mf (nI P.length) (nI C.length) (en) (td) (st) (nI rn) (lN tt) (nI K.length) (nI fq) (nI ac) (nI F.length) (2))) := by rw [ew_5]; exact g_at.put_self hy.1
          have x_7 : g_ex (fun q => q = y) w w_5 := by rw [ew_5]; exact x_1.put (fun hz9 => rfl)
          have hZ1 := hZ.obj (rn2 := rn) (tt2 := tt) (fq2 := fq) (ac2 := ac) h_6 x_7 hb9.2.1 hb9.2.2.1 hb9.2.2.2.1 hb9.2.2.2.2
          have hz1 := hZ.zobj x_7
          refine lv_aload_n hx hb dX3_changed_71 rfl (lv_at hl 1 rfl) ?_
          refine g_get (ci := 10) (v := .int (2)) (C := RX3) (T := TX3) (N := 28) hx hb hts in_X3 hown hK hW h_6 rfl 27 (by decide) q1911 (fun _ h9 => h9) rfl dX3_changed_72 ?_
          refine lv_if_ne (tgt := 92) hx hb dX3_changed_75 (by decide) (fun _ => ?_) (fun hz => absurd (by first | exact hz | exact Classical.not_not.mp hz) (by decide))
          refine va_ldcS hx hb hown (rs_16 hE) dX3_changed_92 ?_
          exact g_qret (v := some (D.2 1000 0)) hx hb hr (Or.inl ⟨_, rfl⟩) hlocks hW (⟨_, 2, lab, rfl, hZ1, hz1, Or.inr (Or.inl ⟨⟨hke, hI⟩, hq9, rfl⟩)⟩) (by omega) (by omega) dX3_changed_94
      · rw [if_neg hq9]
        refine lv_if_eq (tgt := 36) hx hb dX3_changed_29 (by decide) (fun _ => ?_) (fun hz => absurd rfl hz)
        have hc : ¬ (kEd p9 d9 ∧ isIn t) := fun z => hq9 (inB_iff.mpr z.2)
        refine lv_iconst (v := 0) hx hb dX3_changed_36 (by decide) ?_
        refine lv_istore (lv' := [(5, .int (0)), (0, .ref y), (1, .ref (D.2 1004 k9)), (2, .int (p9)), (3, .int (d9)), (4, .ref sp)]) hx hb dX3_changed_37 hl (by decide) rfl (fun ls hl => ?_)
        refine lv_aload_n hx hb dX3_changed_39 rfl (lv_at hl 1 rfl) ?_
        refine lv_iload hx hb dX3_changed_40 (lv_at hl 0 rfl) ?_
        refine lv_if_ne (tgt := 49) hx hb dX3_changed_42 (by decide) (fun hz => absurd rfl hz) (fun _ => ?_)
        refine lv_iconst (v := 1) hx hb dX3_changed_45 (by decide) ?_
        refine lv_goto (tgt := 68) hx hb dX3_changed_46 (by decide) ?_
        refine g_putf (ci := 10) (v := .int (1)) (ty := .int) (C := RX3) (T := TX3) (N := 28) hx hb hts in_X3 tyX3 tyX3_ok nmX3 hown hK hW hy rfl 27 (by decide) q1911 (fun _ h9 => h9) rfl (by decide +kernel) rfl rfl (Nat.le_of_ble_eq_true rfl) dX3_changed_68 (fun H locs hW => ?_)
        obtain ⟨w_8, ew_8⟩ : ∃ z__, z__ = g_put w y (.inr (10, mO mf (nI P.length) (nI C.length) (en) (td) (st) (nI rn) (lN tt) (nI K.length) (nI fq) (nI ac) (nI F.length) (1))) := ⟨_, rfl⟩
        have hW := g_W.ren hW ew_8 rfl
        have h_9 : g_at w_8 y (.inr (10, mO mf (nI P.length) (nI C.length) (en) (td) (st) (nI rn) (lN tt) (nI K.length) (nI fq) (nI ac) (nI F.length) (1))) := by rw [ew_8]; exact g_at.put_self hy.1
        have x_10 : g_ex (fun q => q = y) w w_8 := by rw [ew_8]; exact x_1.put (fun hz9 => rfl)
        have hZ1 := hZ.obj (rn2 := rn) (tt2 := tt) (fq2 := fq) (ac2 := ac) h_9 x_10 hb9.2.1 hb9.2.2.1 hb9.2.2.2.1 hb9.2.2.2.2
        have hz1 := hZ.zobj x_10
        refine lv_aload_n hx hb dX3_changed_71 rfl (lv_at hl 1 rfl) ?_
        refine g_get (ci := 10) (v := .int (1)) (C := RX3) (T := TX3) (N := 28) hx hb hts in_X3 hown hK hW h_9 rfl 27 (by decide) q1911 (fun _ h9 => h9) rfl dX3_changed_72 ?_
        refine lv_if_ne (tgt := 92) hx hb dX3_changed_75 (by decide) (fun _ => ?_) (fun hz => absurd (by first | exact hz | exact Classical.not_not.mp hz) (by decide))
        refine va_ldcS hx hb hown (rs_16 hE) dX3_changed_92 ?_
        exact g_qret (v := some (D.2 1000 0)) hx hb hr (Or.inl ⟨_, rfl⟩) hlocks hW (⟨_, 1, lab, rfl, hZ1, hz1, Or.inr (Or.inr ⟨hc, rfl⟩)⟩) (by omega) (by omega) dX3_changed_94
    · rw [if_neg hq9]
      refine lv_if_eq (tgt := 36) hx hb dX3_changed_21 (by decide) (fun _ => ?_) (fun hz => absurd rfl hz)
      have hin : ¬ ((0 : Int32) ≤ d9 ∧ d9 ≤ 7) := fun z => hq9 ((i2l_in rfl rfl).mpr z)
      clear hq9
      have hc : ¬ (kEd p9 d9 ∧ isIn t) := fun z => hin z.1.2
      refine lv_iconst (v := 0) hx hb dX3_changed_36 (by decide) ?_
      refine lv_istore (lv' := [(5, .int (0)), (0, .ref y), (1, .ref (D.2 1004 k9)), (2, .int (p9)), (3, .int (d9)), (4, .ref sp)]) hx hb dX3_changed_37 hl (by decide) rfl (fun ls hl => ?_)
      refine lv_aload_n hx hb dX3_changed_39 rfl (lv_at hl 1 rfl) ?_
      refine lv_iload hx hb dX3_changed_40 (lv_at hl 0 rfl) ?_
      refine lv_if_ne (tgt := 49) hx hb dX3_changed_42 (by decide) (fun hz => absurd rfl hz) (fun _ => ?_)
      refine lv_iconst (v := 1) hx hb dX3_changed_45 (by decide) ?_
      refine lv_goto (tgt := 68) hx hb dX3_changed_46 (by decide) ?_
      refine g_putf (ci := 10) (v := .int (1)) (ty := .int) (C := RX3) (T := TX3) (N := 28) hx hb hts in_X3 tyX3 tyX3_ok nmX3 hown hK hW hy rfl 27 (by decide) q1911 (fun _ h9 => h9) rfl (by decide +kernel) rfl rfl (Nat.le_of_ble_eq_true rfl) dX3_changed_68 (fun H locs hW => ?_)
      obtain ⟨w_11, ew_11⟩ : ∃ z__, z__ = g_put w y (.inr (10, mO mf (nI P.length) (nI C.length) (en) (td) (st) (nI rn) (lN tt) (nI K.length) (nI fq) (nI ac) (nI F.length) (1))) := ⟨_, rfl⟩
      have hW := g_W.ren hW ew_11 rfl
      have h_12 : g_at w_11 y (.inr (10, mO mf (nI P.length) (nI C.length) (en) (td) (st) (nI rn) (lN tt) (nI K.length) (nI fq) (nI ac) (nI F.length) (1))) := by rw [ew_11]; exact g_at.put_self hy.1
      have x_13 : g_ex (fun q => q = y) w w_11 := by rw [ew_11]; exact x_1.put (fun hz9 => rfl)
      have hZ1 := hZ.obj (rn2 := rn) (tt2 := tt) (fq2 := fq) (ac2 := ac) h_12 x_13 hb9.2.1 hb9.2.2.1 hb9.2.2.2.1 hb9.2.2.2.2
      have hz1 := hZ.zobj x_13
      refine lv_aload_n hx hb dX3_changed_71 rfl (lv_at hl 1 rfl) ?_
      refine g_get (ci := 10) (v := .int (1)) (C := RX3) (T := TX3) (N := 28) hx hb hts in_X3 hown hK hW h_12 rfl 27 (by decide) q1911 (fun _ h9 => h9) rfl dX3_changed_72 ?_
      refine lv_if_ne (tgt := 92) hx hb dX3_changed_75 (by decide) (fun _ => ?_) (fun hz => absurd (by first | exact hz | exact Classical.not_not.mp hz) (by decide))
      refine va_ldcS hx hb hown (rs_16 hE) dX3_changed_92 ?_
      exact g_qret (v := some (D.2 1000 0)) hx hb hr (Or.inl ⟨_, rfl⟩) hlocks hW (⟨_, 1, lab, rfl, hZ1, hz1, Or.inr (Or.inr ⟨hc, rfl⟩)⟩) (by omega) (by omega) dX3_changed_94
  · rw [if_neg hq9]
    refine lv_if_eq (tgt := 36) hx hb dX3_changed_9 (by decide) (fun _ => ?_) (fun hz => absurd rfl hz)
    have hin : ¬ ((0 : Int32) ≤ p9 ∧ p9 ≤ 7) := fun z => hq9 ((i2l_in rfl rfl).mpr z)
    clear hq9
    have hc : ¬ (kEd p9 d9 ∧ isIn t) := fun z => hin z.1.1
    refine lv_iconst (v := 0) hx hb dX3_changed_36 (by decide) ?_
    refine lv_istore (lv' := [(5, .int (0)), (0, .ref y), (1, .ref (D.2 1004 k9)), (2, .int (p9)), (3, .int (d9)), (4, .ref sp)]) hx hb dX3_changed_37 hl (by decide) rfl (fun ls hl => ?_)
    refine lv_aload_n hx hb dX3_changed_39 rfl (lv_at hl 1 rfl) ?_
    refine lv_iload hx hb dX3_changed_40 (lv_at hl 0 rfl) ?_
    refine lv_if_ne (tgt := 49) hx hb dX3_changed_42 (by decide) (fun hz => absurd rfl hz) (fun _ => ?_)
    refine lv_iconst (v := 1) hx hb dX3_changed_45 (by decide) ?_
    refine lv_goto (tgt := 68) hx hb dX3_changed_46 (by decide) ?_
    refine g_putf (ci := 10) (v := .int (1)) (ty := .int) (C := RX3) (T := TX3) (N := 28) hx hb hts in_X3 tyX3 tyX3_ok nmX3 hown hK hW hy rfl 27 (by decide) q1911 (fun _ h9 => h9) rfl (by decide +kernel) rfl rfl (Nat.le_of_ble_eq_true rfl) dX3_changed_68 (fun H locs hW => ?_)
    obtain ⟨w_14, ew_14⟩ : ∃ z__, z__ = g_put w y (.inr (10, mO mf (nI P.length) (nI C.length) (en) (td) (st) (nI rn) (lN tt) (nI K.length) (nI fq) (nI ac) (nI F.length) (1))) := ⟨_, rfl⟩
    have hW := g_W.ren hW ew_14 rfl
    have h_15 : g_at w_14 y (.inr (10, mO mf (nI P.length) (nI C.length) (en) (td) (st) (nI rn) (lN tt) (nI K.length) (nI fq) (nI ac) (nI F.length) (1))) := by rw [ew_14]; exact g_at.put_self hy.1
    have x_16 : g_ex (fun q => q = y) w w_14 := by rw [ew_14]; exact x_1.put (fun hz9 => rfl)
    have hZ1 := hZ.obj (rn2 := rn) (tt2 := tt) (fq2 := fq) (ac2 := ac) h_15 x_16 hb9.2.1 hb9.2.2.1 hb9.2.2.2.1 hb9.2.2.2.2
    have hz1 := hZ.zobj x_16
    refine lv_aload_n hx hb dX3_changed_71 rfl (lv_at hl 1 rfl) ?_
    refine g_get (ci := 10) (v := .int (1)) (C := RX3) (T := TX3) (N := 28) hx hb hts in_X3 hown hK hW h_15 rfl 27 (by decide) q1911 (fun _ h9 => h9) rfl dX3_changed_72 ?_
    refine lv_if_ne (tgt := 92) hx hb dX3_changed_75 (by decide) (fun _ => ?_) (fun hz => absurd (by first | exact hz | exact Classical.not_not.mp hz) (by decide))
    refine va_ldcS hx hb hown (rs_16 hE) dX3_changed_92 ?_
    exact g_qret (v := some (D.2 1000 0)) hx hb hr (Or.inl ⟨_, rfl⟩) hlocks hW (⟨_, 1, lab, rfl, hZ1, hz1, Or.inr (Or.inr ⟨hc, rfl⟩)⟩) (by omega) (by omega) dX3_changed_94
set_option maxHeartbeats 4000000 in
set_option maxRecDepth 100000 in
/-- Model.addChange -/
theorem mtX3_addChange (l : Launch) (D : va_G) (w : g_H) (sz : Nat) (y : Nat) (mf : Nat → Nat) (lab : Nat → Nat) (P : List mI) (C : List yC) (A9 : Nat → List (List Nat)) (cov : Nat → Bool) (K : List (List Nat)) (fq ac : Nat) (F : List yF) (rn tt cK : Nat) (en td st : Int32) (E : Nat → Bool) (th : Int32) (hZ : g_MZ D w lab y mf P C A9 cov K fq ac F rn tt cK en td st E th) (k9 : Nat) (p9 d9 : Int32) (hk9 : k9 < 4) : Met l yX3_addChange (ws_ yX3_addChange cX3_addChange 4 (some .int)) ({ frames := 2, cells := 0, slots := 0, locals := 37 }) (g_Pc D [.ref y, .ref (D.2 1004 k9), .int (p9), .int (d9)] w sz) (g_Qi D w sz (fun r u => ∃ C2 th2, g_MZ D u lab y mf P C2 A9 cov K fq ac F rn tt cK en td st E th2 ∧ zCh w lab u lab ∧ (((kEd p9 d9 ∧ C.length < 8) ∧ th2 = 0 ∧ r = nI (C.length + 1) ∧ C2 = C ++ [(k9, p9.toNatClampNeg, d9.toNatClampNeg)]) ∨ (C2 = C ∧ ((¬ kEd p9 d9 ∧ th2 = 1) ∨ (kEd p9 d9 ∧ ¬ C.length < 8 ∧ th2 = 2)))))) (0) (0) (g_A w sz) := by
  refine Met.ofW (cc := cX3_addChange) (maxL := 4) (ret := (some .int)) (by decide) rfl ?_
  intro p e s m args below meth c s₁ B hml hv
  obtain ⟨rfl, hI⟩ := hv
  have hx := B.exec
  have hb := B.bytes
  have hr := B.returns
  have hts := atoms_spec (ws := ws_ yX3_addChange cX3_addChange 4 (some .int)) B.pre
  have hts : ∀ w ∈ lw_all, w.before _ s = true := fun w h => hts w (List.mem_cons_of_mem _ h)
  have hown : s.vm.findClass RX3 = some m.cls := findClass_of_methodNamed B.named
  have hlocks := B.notSynchronized
  have hsz := hI.1
  subst hsz
  have hW := g_W.start hI
  have hK := g_K hI
  have hE := g_E hI
  have hl := lv_entry ([.ref y, .ref (D.2 1004 k9), .int (p9), .int (d9)]) (n := 4) (by exact Nat.le_of_ble_eq_true rfl)
  rw [lg_entry_eq]
  generalize (lg_sl ([.ref y, .ref (D.2 1004 k9), .int (p9), .int (d9)]) ++ List.replicate (4 - (lg_sl ([.ref y, .ref (D.2 1004 k9), .int (p9), .int (d9)])).length) Slot.unset).toArray = ls at hl ⊢
  have hl : lv_has ls 4 [(0, .ref y), (1, .ref (D.2 1004 k9)), (2, .int (p9)), (3, .int (d9))] := hl
  obtain ⟨hy, ⟨hly, hL⟩, hP, hR, hC0, hA0, hV0, hK0, hF0, hb9⟩ := id hZ
  have x_1 : g_ex (fun q => q = y) w w := g_ex.rf
  obtain ⟨f5, f6, f7, a5, a6, a7, hC8, hC9⟩ := id hC0
  refine lv_aload_n hx hb dX3_addChange_0 rfl (lv_at hl 0 rfl) ?_
  refine lv_iload_n hx hb dX3_addChange_1 rfl (lv_at hl 2 rfl) ?_
  refine lv_i2l (v := (p9 : Int32).toInt64) hx hb dX3_addChange_2 rfl ?_
  refine lv_lconst (v := 0) hx hb dX3_addChange_3 rfl ?_
  refine lv_ldc2 hx hb hown (hts _ q1995) dX3_addChange_4 ?_
  refine g_calli (va_runS (As := [.long ((p9 : Int32).toInt64), .long (0), .long (7)]) (rest := [.ref y]) ⟨hx, hb, hml, hown, hts⟩ (mtX3_in l D w s.heap.size (p9 : Int32).toInt64 (0) (7)) (va_cwS 3 hts (lw_S q1980 q1981 q47 q1982) rfl rfl rfl (by decide +kernel) ⟨Nat.le_of_ble_eq_true rfl, Nat.le_of_ble_eq_true rfl⟩) (g_preS hW hK hE) rfl rfl hl.1 rfl (lv_room (Nat.le_of_ble_eq_true rfl)) dX3_addChange_7 ⟨Nat.le_of_ble_eq_true rfl, Nat.le_of_ble_eq_true rfl⟩) hW (fun r_ u_ H locs hp hW => ?_)
  obtain ⟨er, rfl⟩ := hp
  subst er
  by_cases hq9 : (0 : Int64) ≤ (p9 : Int32).toInt64 ∧ (p9 : Int32).toInt64 ≤ 7
  · rw [if_pos hq9]
    refine lv_if_eq (tgt := 25) hx hb dX3_addChange_10 (by decide) (fun hz => absurd hz (by decide)) (fun _ => ?_)
    have hin : (0 : Int32) ≤ p9 ∧ p9 ≤ 7 := (i2l_in rfl rfl).mp hq9
    clear hq9
    have hp9 := hin
    clear hin
    refine lv_iload_n hx hb dX3_addChange_13 rfl (lv_at hl 3 rfl) ?_
    refine lv_i2l (v := (d9 : Int32).toInt64) hx hb dX3_addChange_14 rfl ?_
    refine lv_lconst (v := 0) hx hb dX3_addChange_15 rfl ?_
    refine lv_ldc2 hx hb hown (hts _ q1995) dX3_addChange_16 ?_
    refine g_calli (va_runS (As := [.long ((d9 : Int32).toInt64), .long (0), .long (7)]) (rest := [.ref y]) ⟨hx, hb, hml, hown, hts⟩ (mtX3_in l D w H.size (d9 : Int32).toInt64 (0) (7)) (va_cwS 3 hts (lw_S q1980 q1981 q47 q1982) rfl rfl rfl (by decide +kernel) ⟨Nat.le_of_ble_eq_true rfl, Nat.le_of_ble_eq_true rfl⟩) (g_preS hW hK hE) rfl rfl hl.1 rfl (lv_room (Nat.le_of_ble_eq_true rfl)) dX3_addChange_19 ⟨Nat.le_of_ble_eq_true rfl, Nat.le_of_ble_eq_true rfl⟩) hW (fun r_ u_ H locs hp hW => ?_)
    obtain ⟨er, rfl⟩ := hp
    subst er
    by_cases hq9 : (0 : Int64) ≤ (d9 : Int32).toInt64 ∧ (d9 : Int32).toInt64 ≤ 7
    · rw [if_pos hq9]
      refine lv_if_ne (tgt := 29) hx hb dX3_addChange_22 (by decide) (fun _ => ?_) (fun hz => absurd (by first | exact hz | exact Classical.not_not.mp hz) (by decide))
      have hin : (0 : Int32) ≤ d9 ∧ d9 ≤ 7 := (i2l_in rfl rfl).mp hq9
      clear hq9
      have hke : kEd p9 d9 := ⟨hp9, hin⟩
      refine lv_aload_n hx hb dX3_addChange_29 rfl (lv_at hl 0 rfl) ?_
      refine g_get (ci := 10) (v := .int (nI C.length)) (C := RX3) (T := TX3) (N := 28) hx hb hts in_X3 hown hK hW hy rfl 8 (by decide) q1892 (fun _ h9 => h9) rfl dX3_addChange_30 ?_
      refine lv_bipush (v := 8) hx hb dX3_addChange_33 (by decide) ?_
      refine lv_icmp_ne (tgt := 42) hx hb dX3_addChange_35 (by decide) (fun hc => ?_) (fun hc => ?_)
      · have hlt : C.length < 8 := Nat.lt_of_le_of_ne hC8 (fun z => hc (by rw [z]; rfl))
        obtain ⟨pl, dg, rfl, rfl, hpl, hdg, ep, ed⟩ := kEd_n hke
        rw [ep, ed]
        have hx0 : g_ex (fun q => q = y ∨ q = mf 5 ∨ q = mf 6 ∨ q = mf 7) w w := g_ex.rf
        have ny5 : y ≠ mf 5 := g_neOA hy a5
        have ny6 : y ≠ mf 6 := g_neOA hy a6
        have ny7 : y ≠ mf 7 := g_neOA hy a7
        refine lv_iconst (v := 0) hx hb dX3_addChange_42 (by decide) ?_
        refine g_putf (ci := 10) (v := .int (0)) (ty := .int) (C := RX3) (T := TX3) (N := 28) hx hb hts in_X3 tyX3 tyX3_ok nmX3 hown hK hW hy rfl 27 (by decide) q1911 (fun _ h9 => h9) rfl (by decide +kernel) rfl rfl (Nat.le_of_ble_eq_true rfl) dX3_addChange_43 (fun H locs hW => ?_)
        obtain ⟨w_2, ew_2⟩ : ∃ z__, z__ = g_put w y (.inr (10, mO mf (nI P.length) (nI C.length) (en) (td) (st) (nI rn) (lN tt) (nI K.length) (nI fq) (nI ac) (nI F.length) (0))) := ⟨_, rfl⟩
        have hW := g_W.ren hW ew_2 rfl
        have h_3 : g_at w_2 y (.inr (10, mO mf (nI P.length) (nI C.length) (en) (td) (st) (nI rn) (lN tt) (nI K.length) (nI fq) (nI ac) (nI F.length) (0))) := by rw [ew_2]; exact g_at.put_self hy.1
        have h_4 : g_at w_2 (mf 5) (.inl (D.1 100, 8, .inl (f5))) := by rw [ew_2]; exact a5.put ny5.symm
        have h_5 : g_at w_2 (mf 6) (.inl (D.1 100, 8, .inl (f6))) := by rw [ew_2]; exact a6.put ny6.symm
        have h_6 : g_at w_2 (mf 7) (.inl (D.1 100, 8, .inl (f7))) := by rw [ew_2]; exact a7.put ny7.symm
        have x_7 : g_ex (fun q => q = y ∨ q = mf 5 ∨ q = mf 6 ∨ q = mf 7) w w_2 := by rw [ew_2]; exact hx0.put (fun hz9 => (Or.inl rfl))
        refine lv_aload_n hx hb dX3_addChange_46 rfl (lv_at hl 0 rfl) ?_
        refine g_get (ci := 10) (v := .int (0)) (C := RX3) (T := TX3) (N := 28) hx hb hts in_X3 hown hK hW h_3 rfl 27 (by decide) q1911 (fun _ h9 => h9) rfl dX3_addChange_47 ?_
        refine lv_if_le (tgt := 55) hx hb dX3_addChange_50 (by decide) (fun _ => ?_) (fun hz => absurd (by decide) hz)
        refine lv_aload_n hx hb dX3_addChange_55 rfl (lv_at hl 0 rfl) ?_
        refine g_get (ci := 10) (v := .ref (mf 5)) (C := RX3) (T := TX3) (N := 28) hx hb hts in_X3 hown hK hW h_3 rfl 5 (by decide) q1889 (fun _ h9 => h9) rfl dX3_addChange_56 ?_
        refine lv_aload_n hx hb dX3_addChange_59 rfl (lv_at hl 0 rfl) ?_
        refine g_get (ci := 10) (v := .int (nI C.length)) (C := RX3) (T := TX3) (N := 28) hx hb hts in_X3 hown hK hW h_3 rfl 8 (by decide) q1892 (fun _ h9 => h9) rfl dX3_addChange_60 ?_
        refine lv_aload_n hx hb dX3_addChange_63 rfl (lv_at hl 1 rfl) ?_
        refine g_calli (va_runU (As := []) (rest := [.int (nI C.length), .ref (mf 5)]) ⟨hx, hb, hml, hown, hts⟩ (mtJ10_ordinal l D w_2 H.size (D.2 1004 k9) (nI k9) (fun s hE => g_chg hk9 s hE)) (va_cwU (owner := "java/lang/Enum") (x := ⟨"Change", "ordinal", "()I"⟩) 0 hts (lw_app (lw_in _ [1996, 675, 677, 678, 50] (by decide +kernel) (by decide +kernel)) (lw_meth q679)) rfl rfl rfl rfl (by decide +kernel) ⟨Nat.le_of_ble_eq_true rfl, Nat.le_of_ble_eq_true rfl⟩) (g_preVR hW hK hE (g_chgO hE hW hk9)) rfl rfl hl.1 rfl (lv_room (Nat.le_of_ble_eq_true rfl)) dX3_addChange_64 ⟨Nat.le_of_ble_eq_true rfl, Nat.le_of_ble_eq_true rfl⟩) hW (fun r_ u_ H locs hp hW => ?_)
        obtain ⟨er, rfl⟩ := hp
        subst er
        refine g_iast (i := C.length) hx hb hK hW h_4 (hlt) (by decide) dX3_addChange_67 (fun H locs hW => ?_)
        obtain ⟨f_8, ef_8⟩ : ∃ z__, z__ = upd (f5) (C.length) (nI k9) := ⟨_, rfl⟩
        rw [← ef_8] at hW
        obtain ⟨w_9, ew_9⟩ : ∃ z__, z__ = g_put w_2 (mf 5) (.inl (D.1 100, 8, .inl (f_8))) := ⟨_, rfl⟩
        have hW := g_W.ren hW ew_9 rfl
        have h_10 : g_at w_9 y (.inr (10, mO mf (nI P.length) (nI C.length) (en) (td) (st) (nI rn) (lN tt) (nI K.length) (nI fq) (nI ac) (nI F.length) (0))) := by rw [ew_9]; exact h_3.put ny5
        have h_11 : g_at w_9 (mf 5) (.inl (D.1 100, 8, .inl (f_8))) := by rw [ew_9]; exact g_at.put_self h_4.1
        have h_12 : g_at w_9 (mf 6) (.inl (D.1 100, 8, .inl (f6))) := by rw [ew_9]; exact h_5.put (g_lne (hL 6 (by decide)) (hL 5 (by decide)) (by decide))
        have h_13 : g_at w_9 (mf 7) (.inl (D.1 100, 8, .inl (f7))) := by rw [ew_9]; exact h_6.put (g_lne (hL 7 (by decide)) (hL 5 (by decide)) (by decide))
        have x_14 : g_ex (fun q => q = y ∨ q = mf 5 ∨ q = mf 6 ∨ q = mf 7) w w_9 := by rw [ew_9]; exact x_7.put (fun hz9 => (Or.inr (Or.inl rfl)))
        refine lv_aload_n hx hb dX3_addChange_68 rfl (lv_at hl 0 rfl) ?_
        refine g_get (ci := 10) (v := .ref (mf 6)) (C := RX3) (T := TX3) (N := 28) hx hb hts in_X3 hown hK hW h_10 rfl 6 (by decide) q1890 (fun _ h9 => h9) rfl dX3_addChange_69 ?_
        refine lv_aload_n hx hb dX3_addChange_72 rfl (lv_at hl 0 rfl) ?_
        refine g_get (ci := 10) (v := .int (nI C.length)) (C := RX3) (T := TX3) (N := 28) hx hb hts in_X3 hown hK hW h_10 rfl 8 (by decide) q1892 (fun _ h9 => h9) rfl dX3_addChange_73 ?_
        refine lv_iload_n hx hb dX3_addChange_76 rfl (lv_at hl 2 rfl) ?_
        refine g_iast (i := C.length) hx hb hK hW h_12 (hlt) (by decide) dX3_addChange_77 (fun H locs hW => ?_)
        obtain ⟨f_15, ef_15⟩ : ∃ z__, z__ = upd (f6) (C.length) (nI pl) := ⟨_, rfl⟩
        rw [← ef_15] at hW
        obtain ⟨w_16, ew_16⟩ : ∃ z__, z__ = g_put w_9 (mf 6) (.inl (D.1 100, 8, .inl (f_15))) := ⟨_, rfl⟩
        have hW := g_W.ren hW ew_16 rfl
        have h_17 : g_at w_16 y (.inr (10, mO mf (nI P.length) (nI C.length) (en) (td) (st) (nI rn) (lN tt) (nI K.length) (nI fq) (nI ac) (nI F.length) (0))) := by rw [ew_16]; exact h_10.put ny6
        have h_18 : g_at w_16 (mf 5) (.inl (D.1 100, 8, .inl (f_8))) := by rw [ew_16]; exact h_11.put (g_lne (hL 5 (by decide)) (hL 6 (by decide)) (by decide))
        have h_19 : g_at w_16 (mf 6) (.inl (D.1 100, 8, .inl (f_15))) := by rw [ew_16]; exact g_at.put_self h_12.1
        have h_20 : g_at w_16 (mf 7) (.inl (D.1 100, 8, .inl (f7))) := by rw [ew_16]; exact h_13.put (g_lne (hL 7 (by decide)) (hL 6 (by decide)) (by decide))
        have x_21 : g_ex (fun q => q = y ∨ q = mf 5 ∨ q = mf 6 ∨ q = mf 7) w w_16 := by rw [ew_16]; exact x_14.put (fun hz9 => (Or.inr (Or.inr (Or.inl rfl))))
        refine lv_aload_n hx hb dX3_addChange_78 rfl (lv_at hl 0 rfl) ?_
        refine g_get (ci := 10) (v := .ref (mf 7)) (C := RX3) (T := TX3) (N := 28) hx hb hts in_X3 hown hK hW h_17 rfl 7 (by decide) q1891 (fun _ h9 => h9) rfl dX3_addChange_79 ?_
        refine lv_aload_n hx hb dX3_addChange_82 rfl (lv_at hl 0 rfl) ?_
        refine g_get (ci := 10) (v := .int (nI C.length)) (C := RX3) (T := TX3) (N := 28) hx hb hts in_X3 hown hK hW h_17 rfl 8 (by decide) q1892 (fun _ h9 => h9) rfl dX3_addChange_83 ?_
        refine lv_iload_n hx hb dX3_addChange_86 rfl (lv_at hl 3 rfl) ?_
        refine g_iast (i := C.length) hx hb hK hW h_20 (hlt) (by decide) dX3_addChange_87 (fun H locs hW => ?_)
        obtain ⟨f_22, ef_22⟩ : ∃ z__, z__ = upd (f7) (C.length) (nI dg) := ⟨_, rfl⟩
        rw [← ef_22] at hW
        obtain ⟨w_23, ew_23⟩ : ∃ z__, z__ = g_put w_16 (mf 7) (.inl (D.1 100, 8, .inl (f_22))) := ⟨_, rfl⟩
        have hW := g_W.ren hW ew_23 rfl
        have h_24 : g_at w_23 y (.inr (10, mO mf (nI P.length) (nI C.length) (en) (td) (st) (nI rn) (lN tt) (nI K.length) (nI fq) (nI ac) (nI F.length) (0))) := by rw [ew_23]; exact h_17.put ny7
        have h_25 : g_at w_23 (mf 5) (.inl (D.1 100, 8, .inl (f_8))) := by rw [ew_23]; exact h_18.put (g_lne (hL 5 (by decide)) (hL 7 (by decide)) (by decide))
        have h_26 : g_at w_23 (mf 6) (.inl (D.1 100, 8, .inl (f_15))) := by rw [ew_23]; exact h_19.put (g_lne (hL 6 (by decide)) (hL 7 (by decide)) (by decide))
        have h_27 : g_at w_23 (mf 7) (.inl (D.1 100, 8, .inl (f_22))) := by rw [ew_23]; exact g_at.put_self h_20.1
        have x_28 : g_ex (fun q => q = y ∨ q = mf 5 ∨ q = mf 6 ∨ q = mf 7) w w_23 := by rw [ew_23]; exact x_21.put (fun hz9 => (Or.inr (Or.inr (Or.inr (rfl)))))
        refine lv_aload_n hx hb dX3_addChange_88 rfl (lv_at hl 0 rfl) ?_
        refine lv_dup hx hb dX3_addChange_89 rfl ?_
        refine g_get (ci := 10) (v := .int (nI C.length)) (C := RX3) (T := TX3) (N := 28) hx hb hts in_X3 hown hK hW h_24 rfl 8 (by decide) q1892 (fun _ h9 => h9) rfl dX3_addChange_90 ?_
        refine lv_iconst (v := 1) hx hb dX3_addChange_93 (by decide) ?_
        refine lv_iadd hx hb dX3_addChange_94 ?_
        refine g_topi (y := nI (C.length + 1)) (nI_1 _) ?_
        refine g_putf (ci := 10) (v := .int (nI (C.length + 1))) (ty := .int) (C := RX3) (T := TX3) (N := 28) hx hb hts in_X3 tyX3 tyX3_ok nmX3 hown hK hW h_24 rfl 8 (by decide) q1892 (fun _ h9 => h9) rfl (by decide +kernel) rfl rfl (Nat.le_of_ble_eq_true rfl) dX3_addChange_95 (fun H locs hW => ?_)
        obtain ⟨w_29, ew_29⟩ : ∃ z__, z__ = g_put w_23 y (.inr (10, mO mf (nI P.length) (nI (C.length + 1)) (en) (td) (st) (nI rn) (lN tt) (nI K.length) (nI fq) (nI ac) (nI F.length) (0))) := ⟨_, rfl⟩
        have hW := g_W.ren hW ew_29 rfl
        have h_30 : g_at w_29 y (.inr (10, mO mf (nI P.length) (nI (C.length + 1)) (en) (td) (st) (nI rn) (lN tt) (nI K.length) (nI fq) (nI ac) (nI F.length) (0))) := by rw [ew_29]; exact g_at.put_self h_24.1
        have h_31 : g_at w_29 (mf 5) (.inl (D.1 100, 8, .inl (f_8))) := by rw [ew_29]; exact h_25.put ny5.symm
        have h_32 : g_at w_29 (mf 6) (.inl (D.1 100, 8, .inl (f_15))) := by rw [ew_29]; exact h_26.put ny6.symm
        have h_33 : g_at w_29 (mf 7) (.inl (D.1 100, 8, .inl (f_22))) := by rw [ew_29]; exact h_27.put ny7.symm
        have x_34 : g_ex (fun q => q = y ∨ q = mf 5 ∨ q = mf 6 ∨ q = mf 7) w w_29 := by rw [ew_29]; exact x_28.put (fun hz9 => (Or.inl rfl))
        refine lv_aload_n hx hb dX3_addChange_98 rfl (lv_at hl 0 rfl) ?_
        refine g_get (ci := 10) (v := .int (nI (C.length + 1))) (C := RX3) (T := TX3) (N := 28) hx hb hts in_X3 hown hK hW h_30 rfl 8 (by decide) q1892 (fun _ h9 => h9) rfl dX3_addChange_99 ?_
        obtain ⟨hZ9, hz9⟩ := hZ.addC hK a5 a6 a7 hC9 hlt hk9 hpl hdg h_30 x_34 h_31 h_32 h_33 ef_8 ef_15 ef_22
        exact g_iret (v := nI (C.length + 1)) hx hb hr hlocks hW (⟨_, 0, hZ9, hz9, Or.inl ⟨⟨hke, hlt⟩, rfl, rfl, rfl⟩⟩) (by omega) (by omega) dX3_addChange_102
      · have hge : ¬ C.length < 8 := fun z => absurd (nI_inj (a := C.length) (b := 8) (by omega) (by decide) (by first | exact hc | exact Classical.not_not.mp hc)) (by omega)
        refine lv_iconst (v := 2) hx hb dX3_addChange_38 (by decide) ?_
        refine lv_goto (tgt := 43) hx hb dX3_addChange_39 (by decide) ?_
        refine g_putf (ci := 10) (v := .int (2)) (ty := .int) (C := RX3) (T := TX3) (N := 28) hx hb hts in_X3 tyX3 tyX3_ok nmX3 hown hK hW hy rfl 27 (by decide) q1911 (fun _ h9 => h9) rfl (by decide +kernel) rfl rfl (Nat.le_of_ble_eq_true rfl) dX3_addChange_43 (fun H locs hW => ?_)
        obtain ⟨w_35, ew_35⟩ : ∃ z__, z__ = g_put w y (.inr (10, mO mf (nI P.length) (nI C.length) (en) (td) (st) (nI rn) (lN tt) (nI K.length) (nI fq) (nI ac) (nI F.length) (2))) := ⟨_, rfl⟩
        have hW := g_W.ren hW ew_35 rfl
        have h_36 : g_at w_35 y (.inr (10, mO mf (nI P.length) (nI C.length) (en) (td) (st) (nI rn) (lN tt) (nI K.length) (nI fq) (nI ac) (nI F.length) (2))) := by rw [ew_35]; exact g_at.put_self hy.1
        have x_37 : g_ex (fun q => q = y) w w_35 := by rw [ew_35]; exact x_1.put (fun hz9 => rfl)
        have hZ1 := hZ.obj (rn2 := rn) (tt2 := tt) (fq2 := fq) (ac2 := ac) h_36 x_37 hb9.2.1 hb9.2.2.1 hb9.2.2.2.1 hb9.2.2.2.2
        have hz1 := hZ.zobj x_37
        refine lv_aload_n hx hb dX3_addChange_46 rfl (lv_at hl 0 rfl) ?_
        refine g_get (ci := 10) (v := .int (2)) (C := RX3) (T := TX3) (N := 28) hx hb hts in_X3 hown hK hW h_36 rfl 27 (by decide) q1911 (fun _ h9 => h9) rfl dX3_addChange_47 ?_
        refine lv_if_le (tgt := 55) hx hb dX3_addChange_50 (by decide) (fun hz => absurd hz (by decide)) (fun _ => ?_)
        refine lv_iconst (v := (-1)) hx hb dX3_addChange_53 (by decide) ?_
        exact g_iret (v := (-1)) hx hb hr hlocks hW (⟨C, 2, hZ1, hz1, Or.inr ⟨rfl, Or.inr ⟨hke, hge, rfl⟩⟩⟩) (by omega) (by omega) dX3_addChange_54
    · rw [if_neg hq9]
      refine lv_if_ne (tgt := 29) hx hb dX3_addChange_22 (by decide) (fun hz => absurd rfl hz) (fun _ => ?_)
      have hin : ¬ ((0 : Int32) ≤ d9 ∧ d9 ≤ 7) := fun z => hq9 ((i2l_in rfl rfl).mpr z)
      clear hq9
      have hc : ¬ kEd p9 d9 := fun z => hin z.2
      refine lv_iconst (v := 1) hx hb dX3_addChange_25 (by decide) ?_
      refine lv_goto (tgt := 43) hx hb dX3_addChange_26 (by decide) ?_
      refine g_putf (ci := 10) (v := .int (1)) (ty := .int) (C := RX3) (T := TX3) (N := 28) hx hb hts in_X3 tyX3 tyX3_ok nmX3 hown hK hW hy rfl 27 (by decide) q1911 (fun _ h9 => h9) rfl (by decide +kernel) rfl rfl (Nat.le_of_ble_eq_true rfl) dX3_addChange_43 (fun H locs hW => ?_)
      obtain ⟨w_38, ew_38⟩ : ∃ z__, z__ = g_put w y (.inr (10, mO mf (nI P.length) (nI C.length) (en) (td) (st) (nI rn) (lN tt) (nI K.length) (nI fq) (nI ac) (nI F.length) (1))) := ⟨_, rfl⟩
      have hW := g_W.ren hW ew_38 rfl
      have h_39 : g_at w_38 y (.inr (10, mO mf (nI P.length) (nI C.length) (en) (td) (st) (nI rn) (lN tt) (nI K.length) (nI fq) (nI ac) (nI F.length) (1))) := by rw [ew_38]; exact g_at.put_self hy.1
      have x_40 : g_ex (fun q => q = y) w w_38 := by rw [ew_38]; exact x_1.put (fun hz9 => rfl)
      have hZ1 := hZ.obj (rn2 := rn) (tt2 := tt) (fq2 := fq) (ac2 := ac) h_39 x_40 hb9.2.1 hb9.2.2.1 hb9.2.2.2.1 hb9.2.2.2.2
      have hz1 := hZ.zobj x_40
      refine lv_aload_n hx hb dX3_addChange_46 rfl (lv_at hl 0 rfl) ?_
      refine g_get (ci := 10) (v := .int (1)) (C := RX3) (T := TX3) (N := 28) hx hb hts in_X3 hown hK hW h_39 rfl 27 (by decide) q1911 (fun _ h9 => h9) rfl dX3_addChange_47 ?_
      refine lv_if_le (tgt := 55) hx hb dX3_addChange_50 (by decide) (fun hz => absurd hz (by decide)) (fun _ => ?_)
      refine lv_iconst (v := (-1)) hx hb dX3_addChange_53 (by decide) ?_
      exact g_iret (v := (-1)) hx hb hr hlocks hW (⟨C, 1, hZ1, hz1, Or.inr ⟨rfl, Or.inl ⟨hc, rfl⟩⟩⟩) (by omega) (by omega) dX3_addChange_54
  · rw [if_neg hq9]
    refine lv_if_eq (tgt := 25) hx hb dX3_addChange_10 (by decide) (fun _ => ?_) (fun hz => absurd rfl hz)
    have hin : ¬ ((0 : Int32) ≤ p9 ∧ p9 ≤ 7) := fun z => hq9 ((i2l_in rfl rfl).mpr z)
    clear hq9
    have hc : ¬ kEd p9 d9 := fun z => hin z.1
    refine lv_iconst (v := 1) hx hb dX3_addChange_25 (by decide) ?_
    refine lv_goto (tgt := 43) hx hb dX3_addChange_26 (by decide) ?_
    refine g_putf (ci := 10) (v := .int (1)) (ty := .int) (C := RX3) (T := TX3) (N := 28) hx hb hts in_X3 tyX3 tyX3_ok nmX3 hown hK hW hy rfl 27 (by decide) q1911 (fun _ h9 => h9) rfl (by decide +kernel) rfl rfl (Nat.le_of_ble_eq_true rfl) dX3_addChange_43 (fun H locs hW => ?_)
    obtain ⟨w_41, ew_41⟩ : ∃ z__, z__ = g_put w y (.inr (10, mO mf (nI P.length) (nI C.length) (en) (td) (st) (nI rn) (lN tt) (nI K.length) (nI fq) (nI ac) (nI F.length) (1))) := ⟨_, rfl⟩
    have hW := g_W.ren hW ew_41 rfl
    have h_42 : g_at w_41 y (.inr (10, mO mf (nI P.length) (nI C.length) (en) (td) (st) (nI rn) (lN tt) (nI K.length) (nI fq) (nI ac) (nI F.length) (1))) := by rw [ew_41]; exact g_at.put_self hy.1
    have x_43 : g_ex (fun q => q = y) w w_41 := by rw [ew_41]; exact x_1.put (fun hz9 => rfl)
    have hZ1 := hZ.obj (rn2 := rn) (tt2 := tt) (fq2 := fq) (ac2 := ac) h_42 x_43 hb9.2.1 hb9.2.2.1 hb9.2.2.2.1 hb9.2.2.2.2
    have hz1 := hZ.zobj x_43
    refine lv_aload_n hx hb dX3_addChange_46 rfl (lv_at hl 0 rfl) ?_
    refine g_get (ci := 10) (v := .int (1)) (C := RX3) (T := TX3) (N := 28) hx hb hts in_X3 hown hK hW h_42 rfl 27 (by decide) q1911 (fun _ h9 => h9) rfl dX3_addChange_47 ?_
    refine lv_if_le (tgt := 55) hx hb dX3_addChange_50 (by decide) (fun hz => absurd hz (by decide)) (fun _ => ?_)
    refine lv_iconst (v := (-1)) hx hb dX3_addChange_53 (by decide) ?_
    exact g_iret (v := (-1)) hx hb hr hlocks hW (⟨C, 1, hZ1, hz1, Or.inr ⟨rfl, Or.inl ⟨hc, rfl⟩⟩⟩) (by omega) (by omega) dX3_addChange_54
