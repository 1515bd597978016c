/-! the model: add *
-/
set_option maxRecDepth 100000
section MZ5
variable {D : va_G} {w w' : g_H} {lab : Nat → Nat} {y fq ac rn tt cK : Nat} {mf : Nat → Nat} {P : List mI} {C : List yC} {A : Nat → List (List Nat)} {cov : Nat → Bool} {K : List (List Nat)} {F : List yF} {en td st th : Int32} {E : Nat → Bool}
theorem g_MZ.addI {s : State} (hK : va_K D gCl (gT D) s) {op a b : Nat} {vl : Int32} {f0 f1 f2 f3 g0 g1 g2 g3 : Nat → Int32} (h : g_MZ D w lab y mf P C A cov K fq ac F rn tt cK en td st E th) (e0 : g_at w (mf 0) (.inl (D.1 100, 16, .inl f0))) (e1 : g_at w (mf 1) (.inl (D.1 100, 16, .inl f1))) (e2 : g_at w (mf 2) (.inl (D.1 100, 16, .inl f2))) (e3 : g_at w (mf 3) (.inl (D.1 100, 16, .inl f3))) (hok : ∀ j, j < P.length → mOk (P.getD j mI0)) (k0 : ∀ j, j < P.length → f0 j = nI (P.getD j mI0).1) (k1 : ∀ j, j < P.length → f1 j = nI (P.getD j mI0).2.1) (k2 : ∀ j, j < P.length → f2 j = (P.getD j mI0).2.2.1) (k3 : ∀ j, j < P.length → f3 j = nI (P.getD j mI0).2.2.2) (h16 : P.length < 16) (hmk : mOk (op, a, vl, b)) (hy : g_at w' y (.inr (10, mO mf (nI (P.length + 1)) (nI C.length) en td st (nI rn) (lN tt) (nI K.length) (nI fq) (nI ac) (nI F.length) 0))) (q : g_ex (fun q => q = y ∨ q = mf 0 ∨ q = mf 1 ∨ q = mf 2 ∨ q = mf 3) w w') (h0 : g_at w' (mf 0) (.inl (D.1 100, 16, .inl g0))) (h1 : g_at w' (mf 1) (.inl (D.1 100, 16, .inl g1))) (h2 : g_at w' (mf 2) (.inl (D.1 100, 16, .inl g2))) (h3 : g_at w' (mf 3) (.inl (D.1 100, 16, .inl g3))) (u0 : g0 = upd f0 P.length (nI op)) (u1 : g1 = upd f1 P.length (nI a)) (u2 : g2 = upd f2 P.length vl) (u3 : g3 = upd f3 P.length (nI b)) : g_MZ D w' lab y mf (P ++ [(op, a, vl, b)]) C A cov K fq ac F rn tt cK en td st E 0 ∧ zCh w lab w' lab := by
  have n5 : D.1 100 ≠ D.1 101 := g_neA hK (i := 0) (j := 1) rfl rfl (fun z => by cases z)
  have hlen : (P ++ [(op, a, vl, b)]).length = P.length + 1 := by rw [List.length_append]; rfl
  obtain ⟨-, hL, -, r2, r3, r4, r5, r6, r7, hb⟩ := h.parts (lab' := lab) q ((g_mut.obj h.1).or ((g_mut.arr e0 n5).or ((g_mut.arr e1 n5).or ((g_mut.arr e2 n5).or (g_mut.arr e3 n5))))) (fun _ _ => rfl) (fun n => n = 20 ∨ n = 21 ∨ n = 22 ∨ n = 23 ∨ n = 24) (fun z _ hz => by
    rcases hz with hz | hz | hz | hz | hz
    · rw [hz]; exact Or.inl h.2.1.1
    · rw [hz]; exact Or.inr (Or.inl (h.2.1.2 0 (by decide)))
    · rw [hz]; exact Or.inr (Or.inr (Or.inl (h.2.1.2 1 (by decide))))
    · rw [hz]; exact Or.inr (Or.inr (Or.inr (Or.inl (h.2.1.2 2 (by decide)))))
    · rw [hz]; exact Or.inr (Or.inr (Or.inr (Or.inr (h.2.1.2 3 (by decide))))))
  have hj9 : ∀ {Z : mI → Prop}, Z (op, a, vl, b) → (∀ j, j < P.length → Z (P.getD j mI0)) → ∀ j, j < (P ++ [(op, a, vl, b)]).length → Z ((P ++ [(op, a, vl, b)]).getD j mI0) := fun {Z} z1 z2 j hj => by
    rw [hlen] at hj
    by_cases e : j = P.length
    · subst e; rw [getD_app]; exact z1
    · rw [getD_apl (by omega)]; exact z2 j (by omega)
  have hu : ∀ {f g : Nat → Int32} {v : Int32} {X : mI → Int32}, g = upd f P.length v → X (op, a, vl, b) = v → (∀ j, j < P.length → f j = X (P.getD j mI0)) → ∀ j, j < (P ++ [(op, a, vl, b)]).length → g j = X ((P ++ [(op, a, vl, b)]).getD j mI0) := fun {f g v X} z1 z2 z3 j hj => by
    rw [hlen] at hj
    by_cases e : j = P.length
    · subst e; rw [getD_app, z1, up_self, z2]
    · rw [getD_apl (by omega), z1, up_ne e]; exact z3 j (by omega)
  refine ⟨⟨by rw [hlen]; exact hy, hL, ⟨g0, g1, g2, g3, h0, h1, h2, h3, by rw [hlen]; omega, hj9 (Z := mOk) hmk hok, hu (X := fun i => nI i.1) u0 rfl k0, hu (X := fun i => nI i.2.1) u1 rfl k1, hu (X := fun i => i.2.2.1) u2 rfl k2, hu (X := fun i => nI i.2.2.2) u3 rfl k3⟩, r2 (by decide), r3 (by decide), r4 (by decide), r5 (by decide), r6 (by decide), r7 (by decide), hb⟩, zCh.of q (fun z _ hz => by
    unfold mM
    rcases hz with hz | hz | hz | hz | hz
    · rw [hz, h.2.1.1]; omega
    · rw [hz, h.2.1.2 0 (by decide)]; omega
    · rw [hz, h.2.1.2 1 (by decide)]; omega
    · rw [hz, h.2.1.2 2 (by decide)]; omega
    · rw [hz, h.2.1.2 3 (by decide)]; omega)⟩
end MZ5
set_option maxHeartbeats 4000000 in
set_option maxRecDepth 100000 in
/-- Model.add -/
theorem mtX3_add (l : Launch) (D : va_G) (w : g_H) (sz : Nat) (y : Nat) (mf : Nat → Nat) (lab : Nat → Nat) (P : List mI) (C : List yC) (A9 : Nat → List (List Nat)) (cov : Nat → Bool) (K : List (List Nat)) (fq ac : Nat) (F : List yF) (rn tt cK : Nat) (en td st : Int32) (E : Nat → Bool) (th : Int32) (hZ : g_MZ D w lab y mf P C A9 cov K fq ac F rn tt cK en td st E th) (i9 op : Nat) (rg vl tg : Int32) (hi : g_at w i9 (.inr (7, [.ref (D.2 1002 op), .int (rg), .int (vl), .int (tg)]))) (hop : op < 9) : Met l yX3_add (ws_ yX3_add cX3_add 3 (some .int)) ({ frames := 2, cells := 0, slots := 0, locals := 37 }) (g_Pc D [.ref y, .ref i9] w sz) (g_Qi D w sz (fun r u => ∃ P2 th2, g_MZ D u lab y mf P2 C A9 cov K fq ac F rn tt cK en td st E th2 ∧ zCh w lab u lab ∧ (((iOk op rg vl tg ∧ P.length < 16 ∧ rn = 0) ∧ th2 = 0 ∧ r = nI (P.length + 1) ∧ P2 = P ++ [(op, rg.toNatClampNeg, vl, tg.toNatClampNeg)]) ∨ (P2 = P ∧ ((¬ iOk op rg vl tg ∧ th2 = 1) ∨ (iOk op rg vl tg ∧ ¬ (P.length < 16 ∧ rn = 0) ∧ th2 = 2)))))) (0) (0) (g_A w sz) := by
  refine Met.ofW (cc := cX3_add) (maxL := 3) (ret := (some .int)) (by decide) rfl ?_
  intro p e s m args below meth c s₁ B hml hv
  obtain ⟨rfl, hI⟩ := hv
  have hx := B.exec
  have hb := B.bytes
  have hr := B.returns
  have hts := atoms_spec (ws := ws_ yX3_add cX3_add 3 (some .int)) B.pre
  have hts : ∀ w ∈ lw_all, w.before _ s = true := fun w h => hts w (List.mem_cons_of_mem _ h)
  have hown : s.vm.findClass RX3 = some m.cls := findClass_of_methodNamed B.named
  have hlocks := B.notSynchronized
  have hsz := hI.1
  subst hsz
  have hW := g_W.start hI
  have hK := g_K hI
  have hE := g_E hI
  have hl := lv_entry ([.ref y, .ref i9]) (n := 3) (by exact Nat.le_of_ble_eq_true rfl)
  rw [lg_entry_eq]
  generalize (lg_sl ([.ref y, .ref i9]) ++ List.replicate (3 - (lg_sl ([.ref y, .ref i9])).length) Slot.unset).toArray = ls at hl ⊢
  have hl : lv_has ls 3 [(0, .ref y), (1, .ref i9)] := hl
  obtain ⟨hy, ⟨hly, hL⟩, hP, hR, hC0, hA0, hV0, hK0, hF0, hb9⟩ := id hZ
  have x_1 : g_ex (fun q => q = y) w w := g_ex.rf
  obtain ⟨f0, f1, f2, f3, a0, a1, a2, a3, hP16, hok, k0, k1, k2, k3⟩ := id hP
  refine lv_aload_n hx hb dX3_add_0 rfl (lv_at hl 1 rfl) ?_
  refine g_calli (va_runV (As := []) (rest := []) ⟨hx, hb, hml, hown, hts⟩ (mtX5_register l D w s.heap.size i9 (D.2 1002 op) rg vl tg hi) (cwV 0 hts (lw_V q1978 q559 q560 q49 q561) rfl rfl rfl (by decide +kernel) ⟨Nat.le_of_ble_eq_true rfl, Nat.le_of_ble_eq_true rfl⟩) (g_preV hW hK hE hi rfl) rfl rfl hl.1 rfl (lv_room (Nat.le_of_ble_eq_true rfl)) dX3_add_1 ⟨Nat.le_of_ble_eq_true rfl, Nat.le_of_ble_eq_true rfl⟩) hW (fun r_ u_ H locs hp hW => ?_)
  obtain ⟨er, rfl⟩ := hp
  rw [er]
  refine lv_i2l (v := (rg : Int32).toInt64) hx hb dX3_add_4 rfl ?_
  refine lv_lconst (v := 0) hx hb dX3_add_5 rfl ?_
  refine lv_ldc2 hx hb hown (hts _ q1979) dX3_add_6 ?_
  refine g_calli (va_runS (As := [.long ((rg : Int32).toInt64), .long (0), .long (3)]) (rest := []) ⟨hx, hb, hml, hown, hts⟩ (mtX3_in l D w H.size (rg : Int32).toInt64 (0) (3)) (va_cwS 3 hts (lw_S q1980 q1981 q47 q1982) rfl rfl rfl (by decide +kernel) ⟨Nat.le_of_ble_eq_true rfl, Nat.le_of_ble_eq_true rfl⟩) (g_preS hW hK hE) rfl rfl hl.1 rfl (lv_room (Nat.le_of_ble_eq_true rfl)) dX3_add_9 ⟨Nat.le_of_ble_eq_true rfl, Nat.le_of_ble_eq_true rfl⟩) hW (fun r_ u_ H locs hp hW => ?_)
  obtain ⟨er, rfl⟩ := hp
  subst er
  by_cases hq9 : (0 : Int64) ≤ (rg : Int32).toInt64 ∧ (rg : Int32).toInt64 ≤ 3
  · rw [if_pos hq9]
    refine lv_if_eq (tgt := 67) hx hb dX3_add_12 (by decide) (fun hz => absurd hz (by decide)) (fun _ => ?_)
    have hin : (0 : Int32) ≤ rg ∧ rg ≤ 3 := (i2l_in rfl rfl).mp hq9
    clear hq9
    have hi1 := hin
    clear hin
    refine lv_aload_n hx hb dX3_add_15 rfl (lv_at hl 1 rfl) ?_
    refine g_calli (va_runV (As := []) (rest := []) ⟨hx, hb, hml, hown, hts⟩ (mtX5_value l D w H.size i9 (D.2 1002 op) rg vl tg hi) (cwV 0 hts (lw_V q1983 q566 q567 q49 q568) rfl rfl rfl (by decide +kernel) ⟨Nat.le_of_ble_eq_true rfl, Nat.le_of_ble_eq_true rfl⟩) (g_preV hW hK hE hi rfl) rfl rfl hl.1 rfl (lv_room (Nat.le_of_ble_eq_true rfl)) dX3_add_16 ⟨Nat.le_of_ble_eq_true rfl, Nat.le_of_ble_eq_true rfl⟩) hW (fun r_ u_ H locs hp hW => ?_)
    obtain ⟨er, rfl⟩ := hp
    rw [er]
    refine lv_i2l (v := (vl : Int32).toInt64) hx hb dX3_add_19 rfl ?_
    refine lv_ldc2 hx hb hown (hts _ q1984) dX3_add_20 ?_
    refine lv_ldc2 hx hb hown (hts _ q1985) dX3_add_23 ?_
    refine g_calli (va_runS (As := [.long ((vl : Int32).toInt64), .long ((-99)), .long (99)]) (rest := []) ⟨hx, hb, hml, hown, hts⟩ (mtX3_in l D w H.size (vl : Int32).toInt64 (-99) (99)) (va_cwS 3 hts (lw_S q1980 q1981 q47 q1982) rfl rfl rfl (by decide +kernel) ⟨Nat.le_of_ble_eq_true rfl, Nat.le_of_ble_eq_true rfl⟩) (g_preS hW hK hE) rfl rfl hl.1 rfl (lv_room (Nat.le_of_ble_eq_true rfl)) dX3_add_26 ⟨Nat.le_of_ble_eq_true rfl, Nat.le_of_ble_eq_true rfl⟩) hW (fun r_ u_ H locs hp hW => ?_)
    obtain ⟨er, rfl⟩ := hp
    subst er
    by_cases hq9 : (-99 : Int64) ≤ (vl : Int32).toInt64 ∧ (vl : Int32).toInt64 ≤ 99
    · rw [if_pos hq9]
      refine lv_if_eq (tgt := 67) hx hb dX3_add_29 (by decide) (fun hz => absurd hz (by decide)) (fun _ => ?_)
      have hin : (-99 : Int32) ≤ vl ∧ vl ≤ 99 := (i2l_in rfl rfl).mp hq9
      clear hq9
      have hi2 := hin
      clear hin
      refine lv_aload_n hx hb dX3_add_32 rfl (lv_at hl 1 rfl) ?_
      refine g_calli (va_runV (As := []) (rest := []) ⟨hx, hb, hml, hown, hts⟩ (mtX5_target l D w H.size i9 (D.2 1002 op) rg vl tg hi) (cwV 0 hts (lw_V q1986 q570 q571 q49 q572) rfl rfl rfl (by decide +kernel) ⟨Nat.le_of_ble_eq_true rfl, Nat.le_of_ble_eq_true rfl⟩) (g_preV hW hK hE hi rfl) rfl rfl hl.1 rfl (lv_room (Nat.le_of_ble_eq_true rfl)) dX3_add_33 ⟨Nat.le_of_ble_eq_true rfl, Nat.le_of_ble_eq_true rfl⟩) hW (fun r_ u_ H locs hp hW => ?_)
      obtain ⟨er, rfl⟩ := hp
      rw [er]
      refine lv_i2l (v := (tg : Int32).toInt64) hx hb dX3_add_36 rfl ?_
      refine lv_lconst (v := 0) hx hb dX3_add_37 rfl ?_
      refine lv_aload_n hx hb dX3_add_38 rfl (lv_at hl 1 rfl) ?_
      refine g_callq (va_runV (As := []) (rest := [.long (0), .long ((tg : Int32).toInt64)]) ⟨hx, hb, hml, hown, hts⟩ (mtX5_op l D w H.size i9 (D.2 1002 op) rg vl tg hi) (cwV 0 hts (lw_V q1987 q554 q555 q49 q556) rfl rfl rfl (by decide +kernel) ⟨Nat.le_of_ble_eq_true rfl, Nat.le_of_ble_eq_true rfl⟩) (g_preV hW hK hE hi rfl) rfl rfl hl.1 rfl (lv_room (Nat.le_of_ble_eq_true rfl)) dX3_add_39 ⟨Nat.le_of_ble_eq_true rfl, Nat.le_of_ble_eq_true rfl⟩) hW (fun r_ u_ H locs hp hW => ?_)
      obtain ⟨er, rfl⟩ := hp
      subst er
      refine va_gets hx hb ((hE.2.2.2.2.2.2.1.1 3 (by decide)).1) hW.2.2.1 hown (hts _ q1988) (fun _ h9 => h9) dX3_add_42 ?_
      refine lv_acmp_ne (rx := some (D.2 1002 op)) (ry := some (D.2 1002 3)) (tgt := 54) hx hb dX3_add_45 (by decide) (fun hc => ?_) (fun hc => ?_)
      · have h3 : op ≠ 3 := fun z => hc (by rw [z])
        have hgr : (if op = 3 then (3 : Int32) else 31) = 31 := if_neg h3
        refine lv_ldc2 hx hb hown (hts _ q1989) dX3_add_54 ?_
        refine g_calli (va_runS (As := [.long ((tg : Int32).toInt64), .long (0), .long (31)]) (rest := []) ⟨hx, hb, hml, hown, hts⟩ (mtX3_in l D w H.size (tg : Int32).toInt64 (0) (31)) (va_cwS 3 hts (lw_S q1980 q1981 q47 q1982) rfl rfl rfl (by decide +kernel) ⟨Nat.le_of_ble_eq_true rfl, Nat.le_of_ble_eq_true rfl⟩) (g_preS hW hK hE) rfl rfl hl.1 rfl (lv_room (Nat.le_of_ble_eq_true rfl)) dX3_add_57 ⟨Nat.le_of_ble_eq_true rfl, Nat.le_of_ble_eq_true rfl⟩) hW (fun r_ u_ H locs hp hW => ?_)
        obtain ⟨er, rfl⟩ := hp
        subst er
        by_cases hq9 : (0 : Int64) ≤ (tg : Int32).toInt64 ∧ (tg : Int32).toInt64 ≤ 31
        · rw [if_pos hq9]
          refine lv_if_eq (tgt := 67) hx hb dX3_add_60 (by decide) (fun hz => absurd hz (by decide)) (fun _ => ?_)
          have hin : (0 : Int32) ≤ tg ∧ tg ≤ 31 := (i2l_in rfl rfl).mp hq9
          clear hq9
          have hall : iOk op rg vl tg := ⟨hi1, hi2, by rw [hgr]; exact hin⟩
          refine lv_iconst (v := 1) hx hb dX3_add_63 (by decide) ?_
          refine lv_goto (tgt := 68) hx hb dX3_add_64 (by decide) ?_
          refine lv_istore_n (lv' := [(2, .int (1)), (0, .ref y), (1, .ref i9)]) hx hb dX3_add_68 rfl hl (by decide) rfl (fun ls hl => ?_)
          refine lv_aload_n hx hb dX3_add_69 rfl (lv_at hl 1 rfl) ?_
          refine lv_iload_n hx hb dX3_add_70 rfl (lv_at hl 0 rfl) ?_
          refine lv_if_ne (tgt := 78) hx hb dX3_add_71 (by decide) (fun _ => ?_) (fun hz => absurd (by first | exact hz | exact Classical.not_not.mp hz) (by decide))
          refine lv_aload_n hx hb dX3_add_78 rfl (lv_at hl 1 rfl) ?_
          refine g_get (ci := 10) (v := .int (nI P.length)) (C := RX3) (T := TX3) (N := 28) hx hb hts in_X3 hown hK hW hy rfl 4 (by decide) q1888 (fun _ h9 => h9) rfl dX3_add_79 ?_
          refine lv_bipush (v := 16) hx hb dX3_add_82 (by decide) ?_
          refine lv_icmp_eq (tgt := 94) hx hb dX3_add_84 (by decide) (fun hd => ?_) (fun hd => ?_)
          · have hfl : ¬ (P.length < 16 ∧ rn = 0) := fun z => absurd (nI_inj (a := P.length) (b := 16) (by omega) (by decide) (by first | exact hd | exact Classical.not_not.mp hd)) (by omega)
            refine lv_iconst (v := 2) hx hb dX3_add_94 (by decide) ?_
            refine lv_goto (tgt := 99) hx hb dX3_add_95 (by decide) ?_
            refine g_putf (ci := 10) (v := .int (2)) (ty := .int) (C := RX3) (T := TX3) (N := 28) hx hb hts in_X3 tyX3 tyX3_ok nmX3 hown hK hW hy rfl 27 (by decide) q1911 (fun _ h9 => h9) rfl (by decide +kernel) rfl rfl (Nat.le_of_ble_eq_true rfl) dX3_add_99 (fun H locs hW => ?_)
            obtain ⟨w_2, ew_2⟩ : ∃ z__, z__ = g_put w y (.inr (10, mO mf (nI P.length) (nI C.length) (en) (td) (st) (nI rn) (lN tt) (nI K.length) (nI fq) (nI ac) (nI F.length) (2))) := ⟨_, rfl⟩
            have hW := g_W.ren hW ew_2 rfl
            have h_3 : g_at w_2 y (.inr (10, mO mf (nI P.length) (nI C.length) (en) (td) (st) (nI rn) (lN tt) (nI K.length) (nI fq) (nI ac) (nI F.length) (2))) := by rw [ew_2]; exact g_at.put_self hy.1
            have h_4 : g_at w_2 i9 (.inr (7, [.ref (D.2 1002 op), .int (rg), .int (vl), .int (tg)])) := by rw [ew_2]; exact hi.put (g_neO hi hy (by decide))
            have x_5 : g_ex (fun q => q = y) w w_2 := by rw [ew_2]; exact x_1.put (fun hz9 => rfl)
            have hZ1 := hZ.obj (rn2 := rn) (tt2 := tt) (fq2 := fq) (ac2 := ac) h_3 x_5 hb9.2.1 hb9.2.2.1 hb9.2.2.2.1 hb9.2.2.2.2
            have hz1 := hZ.zobj x_5
            refine lv_aload_n hx hb dX3_add_102 rfl (lv_at hl 1 rfl) ?_
            refine g_get (ci := 10) (v := .int (2)) (C := RX3) (T := TX3) (N := 28) hx hb hts in_X3 hown hK hW h_3 rfl 27 (by decide) q1911 (fun _ h9 => h9) rfl dX3_add_103 ?_
            refine lv_if_le (tgt := 111) hx hb dX3_add_106 (by decide) (fun hz => absurd hz (by decide)) (fun _ => ?_)
            refine lv_iconst (v := (-1)) hx hb dX3_add_109 (by decide) ?_
            exact g_iret (v := (-1)) hx hb hr hlocks hW (⟨P, 2, hZ1, hz1, Or.inr ⟨rfl, Or.inr ⟨hall, hfl, rfl⟩⟩⟩) (by omega) (by omega) dX3_add_110
          · have hlt : P.length < 16 := Nat.lt_of_le_of_ne hP16 (fun z => hd (by rw [z]; rfl))
            refine lv_aload_n hx hb dX3_add_87 rfl (lv_at hl 1 rfl) ?_
            refine g_get (ci := 10) (v := .int (nI rn)) (C := RX3) (T := TX3) (N := 28) hx hb hts in_X3 hown hK hW hy rfl 16 (by decide) q1900 (fun _ h9 => h9) rfl dX3_add_88 ?_
            by_cases hr0 : rn = 0
            · refine lv_if_le (tgt := 98) hx hb dX3_add_91 (by decide) (fun _ => ?_) (fun hz => absurd (by rw [hr0]; decide) hz)
              obtain ⟨a, b, ea, eb, ea2, eb2, hmk⟩ := iOk_m hop hall
              subst ea
              subst eb
              rw [ea2, eb2]
              have hx0 : g_ex (fun q => q = y ∨ q = mf 0 ∨ q = mf 1 ∨ q = mf 2 ∨ q = mf 3) w w := g_ex.rf
              have ny0 : y ≠ mf 0 := g_neOA hy a0
              have ny1 : y ≠ mf 1 := g_neOA hy a1
              have ny2 : y ≠ mf 2 := g_neOA hy a2
              have ny3 : y ≠ mf 3 := g_neOA hy a3
              refine lv_iconst (v := 0) hx hb dX3_add_98 (by decide) ?_
              refine g_putf (ci := 10) (v := .int (0)) (ty := .int) (C := RX3) (T := TX3) (N := 28) hx hb hts in_X3 tyX3 tyX3_ok nmX3 hown hK hW hy rfl 27 (by decide) q1911 (fun _ h9 => h9) rfl (by decide +kernel) rfl rfl (Nat.le_of_ble_eq_true rfl) dX3_add_99 (fun H locs hW => ?_)
              obtain ⟨w_6, ew_6⟩ : ∃ z__, z__ = g_put w y (.inr (10, mO mf (nI P.length) (nI C.length) (en) (td) (st) (nI rn) (lN tt) (nI K.length) (nI fq) (nI ac) (nI F.length) (0))) := ⟨_, rfl⟩
              have hW := g_W.ren hW ew_6 rfl
              have h_7 : g_at w_6 y (.inr (10, mO mf (nI P.length) (nI C.length) (en) (td) (st) (nI rn) (lN tt) (nI K.length) (nI fq) (nI ac) (nI F.length) (0))) := by rw [ew_6]; exact g_at.put_self hy.1
              have h_8 : g_at w_6 i9 (.inr (7, [.ref (D.2 1002 op), .int ((nI a)), .int (vl), .int ((nI b))])) := by rw [ew_6]; exact hi.put (g_neO hi hy (by decide))
              have h_9 : g_at w_6 (mf 0) (.inl (D.1 100, 16, .inl (f0))) := by rw [ew_6]; exact a0.put ny0.symm
              have h_10 : g_at w_6 (mf 1) (.inl (D.1 100, 16, .inl (f1))) := by rw [ew_6]; exact a1.put ny1.symm
              have h_11 : g_at w_6 (mf 2) (.inl (D.1 100, 16, .inl (f2))) := by rw [ew_6]; exact a2.put ny2.symm
              have h_12 : g_at w_6 (mf 3) (.inl (D.1 100, 16, .inl (f3))) := by rw [ew_6]; exact a3.put ny3.symm
              have x_13 : g_ex (fun q => q = y ∨ q = mf 0 ∨ q = mf 1 ∨ q = mf 2 ∨ q = mf 3) w w_6 := by rw [ew_6]; exact hx0.put (fun hz9 => (Or.inl rfl))
              refine lv_aload_n hx hb dX3_add_102 rfl (lv_at hl 1 rfl) ?_
              refine g_get (ci := 10) (v := .int (0)) (C := RX3) (T := TX3) (N := 28) hx hb hts in_X3 hown hK hW h_7 rfl 27 (by decide) q1911 (fun _ h9 => h9) rfl dX3_add_103 ?_
              refine lv_if_le (tgt := 111) hx hb dX3_add_106 (by decide) (fun _ => ?_) (fun hz => absurd (by decide) hz)
              refine lv_aload_n hx hb dX3_add_111 rfl (lv_at hl 1 rfl) ?_
              refine g_get (ci := 10) (v := .ref (mf 0)) (C := RX3) (T := TX3) (N := 28) hx hb hts in_X3 hown hK hW h_7 rfl 0 (by decide) q1884 (fun _ h9 => h9) rfl dX3_add_112 ?_
              refine lv_aload_n hx hb dX3_add_115 rfl (lv_at hl 1 rfl) ?_
              refine g_get (ci := 10) (v := .int (nI P.length)) (C := RX3) (T := TX3) (N := 28) hx hb hts in_X3 hown hK hW h_7 rfl 4 (by decide) q1888 (fun _ h9 => h9) rfl dX3_add_116 ?_
              refine lv_aload_n hx hb dX3_add_119 rfl (lv_at hl 2 rfl) ?_
              refine g_callq (va_runV (As := []) (rest := [.int (nI P.length), .ref (mf 0)]) ⟨hx, hb, hml, hown, hts⟩ (mtX5_op l D w_6 H.size i9 (D.2 1002 op) (nI a) vl (nI b) h_8) (cwV 0 hts (lw_V q1987 q554 q555 q49 q556) rfl rfl rfl (by decide +kernel) ⟨Nat.le_of_ble_eq_true rfl, Nat.le_of_ble_eq_true rfl⟩) (g_preV hW hK hE h_8 rfl) rfl rfl hl.1 rfl (lv_room (Nat.le_of_ble_eq_true rfl)) dX3_add_120 ⟨Nat.le_of_ble_eq_true rfl, Nat.le_of_ble_eq_true rfl⟩) hW (fun r_ u_ H locs hp hW => ?_)
              obtain ⟨er, rfl⟩ := hp
              subst er
              refine g_calli (va_runU (As := []) (rest := [.int (nI P.length), .ref (mf 0)]) ⟨hx, hb, hml, hown, hts⟩ (mtJ10_ordinal l D w_6 H.size (D.2 1002 op) (nI op) (fun s hE => g_op hop s hE)) (va_cwU (owner := "java/lang/Enum") (x := ⟨"Op", "ordinal", "()I"⟩) 0 hts (lw_app (lw_in _ [1990, 1208, 1209, 678, 50] (by decide +kernel) (by decide +kernel)) (lw_meth q679)) rfl rfl rfl rfl (by decide +kernel) ⟨Nat.le_of_ble_eq_true rfl, Nat.le_of_ble_eq_true rfl⟩) (g_preVR hW hK hE (g_opO hE hW hop)) rfl rfl hl.1 rfl (lv_room (Nat.le_of_ble_eq_true rfl)) dX3_add_123 ⟨Nat.le_of_ble_eq_true rfl, Nat.le_of_ble_eq_true rfl⟩) hW (fun r_ u_ H locs hp hW => ?_)
              obtain ⟨er, rfl⟩ := hp
              subst er
              refine g_iast (i := P.length) hx hb hK hW h_9 (hlt) (by decide) dX3_add_126 (fun H locs hW => ?_)
              obtain ⟨f_14, ef_14⟩ : ∃ z__, z__ = upd (f0) (P.length) (nI op) := ⟨_, rfl⟩
              rw [← ef_14] at hW
              obtain ⟨w_15, ew_15⟩ : ∃ z__, z__ = g_put w_6 (mf 0) (.inl (D.1 100, 16, .inl (f_14))) := ⟨_, rfl⟩
              have hW := g_W.ren hW ew_15 rfl
              have h_16 : g_at w_15 y (.inr (10, mO mf (nI P.length) (nI C.length) (en) (td) (st) (nI rn) (lN tt) (nI K.length) (nI fq) (nI ac) (nI F.length) (0))) := by rw [ew_15]; exact h_7.put ny0
              have h_17 : g_at w_15 i9 (.inr (7, [.ref (D.2 1002 op), .int ((nI a)), .int (vl), .int ((nI b))])) := by rw [ew_15]; exact h_8.put (g_neOA h_8 h_9)
              have h_18 : g_at w_15 (mf 0) (.inl (D.1 100, 16, .inl (f_14))) := by rw [ew_15]; exact g_at.put_self h_9.1
              have h_19 : g_at w_15 (mf 1) (.inl (D.1 100, 16, .inl (f1))) := by rw [ew_15]; exact h_10.put (g_lne (hL 1 (by decide)) (hL 0 (by decide)) (by decide))
              have h_20 : g_at w_15 (mf 2) (.inl (D.1 100, 16, .inl (f2))) := by rw [ew_15]; exact h_11.put (g_lne (hL 2 (by decide)) (hL 0 (by decide)) (by decide))
              have h_21 : g_at w_15 (mf 3) (.inl (D.1 100, 16, .inl (f3))) := by rw [ew_15]; exact h_12.put (g_lne (hL 3 (by decide)) (hL 0 (by decide)) (by decide))
              have x_22 : g_ex (fun q => q = y ∨ q = mf 0 ∨ q = mf 1 ∨ q = mf 2 ∨ q = mf 3) w w_15 := by rw [ew_15]; exact x_13.put (fun hz9 => (Or.inr (Or.inl rfl)))
              refine lv_aload_n hx hb dX3_add_127 rfl (lv_at hl 1 rfl) ?_
              refine g_get (ci := 10) (v := .ref (mf 1)) (C := RX3) (T := TX3) (N := 28) hx hb hts in_X3 hown hK hW h_16 rfl 1 (by decide) q1885 (fun _ h9 => h9) rfl dX3_add_128 ?_
              refine lv_aload_n hx hb dX3_add_131 rfl (lv_at hl 1 rfl) ?_
              refine g_get (ci := 10) (v := .int (nI P.length)) (C := RX3) (T := TX3) (N := 28) hx hb hts in_X3 hown hK hW h_16 rfl 4 (by decide) q1888 (fun _ h9 => h9) rfl dX3_add_132 ?_
              refine lv_aload_n hx hb dX3_add_135 rfl (lv_at hl 2 rfl) ?_
              refine g_calli (va_runV (As := []) (rest := [.int (nI P.length), .ref (mf 1)]) ⟨hx, hb, hml, hown, hts⟩ (mtX5_register l D w_15 H.size i9 (D.2 1002 op) (nI a) vl (nI b) h_17) (cwV 0 hts (lw_V q1978 q559 q560 q49 q561) rfl rfl rfl (by decide +kernel) ⟨Nat.le_of_ble_eq_true rfl, Nat.le_of_ble_eq_true rfl⟩) (g_preV hW hK hE h_17 rfl) rfl rfl hl.1 rfl (lv_room (Nat.le_of_ble_eq_true rfl)) dX3_add_136 ⟨Nat.le_of_ble_eq_true rfl, Nat.le_of_ble_eq_true rfl⟩) hW (fun r_ u_ H locs hp hW => ?_)
              obtain ⟨er, rfl⟩ := hp
              subst er
              refine g_iast (i := P.length) hx hb hK hW h_19 (hlt) (by decide) dX3_add_139 (fun H locs hW => ?_)
              obtain ⟨f_23, ef_23⟩ : ∃ z__, z__ = upd (f1) (P.length) (nI a) := ⟨_, rfl⟩
              rw [← ef_23] at hW
              obtain ⟨w_24, ew_24⟩ : ∃ z__, z__ = g_put w_15 (mf 1) (.inl (D.1 100, 16, .inl (f_23))) := ⟨_, rfl⟩
              have hW := g_W.ren hW ew_24 rfl
              have h_25 : g_at w_24 y (.inr (10, mO mf (nI P.length) (nI C.length) (en) (td) (st) (nI rn) (lN tt) (nI K.length) (nI fq) (nI ac) (nI F.length) (0))) := by rw [ew_24]; exact h_16.put ny1
              have h_26 : g_at w_24 i9 (.inr (7, [.ref (D.2 1002 op), .int ((nI a)), .int (vl), .int ((nI b))])) := by rw [ew_24]; exact h_17.put (g_neOA h_17 h_19)
              have h_27 : g_at w_24 (mf 0) (.inl (D.1 100, 16, .inl (f_14))) := by rw [ew_24]; exact h_18.put (g_lne (hL 0 (by decide)) (hL 1 (by decide)) (by decide))
              have h_28 : g_at w_24 (mf 1) (.inl (D.1 100, 16, .inl (f_23))) := by rw [ew_24]; exact g_at.put_self h_19.1
              have h_29 : g_at w_24 (mf 2) (.inl (D.1 100, 16, .inl (f2))) := by rw [ew_24]; exact h_20.put (g_lne (hL 2 (by decide)) (hL 1 (by decide)) (by decide))
              have h_30 : g_at w_24 (mf 3) (.inl (D.1 100, 16, .inl (f3))) := by rw [ew_24]; exact h_21.put (g_lne (hL 3 (by decide)) (hL 1 (by decide)) (by decide))
              have x_31 : g_ex (fun q => q = y ∨ q = mf 0 ∨ q = mf 1 ∨ q = mf 2 ∨ q = mf 3) w w_24 := by rw [ew_24]; exact x_22.put (fun hz9 => (Or.inr (Or.inr (Or.inl rfl))))
              refine lv_aload_n hx hb dX3_add_140 rfl (lv_at hl 1 rfl) ?_
              refine g_get (ci := 10) (v := .ref (mf 2)) (C := RX3) (T := TX3) (N := 28) hx hb hts in_X3 hown hK hW h_25 rfl 2 (by decide) q1886 (fun _ h9 => h9) rfl dX3_add_141 ?_
              refine lv_aload_n hx hb dX3_add_144 rfl (lv_at hl 1 rfl) ?_
              refine g_get (ci := 10) (v := .int (nI P.length)) (C := RX3) (T := TX3) (N := 28) hx hb hts in_X3 hown hK hW h_25 rfl 4 (by decide) q1888 (fun _ h9 => h9) rfl dX3_add_145 ?_
              refine lv_aload_n hx hb dX3_add_148 rfl (lv_at hl 2 rfl) ?_
              refine g_calli (va_runV (As := []) (rest := [.int (nI P.length), .ref (mf 2)]) ⟨hx, hb, hml, hown, hts⟩ (mtX5_value l D w_24 H.size i9 (D.2 1002 op) (nI a) vl (nI b) h_26) (cwV 0 hts (lw_V q1983 q566 q567 q49 q568) rfl rfl rfl (by decide +kernel) ⟨Nat.le_of_ble_eq_true rfl, Nat.le_of_ble_eq_true rfl⟩) (g_preV hW hK hE h_26 rfl) rfl rfl hl.1 rfl (lv_room (Nat.le_of_ble_eq_true rfl)) dX3_add_149 ⟨Nat.le_of_ble_eq_true rfl, Nat.le_of_ble_eq_true rfl⟩) hW (fun r_ u_ H locs hp hW => ?_)
              obtain ⟨er, rfl⟩ := hp
              rw [er]
              refine g_iast (i := P.length) hx hb hK hW h_29 (hlt) (by decide) dX3_add_152 (fun H locs hW => ?_)
              obtain ⟨f_32, ef_32⟩ : ∃ z__, z__ = upd (f2) (P.length) (vl) := ⟨_, rfl⟩
              rw [← ef_32] at hW
              obtain ⟨w_33, ew_33⟩ : ∃ z__, z__ = g_put w_24 (mf 2) (.inl (D.1 100, 16, .inl (f_32))) := ⟨_, rfl⟩
              have hW := g_W.ren hW ew_33 rfl
              have h_34 : g_at w_33 y (.inr (10, mO mf (nI P.length) (nI C.length) (en) (td) (st) (nI rn) (lN tt) (nI K.length) (nI fq) (nI ac) (nI F.length) (0))) := by rw [ew_33]; exact h_25.put ny2
              have h_35 : g_at w_33 i9 (.inr (7, [.ref (D.2 1002 op), .int ((nI a)), .int (vl), .int ((nI b))])) := by rw [ew_33]; exact h_26.put (g_neOA h_26 h_29)
              have h_36 : g_at w_33 (mf 0) (.inl (D.1 100, 16, .inl (f_14))) := by rw [ew_33]; exact h_27.put (g_lne (hL 0 (by decide)) (hL 2 (by decide)) (by decide))
              have h_37 : g_at w_33 (mf 1) (.inl (D.1 100, 16, .inl (f_23))) := by rw [ew_33]; exact h_28.put (g_lne (hL 1 (by decide)) (hL 2 (by decide)) (by decide))
              have h_38 : g_at w_33 (mf 2) (.inl (D.1 100, 16, .inl (f_32))) := by rw [ew_33]; exact g_at.put_self h_29.1
              have h_39 : g_at w_33 (mf 3) (.inl (D.1 100, 16, .inl (f3))) := by rw [ew_33]; exact h_30.put (g_lne (hL 3 (by decide)) (hL 2 (by decide)) (by decide))
              have x_40 : g_ex (fun q => q = y ∨ q = mf 0 ∨ q = mf 1 ∨ q = mf 2 ∨ q = mf 3) w w_33 := by rw [ew_33]; exact x_31.put (fun hz9 => (Or.inr (Or.inr (Or.inr (Or.inl rfl)))))
              refine lv_aload_n hx hb dX3_add_153 rfl (lv_at hl 1 rfl) ?_
              refine g_get (ci := 10) (v := .ref (mf 3)) (C := RX3) (T := TX3) (N := 28) hx hb hts in_X3 hown hK hW h_34 rfl 3 (by decide) q1887 (fun _ h9 => h9) rfl dX3_add_154 ?_
              refine lv_aload_n hx hb dX3_add_157 rfl (lv_at hl 1 rfl) ?_
              refine g_get (ci := 10) (v := .int (nI P.length)) (C := RX3) (T := TX3) (N := 28) hx hb hts in_X3 hown hK hW h_34 rfl 4 (by decide) q1888 (fun _ h9 => h9) rfl dX3_add_158 ?_
              refine lv_aload_n hx hb dX3_add_161 rfl (lv_at hl 2 rfl) ?_
              refine g_calli (va_runV (As := []) (rest := [.int (nI P.length), .ref (mf 3)]) ⟨hx, hb, hml, hown, hts⟩ (mtX5_target l D w_33 H.size i9 (D.2 1002 op) (nI a) vl (nI b) h_35) (cwV 0 hts (lw_V q1986 q570 q571 q49 q572) rfl rfl rfl (by decide +kernel) ⟨Nat.le_of_ble_eq_true rfl, Nat.le_of_ble_eq_true rfl⟩) (g_preV hW hK hE h_35 rfl) rfl rfl hl.1 rfl (lv_room (Nat.le_of_ble_eq_true rfl)) dX3_add_162 ⟨Nat.le_of_ble_eq_true rfl, Nat.le_of_ble_eq_true rfl⟩) hW (fun r_ u_ H locs hp hW => ?_)
              obtain ⟨er, rfl⟩ := hp
              subst er
              refine g_iast (i := P.length) hx hb hK hW h_39 (hlt) (by decide) dX3_add_165 (fun H locs hW => ?_)
              obtain ⟨f_41, ef_41⟩ : ∃ z__, z__ = upd (f3) (P.length) (nI b) := ⟨_, rfl⟩
              rw [← ef_41] at hW
              obtain ⟨w_42, ew_42⟩ : ∃ z__, z__ = g_put w_33 (mf 3) (.inl (D.1 100, 16, .inl (f_41))) := ⟨_, rfl⟩
              have hW := g_W.ren hW ew_42 rfl
              have h_43 : g_at w_42 y (.inr (10, mO mf (nI P.length) (nI C.length) (en) (td) (st) (nI rn) (lN tt) (nI K.length) (nI fq) (nI ac) (nI F.length) (0))) := by rw [ew_42]; exact h_34.put ny3
              have h_44 : g_at w_42 i9 (.inr (7, [.ref (D.2 1002 op), .int ((nI a)), .int (vl), .int ((nI b))])) := by rw [ew_42]; exact h_35.put (g_neOA h_35 h_39)
              have h_45 : g_at w_42 (mf 0) (.inl (D.1 100, 16, .inl (f_14))) := by rw [ew_42]; exact h_36.put (g_lne (hL 0 (by decide)) (hL 3 (by decide)) (by decide))
              have h_46 : g_at w_42 (mf 1) (.inl (D.1 100, 16, .inl (f_23))) := by rw [ew_42]; exact h_37.put (g_lne (hL 1 (by decide)) (hL 3 (by decide)) (by decide))
              have h_47 : g_at w_42 (mf 2) (.inl (D.1 100, 16, .inl (f_32))) := by rw [ew_42]; exact h_38.put (g_lne (hL 2 (by decide)) (hL 3 (by decide)) (by decide))
              have h_48 : g_at w_42 (mf 3) (.inl (D.1 100, 16, .inl (f_41))) := by rw [ew_42]; exact g_at.put_self h_39.1
              have x_49 : g_ex (fun q => q = y ∨ q = mf 0 ∨ q = mf 1 ∨ q = mf 2 ∨ q = mf 3) w w_42 := by rw [ew_42]; exact x_40.put (fun hz9 => (Or.inr (Or.inr (Or.inr (Or.inr (rfl))))))
              refine lv_aload_n hx hb dX3_add_166 rfl (lv_at hl 1 rfl) ?_
              refine lv_dup hx hb dX3_add_167 rfl ?_
              refine g_get (ci := 10) (v := .int (nI P.length)) (C := RX3) (T := TX3) (N := 28) hx hb hts in_X3 hown hK hW h_43 rfl 4 (by decide) q1888 (fun _ h9 => h9) rfl dX3_add_168 ?_
              refine lv_iconst (v := 1) hx hb dX3_add_171 (by decide) ?_
              refine lv_iadd hx hb dX3_add_172 ?_
              refine g_topi (y := nI (P.length + 1)) (nI_1 _) ?_
              refine g_putf (ci := 10) (v := .int (nI (P.length + 1))) (ty := .int) (C := RX3) (T := TX3) (N := 28) hx hb hts in_X3 tyX3 tyX3_ok nmX3 hown hK hW h_43 rfl 4 (by decide) q1888 (fun _ h9 => h9) rfl (by decide +kernel) rfl rfl (Nat.le_of_ble_eq_true rfl) dX3_add_173 (fun H locs hW => ?_)
              obtain ⟨w_50, ew_50⟩ : ∃ z__, z__ = g_put w_42 y (.inr (10, mO mf (nI (P.length + 1)) (nI C.length) (en) (td) (st) (nI rn) (lN tt) (nI K.length) (nI fq) (nI ac) (nI F.length) (0))) := ⟨_, rfl⟩
              have hW := g_W.ren hW ew_50 rfl
              have h_51 : g_at w_50 y (.inr (10, mO mf (nI (P.length + 1)) (nI C.length) (en) (td) (st) (nI rn) (lN tt) (nI K.length) (nI fq) (nI ac) (nI F.length) (0))) := by rw [ew_50]; exact g_at.put_self h_43.1
              have h_52 : g_at w_50 i9 (.inr (7, [.ref (D.2 1002 op), .int ((nI a)), .int (vl), .int ((nI b))])) := by rw [ew_50]; exact h_44.put (g_neO h_44 h_43 (by decide))
              have h_53 : g_at w_50 (mf 0) (.inl (D.1 100, 16, .inl (f_14))) := by rw [ew_50]; exact h_45.put ny0.symm
              have h_54 : g_at w_50 (mf 1) (.inl (D.1 100, 16, .inl (f_23))) := by rw [ew_50]; exact h_46.put ny1.symm
              have h_55 : g_at w_50 (mf 2) (.inl (D.1 100, 16, .inl (f_32))) := by rw [ew_50]; exact h_47.put ny2.symm
              have h_56 : g_at w_50 (mf 3) (.inl (D.1 100, 16, .inl (f_41))) := by rw [ew_50]; exact h_48.put ny3.symm
              have x_57 : g_ex (fun q => q = y ∨ q = mf 0 ∨ q = mf 1 ∨ q = mf 2 ∨ q = mf 3) w w_50 := by rw [ew_50]; exact x_49.put (fun hz9 => (Or.inl rfl))
              refine lv_aload_n hx hb dX3_add_176 rfl (lv_at hl 1 rfl) ?_
              refine g_get (ci := 10) (v := .int (nI (P.length + 1))) (C := RX3) (T := TX3) (N := 28) hx hb hts in_X3 hown hK hW h_51 rfl 4 (by decide) q1888 (fun _ h9 => h9) rfl dX3_add_177 ?_
              obtain ⟨hZ9, hz9⟩ := hZ.addI hK a0 a1 a2 a3 hok k0 k1 k2 k3 hlt hmk h_51 x_57 h_53 h_54 h_55 h_56 ef_14 ef_23 ef_32 ef_41
              exact g_iret (v := nI (P.length + 1)) hx hb hr hlocks hW (⟨_, 0, hZ9, hz9, Or.inl ⟨⟨hall, hlt, hr0⟩, rfl, rfl, rfl⟩⟩) (by omega) (by omega) dX3_add_180
            · refine lv_if_le (tgt := 98) hx hb dX3_add_91 (by decide) (fun hz => absurd hz (Int32.not_le.mpr ((nI_gt0 (by omega)).mpr (by omega)))) (fun _ => ?_)
              have hfl : ¬ (P.length < 16 ∧ rn = 0) := fun z => hr0 z.2
              refine lv_iconst (v := 2) hx hb dX3_add_94 (by decide) ?_
              refine lv_goto (tgt := 99) hx hb dX3_add_95 (by decide) ?_
              refine g_putf (ci := 10) (v := .int (2)) (ty := .int) (C := RX3) (T := TX3) (N := 28) hx hb hts in_X3 tyX3 tyX3_ok nmX3 hown hK hW hy rfl 27 (by decide) q1911 (fun _ h9 => h9) rfl (by decide +kernel) rfl rfl (Nat.le_of_ble_eq_true rfl) dX3_add_99 (fun H locs hW => ?_)
              obtain ⟨w_58, ew_58⟩ : ∃ z__, z__ = g_put w y (.inr (10, mO mf (nI P.length) (nI C.length) (en) (td) (st) (nI rn) (lN tt) (nI K.length) (nI fq) (nI ac) (nI F.length) (2))) := ⟨_, rfl⟩
              have hW := g_W.ren hW ew_58 rfl
              have h_59 : g_at w_58 y (.inr (10, mO mf (nI P.length) (nI C.length) (en) (td) (st) (nI rn) (lN tt) (nI K.length) (nI fq) (nI ac) (nI F.length) (2))) := by rw [ew_58]; exact g_at.put_self hy.1
              have h_60 : g_at w_58 i9 (.inr (7, [.ref (D.2 1002 op), .int (rg), .int (vl), .int (tg)])) := by rw [ew_58]; exact hi.put (g_neO hi hy (by decide))
              have x_61 : g_ex (fun q => q = y) w w_58 := by rw [ew_58]; exact x_1.put (fun hz9 => rfl)
              have hZ1 := hZ.obj (rn2 := rn) (tt2 := tt) (fq2 := fq) (ac2 := ac) h_59 x_61 hb9.2.1 hb9.2.2.1 hb9.2.2.2.1 hb9.2.2.2.2
              have hz1 := hZ.zobj x_61
              refine lv_aload_n hx hb dX3_add_102 rfl (lv_at hl 1 rfl) ?_
              refine g_get (ci := 10) (v := .int (2)) (C := RX3) (T := TX3) (N := 28) hx hb hts in_X3 hown hK hW h_59 rfl 27 (by decide) q1911 (fun _ h9 => h9) rfl dX3_add_103 ?_
              refine lv_if_le (tgt := 111) hx hb dX3_add_106 (by decide) (fun hz => absurd hz (by decide)) (fun _ => ?_)
              refine lv_iconst (v := (-1)) hx hb dX3_add_109 (by decide) ?_
              exact g_iret (v := (-1)) hx hb hr hlocks hW (⟨P, 2, hZ1, hz1, Or.inr ⟨rfl, Or.inr ⟨hall, hfl, rfl⟩⟩⟩) (by omega) (by omega) dX3_add_110
        · rw [if_neg hq9]
          refine lv_if_eq (tgt := 67) hx hb dX3_add_60 (by decide) (fun _ => ?_) (fun hz => absurd rfl hz)
          have hin : ¬ ((0 : Int32) ≤ tg ∧ tg ≤ 31) := fun z => hq9 ((i2l_in rfl rfl).mpr z)
          clear hq9
          have hc : ¬ iOk op rg vl tg := fun z => hin (by have h9 := z.2.2; rw [hgr] at h9; exact h9)
          refine lv_iconst (v := 0) hx hb dX3_add_67 (by decide) ?_
          refine lv_istore_n (lv' := [(2, .int (0)), (0, .ref y), (1, .ref i9)]) hx hb dX3_add_68 rfl hl (by decide) rfl (fun ls hl => ?_)
          refine lv_aload_n hx hb dX3_add_69 rfl (lv_at hl 1 rfl) ?_
          refine lv_iload_n hx hb dX3_add_70 rfl (lv_at hl 0 rfl) ?_
          refine lv_if_ne (tgt := 78) hx hb dX3_add_71 (by decide) (fun hz => absurd rfl hz) (fun _ => ?_)
          refine lv_iconst (v := 1) hx hb dX3_add_74 (by decide) ?_
          refine lv_goto (tgt := 99) hx hb dX3_add_75 (by decide) ?_
          refine g_putf (ci := 10) (v := .int (1)) (ty := .int) (C := RX3) (T := TX3) (N := 28) hx hb hts in_X3 tyX3 tyX3_ok nmX3 hown hK hW hy rfl 27 (by decide) q1911 (fun _ h9 => h9) rfl (by decide +kernel) rfl rfl (Nat.le_of_ble_eq_true rfl) dX3_add_99 (fun H locs hW => ?_)
          obtain ⟨w_62, ew_62⟩ : ∃ z__, z__ = g_put w y (.inr (10, mO mf (nI P.length) (nI C.length) (en) (td) (st) (nI rn) (lN tt) (nI K.length) (nI fq) (nI ac) (nI F.length) (1))) := ⟨_, rfl⟩
          have hW := g_W.ren hW ew_62 rfl
          have h_63 : g_at w_62 y (.inr (10, mO mf (nI P.length) (nI C.length) (en) (td) (st) (nI rn) (lN tt) (nI K.length) (nI fq) (nI ac) (nI F.length) (1))) := by rw [ew_62]; exact g_at.put_self hy.1
          have h_64 : g_at w_62 i9 (.inr (7, [.ref (D.2 1002 op), .int (rg), .int (vl), .int (tg)])) := by rw [ew_62]; exact hi.put (g_neO hi hy (by decide))
          have x_65 : g_ex (fun q => q = y) w w_62 := by rw [ew_62]; exact x_1.put (fun hz9 => rfl)
          have hZ1 := hZ.obj (rn2 := rn) (tt2 := tt) (fq2 := fq) (ac2 := ac) h_63 x_65 hb9.2.1 hb9.2.2.1 hb9.2.2.2.1 hb9.2.2.2.2
          have hz1 := hZ.zobj x_65
          refine lv_aload_n hx hb dX3_add_102 rfl (lv_at hl 1 rfl) ?_
          refine g_get (ci := 10) (v := .int (1)) (C := RX3) (T := TX3) (N := 28) hx hb hts in_X3 hown hK hW h_63 rfl 27 (by decide) q1911 (fun _ h9 => h9) rfl dX3_add_103 ?_
          refine lv_if_le (tgt := 111) hx hb dX3_add_106 (by decide) (fun hz => absurd hz (by decide)) (fun _ => ?_)
          refine lv_iconst (v := (-1)) hx hb dX3_add_109 (by decide) ?_
          exact g_iret (v := (-1)) hx hb hr hlocks hW (⟨P, 1, hZ1, hz1, Or.inr ⟨rfl, Or.inl ⟨hc, rfl⟩⟩⟩) (by omega) (by omega) dX3_add_110
      · have h3 : op = 3 := g_opI hE hop (by decide) (Option.some.inj (by first | exact hc | exact Classical.not_not.mp hc))
        have hgr : (if op = 3 then (3 : Int32) else 31) = 3 := if_pos h3
        refine lv_ldc2 hx hb hown (hts _ q1979) dX3_add_48 ?_
        refine lv_goto (tgt := 57) hx hb dX3_add_51 (by decide) ?_
        refine g_calli (va_runS (As := [.long ((tg : Int32).toInt64), .long (0), .long (3)]) (rest := []) ⟨hx, hb, hml, hown, hts⟩ (mtX3_in l D w H.size (tg : Int32).toInt64 (0) (3)) (va_cwS 3 hts (lw_S q1980 q1981 q47 q1982) rfl rfl rfl (by decide +kernel) ⟨Nat.le_of_ble_eq_true rfl, Nat.le_of_ble_eq_true rfl⟩) (g_preS hW hK hE) rfl rfl hl.1 rfl (lv_room (Nat.le_of_ble_eq_true rfl)) dX3_add_57 ⟨Nat.le_of_ble_eq_true rfl, Nat.le_of_ble_eq_true rfl⟩) hW (fun r_ u_ H locs hp hW => ?_)
        obtain ⟨er, rfl⟩ := hp
        subst er
        by_cases hq9 : (0 : Int64) ≤ (tg : Int32).toInt64 ∧ (tg : Int32).toInt64 ≤ 3
        · rw [if_pos hq9]
          refine lv_if_eq (tgt := 67) hx hb dX3_add_60 (by decide) (fun hz => absurd hz (by decide)) (fun _ => ?_)
          have hin : (0 : Int32) ≤ tg ∧ tg ≤ 3 := (i2l_in rfl rfl).mp hq9
          clear hq9
          have hall : iOk op rg vl tg := ⟨hi1, hi2, by rw [hgr]; exact hin⟩
          refine lv_iconst (v := 1) hx hb dX3_add_63 (by decide) ?_
          refine lv_goto (tgt := 68) hx hb dX3_add_64 (by decide) ?_
          refine lv_istore_n (lv' := [(2, .int (1)), (0, .ref y), (1, .ref i9)]) hx hb dX3_add_68 rfl hl (by decide) rfl (fun ls hl => ?_)
          refine lv_aload_n hx hb dX3_add_69 rfl (lv_at hl 1 rfl) ?_
          refine lv_iload_n hx hb dX3_add_70 rfl (lv_at hl 0 rfl) ?_
          refine lv_if_ne (tgt := 78) hx hb dX3_add_71 (by decide) (fun _ => ?_) (fun hz => absurd (by first | exact hz | exact Classical.not_not.mp hz) (by decide))
          refine lv_aload_n hx hb dX3_add_78 rfl (lv_at hl 1 rfl) ?_
          refine g_get (ci := 10) (v := .int (nI P.length)) (C := RX3) (T := TX3) (N := 28) hx hb hts in_X3 hown hK hW hy rfl 4 (by decide) q1888 (fun _ h9 => h9) rfl dX3_add_79 ?_
          refine lv_bipush (v := 16) hx hb dX3_add_82 (by decide) ?_
          refine lv_icmp_eq (tgt := 94) hx hb dX3_add_84 (by decide) (fun hd => ?_) (fun hd => ?_)
          · have hfl : ¬ (P.length < 16 ∧ rn = 0) := fun z => absurd (nI_inj (a := P.length) (b := 16) (by omega) (by decide) (by first | exact hd | exact Classical.not_not.mp hd)) (by omega)
            refine lv_iconst (v := 2) hx hb dX3_add_94 (by decide) ?_
            refine lv_goto (tgt := 99) hx hb dX3_add_95 (by decide) ?_
            refine g_putf (ci := 10) (v := .int (2)) (ty := .int) (C := RX3) (T := TX3) (N := 28) hx hb hts in_X3 tyX3 tyX3_ok nmX3 hown hK hW hy rfl 27 (by decide) q1911 (fun _ h9 => h9) rfl (by decide +kernel) rfl rfl (Nat.le_of_ble_eq_true rfl) dX3_add_99 (fun H locs hW => ?_)
            obtain ⟨w_66, ew_66⟩ : ∃ z__, z__ = g_put w y (.inr (10, mO mf (nI P.length) (nI C.length) (en) (td) (st) (nI rn) (lN tt) (nI K.length) (nI fq) (nI ac) (nI F.length) (2))) := ⟨_, rfl⟩
            have hW := g_W.ren hW ew_66 rfl
            have h_67 : g_at w_66 y (.inr (10, mO mf (nI P.length) (nI C.length) (en) (td) (st) (nI rn) (lN tt) (nI K.length) (nI fq) (nI ac) (nI F.length) (2))) := by rw [ew_66]; exact g_at.put_self hy.1
            have h_68 : g_at w_66 i9 (.inr (7, [.ref (D.2 1002 op), .int (rg), .int (vl), .int (tg)])) := by rw [ew_66]; exact hi.put (g_neO hi hy (by decide))
            have x_69 : g_ex (fun q => q = y) w w_66 := by rw [ew_66]; exact x_1.put (fun hz9 => rfl)
            have hZ1 := hZ.obj (rn2 := rn) (tt2 := tt) (fq2 := fq) (ac2 := ac) h_67 x_69 hb9.2.1 hb9.2.2.1 hb9.2.2.2.1 hb9.2.2.2.2
            have hz1 := hZ.zobj x_69
            refine lv_aload_n hx hb dX3_add_102 rfl (lv_at hl 1 rfl) ?_
            refine g_get (ci := 10) (v := .int (2)) (C := RX3) (T := TX3) (N := 28) hx hb hts in_X3 hown hK hW h_67 rfl 27 (by decide) q1911 (fun _ h9 => h9) rfl dX3_add_103 ?_
            refine lv_if_le (tgt := 111) hx hb dX3_add_106 (by decide) (fun hz => absurd hz (by decide)) (fun _ => ?_)
            refine lv_iconst (v := (-1)) hx hb dX3_add_109 (by decide) ?_
            exact g_iret (v := (-1)) hx hb hr hlocks hW (⟨P, 2, hZ1, hz1, Or.inr ⟨rfl, Or.inr ⟨hall, hfl, rfl⟩⟩⟩) (by omega) (by omega) dX3_add_110
          · have hlt : P.length < 16 := Nat.lt_of_le_of_ne hP16 (fun z => hd (by rw [z]; rfl))
            refine lv_aload_n hx hb dX3_add_87 rfl (lv_at hl 1 rfl) ?_
            refine g_get (ci := 10) (v := .int (nI rn)) (C := RX3) (T := TX3) (N := 28) hx hb hts in_X3 hown hK hW hy rfl 16 (by decide) q1900 (fun _ h9 => h9) rfl dX3_add_88 ?_
            by_cases hr0 : rn = 0
            · refine lv_if_le (tgt := 98) hx hb dX3_add_91 (by decide) (fun _ => ?_) (fun hz => absurd (by rw [hr0]; decide) hz)
              obtain ⟨a, b, ea, eb, ea2, eb2, hmk⟩ := iOk_m hop hall
              subst ea
              subst eb
              rw [ea2, eb2]
              have hx0 : g_ex (fun q => q = y ∨ q = mf 0 ∨ q = mf 1 ∨ q = mf 2 ∨ q = mf 3) w w := g_ex.rf
              have ny0 : y ≠ mf 0 := g_neOA hy a0
              have ny1 : y ≠ mf 1 := g_neOA hy a1
              have ny2 : y ≠ mf 2 := g_neOA hy a2
              have ny3 : y ≠ mf 3 := g_neOA hy a3
              refine lv_iconst (v := 0) hx hb dX3_add_98 (by decide) ?_
              refine g_putf (ci := 10) (v := .int (0)) (ty := .int) (C := RX3) (T := TX3) (N := 28) hx hb hts in_X3 tyX3 tyX3_ok nmX3 hown hK hW hy rfl 27 (by decide) q1911 (fun _ h9 => h9) rfl (by decide +kernel) rfl rfl (Nat.le_of_ble_eq_true rfl) dX3_add_99 (fun H locs hW => ?_)
              obtain ⟨w_70, ew_70⟩ : ∃ z__, z__ = g_put w y (.inr (10, mO mf (nI P.length) (nI C.length) (en) (td) (st) (nI rn) (lN tt) (nI K.length) (nI fq) (nI ac) (nI F.length) (0))) := ⟨_, rfl⟩
              have hW := g_W.ren hW ew_70 rfl
              have h_71 : g_at w_70 y (.inr (10, mO mf (nI P.length) (nI C.length) (en) (td) (st) (nI rn) (lN tt) (nI K.length) (nI fq) (nI ac) (nI F.length) (0))) := by rw [ew_70]; exact g_at.put_self hy.1
              have h_72 : g_at w_70 i9 (.inr (7, [.ref (D.2 1002 op), .int ((nI a)), .int (vl), .int ((nI b))])) := by rw [ew_70]; exact hi.put (g_neO hi hy (by decide))
              have h_73 : g_at w_70 (mf 0) (.inl (D.1 100, 16, .inl (f0))) := by rw [ew_70]; exact a0.put ny0.symm
              have h_74 : g_at w_70 (mf 1) (.inl (D.1 100, 16, .inl (f1))) := by rw [ew_70]; exact a1.put ny1.symm
              have h_75 : g_at w_70 (mf 2) (.inl (D.1 100, 16, .inl (f2))) := by rw [ew_70]; exact a2.put ny2.symm
              have h_76 : g_at w_70 (mf 3) (.inl (D.1 100, 16, .inl (f3))) := by rw [ew_70]; exact a3.put ny3.symm
              have x_77 : g_ex (fun q => q = y ∨ q = mf 0 ∨ q = mf 1 ∨ q = mf 2 ∨ q = mf 3) w w_70 := by rw [ew_70]; exact hx0.put (fun hz9 => (Or.inl rfl))
              refine lv_aload_n hx hb dX3_add_102 rfl (lv_at hl 1 rfl) ?_
              refine g_get (ci := 10) (v := .int (0)) (C := RX3) (T := TX3) (N := 28) hx hb hts in_X3 hown hK hW h_71 rfl 27 (by decide) q1911 (fun _ h9 => h9) rfl dX3_add_103 ?_
              refine lv_if_le (tgt := 111) hx hb dX3_add_106 (by decide) (fun _ => ?_) (fun hz => absurd (by decide) hz)
              refine lv_aload_n hx hb dX3_add_111 rfl (lv_at hl 1 rfl) ?_
              refine g_get (ci := 10) (v := .ref (mf 0)) (C := RX3) (T := TX3) (N := 28) hx hb hts in_X3 hown hK hW h_71 rfl 0 (by decide) q1884 (fun _ h9 => h9) rfl dX3_add_112 ?_
              refine lv_aload_n hx hb dX3_add_115 rfl (lv_at hl 1 rfl) ?_
              refine g_get (ci := 10) (v := .int (nI P.length)) (C := RX3) (T := TX3) (N := 28) hx hb hts in_X3 hown hK hW h_71 rfl 4 (by decide) q1888 (fun _ h9 => h9) rfl dX3_add_116 ?_
              refine lv_aload_n hx hb dX3_add_119 rfl (lv_at hl 2 rfl) ?_
              refine g_callq (va_runV (As := []) (rest := [.int (nI P.length), .ref (mf 0)]) ⟨hx, hb, hml, hown, hts⟩ (mtX5_op l D w_70 H.size i9 (D.2 1002 op) (nI a) vl (nI b) h_72) (cwV 0 hts (lw_V q1987 q554 q555 q49 q556) rfl rfl rfl (by decide +kernel) ⟨Nat.le_of_ble_eq_true rfl, Nat.le_of_ble_eq_true rfl⟩) (g_preV hW hK hE h_72 rfl) rfl rfl hl.1 rfl (lv_room (Nat.le_of_ble_eq_true rfl)) dX3_add_120 ⟨Nat.le_of_ble_eq_true rfl, Nat.le_of_ble_eq_true rfl⟩) hW (fun r_ u_ H locs hp hW => ?_)
              obtain ⟨er, rfl⟩ := hp
              subst er
              refine g_calli (va_runU (As := []) (rest := [.int (nI P.length), .ref (mf 0)]) ⟨hx, hb, hml, hown, hts⟩ (mtJ10_ordinal l D w_70 H.size (D.2 1002 op) (nI op) (fun s hE => g_op hop s hE)) (va_cwU (owner := "java/lang/Enum") (x := ⟨"Op", "ordinal", "()I"⟩) 0 hts (lw_app (lw_in _ [1990, 1208, 1209, 678, 50] (by decide +kernel) (by decide +kernel)) (lw_meth q679)) rfl rfl rfl rfl (by decide +kernel) ⟨Nat.le_of_ble_eq_true rfl, Nat.le_of_ble_eq_true rfl⟩) (g_preVR hW hK hE (g_opO hE hW hop)) rfl rfl hl.1 rfl (lv_room (Nat.le_of_ble_eq_true rfl)) dX3_add_123 ⟨Nat.le_of_ble_eq_true rfl, Nat.le_of_ble_eq_true rfl⟩) hW (fun r_ u_ H locs hp hW => ?_)
              obtain ⟨er, rfl⟩ := hp
              subst er
              refine g_iast (i := P.length) hx hb hK hW h_73 (hlt) (by decide) dX3_add_126 (fun H locs hW => ?_)
              obtain ⟨f_78, ef_78⟩ : ∃ z__, z__ = upd (f0) (P.length) (nI op) := ⟨_, rfl⟩
              rw [← ef_78] at hW
              obtain ⟨w_79, ew_79⟩ : ∃ z__, z__ = g_put w_70 (mf 0) (.inl (D.1 100, 16, .inl (f_78))) := ⟨_, rfl⟩
              have hW := g_W.ren hW ew_79 rfl
              have h_80 : g_at w_79 y (.inr (10, mO mf (nI P.length) (nI C.length) (en) (td) (st) (nI rn) (lN tt) (nI K.length) (nI fq) (nI ac) (nI F.length) (0))) := by rw [ew_79]; exact h_71.put ny0
              have h_81 : g_at w_79 i9 (.inr (7, [.ref (D.2 1002 op), .int ((nI a)), .int (vl), .int ((nI b))])) := by rw [ew_79]; exact h_72.put (g_neOA h_72 h_73)
              have h_82 : g_at w_79 (mf 0) (.inl (D.1 100, 16, .inl (f_78))) := by rw [ew_79]; exact g_at.put_self h_73.1
              have h_83 : g_at w_79 (mf 1) (.inl (D.1 100, 16, .inl (f1))) := by rw [ew_79]; exact h_74.put (g_lne (hL 1 (by decide)) (hL 0 (by decide)) (by decide))
              have h_84 : g_at w_79 (mf 2) (.inl (D.1 100, 16, .inl (f2))) := by rw [ew_79]; exact h_75.put (g_lne (hL 2 (by decide)) (hL 0 (by decide)) (by decide))
              have h_85 : g_at w_79 (mf 3) (.inl (D.1 100, 16, .inl (f3))) := by rw [ew_79]; exact h_76.put (g_lne (hL 3 (by decide)) (hL 0 (by decide)) (by decide))
              have x_86 : g_ex (fun q => q = y ∨ q = mf 0 ∨ q = mf 1 ∨ q = mf 2 ∨ q = mf 3) w w_79 := by rw [ew_79]; exact x_77.put (fun hz9 => (Or.inr (Or.inl rfl)))
              refine lv_aload_n hx hb dX3_add_127 rfl (lv_at hl 1 rfl) ?_
              refine g_get (ci := 10) (v := .ref (mf 1)) (C := RX3) (T := TX3) (N := 28) hx hb hts in_X3 hown hK hW h_80 rfl 1 (by decide) q1885 (fun _ h9 => h9) rfl dX3_add_128 ?_
              refine lv_aload_n hx hb dX3_add_131 rfl (lv_at hl 1 rfl) ?_
              refine g_get (ci := 10) (v := .int (nI P.length)) (C := RX3) (T := TX3) (N := 28) hx hb hts in_X3 hown hK hW h_80 rfl 4 (by decide) q1888 (fun _ h9 => h9) rfl dX3_add_132 ?_
              refine lv_aload_n hx hb dX3_add_135 rfl (lv_at hl 2 rfl) ?_
              refine g_calli (va_runV (As := []) (rest := [.int (nI P.length), .ref (mf 1)]) ⟨hx, hb, hml, hown, hts⟩ (mtX5_register l D w_79 H.size i9 (D.2 1002 op) (nI a) vl (nI b) h_81) (cwV 0 hts (lw_V q1978 q559 q560 q49 q561) rfl rfl rfl (by decide +kernel) ⟨Nat.le_of_ble_eq_true rfl, Nat.le_of_ble_eq_true rfl⟩) (g_preV hW hK hE h_81 rfl) rfl rfl hl.1 rfl (lv_room (Nat.le_of_ble_eq_true rfl)) dX3_add_136 ⟨Nat.le_of_ble_eq_true rfl, Nat.le_of_ble_eq_true rfl⟩) hW (fun r_ u_ H locs hp hW => ?_)
              obtain ⟨er, rfl⟩ := hp
              subst er
              refine g_iast (i := P.length) hx hb hK hW h_83 (hlt) (by decide) dX3_add_139 (fun H locs hW => ?_)
              obtain ⟨f_87, ef_87⟩ : ∃ z__, z__ = upd (f1) (P.length) (nI a) := ⟨_, rfl⟩
              rw [← ef_87] at hW
              obtain ⟨w_88, ew_88⟩ : ∃ z__, z__ = g_put w_79 (mf 1) (.inl (D.1 100, 16, .inl (f_87))) := ⟨_, rfl⟩
              have hW := g_W.ren hW ew_88 rfl
              have h_89 : g_at w_88 y (.inr (10, mO mf (nI P.length) (nI C.length) (en) (td) (st) (nI rn) (lN tt) (nI K.length) (nI fq) (nI ac) (nI F.length) (0))) := by rw [ew_88]; exact h_80.put ny1
              have h_90 : g_at w_88 i9 (.inr (7, [.ref (D.2 1002 op), .int ((nI a)), .int (vl), .int ((nI b))])) := by rw [ew_88]; exact h_81.put (g_neOA h_81 h_83)
              have h_91 : g_at w_88 (mf 0) (.inl (D.1 100, 16, .inl (f_78))) := by rw [ew_88]; exact h_82.put (g_lne (hL 0 (by decide)) (hL 1 (by decide)) (by decide))
              have h_92 : g_at w_88 (mf 1) (.inl (D.1 100, 16, .inl (f_87))) := by rw [ew_88]; exact g_at.put_self h_83.1
              have h_93 : g_at w_88 (mf 2) (.inl (D.1 100, 16, .inl (f2))) := by rw [ew_88]; exact h_84.put (g_lne (hL 2 (by decide)) (hL 1 (by decide)) (by decide))
              have h_94 : g_at w_88 (mf 3) (.inl (D.1 100, 16, .inl (f3))) := by rw [ew_88]; exact h_85.put (g_lne (hL 3 (by decide)) (hL 1 (by decide)) (by decide))
              have x_95 : g_ex (fun q => q = y ∨ q = mf 0 ∨ q = mf 1 ∨ q = mf 2 ∨ q = mf 3) w w_88 := by rw [ew_88]; exact x_86.put (fun hz9 => (Or.inr (Or.inr (Or.inl rfl))))
              refine lv_aload_n hx hb dX3_add_140 rfl (lv_at hl 1 rfl) ?_
              refine g_get (ci := 10) (v := .ref (mf 2)) (C := RX3) (T := TX3) (N := 28) hx hb hts in_X3 hown hK hW h_89 rfl 2 (by decide) q1886 (fun _ h9 => h9) rfl dX3_add_141 ?_
              refine lv_aload_n hx hb dX3_add_144 rfl (lv_at hl 1 rfl) ?_
              refine g_get (ci := 10) (v := .int (nI P.length)) (C := RX3) (T := TX3) (N := 28) hx hb hts in_X3 hown hK hW h_89 rfl 4 (by decide) q1888 (fun _ h9 => h9) rfl dX3_add_145 ?_
              refine lv_aload_n hx hb dX3_add_148 rfl (lv_at hl 2 rfl) ?_
              refine g_calli (va_runV (As := []) (rest := [.int (nI P.length), .ref (mf 2)]) ⟨hx, hb, hml, hown, hts⟩ (mtX5_value l D w_88 H.size i9 (D.2 1002 op) (nI a) vl (nI b) h_90) (cwV 0 hts (lw_V q1983 q566 q567 q49 q568) rfl rfl rfl (by decide +kernel) ⟨Nat.le_of_ble_eq_true rfl, Nat.le_of_ble_eq_true rfl⟩) (g_preV hW hK hE h_90 rfl) rfl rfl hl.1 rfl (lv_room (Nat.le_of_ble_eq_true rfl)) dX3_add_149 ⟨Nat.le_of_ble_eq_true rfl, Nat.le_of_ble_eq_true rfl⟩) hW (fun r_ u_ H locs hp hW => ?_)
              obtain ⟨er, rfl⟩ := hp
              rw [er]
              refine g_iast (i := P.length) hx hb hK hW h_93 (hlt) (by decide) dX3_add_152 (fun H locs hW => ?_)
              obtain ⟨f_96, ef_96⟩ : ∃ z__, z__ = upd (f2) (P.length) (vl) := ⟨_, rfl⟩
              rw [← ef_96] at hW
              obtain ⟨w_97, ew_97⟩ : ∃ z__, z__ = g_put w_88 (mf 2) (.inl (D.1 100, 16, .inl (f_96))) := ⟨_, rfl⟩
              have hW := g_W.ren hW ew_97 rfl
              have h_98 : g_at w_97 y (.inr (10, mO mf (nI P.length) (nI C.length) (en) (td) (st) (nI rn) (lN tt) (nI K.length) (nI fq) (nI ac) (nI F.length) (0))) := by rw [ew_97]; exact h_89.put ny2
              have h_99 : g_at w_97 i9 (.inr (7, [.ref (D.2 1002 op), .int ((nI a)), .int (vl), .int ((nI b))])) := by rw [ew_97]; exact h_90.put (g_neOA h_90 h_93)
              have h_100 : g_at w_97 (mf 0) (.inl (D.1 100, 16, .inl (f_78))) := by rw [ew_97]; exact h_91.put (g_lne (hL 0 (by decide)) (hL 2 (by decide)) (by decide))
              have h_101 : g_at w_97 (mf 1) (.inl (D.1 100, 16, .inl (f_87))) := by rw [ew_97]; exact h_92.put (g_lne (hL 1 (by decide)) (hL 2 (by decide)) (by decide))
              have h_102 : g_at w_97 (mf 2) (.inl (D.1 100, 16, .inl (f_96))) := by rw [ew_97]; exact g_at.put_self h_93.1
              have h_103 : g_at w_97 (mf 3) (.inl (D.1 100, 16, .inl (f3))) := by rw [ew_97]; exact h_94.put (g_lne (hL 3 (by decide)) (hL 2 (by decide)) (by decide))
              have x_104 : g_ex (fun q => q = y ∨ q = mf 0 ∨ q = mf 1 ∨ q = mf 2 ∨ q = mf 3) w w_97 := by rw [ew_97]; exact x_95.put (fun hz9 => (Or.inr (Or.inr (Or.inr (Or.inl rfl)))))
              refine lv_aload_n hx hb dX3_add_153 rfl (lv_at hl 1 rfl) ?_
              refine g_get (ci := 10) (v := .ref (mf 3)) (C := RX3) (T := TX3) (N := 28) hx hb hts in_X3 hown hK hW h_98 rfl 3 (by decide) q1887 (fun _ h9 => h9) rfl dX3_add_154 ?_
              refine lv_aload_n hx hb dX3_add_157 rfl (lv_at hl 1 rfl) ?_
              refine g_get (ci := 10) (v := .int (nI P.length)) (C := RX3) (T := TX3) (N := 28) hx hb hts in_X3 hown hK hW h_98 rfl 4 (by decide) q1888 (fun _ h9 => h9) rfl dX3_add_158 ?_
              refine lv_aload_n hx hb dX3_add_161 rfl (lv_at hl 2 rfl) ?_
              refine g_calli (va_runV (As := []) (rest := [.int (nI P.length), .ref (mf 3)]) ⟨hx, hb, hml, hown, hts⟩ (mtX5_target l D w_97 H.size i9 (D.2 1002 op) (nI a) vl (nI b) h_99) (cwV 0 hts (lw_V q1986 q570 q571 q49 q572) rfl rfl rfl (by decide +kernel) ⟨Nat.le_of_ble_eq_true rfl, Nat.le_of_ble_eq_true rfl⟩) (g_preV hW hK hE h_99 rfl) rfl rfl hl.1 rfl (lv_room (Nat.le_of_ble_eq_true rfl)) dX3_add_162 ⟨Nat.le_of_ble_eq_true rfl, Nat.le_of_ble_eq_true rfl⟩) hW (fun r_ u_ H locs hp hW => ?_)
              obtain ⟨er, rfl⟩ := hp
              subst er
              refine g_iast (i := P.length) hx hb hK hW h_103 (hlt) (by decide) dX3_add_165 (fun H locs hW => ?_)
              obtain ⟨f_105, ef_105⟩ : ∃ z__, z__ = upd (f3) (P.length) (nI b) := ⟨_, rfl⟩
              rw [← ef_105] at hW
              obtain ⟨w_106, ew_106⟩ : ∃ z__, z__ = g_put w_97 (mf 3) (.inl (D.1 100, 16, .inl (f_105))) := ⟨_, rfl⟩
              have hW := g_W.ren hW ew_106 rfl
              have h_107 : g_at w_106 y (.inr (10, mO mf (nI P.length) (nI C.length) (en) (td) (st) (nI rn) (lN tt) (nI K.length) (nI fq) (nI ac) (nI F.length) (0))) := by rw [ew_106]; exact h_98.put ny3
              have h_108 : g_at w_106 i9 (.inr (7, [.ref (D.2 1002 op), .int ((nI a)), .int (vl), .int ((nI b))])) := by rw [ew_106]; exact h_99.put (g_neOA h_99 h_103)
              have h_109 : g_at w_106 (mf 0) (.inl (D.1 100, 16, .inl (f_78))) := by rw [ew_106]; exact h_100.put (g_lne (hL 0 (by decide)) (hL 3 (by decide)) (by decide))
              have h_110 : g_at w_106 (mf 1) (.inl (D.1 100, 16, .inl (f_87))) := by rw [ew_106]; exact h_101.put (g_lne (hL 1 (by decide)) (hL 3 (by decide)) (by decide))
              have h_111 : g_at w_106 (mf 2) (.inl (D.1 100, 16, .inl (f_96))) := by rw [ew_106]; exact h_102.put (g_lne (hL 2 (by decide)) (hL 3 (by decide)) (by decide))
              have h_112 : g_at w_106 (mf 3) (.inl (D.1 100, 16, .inl (f_105))) := by rw [ew_106]; exact g_at.put_self h_103.1
              have x_113 : g_ex (fun q => q = y ∨ q = mf 0 ∨ q = mf 1 ∨ q = mf 2 ∨ q = mf 3) w w_106 := by rw [ew_106]; exact x_104.put (fun hz9 => (Or.inr (Or.inr (Or.inr (Or.inr (rfl))))))
              refine lv_aload_n hx hb dX3_add_166 rfl (lv_at hl 1 rfl) ?_
              refine lv_dup hx hb dX3_add_167 rfl ?_
              refine g_get (ci := 10) (v := .int (nI P.length)) (C := RX3) (T := TX3) (N := 28) hx hb hts in_X3 hown hK hW h_107 rfl 4 (by decide) q1888 (fun _ h9 => h9) rfl dX3_add_168 ?_
              refine lv_iconst (v := 1) hx hb dX3_add_171 (by decide) ?_
              refine lv_iadd hx hb dX3_add_172 ?_
              refine g_topi (y := nI (P.length + 1)) (nI_1 _) ?_
              refine g_putf (ci := 10) (v := .int (nI (P.length + 1))) (ty := .int) (C := RX3) (T := TX3) (N := 28) hx hb hts in_X3 tyX3 tyX3_ok nmX3 hown hK hW h_107 rfl 4 (by decide) q1888 (fun _ h9 => h9) rfl (by decide +kernel) rfl rfl (Nat.le_of_ble_eq_true rfl) dX3_add_173 (fun H locs hW => ?_)
              obtain ⟨w_114, ew_114⟩ : ∃ z__, z__ = g_put w_106 y (.inr (10, mO mf (nI (P.length + 1)) (nI C.length) (en) (td) (st) (nI rn) (lN tt) (nI K.length) (nI fq) (nI ac) (nI F.length) (0))) := ⟨_, rfl⟩
              have hW := g_W.ren hW ew_114 rfl
              have h_115 : g_at w_114 y (.inr (10, mO mf (nI (P.length + 1)) (nI C.length) (en) (td) (st) (nI rn) (lN tt) (nI K.length) (nI fq) (nI ac) (nI F.length) (0))) := by rw [ew_114]; exact g_at.put_self h_107.1
              have h_116 : g_at w_114 i9 (.inr (7, [.ref (D.2 1002 op), .int ((nI a)), .int (vl), .int ((nI b))])) := by rw [ew_114]; exact h_108.put (g_neO h_108 h_107 (by decide))
              have h_117 : g_at w_114 (mf 0) (.inl (D.1 100, 16, .inl (f_78))) := by rw [ew_114]; exact h_109.put ny0.symm
              have h_118 : g_at w_114 (mf 1) (.inl (D.1 100, 16, .inl (f_87))) := by rw [ew_114]; exact h_110.put ny1.symm
              have h_119 : g_at w_114 (mf 2) (.inl (D.1 100, 16, .inl (f_96))) := by rw [ew_114]; exact h_111.put ny2.symm
              have h_120 : g_at w_114 (mf 3) (.inl (D.1 100, 16, .inl (f_105))) := by rw [ew_114]; exact h_112.put ny3.symm
              have x_121 : g_ex (fun q => q = y ∨ q = mf 0 ∨ q = mf 1 ∨ q = mf 2 ∨ q = mf 3) w w_114 := by rw [ew_114]; exact x_113.put (fun hz9 => (Or.inl rfl))
              refine lv_aload_n hx hb dX3_add_176 rfl (lv_at hl 1 rfl) ?_
              refine g_get (ci := 10) (v := .int (nI (P.length + 1))) (C := RX3) (T := TX3) (N := 28) hx hb hts in_X3 hown hK hW h_115 rfl 4 (by decide) q1888 (fun _ h9 => h9) rfl dX3_add_177 ?_
              obtain ⟨hZ9, hz9⟩ := hZ.addI hK a0 a1 a2 a3 hok k0 k1 k2 k3 hlt hmk h_115 x_121 h_117 h_118 h_119 h_120 ef_78 ef_87 ef_96 ef_105
              exact g_iret (v := nI (P.length + 1)) hx hb hr hlocks hW (⟨_, 0, hZ9, hz9, Or.inl ⟨⟨hall, hlt, hr0⟩, rfl, rfl, rfl⟩⟩) (by omega) (by omega) dX3_add_180
            · refine lv_if_le (tgt := 98) hx hb dX3_add_91 (by decide) (fun hz => absurd hz (Int32.not_le.mpr ((nI_gt0 (by omega)).mpr (by omega)))) (fun _ => ?_)
              have hfl : ¬ (P.length < 16 ∧ rn = 0) := fun z => hr0 z.2
              refine lv_iconst (v := 2) hx hb dX3_add_94 (by decide) ?_
              refine lv_goto (tgt := 99) hx hb dX3_add_95 (by decide) ?_
              refine g_putf (ci := 10) (v := .int (2)) (ty := .int) (C := RX3) (T := TX3) (N := 28) hx hb hts in_X3 tyX3 tyX3_ok nmX3 hown hK hW hy rfl 27 (by decide) q1911 (fun _ h9 => h9) rfl (by decide +kernel) rfl rfl (Nat.le_of_ble_eq_true rfl) dX3_add_99 (fun H locs hW => ?_)
              obtain ⟨w_122, ew_122⟩ : ∃ z__, z__ = g_put w y (.inr (10, mO mf (nI P.length) (nI C.length) (en) (td) (st) (nI rn) (lN tt) (nI K.length) (nI fq) (nI ac) (nI F.length) (2))) := ⟨_, rfl⟩
              have hW := g_W.ren hW ew_122 rfl
              have h_123 : g_at w_122 y (.inr (10, mO mf (nI P.length) (nI C.length) (en) (td) (st) (nI rn) (lN tt) (nI K.length) (nI fq) (nI ac) (nI F.length) (2))) := by rw [ew_122]; exact g_at.put_self hy.1
              have h_124 : g_at w_122 i9 (.inr (7, [.ref (D.2 1002 op), .int (rg), .int (vl), .int (tg)])) := by rw [ew_122]; exact hi.put (g_neO hi hy (by decide))
              have x_125 : g_ex (fun q => q = y) w w_122 := by rw [ew_122]; exact x_1.put (fun hz9 => rfl)
              have hZ1 := hZ.obj (rn2 := rn) (tt2 := tt) (fq2 := fq) (ac2 := ac) h_123 x_125 hb9.2.1 hb9.2.2.1 hb9.2.2.2.1 hb9.2.2.2.2
              have hz1 := hZ.zobj x_125
              refine lv_aload_n hx hb dX3_add_102 rfl (lv_at hl 1 rfl) ?_
              refine g_get (ci := 10) (v := .int (2)) (C := RX3) (T := TX3) (N := 28) hx hb hts in_X3 hown hK hW h_123 rfl 27 (by decide) q1911 (fun _ h9 => h9) rfl dX3_add_103 ?_
              refine lv_if_le (tgt := 111) hx hb dX3_add_106 (by decide) (fun hz => absurd hz (by decide)) (fun _ => ?_)
              refine lv_iconst (v := (-1)) hx hb dX3_add_109 (by decide) ?_
              exact g_iret (v := (-1)) hx hb hr hlocks hW (⟨P, 2, hZ1, hz1, Or.inr ⟨rfl, Or.inr ⟨hall, hfl, rfl⟩⟩⟩) (by omega) (by omega) dX3_add_110
        · rw [if_neg hq9]
          refine lv_if_eq (tgt := 67) hx hb dX3_add_60 (by decide) (fun _ => ?_) (fun hz => absurd rfl hz)
          have hin : ¬ ((0 : Int32) ≤ tg ∧ tg ≤ 3) := fun z => hq9 ((i2l_in rfl rfl).mpr z)
          clear hq9
          have hc : ¬ iOk op rg vl tg := fun z => hin (by have h9 := z.2.2; rw [hgr] at h9; exact h9)
          refine lv_iconst (v := 0) hx hb dX3_add_67 (by decide) ?_
          refine lv_istore_n (lv' := [(2, .int (0)), (0, .ref y), (1, .ref i9)]) hx hb dX3_add_68 rfl hl (by decide) rfl (fun ls hl => ?_)
          refine lv_aload_n hx hb dX3_add_69 rfl (lv_at hl 1 rfl) ?_
          refine lv_iload_n hx hb dX3_add_70 rfl (lv_at hl 0 rfl) ?_
          refine lv_if_ne (tgt := 78) hx hb dX3_add_71 (by decide) (fun hz => absurd rfl hz) (fun _ => ?_)
          refine lv_iconst (v := 1) hx hb dX3_add_74 (by decide) ?_
          refine lv_goto (tgt := 99) hx hb dX3_add_75 (by decide) ?_
          refine g_putf (ci := 10) (v := .int (1)) (ty := .int) (C := RX3) (T := TX3) (N := 28) hx hb hts in_X3 tyX3 tyX3_ok nmX3 hown hK hW hy rfl 27 (by decide) q1911 (fun _ h9 => h9) rfl (by decide +kernel) rfl rfl (Nat.le_of_ble_eq_true rfl) dX3_add_99 (fun H locs hW => ?_)
          obtain ⟨w_126, ew_126⟩ : ∃ z__, z__ = g_put w y (.inr (10, mO mf (nI P.length) (nI C.length) (en) (td) (st) (nI rn) (lN tt) (nI K.length) (nI fq) (nI ac) (nI F.length) (1))) := ⟨_, rfl⟩
          have hW := g_W.ren hW ew_126 rfl
          have h_127 : g_at w_126 y (.inr (10, mO mf (nI P.length) (nI C.length) (en) (td) (st) (nI rn) (lN tt) (nI K.length) (nI fq) (nI ac) (nI F.length) (1))) := by rw [ew_126]; exact g_at.put_self hy.1
          have h_128 : g_at w_126 i9 (.inr (7, [.ref (D.2 1002 op), .int (rg), .int (vl), .int (tg)])) := by rw [ew_126]; exact hi.put (g_neO hi hy (by decide))
          have x_129 : g_ex (fun q => q = y) w w_126 := by rw [ew_126]; exact x_1.put (fun hz9 => rfl)
          have hZ1 := hZ.obj (rn2 := rn) (tt2 := tt) (fq2 := fq) (ac2 := ac) h_127 x_129 hb9.2.1 hb9.2.2.1 hb9.2.2.2.1 hb9.2.2.2.2
          have hz1 := hZ.zobj x_129
          refine lv_aload_n hx hb dX3_add_102 rfl (lv_at hl 1 rfl) ?_
          refine g_get (ci := 10) (v := .int (1)) (C := RX3) (T := TX3) (N := 28) hx hb hts in_X3 hown hK hW h_127 rfl 27 (by decide) q1911 (fun _ h9 => h9) rfl dX3_add_103 ?_
          refine lv_if_le (tgt := 111) hx hb dX3_add_106 (by decide) (fun hz => absurd hz (by decide)) (fun _ => ?_)
          refine lv_iconst (v := (-1)) hx hb dX3_add_109 (by decide) ?_
          exact g_iret (v := (-1)) hx hb hr hlocks hW (⟨P, 1, hZ1, hz1, Or.inr ⟨rfl, Or.inl ⟨hc, rfl⟩⟩⟩) (by omega) (by omega) dX3_add_110
    · rw [if_neg hq9]
      refine lv_if_eq (tgt := 67) hx hb dX3_add_29 (by decide) (fun _ => ?_) (fun hz => absurd rfl hz)
      have hin : ¬ ((-99 : Int32) ≤ vl ∧ vl ≤ 99) := fun z => hq9 ((i2l_in rfl rfl).mpr z)
      clear hq9
      have hc : ¬ iOk op rg vl tg := fun z => hin z.2.1
      refine lv_iconst (v := 0) hx hb dX3_add_67 (by decide) ?_
      refine lv_istore_n (lv' := [(2, .int (0)), (0, .ref y), (1, .ref i9)]) hx hb dX3_add_68 rfl hl (by decide) rfl (fun ls hl => ?_)
      refine lv_aload_n hx hb dX3_add_69 rfl (lv_at hl 1 rfl) ?_
      refine lv_iload_n hx hb dX3_add_70 rfl (lv_at hl 0 rfl) ?_
      refine lv_if_ne (tgt := 78) hx hb dX3_add_71 (by decide) (fun hz => absurd rfl hz) (fun _ => ?_)
      refine lv_iconst (v := 1) hx hb dX3_add_74 (by decide) ?_
      refine lv_goto (tgt := 99) hx hb dX3_add_75 (by decide) ?_
      refine g_putf (ci := 10) (v := .int (1)) (ty := .int) (C := RX3) (T := TX3) (N := 28) hx hb hts in_X3 tyX3 tyX3_ok nmX3 hown hK hW hy rfl 27 (by decide) q1911 (fun _ h9 => h9) rfl (by decide +kernel) rfl rfl (Nat.le_of_ble_eq_true rfl) dX3_add_99 (fun H locs hW => ?_)
      obtain ⟨w_130, ew_130⟩ : ∃ z__, z__ = g_put w y (.inr (10, mO mf (nI P.length) (nI C.length) (en) (td) (st) (nI rn) (lN tt) (nI K.length) (nI fq) (nI ac) (nI F.length) (1))) := ⟨_, rfl⟩
      have hW := g_W.ren hW ew_130 rfl
      have h_131 : g_at w_130 y (.inr (10, mO mf (nI P.length) (nI C.length) (en) (td) (st) (nI rn) (lN tt) (nI K.length) (nI fq) (nI ac) (nI F.length) (1))) := by rw [ew_130]; exact g_at.put_self hy.1
      have h_132 : g_at w_130 i9 (.inr (7, [.ref (D.2 1002 op), .int (rg), .int (vl), .int (tg)])) := by rw [ew_130]; exact hi.put (g_neO hi hy (by decide))
      have x_133 : g_ex (fun q => q = y) w w_130 := by rw [ew_130]; exact x_1.put (fun hz9 => rfl)
      have hZ1 := hZ.obj (rn2 := rn) (tt2 := tt) (fq2 := fq) (ac2 := ac) h_131 x_133 hb9.2.1 hb9.2.2.1 hb9.2.2.2.1 hb9.2.2.2.2
      have hz1 := hZ.zobj x_133
      refine lv_aload_n hx hb dX3_add_102 rfl (lv_at hl 1 rfl) ?_
      refine g_get (ci := 10) (v := .int (1)) (C := RX3) (T := TX3) (N := 28) hx hb hts in_X3 hown hK hW h_131 rfl 27 (by decide) q1911 (fun _ h9 => h9) rfl dX3_add_103 ?_
      refine lv_if_le (tgt := 111) hx hb dX3_add_106 (by decide) (fun hz => absurd hz (by decide)) (fun _ => ?_)
      refine lv_iconst (v := (-1)) hx hb dX3_add_109 (by decide) ?_
      exact g_iret (v := (-1)) hx hb hr hlocks hW (⟨P, 1, hZ1, hz1, Or.inr ⟨rfl, Or.inl ⟨hc, rfl⟩⟩⟩) (by omega) (by omega) dX3_add_110
  · rw [if_neg hq9]
    refine lv_if_eq (tgt := 67) hx hb dX3_add_12 (by decide) (fun _ => ?_) (fun hz => absurd rfl hz)
    have hin : ¬ ((0 : Int32) ≤ rg ∧ rg ≤ 3) := fun z => hq9 ((i2l_in rfl rfl).mpr z)
    clear hq9
    have hc : ¬ iOk op rg vl tg := fun z => hin z.1
    refine lv_iconst (v := 0) hx hb dX3_add_67 (by decide) ?_
    refine lv_istore_n (lv' := [(2, .int (0)), (0, .ref y), (1, .ref i9)]) hx hb dX3_add_68 rfl hl (by decide) rfl (fun ls hl => ?_)
    refine lv_aload_n hx hb dX3_add_69 rfl (lv_at hl 1 rfl) ?_
    refine lv_iload_n hx hb dX3_add_70 rfl (lv_at hl 0 rfl) ?_
    refine lv_if_ne (tgt := 78) hx hb dX3_add_71 (by decide) (fun hz => absurd rfl hz) (fun _ => ?_)
    refine lv_iconst (v := 1) hx hb dX3_add_74 (by decide) ?_
    refine lv_goto (tgt := 99) hx hb dX3_add_75 (by decide) ?_
    refine g_putf (ci := 10) (v := .int (1)) (ty := .int) (C := RX3) (T := TX3) (N := 28) hx hb hts in_X3 tyX3 tyX3_ok nmX3 hown hK hW hy rfl 27 (by decide) q1911 (fun _ h9 => h9) rfl (by decide +kernel) rfl rfl (Nat.le_of_ble_eq_true rfl) dX3_add_99 (fun H locs hW => ?_)
    obtain ⟨w_134, ew_134⟩ : ∃ z__, z__ = g_put w y (.inr (10, mO mf (nI P.length) (nI C.length) (en) (td) (st) (nI rn) (lN tt) (nI K.length) (nI fq) (nI ac) (nI F.length) (1))) := ⟨_, rfl⟩
    have hW := g_W.ren hW ew_134 rfl
    have h_135 : g_at w_134 y (.inr (10, mO mf (nI P.length) (nI C.length) (en) (td) (st) (nI rn) (lN tt) (nI K.length) (nI fq) (nI ac) (nI F.length) (1))) := by rw [ew_134]; exact g_at.put_self hy.1
    have h_136 : g_at w_134 i9 (.inr (7, [.ref (D.2 1002 op), .int (rg), .int (vl), .int (tg)])) := by rw [ew_134]; exact hi.put (g_neO hi hy (by decide))
    have x_137 : g_ex (fun q => q = y) w w_134 := by rw [ew_134]; exact x_1.put (fun hz9 => rfl)
    have hZ1 := hZ.obj (rn2 := rn) (tt2 := tt) (fq2 := fq) (ac2 := ac) h_135 x_137 hb9.2.1 hb9.2.2.1 hb9.2.2.2.1 hb9.2.2.2.2
    have hz1 := hZ.zobj x_137
    refine lv_aload_n hx hb dX3_add_102 rfl (lv_at hl 1 rfl) ?_
    refine g_get (ci := 10) (v := .int (1)) (C := RX3) (T := TX3) (N := 28) hx hb hts in_X3 hown hK hW h_135 rfl 27 (by decide) q1911 (fun _ h9 => h9) rfl dX3_add_103 ?_
    refine lv_if_le (tgt := 111) hx hb dX3_add_106 (by decide) (fun hz => absurd hz (by decide)) (fun _ => ?_)
    refine lv_iconst (v := (-1)) hx hb dX3_add_109 (by decide) ?_
    exact g_iret (v := (-1)) hx hb hr hlocks hW (⟨P, 1, hZ1, hz1, Or.inr ⟨rfl, Or.inl ⟨hc, rfl⟩⟩⟩) (by omega) (by omega) dX3_add_110
