/-! the model: addAlternative, symbolAt *
-/
set_option maxRecDepth 100000
theorem kK1 {c : Nat} (h : kKind c = 1) : 65 ≤ c ∧ c ≤ 68 := by
  unfold kKind at h
  split at h
  · cases h
  · split at h
    · assumption
    · cases h
section MZ6
variable {D : va_G} {w w' : g_H} {lab : Nat → Nat} {y fq ac rn tt cK : Nat} {mf : Nat → Nat} {P : List mI} {C : List yC} {A : Nat → List (List Nat)} {cov : Nat → Bool} {K : List (List Nat)} {F : List yF} {en td st th : Int32} {E : Nat → Bool}
theorem g_MZ.addA {s : State} (hK : va_K D gCl (gT D) s) {i sp : Nat} {t : List Nat} {f9 g9 : Nat → Option Nat} {f10 g10 : Nat → Int32} (h : g_MZ D w lab y mf P C A cov K fq ac F rn tt cK en td st E th) (hst : g_Str D w sp t) (e9 : mA5 D w (mf 9) 12 f9) (e10 : g_at w (mf 10) (.inl (D.1 100, 4, .inl f10))) (hA : ∀ s, s < 4 → (A s).length ≤ 3 ∧ f10 s = nI (A s).length ∧ ∀ j, j < (A s).length → ∃ st, f9 (3 * s + j) = some st ∧ g_Str D w st ((A s).getD j [])) (hi : i < 4) (h3 : (A i).length < 3) (hy : g_at w' y (.inr (10, mO mf (nI P.length) (nI C.length) en td st (nI rn) (lN tt) (nI K.length) (nI fq) (nI ac) (nI F.length) 0))) (q : g_ex (fun q => q = y ∨ q = mf 9 ∨ q = mf 10) w w') (h9 : mA5 D w' (mf 9) 12 g9) (h10 : g_at w' (mf 10) (.inl (D.1 100, 4, .inl g10))) (u9 : g9 = va_up f9 (3 * i + (A i).length) (some sp)) (u10 : g10 = upd f10 i (nI ((A i).length + 1))) : g_MZ D w' lab y mf P C (fun z => if z = i then A i ++ [t] else A z) cov K fq ac F rn tt cK en td st E 0 ∧ zCh w lab w' lab := by
  have hm : g_mut D w (fun q => q = y ∨ q = mf 9 ∨ q = mf 10) := (g_mut.obj h.1).or ((g_mut.arr e9 (g_neA hK (i := 5) (j := 1) rfl rfl (fun z => by cases z))).or (g_mut.arr e10 (g_neA hK (i := 0) (j := 1) rfl rfl (fun z => by cases z))))
  obtain ⟨-, hL, r1, r2, r3, -, r5, r6, r7, hb⟩ := h.parts (lab' := lab) q hm (fun _ _ => rfl) (fun n => n = 20 ∨ n = 30 ∨ n = 31) (fun z _ hz => by
    rcases hz with hz | hz | hz
    · rw [hz]; exact Or.inl h.2.1.1
    · rw [hz]; exact Or.inr (Or.inl (h.2.1.2 9 (by decide)))
    · rw [hz]; exact Or.inr (Or.inr (h.2.1.2 10 (by decide))))
  refine ⟨⟨hy, hL, r1 (by decide), r2 (by decide), r3 (by decide), ⟨g9, g10, h9, h10, fun s hs => ?_⟩, r5 (by decide), r6 (by decide), r7 (by decide), hb⟩, zCh.of q (fun z _ hz => by
    unfold mM
    rcases hz with hz | hz | hz
    · rw [hz, h.2.1.1]; omega
    · rw [hz, h.2.1.2 9 (by decide)]; omega
    · rw [hz, h.2.1.2 10 (by decide)]; omega)⟩
  obtain ⟨k1, k2, k3⟩ := hA s hs
  by_cases e : s = i
  · subst e
    have hlen : (A s ++ [t]).length = (A s).length + 1 := by rw [List.length_append]; rfl
    simp only [if_true]
    refine ⟨by rw [hlen]; omega, by rw [u10, up_self, hlen], fun j hj => ?_⟩
    rw [hlen] at hj
    by_cases e2 : j = (A s).length
    · subst e2
      exact ⟨sp, by rw [u9, va_up_self], by rw [getD_app]; exact hm.str hst q⟩
    · obtain ⟨st9, z1, z2⟩ := k3 j (by omega)
      exact ⟨st9, by rw [u9, va_up_ne _ _ (by omega)]; exact z1, by rw [getD_apl (by omega)]; exact hm.str z2 q⟩
  · simp only [if_neg e]
    refine ⟨k1, by rw [u10, up_ne e]; exact k2, fun j hj => ?_⟩
    obtain ⟨st9, z1, z2⟩ := k3 j hj
    have := (hA i hi).1
    exact ⟨st9, by rw [u9, va_up_ne _ _ (by omega)]; exact z1, hm.str z2 q⟩
end MZ6
set_option maxHeartbeats 4000000 in
set_option maxRecDepth 100000 in
/-- Model.addAlternative: its loop -/
theorem lpX3_addAlternative {p : Program} {l : Launch} {e : Env} {R : Room} {s : State} {m : MethodId} {args : Array Value} {below : List Frame} {meth : Method} {c : Code} {cells slots : Nat} {Q : State → Prop} {D : va_G} {A : Nat → Prop} (hx : p.tables.exec = Jvm.exec) (hb : c.code = cX3_addAlternative) (hts : ∀ w ∈ lw_all, w.before args s = true) (hown : s.vm.findClass RX3 = some m.cls) (hK : va_K D gCl (gT D) s) (hE : g_Env D A s) (hml : c.maxLocals = 5) (hRf : 5 ≤ R.frames) (hRl : 97 ≤ R.locals) (hRc : cells ≤ R.cells) (hRs : slots ≤ R.slots) (w : g_H) (y c9 sp : Nat) (t : List Nat) (hst : g_Str D w sp t)
    (kk : ∀ (H : Heap) (locs : List Loc) (ls : Array Slot), g_W D A s.heap H locs w → lv_has ls 5 [(0, .ref y), (1, .int (nI c9)), (2, .ref sp), (3, .int (if (decide (kKind c9 = 1) && kHas t 1) = true then 1 else 0))] → W p l e R s m args below meth c H locs cells slots Q (F0 m 57 ls [])) :
    ∀ (k : Nat) (i : Nat) (H : Heap) (locs : List Loc) (ls : Array Slot), t.length < i + k → i ≤ t.length → g_W D A s.heap H locs w → lv_has ls 5 [(3, .int ((if (decide (kKind c9 = 1) && kHas (t.take i) 1) = true then 1 else 0))), (4, .int (nI i)), (0, .ref y), (1, .int (nI c9)), (2, .ref sp)] → W p l e R s m args below meth c H locs cells slots Q (F0 m 8 ls []) := by
  intro k
  induction k with
  | zero => intro i H locs ls hfuel hi hW hl; exact absurd hfuel (by omega)
  | succ k ih =>
    intro i H locs ls hfuel hi hW hl
    have hl1 := hst.1.1
    refine lv_iload hx hb dX3_addAlternative_8 (lv_at hl 1 rfl) ?_
    refine lv_aload_n hx hb dX3_addAlternative_10 rfl (lv_at hl 4 rfl) ?_
    obtain ⟨v, hr1, hb1⟩ := hst.rd hts hK hE hW
    refine g_calli (va_runV (As := []) (rest := [.int (nI i)]) ⟨hx, hb, hml, hown, hts⟩ (mtJ16_length l D w H.size sp t hst) (cwV 0 hts (lw_V q2004 q740 q741 q63 q742) rfl rfl rfl (by decide +kernel) ⟨Nat.le_trans (Nat.le_of_ble_eq_true rfl) hRf, Nat.le_trans (Nat.le_of_ble_eq_true rfl) hRl⟩) (g_preVR hW hK hE hr1.2.2.2) rfl rfl hl.1 rfl (lv_room (Nat.le_of_ble_eq_true rfl)) dX3_addAlternative_11 ⟨hRc, hRs⟩) hW (fun r_ u_ H locs hp hW => ?_)
    obtain ⟨er, rfl⟩ := hp
    subst er
    refine g_icmp_ge (x := i) (y := t.length) (tgt := 57) hx hb (by omega) (by omega) dX3_addAlternative_14 (by decide) (fun hc => ?_) (fun hc => ?_)
    · have e0 : i = t.length := by omega
      subst e0
      rw [List.take_length] at hl
      exact kk H locs ls hW (lv_sub hl [2, 3, 4, 0] rfl)
    · have hkt := kHas_take (g := 1) hc
      have hch := hst.1.lt (j := i)
      refine lv_iload_n hx hb dX3_addAlternative_17 rfl (lv_at hl 0 rfl) ?_
      cases hq9 : (decide (kKind c9 = 1) && kHas (t.take i) 1)
      · rw [if_neg (by decide)]
        refine lv_if_eq (tgt := 49) hx hb dX3_addAlternative_18 (by decide) (fun _ => ?_) (fun hz => absurd rfl hz)
        refine lv_iconst (v := 0) hx hb dX3_addAlternative_49 (by decide) ?_
        refine g_topi (y := (if (decide (kKind c9 = 1) && kHas (t.take (i + 1)) 1) = true then 1 else 0)) (by rw [hkt, ← Bool.and_assoc, hq9]; rfl) ?_
        refine lv_istore_n (lv' := [(3, .int ((if (decide (kKind c9 = 1) && kHas (t.take (i + 1)) 1) = true then 1 else 0))), (4, .int (nI i)), (0, .ref y), (1, .int (nI c9)), (2, .ref sp)]) hx hb dX3_addAlternative_50 rfl hl (by decide) rfl (fun ls hl => ?_)
        refine lv_iinc (v := nI (i + 1)) (lv' := [(4, .int (nI (i + 1))), (3, .int ((if (decide (kKind c9 = 1) && kHas (t.take (i + 1)) 1) = true then 1 else 0))), (0, .ref y), (1, .int (nI c9)), (2, .ref sp)]) hx hb dX3_addAlternative_51 hl (k := 1) rfl (nI_1 i) (by decide) rfl (fun ls hl => ?_)
        refine lv_goto (tgt := 8) hx hb dX3_addAlternative_54 (by decide) ?_
        exact ih (i + 1) H locs ls (by omega) (by omega) hW (lv_sub hl [1, 0, 2, 3, 4] rfl)
      · rw [if_pos (by decide)]
        refine lv_if_eq (tgt := 49) hx hb dX3_addAlternative_18 (by decide) (fun hz => absurd hz (by decide)) (fun _ => ?_)
        refine lv_aload_n hx hb dX3_addAlternative_21 rfl (lv_at hl 4 rfl) ?_
        refine lv_iload hx hb dX3_addAlternative_22 (lv_at hl 1 rfl) ?_
        obtain ⟨v, hr1, hb1⟩ := hst.rd hts hK hE hW
        refine g_calli (va_runV (As := [.int (nI i)]) (rest := []) ⟨hx, hb, hml, hown, hts⟩ (mtJ16_charAt l D w H.size sp i t hst hc) (cwV 1 hts (lw_V q2005 q750 q751 q63 q752) rfl rfl rfl (by decide +kernel) ⟨Nat.le_trans (Nat.le_of_ble_eq_true rfl) hRf, Nat.le_trans (Nat.le_of_ble_eq_true rfl) hRl⟩) (g_preVR hW hK hE hr1.2.2.2) rfl rfl hl.1 rfl (lv_room (Nat.le_of_ble_eq_true rfl)) dX3_addAlternative_24 ⟨hRc, hRs⟩) hW (fun r_ u_ H locs hp hW => ?_)
        obtain ⟨er, rfl⟩ := hp
        subst er
        refine g_calli (va_runS (As := [.int (nI (t.getD i 0))]) (rest := []) ⟨hx, hb, hml, hown, hts⟩ (mtX3_isDigit l D w H.size (t.getD i 0) (by omega)) (va_cwS 1 hts (lw_S q2006 q2007 q47 q2008) rfl rfl rfl (by decide +kernel) ⟨Nat.le_trans (Nat.le_of_ble_eq_true rfl) hRf, Nat.le_trans (Nat.le_of_ble_eq_true rfl) hRl⟩) (g_preS hW hK hE) rfl rfl hl.1 rfl (lv_room (Nat.le_of_ble_eq_true rfl)) dX3_addAlternative_27 ⟨hRc, hRs⟩) hW (fun r_ u_ H locs hp hW => ?_)
        obtain ⟨er, rfl⟩ := hp
        subst er
        by_cases hq8 : kKind (t.getD i 0) = 0
        · rw [if_pos hq8]
          refine lv_if_ne (tgt := 45) hx hb dX3_addAlternative_30 (by decide) (fun _ => ?_) (fun hz => absurd (by first | exact hz | exact Classical.not_not.mp hz) (by decide))
          refine lv_iconst (v := 1) hx hb dX3_addAlternative_45 (by decide) ?_
          refine lv_goto (tgt := 50) hx hb dX3_addAlternative_46 (by decide) ?_
          refine g_topi (y := (if (decide (kKind c9 = 1) && kHas (t.take (i + 1)) 1) = true then 1 else 0)) (by rw [hkt, ← Bool.and_assoc, hq9, decide_eq_true (by omega)]; rfl) ?_
          refine lv_istore_n (lv' := [(3, .int ((if (decide (kKind c9 = 1) && kHas (t.take (i + 1)) 1) = true then 1 else 0))), (4, .int (nI i)), (0, .ref y), (1, .int (nI c9)), (2, .ref sp)]) hx hb dX3_addAlternative_50 rfl hl (by decide) rfl (fun ls hl => ?_)
          refine lv_iinc (v := nI (i + 1)) (lv' := [(4, .int (nI (i + 1))), (3, .int ((if (decide (kKind c9 = 1) && kHas (t.take (i + 1)) 1) = true then 1 else 0))), (0, .ref y), (1, .int (nI c9)), (2, .ref sp)]) hx hb dX3_addAlternative_51 hl (k := 1) rfl (nI_1 i) (by decide) rfl (fun ls hl => ?_)
          refine lv_goto (tgt := 8) hx hb dX3_addAlternative_54 (by decide) ?_
          exact ih (i + 1) H locs ls (by omega) (by omega) hW (lv_sub hl [1, 0, 2, 3, 4] rfl)
        · rw [if_neg hq8]
          refine lv_if_ne (tgt := 45) hx hb dX3_addAlternative_30 (by decide) (fun hz => absurd rfl hz) (fun _ => ?_)
          refine lv_aload_n hx hb dX3_addAlternative_33 rfl (lv_at hl 4 rfl) ?_
          refine lv_iload hx hb dX3_addAlternative_34 (lv_at hl 1 rfl) ?_
          obtain ⟨v, hr1, hb1⟩ := hst.rd hts hK hE hW
          refine g_calli (va_runV (As := [.int (nI i)]) (rest := []) ⟨hx, hb, hml, hown, hts⟩ (mtJ16_charAt l D w H.size sp i t hst hc) (cwV 1 hts (lw_V q2005 q750 q751 q63 q752) rfl rfl rfl (by decide +kernel) ⟨Nat.le_trans (Nat.le_of_ble_eq_true rfl) hRf, Nat.le_trans (Nat.le_of_ble_eq_true rfl) hRl⟩) (g_preVR hW hK hE hr1.2.2.2) rfl rfl hl.1 rfl (lv_room (Nat.le_of_ble_eq_true rfl)) dX3_addAlternative_36 ⟨hRc, hRs⟩) hW (fun r_ u_ H locs hp hW => ?_)
          obtain ⟨er, rfl⟩ := hp
          subst er
          refine g_calli (va_runS (As := [.int (nI (t.getD i 0))]) (rest := []) ⟨hx, hb, hml, hown, hts⟩ (mtX3_isSymbol l D w H.size (t.getD i 0) (by omega)) (va_cwS 1 hts (lw_S q2001 q2002 q47 q2003) rfl rfl rfl (by decide +kernel) ⟨Nat.le_trans (Nat.le_of_ble_eq_true rfl) hRf, Nat.le_trans (Nat.le_of_ble_eq_true rfl) hRl⟩) (g_preS hW hK hE) rfl rfl hl.1 rfl (lv_room (Nat.le_of_ble_eq_true rfl)) dX3_addAlternative_39 ⟨hRc, hRs⟩) hW (fun r_ u_ H locs hp hW => ?_)
          obtain ⟨er, rfl⟩ := hp
          subst er
          by_cases hq7 : kKind (t.getD i 0) = 1
          · rw [if_pos hq7]
            refine lv_if_eq (tgt := 49) hx hb dX3_addAlternative_42 (by decide) (fun hz => absurd hz (by decide)) (fun _ => ?_)
            refine lv_iconst (v := 1) hx hb dX3_addAlternative_45 (by decide) ?_
            refine lv_goto (tgt := 50) hx hb dX3_addAlternative_46 (by decide) ?_
            refine g_topi (y := (if (decide (kKind c9 = 1) && kHas (t.take (i + 1)) 1) = true then 1 else 0)) (by rw [hkt, ← Bool.and_assoc, hq9, decide_eq_true (by omega)]; rfl) ?_
            refine lv_istore_n (lv' := [(3, .int ((if (decide (kKind c9 = 1) && kHas (t.take (i + 1)) 1) = true then 1 else 0))), (4, .int (nI i)), (0, .ref y), (1, .int (nI c9)), (2, .ref sp)]) hx hb dX3_addAlternative_50 rfl hl (by decide) rfl (fun ls hl => ?_)
            refine lv_iinc (v := nI (i + 1)) (lv' := [(4, .int (nI (i + 1))), (3, .int ((if (decide (kKind c9 = 1) && kHas (t.take (i + 1)) 1) = true then 1 else 0))), (0, .ref y), (1, .int (nI c9)), (2, .ref sp)]) hx hb dX3_addAlternative_51 hl (k := 1) rfl (nI_1 i) (by decide) rfl (fun ls hl => ?_)
            refine lv_goto (tgt := 8) hx hb dX3_addAlternative_54 (by decide) ?_
            exact ih (i + 1) H locs ls (by omega) (by omega) hW (lv_sub hl [1, 0, 2, 3, 4] rfl)
          · rw [if_neg hq7]
            refine lv_if_eq (tgt := 49) hx hb dX3_addAlternative_42 (by decide) (fun _ => ?_) (fun hz => absurd rfl hz)
            refine lv_iconst (v := 0) hx hb dX3_addAlternative_49 (by decide) ?_
            refine g_topi (y := (if (decide (kKind c9 = 1) && kHas (t.take (i + 1)) 1) = true then 1 else 0)) (by rw [hkt, ← Bool.and_assoc, hq9, decide_eq_false (by omega)]; rfl) ?_
            refine lv_istore_n (lv' := [(3, .int ((if (decide (kKind c9 = 1) && kHas (t.take (i + 1)) 1) = true then 1 else 0))), (4, .int (nI i)), (0, .ref y), (1, .int (nI c9)), (2, .ref sp)]) hx hb dX3_addAlternative_50 rfl hl (by decide) rfl (fun ls hl => ?_)
            refine lv_iinc (v := nI (i + 1)) (lv' := [(4, .int (nI (i + 1))), (3, .int ((if (decide (kKind c9 = 1) && kHas (t.take (i + 1)) 1) = true then 1 else 0))), (0, .ref y), (1, .int (nI c9)), (2, .ref sp)]) hx hb dX3_addAlternative_51 hl (k := 1) rfl (nI_1 i) (by decide) rfl (fun ls hl => ?_)
            refine lv_goto (tgt := 8) hx hb dX3_addAlternative_54 (by decide) ?_
            exact ih (i + 1) H locs ls (by omega) (by omega) hW (lv_sub hl [1, 0, 2, 3, 4] rfl)
set_option maxHeartbeats 4000000 in
set_option maxRecDepth 100000 in
/-- Model.addAlternative -/
theorem mtX3_addAlternative (l : Launch) (D : va_G) (w : g_H) (sz : Nat) (y : Nat) (mf : Nat → Nat) (lab : Nat → Nat) (P : List mI) (C : List yC) (A9 : Nat → List (List Nat)) (cov : Nat → Bool) (K : List (List Nat)) (fq ac : Nat) (F : List yF) (rn tt cK : Nat) (en td st : Int32) (E : Nat → Bool) (th : Int32) (hZ : g_MZ D w lab y mf P C A9 cov K fq ac F rn tt cK en td st E th) (c9 sp : Nat) (t : List Nat) (hc9 : c9 < 65536) (hst : g_Str D w sp t) : Met l yX3_addAlternative (ws_ yX3_addAlternative cX3_addAlternative 5 (some .int)) ({ frames := 5, cells := 0, slots := 0, locals := 97 }) (g_Pc D [.ref y, .int (nI c9), .ref sp] w sz) (g_Qi D w sz (fun r u => ∃ A2 th2, g_MZ D u lab y mf P C A2 cov K fq ac F rn tt cK en td st E th2 ∧ zCh w lab u lab ∧ (((kKind c9 = 1 ∧ kHas t 1 = true) ∧ (A9 (c9 - 65)).length < 3 ∧ th2 = 0 ∧ r = nI ((A9 (c9 - 65)).length + 1) ∧ A2 = (fun i => if i = c9 - 65 then A9 (c9 - 65) ++ [t] else A9 i)) ∨ (A2 = A9 ∧ ((¬ (kKind c9 = 1 ∧ kHas t 1 = true) ∧ th2 = 1) ∨ ((kKind c9 = 1 ∧ kHas t 1 = true) ∧ ¬ (A9 (c9 - 65)).length < 3 ∧ th2 = 2)))))) (0) (0) (g_A w sz) := by
  refine Met.ofW (cc := cX3_addAlternative) (maxL := 5) (ret := (some .int)) (by decide) rfl ?_
  intro p e s m args below meth c s₁ B hml hv
  obtain ⟨rfl, hI⟩ := hv
  have hx := B.exec
  have hb := B.bytes
  have hr := B.returns
  have hts := atoms_spec (ws := ws_ yX3_addAlternative cX3_addAlternative 5 (some .int)) B.pre
  have hts : ∀ w ∈ lw_all, w.before _ s = true := fun w h => hts w (List.mem_cons_of_mem _ h)
  have hown : s.vm.findClass RX3 = some m.cls := findClass_of_methodNamed B.named
  have hlocks := B.notSynchronized
  have hsz := hI.1
  subst hsz
  have hW := g_W.start hI
  have hK := g_K hI
  have hE := g_E hI
  have hl := lv_entry ([.ref y, .int (nI c9), .ref sp]) (n := 5) (by exact Nat.le_of_ble_eq_true rfl)
  rw [lg_entry_eq]
  generalize (lg_sl ([.ref y, .int (nI c9), .ref sp]) ++ List.replicate (5 - (lg_sl ([.ref y, .int (nI c9), .ref sp])).length) Slot.unset).toArray = ls at hl ⊢
  have hl : lv_has ls 5 [(0, .ref y), (1, .int (nI c9)), (2, .ref sp)] := hl
  obtain ⟨hy, ⟨hly, hL⟩, hP, hR, hC0, hA0, hV0, hK0, hF0, hb9⟩ := id hZ
  have x_1 : g_ex (fun q => q = y) w w := g_ex.rf
  obtain ⟨f9, f10, a9, a10, hA9⟩ := id hA0
  have hl1 := hst.1.1
  refine lv_iload_n hx hb dX3_addAlternative_0 rfl (lv_at hl 1 rfl) ?_
  refine g_calli (va_runS (As := [.int (nI c9)]) (rest := []) ⟨hx, hb, hml, hown, hts⟩ (mtX3_isSymbol l D w s.heap.size c9 hc9) (va_cwS 1 hts (lw_S q2001 q2002 q47 q2003) rfl rfl rfl (by decide +kernel) ⟨Nat.le_of_ble_eq_true rfl, Nat.le_of_ble_eq_true rfl⟩) (g_preS hW hK hE) rfl rfl hl.1 rfl (lv_room (Nat.le_of_ble_eq_true rfl)) dX3_addAlternative_1 ⟨Nat.le_of_ble_eq_true rfl, Nat.le_of_ble_eq_true rfl⟩) hW (fun r_ u_ H locs hp hW => ?_)
  obtain ⟨er, rfl⟩ := hp
  subst er
  refine g_topi (y := (if (decide (kKind c9 = 1) && kHas (t.take 0) 1) = true then 1 else 0)) (by rw [List.take_zero]; by_cases h9 : kKind c9 = 1; (rw [if_pos h9, decide_eq_true h9]; rfl); (rw [if_neg h9, decide_eq_false h9]; rfl)) ?_
  refine lv_istore_n (lv' := [(3, .int ((if (decide (kKind c9 = 1) && kHas (t.take 0) 1) = true then 1 else 0))), (0, .ref y), (1, .int (nI c9)), (2, .ref sp)]) hx hb dX3_addAlternative_4 rfl hl (by decide) rfl (fun ls hl => ?_)
  refine lv_iconst (v := 0) hx hb dX3_addAlternative_5 (by decide) ?_
  refine lv_istore (lv' := [(4, .int (0)), (3, .int ((if (decide (kKind c9 = 1) && kHas (t.take 0) 1) = true then 1 else 0))), (0, .ref y), (1, .int (nI c9)), (2, .ref sp)]) hx hb dX3_addAlternative_6 hl (by decide) rfl (fun ls hl => ?_)
  refine lpX3_addAlternative (D := D) hx hb hts hown hK hE hml (Nat.le_of_ble_eq_true rfl) (Nat.le_of_ble_eq_true rfl) ?_ ?_ w y c9 sp t hst (fun H locs ls hW hl => ?_) (t.length + 1) 0 _ _ ls (by omega) (Nat.zero_le _) hW (lv_sub hl [1, 0, 2, 3, 4] rfl)
  · (try simp only [headSpec]); omega
  · (try simp only [headSpec]); omega
  refine lv_aload_n hx hb dX3_addAlternative_57 rfl (lv_at hl 0 rfl) ?_
  refine lv_iload_n hx hb dX3_addAlternative_58 rfl (lv_at hl 3 rfl) ?_
  by_cases hq9 : (decide (kKind c9 = 1) && kHas t 1) = true
  · rw [if_pos hq9]
    refine lv_if_ne (tgt := 66) hx hb dX3_addAlternative_59 (by decide) (fun _ => ?_) (fun hz => absurd (by first | exact hz | exact Classical.not_not.mp hz) (by decide))
    have hc : (kKind c9 = 1 ∧ kHas t 1 = true) := by rw [Bool.and_eq_true, decide_eq_true_iff] at hq9; exact hq9
    have h65 := kK1 hc.1
    obtain ⟨i, ei⟩ : ∃ z__, z__ = c9 - 65 := ⟨_, rfl⟩
    rw [← ei]
    have hi4 : i < 4 := by omega
    obtain ⟨hl3, h10, hA8⟩ := hA9 i hi4
    refine lv_aload_n hx hb dX3_addAlternative_66 rfl (lv_at hl 0 rfl) ?_
    refine g_get (ci := 10) (v := .ref (mf 10)) (C := RX3) (T := TX3) (N := 28) hx hb hts in_X3 hown hK hW hy rfl 10 (by decide) q1894 (fun _ h9 => h9) rfl dX3_addAlternative_67 ?_
    refine lv_iload_n hx hb dX3_addAlternative_70 rfl (lv_at hl 1 rfl) ?_
    refine lv_bipush (v := 65) hx hb dX3_addAlternative_71 (by decide) ?_
    refine lv_isub hx hb dX3_addAlternative_73 ?_
    refine g_topi (y := nI i) (by rw [ei]; exact pk_sub h65.1) ?_
    refine g_iald (i := i) hx hb hK hW a10 (hi4) (by decide) dX3_addAlternative_74 ?_
    rw [h10]
    refine lv_iconst (v := 3) hx hb dX3_addAlternative_75 (by decide) ?_
    refine lv_icmp_ne (tgt := 83) hx hb dX3_addAlternative_76 (by decide) (fun hd => ?_) (fun hd => ?_)
    · have hlt : (A9 i).length < 3 := Nat.lt_of_le_of_ne hl3 (fun z => hd (by rw [z]; rfl))
      have hx0 : g_ex (fun q => q = y ∨ q = mf 9 ∨ q = mf 10) w w := g_ex.rf
      have ny9 : y ≠ mf 9 := g_neOA hy a9
      have ny10 : y ≠ mf 10 := g_neOA hy a10
      have hmu : g_mut D w (fun q => q = y ∨ q = mf 9 ∨ q = mf 10) := (g_mut.obj hy).or ((g_mut.arr a9 (g_neA hK (i := 5) (j := 1) rfl rfl (fun z => by cases z))).or (g_mut.arr a10 (g_neA hK (i := 0) (j := 1) rfl rfl (fun z => by cases z))))
      refine lv_iconst (v := 0) hx hb dX3_addAlternative_83 (by decide) ?_
      refine g_putf (ci := 10) (v := .int (0)) (ty := .int) (C := RX3) (T := TX3) (N := 28) hx hb hts in_X3 tyX3 tyX3_ok nmX3 hown hK hW hy rfl 27 (by decide) q1911 (fun _ h9 => h9) rfl (by decide +kernel) rfl rfl (Nat.le_of_ble_eq_true rfl) dX3_addAlternative_84 (fun H locs hW => ?_)
      obtain ⟨w_2, ew_2⟩ : ∃ z__, z__ = g_put w y (.inr (10, mO mf (nI P.length) (nI C.length) (en) (td) (st) (nI rn) (lN tt) (nI K.length) (nI fq) (nI ac) (nI F.length) (0))) := ⟨_, rfl⟩
      have hW := g_W.ren hW ew_2 rfl
      have h_3 : g_at w_2 y (.inr (10, mO mf (nI P.length) (nI C.length) (en) (td) (st) (nI rn) (lN tt) (nI K.length) (nI fq) (nI ac) (nI F.length) (0))) := by rw [ew_2]; exact g_at.put_self hy.1
      have h_4 : g_at w_2 (mf 10) (.inl (D.1 100, 4, .inl (f10))) := by rw [ew_2]; exact a10.put ny10.symm
      have h_5 : g_at w_2 (mf 9) (.inl (D.1 105, 12, .inr (.inr (.inr (.inr (f9)))))) := by rw [ew_2]; exact a9.put ny9.symm
      have x_6 : g_ex (fun q => q = y ∨ q = mf 9 ∨ q = mf 10) w w_2 := by rw [ew_2]; exact hx0.put (fun hz9 => (Or.inl rfl))
      refine lv_aload_n hx hb dX3_addAlternative_87 rfl (lv_at hl 0 rfl) ?_
      refine g_get (ci := 10) (v := .int (0)) (C := RX3) (T := TX3) (N := 28) hx hb hts in_X3 hown hK hW h_3 rfl 27 (by decide) q1911 (fun _ h9 => h9) rfl dX3_addAlternative_88 ?_
      refine lv_if_le (tgt := 96) hx hb dX3_addAlternative_91 (by decide) (fun _ => ?_) (fun hz => absurd (by decide) hz)
      refine lv_iload_n hx hb dX3_addAlternative_96 rfl (lv_at hl 1 rfl) ?_
      refine lv_bipush (v := 65) hx hb dX3_addAlternative_97 (by decide) ?_
      refine lv_isub hx hb dX3_addAlternative_99 ?_
      refine g_topi (y := nI i) (by rw [ei]; exact pk_sub h65.1) ?_
      refine lv_istore (lv' := [(4, .int (nI i)), (0, .ref y), (1, .int (nI c9)), (2, .ref sp), (3, .int ((if (decide (kKind c9 = 1) && kHas t 1) = true then 1 else 0)))]) hx hb dX3_addAlternative_100 hl (by decide) rfl (fun ls hl => ?_)
      refine lv_aload_n hx hb dX3_addAlternative_102 rfl (lv_at hl 1 rfl) ?_
      refine g_get (ci := 10) (v := .ref (mf 9)) (C := RX3) (T := TX3) (N := 28) hx hb hts in_X3 hown hK hW h_3 rfl 9 (by decide) q1893 (fun _ h9 => h9) rfl dX3_addAlternative_103 ?_
      refine lv_iconst (v := 3) hx hb dX3_addAlternative_106 (by decide) ?_
      refine lv_iload hx hb dX3_addAlternative_107 (lv_at hl 0 rfl) ?_
      refine lv_imul hx hb dX3_addAlternative_109 ?_
      refine lv_aload_n hx hb dX3_addAlternative_110 rfl (lv_at hl 1 rfl) ?_
      refine g_get (ci := 10) (v := .ref (mf 10)) (C := RX3) (T := TX3) (N := 28) hx hb hts in_X3 hown hK hW h_3 rfl 10 (by decide) q1894 (fun _ h9 => h9) rfl dX3_addAlternative_111 ?_
      refine lv_iload hx hb dX3_addAlternative_114 (lv_at hl 0 rfl) ?_
      refine g_iald (i := i) hx hb hK hW h_4 (hi4) (by decide) dX3_addAlternative_116 ?_
      rw [h10]
      refine lv_iadd hx hb dX3_addAlternative_117 ?_
      refine g_topi (y := nI (3 * i + (A9 i).length)) (by rw [show ((3 : Int32) * nI i) = nI (3 * i) from (Int32.ofNat_mul 3 i).symm, nI_add]) ?_
      refine lv_aload_n hx hb dX3_addAlternative_118 rfl (lv_at hl 3 rfl) ?_
      refine g_astSt (n := 12) (i := 3 * i + (A9 i).length) (y := sp) hx hb hK hE hW h_5 (hmu.str hst x_6).ob (by omega) (by omega) dX3_addAlternative_119 (fun H locs hW => ?_)
      obtain ⟨f_7, ef_7⟩ : ∃ z__, z__ = va_up f9 (3 * i + (A9 i).length) (some sp) := ⟨_, rfl⟩
      rw [← ef_7] at hW
      obtain ⟨w_8, ew_8⟩ : ∃ z__, z__ = g_put w_2 (mf 9) (.inl (D.1 105, 12, .inr (.inr (.inr (.inr (f_7)))))) := ⟨_, rfl⟩
      have hW := g_W.ren hW ew_8 rfl
      have h_9 : g_at w_8 y (.inr (10, mO mf (nI P.length) (nI C.length) (en) (td) (st) (nI rn) (lN tt) (nI K.length) (nI fq) (nI ac) (nI F.length) (0))) := by rw [ew_8]; exact h_3.put ny9
      have h_10 : g_at w_8 (mf 10) (.inl (D.1 100, 4, .inl (f10))) := by rw [ew_8]; exact h_4.put (g_lne (hL 10 (by decide)) (hL 9 (by decide)) (by decide))
      have h_11 : g_at w_8 (mf 9) (.inl (D.1 105, 12, .inr (.inr (.inr (.inr (f_7)))))) := by rw [ew_8]; exact g_at.put_self h_5.1
      have x_12 : g_ex (fun q => q = y ∨ q = mf 9 ∨ q = mf 10) w w_8 := by rw [ew_8]; exact x_6.put (fun hz9 => (Or.inr (Or.inl rfl)))
      refine lv_aload_n hx hb dX3_addAlternative_120 rfl (lv_at hl 1 rfl) ?_
      refine g_get (ci := 10) (v := .ref (mf 10)) (C := RX3) (T := TX3) (N := 28) hx hb hts in_X3 hown hK hW h_9 rfl 10 (by decide) q1894 (fun _ h9 => h9) rfl dX3_addAlternative_121 ?_
      refine lv_iload hx hb dX3_addAlternative_124 (lv_at hl 0 rfl) ?_
      refine lv_dup2_11 hx hb dX3_addAlternative_126 rfl rfl ?_
      refine g_iald (i := i) hx hb hK hW h_10 (hi4) (by decide) dX3_addAlternative_127 ?_
      rw [h10]
      refine lv_iconst (v := 1) hx hb dX3_addAlternative_128 (by decide) ?_
      refine lv_iadd hx hb dX3_addAlternative_129 ?_
      refine g_topi (y := nI ((A9 i).length + 1)) (nI_1 _) ?_
      refine g_iast (i := i) hx hb hK hW h_10 (hi4) (by decide) dX3_addAlternative_130 (fun H locs hW => ?_)
      obtain ⟨f_13, ef_13⟩ : ∃ z__, z__ = upd (f10) (i) (nI ((A9 i).length + 1)) := ⟨_, rfl⟩
      rw [← ef_13] at hW
      obtain ⟨w_14, ew_14⟩ : ∃ z__, z__ = g_put w_8 (mf 10) (.inl (D.1 100, 4, .inl (f_13))) := ⟨_, rfl⟩
      have hW := g_W.ren hW ew_14 rfl
      have h_15 : g_at w_14 y (.inr (10, mO mf (nI P.length) (nI C.length) (en) (td) (st) (nI rn) (lN tt) (nI K.length) (nI fq) (nI ac) (nI F.length) (0))) := by rw [ew_14]; exact h_9.put ny10
      have h_16 : g_at w_14 (mf 10) (.inl (D.1 100, 4, .inl (f_13))) := by rw [ew_14]; exact g_at.put_self h_10.1
      have h_17 : g_at w_14 (mf 9) (.inl (D.1 105, 12, .inr (.inr (.inr (.inr (f_7)))))) := by rw [ew_14]; exact h_11.put (g_lne (hL 9 (by decide)) (hL 10 (by decide)) (by decide))
      have x_18 : g_ex (fun q => q = y ∨ q = mf 9 ∨ q = mf 10) w w_14 := by rw [ew_14]; exact x_12.put (fun hz9 => (Or.inr (Or.inr (rfl))))
      refine lv_aload_n hx hb dX3_addAlternative_131 rfl (lv_at hl 1 rfl) ?_
      refine g_get (ci := 10) (v := .ref (mf 10)) (C := RX3) (T := TX3) (N := 28) hx hb hts in_X3 hown hK hW h_15 rfl 10 (by decide) q1894 (fun _ h9 => h9) rfl dX3_addAlternative_132 ?_
      refine lv_iload hx hb dX3_addAlternative_135 (lv_at hl 0 rfl) ?_
      refine g_iald (i := i) hx hb hK hW h_16 (hi4) (by decide) dX3_addAlternative_137 ?_
      have e10 : f_13 i = nI ((A9 i).length + 1) := by rw [ef_13, up_self]
      rw [e10]
      obtain ⟨hZ9, hz9⟩ := hZ.addA hK hst a9 a10 hA9 hi4 hlt h_15 x_18 h_17 h_16 ef_7 ef_13
      exact g_iret (v := nI ((A9 i).length + 1)) hx hb hr hlocks hW (⟨_, 0, hZ9, hz9, Or.inl ⟨hc, hlt, rfl, rfl, rfl⟩⟩) (by omega) (by omega) dX3_addAlternative_138
    · have hge : ¬ (A9 i).length < 3 := fun z => absurd (nI_inj (a := (A9 i).length) (b := 3) (by omega) (by decide) (by first | exact hd | exact Classical.not_not.mp hd)) (by omega)
      refine lv_iconst (v := 2) hx hb dX3_addAlternative_79 (by decide) ?_
      refine lv_goto (tgt := 84) hx hb dX3_addAlternative_80 (by decide) ?_
      refine g_putf (ci := 10) (v := .int (2)) (ty := .int) (C := RX3) (T := TX3) (N := 28) hx hb hts in_X3 tyX3 tyX3_ok nmX3 hown hK hW hy rfl 27 (by decide) q1911 (fun _ h9 => h9) rfl (by decide +kernel) rfl rfl (Nat.le_of_ble_eq_true rfl) dX3_addAlternative_84 (fun H locs hW => ?_)
      obtain ⟨w_19, ew_19⟩ : ∃ z__, z__ = g_put w y (.inr (10, mO mf (nI P.length) (nI C.length) (en) (td) (st) (nI rn) (lN tt) (nI K.length) (nI fq) (nI ac) (nI F.length) (2))) := ⟨_, rfl⟩
      have hW := g_W.ren hW ew_19 rfl
      have h_20 : g_at w_19 y (.inr (10, mO mf (nI P.length) (nI C.length) (en) (td) (st) (nI rn) (lN tt) (nI K.length) (nI fq) (nI ac) (nI F.length) (2))) := by rw [ew_19]; exact g_at.put_self hy.1
      have x_21 : g_ex (fun q => q = y) w w_19 := by rw [ew_19]; exact x_1.put (fun hz9 => rfl)
      have hZ1 := hZ.obj (rn2 := rn) (tt2 := tt) (fq2 := fq) (ac2 := ac) h_20 x_21 hb9.2.1 hb9.2.2.1 hb9.2.2.2.1 hb9.2.2.2.2
      have hz1 := hZ.zobj x_21
      refine lv_aload_n hx hb dX3_addAlternative_87 rfl (lv_at hl 0 rfl) ?_
      refine g_get (ci := 10) (v := .int (2)) (C := RX3) (T := TX3) (N := 28) hx hb hts in_X3 hown hK hW h_20 rfl 27 (by decide) q1911 (fun _ h9 => h9) rfl dX3_addAlternative_88 ?_
      refine lv_if_le (tgt := 96) hx hb dX3_addAlternative_91 (by decide) (fun hz => absurd hz (by decide)) (fun _ => ?_)
      refine lv_iconst (v := (-1)) hx hb dX3_addAlternative_94 (by decide) ?_
      exact g_iret (v := (-1)) hx hb hr hlocks hW (⟨A9, 2, hZ1, hz1, Or.inr ⟨rfl, Or.inr ⟨hc, hge, rfl⟩⟩⟩) (by omega) (by omega) dX3_addAlternative_95
  · rw [if_neg hq9]
    refine lv_if_ne (tgt := 66) hx hb dX3_addAlternative_59 (by decide) (fun hz => absurd rfl hz) (fun _ => ?_)
    have hc : ¬ (kKind c9 = 1 ∧ kHas t 1 = true) := fun z => hq9 (by rw [decide_eq_true z.1, z.2]; rfl)
    refine lv_iconst (v := 1) hx hb dX3_addAlternative_62 (by decide) ?_
    refine lv_goto (tgt := 84) hx hb dX3_addAlternative_63 (by decide) ?_
    refine g_putf (ci := 10) (v := .int (1)) (ty := .int) (C := RX3) (T := TX3) (N := 28) hx hb hts in_X3 tyX3 tyX3_ok nmX3 hown hK hW hy rfl 27 (by decide) q1911 (fun _ h9 => h9) rfl (by decide +kernel) rfl rfl (Nat.le_of_ble_eq_true rfl) dX3_addAlternative_84 (fun H locs hW => ?_)
    obtain ⟨w_22, ew_22⟩ : ∃ z__, z__ = g_put w y (.inr (10, mO mf (nI P.length) (nI C.length) (en) (td) (st) (nI rn) (lN tt) (nI K.length) (nI fq) (nI ac) (nI F.length) (1))) := ⟨_, rfl⟩
    have hW := g_W.ren hW ew_22 rfl
    have h_23 : g_at w_22 y (.inr (10, mO mf (nI P.length) (nI C.length) (en) (td) (st) (nI rn) (lN tt) (nI K.length) (nI fq) (nI ac) (nI F.length) (1))) := by rw [ew_22]; exact g_at.put_self hy.1
    have x_24 : g_ex (fun q => q = y) w w_22 := by rw [ew_22]; exact x_1.put (fun hz9 => rfl)
    have hZ1 := hZ.obj (rn2 := rn) (tt2 := tt) (fq2 := fq) (ac2 := ac) h_23 x_24 hb9.2.1 hb9.2.2.1 hb9.2.2.2.1 hb9.2.2.2.2
    have hz1 := hZ.zobj x_24
    refine lv_aload_n hx hb dX3_addAlternative_87 rfl (lv_at hl 0 rfl) ?_
    refine g_get (ci := 10) (v := .int (1)) (C := RX3) (T := TX3) (N := 28) hx hb hts in_X3 hown hK hW h_23 rfl 27 (by decide) q1911 (fun _ h9 => h9) rfl dX3_addAlternative_88 ?_
    refine lv_if_le (tgt := 96) hx hb dX3_addAlternative_91 (by decide) (fun hz => absurd hz (by decide)) (fun _ => ?_)
    refine lv_iconst (v := (-1)) hx hb dX3_addAlternative_94 (by decide) ?_
    exact g_iret (v := (-1)) hx hb hr hlocks hW (⟨A9, 1, hZ1, hz1, Or.inr ⟨rfl, Or.inl ⟨hc, rfl⟩⟩⟩) (by omega) (by omega) dX3_addAlternative_95
