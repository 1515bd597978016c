/-! ShrinkYard.isReduced: replacements at a place -/
set_option maxRecDepth 100000
set_option maxHeartbeats 4000000 in
set_option maxRecDepth 100000 in
/-- ShrinkYard.isReduced: replacements at a place -/
theorem lpX1_isReduced3 {p : Program} {l : Launch} {e : Env} {R : Room} {s : State} {m : MethodId} {args : Array Value} {below : List Frame} {meth : Method} {c : Code} {Q : State → Prop} {D : va_G} {A : Nat → Prop} (hx : p.tables.exec = Jvm.exec) (hb : c.code = cX1_isReduced) (hts : ∀ w ∈ lw_all, w.before args s = true) (hown : s.vm.findClass RX1 = some m.cls) (hK : va_K D gCl (gT D) s) (hE : g_Env D A s) (hml : c.maxLocals = 6) (hRf : 8 ≤ R.frames) (hRl : 213 ≤ R.locals) (w : g_H) (x m9 ra eb wb0 pg par pcap d da t9 ta : Nat) (ps : List Nat) (P : List mI) (xs : List Nat) (c9 : Int32) (hcx : g_CX D w x m9 ra eb wb0 pg par pcap ps P (fun q => q = m9 ∨ q = ra ∨ q = eb ∨ q = wb0 ∨ q = t9 ∨ q = ta)) (hd : g_Dig D w d da xs) (hdM : g_ni (fun q => q = m9 ∨ q = ra ∨ q = eb ∨ q = wb0 ∨ q = t9 ∨ q = ta) d) (hdaM : g_ni (fun q => q = m9 ∨ q = ra ∨ q = eb ∨ q = wb0 ∨ q = t9 ∨ q = ta) da) (nra : g_nq ra ta) (ntd : g_nq t9 d) (nta : g_nq ta da) (h9 : ∀ y ∈ xs, y < 8) (CF SF capF : Nat) (rF : Option (List Nat)) (hRc : CF ≤ R.cells) (hRs : SF ≤ R.slots) (i : Nat) (hi : i < xs.length) (kf : ∀ (wb : Nat) (vv : Value) (cd : Int32) (st : Nat) (E : Nat → Bool) (n : Nat) (zs : List Nat) (w1 : g_H) (cells slots : Nat) (H : Heap) (locs : List Loc) (ls : Array Slot), rF = some zs → cells ≤ CF → slots ≤ SF → g_ex (fun q => q = m9 ∨ q = ra ∨ q = eb ∨ q = wb0 ∨ q = t9 ∨ q = ta) w w1 → g_Ma D w1 m9 ra eb wb x vv cd st E n capF → (wb = wb0 ∨ wb ∉ w.1) → g_Dig D w1 t9 ta zs → g_W D A s.heap H locs w1 → W p l e R s m args below meth c H locs cells slots Q (F0 m 96 ls []))
    (kk : ∀ (cap : Nat) (wb : Nat) (vv : Value) (cd : Int32) (st : Nat) (E : Nat → Bool) (n : Nat) (zs : List Nat) (w1 : g_H) (cells : Nat) (slots : Nat) (H : Heap) (locs : List Loc) (ls : Array Slot), (sFind P c9 (repC xs (i + 1)) cap).1 = rF → (sFind P c9 (repC xs (i + 1)) cap).2 = capF → cells + (capF - cap) ≤ CF → slots + 2 * (capF - cap) ≤ SF → g_ex (fun q => q = m9 ∨ q = ra ∨ q = eb ∨ q = wb0 ∨ q = t9 ∨ q = ta) w w1 → g_Ma D w1 m9 ra eb wb x vv cd st E n cap → (wb = wb0 ∨ wb ∉ w.1) → g_Dig D w1 t9 ta zs → g_W D A s.heap H locs w1 → lv_has ls 6 [(4, .int (nI i)), (0, .ref x), (1, .ref d), (2, .int (c9)), (3, .ref t9)] → W p l e R s m args below meth c H locs cells slots Q (F0 m 104 ls [])) :
    ∀ (k : Nat) (j : Nat) (cap : Nat) (wb : Nat) (vv : Value) (cd : Int32) (st : Nat) (E : Nat → Bool) (n : Nat) (zs : List Nat) (w1 : g_H) (cells : Nat) (slots : Nat) (H : Heap) (locs : List Loc) (ls : Array Slot), xs.getD i 0 < j + k → j ≤ xs.getD i 0 → (sFind P c9 (repD xs i j ++ repC xs (i + 1)) cap).1 = rF → (sFind P c9 (repD xs i j ++ repC xs (i + 1)) cap).2 = capF → cells + (capF - cap) ≤ CF → slots + 2 * (capF - cap) ≤ SF → g_ex (fun q => q = m9 ∨ q = ra ∨ q = eb ∨ q = wb0 ∨ q = t9 ∨ q = ta) w w1 → g_Ma D w1 m9 ra eb wb x vv cd st E n cap → (wb = wb0 ∨ wb ∉ w.1) → g_Dig D w1 t9 ta zs → g_W D A s.heap H locs w1 → lv_has ls 6 [(5, .int (nI j)), (4, .int (nI i)), (0, .ref x), (1, .ref d), (2, .int (c9)), (3, .ref t9)] → W p l e R s m args below meth c H locs cells slots Q (F0 m 58 ls []) := by
  intro k
  induction k with
  | zero => intro j cap wb vv cd st E n zs w1 cells slots H locs ls hfuel hj hs1 hs2 hcl hsl hex hMa hwb ht hW hl; exact absurd hfuel (by omega)
  | succ k ih =>
    intro j cap wb vv cd st E n zs w1 cells slots H locs ls hfuel hj hs1 hs2 hcl hsl hex hMa hwb ht hW hl
    have hd1 := hd.ex hex hdM hdaM
    obtain ⟨hd2, ⟨gd, hdg, hdi⟩, hd8⟩ := id hd1
    obtain ⟨ht1, ⟨g9, htg, -⟩, ht8⟩ := id ht
    have hx8 : xs.getD i 0 < 8 := h9 _ (g_mem hi)
    refine lv_iload hx hb dX1_isReduced_58 (lv_at hl 0 rfl) ?_
    refine lv_aload_n hx hb dX1_isReduced_60 rfl (lv_at hl 3 rfl) ?_
    refine g_getN (ci := 2) (v := .ref da) (C := RX11) (T := TX11) (N := 2) hx hb hts in_X11 hown hK hW hd2 rfl 0 (by decide) (nf_q1166 hE) (fun _ h9 => h9) rfl dX1_isReduced_61 ?_
    refine lv_iload hx hb dX1_isReduced_64 (lv_at hl 1 rfl) ?_
    refine g_iald (i := i) hx hb hK hW hdg (by omega) (by decide) dX1_isReduced_66 ?_
    refine g_topi (y := nI (xs.getD i 0)) (hdi i hi) ?_
    refine g_icmp_ge (tgt := 104) hx hb (by omega) (by omega) dX1_isReduced_67 (by decide) (fun hc => ?_) (fun hc => ?_)
    · rw [repD_end hc, List.nil_append] at hs1 hs2
      exact kk cap wb vv cd st E n zs w1 cells slots H locs ls hs1 hs2 hcl hsl hex hMa hwb ht hW (lv_sub hl [1, 2, 3, 4, 5] rfl)
    · rw [repD_cons hc, List.cons_append] at hs1 hs2
      unfold sFind at hs1 hs2
      have hq1 := mC_ge P cap (xs.set i j)
      have hq2 := sFind_ge P c9 (repD xs i (j + 1) ++ repC xs (i + 1)) (mC P cap (xs.set i j))
      have hq3 : mC P cap (xs.set i j) ≤ capF := by rw [← hs2]; split; exact Nat.le_refl _; exact hq2
      have hq4 : bsC cap (mOut P (xs.set i j)).2.2.2 = mC P cap (xs.set i j) := rfl
      refine lv_aload_n hx hb dX1_isReduced_70 rfl (lv_at hl 5 rfl) ?_
      refine lv_aload_n hx hb dX1_isReduced_71 rfl (lv_at hl 3 rfl) ?_
      refine g_callv (va_runV (As := [.ref d]) (rest := []) ⟨hx, hb, hml, hown, hts⟩ (mtX11_copy l D w1 H.size t9 d ta da zs.length g9 xs ht1 htg hd1 ntd nta) (cwV 1 hts (lw_V q1532 q1533 q1534 q75 q1535) rfl rfl rfl (by decide +kernel) ⟨Nat.le_trans (Nat.le_of_ble_eq_true rfl) hRf, Nat.le_trans (Nat.le_of_ble_eq_true rfl) hRl⟩) (g_preV hW hK hE ht1 rfl) rfl rfl hl.1 rfl (lv_room (Nat.le_of_ble_eq_true rfl)) dX1_isReduced_72 ⟨?_, ?_⟩) hW (fun u3 H locs hp hW => ?_)
      · omega
      · omega
      obtain ⟨ht3, hex3⟩ := hp
      obtain ⟨ht31, ⟨g3, ht3g, ht3i⟩, -⟩ := id ht3
      refine lv_aload_n hx hb dX1_isReduced_75 rfl (lv_at hl 5 rfl) ?_
      refine g_getN (ci := 2) (v := .ref ta) (C := RX11) (T := TX11) (N := 2) hx hb hts in_X11 hown hK hW ht31 rfl 0 (by decide) (nf_q1166 hE) (fun _ h9 => h9) rfl dX1_isReduced_76 ?_
      refine lv_iload hx hb dX1_isReduced_79 (lv_at hl 1 rfl) ?_
      refine lv_iload hx hb dX1_isReduced_81 (lv_at hl 0 rfl) ?_
      refine g_iast (i := i) hx hb hK hW ht3g (by omega) (by decide) dX1_isReduced_83 (fun H locs hW => ?_)
      obtain ⟨f_1, ef_1⟩ : ∃ z__, z__ = upd (g3) (i) (nI j) := ⟨_, rfl⟩
      rw [← ef_1] at hW
      obtain ⟨w_2, ew_2⟩ : ∃ z__, z__ = g_put u3 ta (.inl (D.1 100, 8, .inl (f_1))) := ⟨_, rfl⟩
      have hW := g_W.ren hW ew_2 rfl
      have h_3 : g_at w_2 t9 (.inr (2, [.ref ta, .int (nI xs.length)])) := by rw [ew_2]; exact ht31.put (g_neOA ht31 ht3g)
      have h_4 : g_at w_2 ta (.inl (D.1 100, 8, .inl (f_1))) := by rw [ew_2]; exact g_at.put_self ht3g.1
      have hex4 : g_ex (fun q => q = t9 ∨ q = ta) u3 w_2 := by rw [ew_2]; exact g_ex.rf.put (fun _ => Or.inr rfl)
      have ht4 : g_Dig D w_2 t9 ta (xs.set i j) := ⟨by rw [List.length_set]; exact h_3, ⟨f_1, h_4, fun z hz => by
        rw [List.length_set] at hz
        rw [ef_1, List.getD_eq_getElem?_getD, List.getElem?_set]
        by_cases q : z = i
        · subst q; rw [pk_us, if_pos rfl, if_pos hz]; rfl
        · rw [pk_un q, if_neg (Ne.symm q), ht3i z hz, List.getD_eq_getElem?_getD]⟩, by rw [List.length_set]; exact hd8⟩
      have hsep0 := hMa.sep hK ht nra
      have hrt : ∀ q, (q = m9 ∨ q = ra ∨ q = eb ∨ q = wb) → ¬ (q = t9 ∨ q = ta) := fun q h1 h2 => h2.elim (fun z => hsep0.1 (z ▸ h1)) (fun z => hsep0.2 (z ▸ h1))
      have hMa4 := ((hMa.ex hex3 (hrt _ (Or.inl rfl)) (hrt _ (Or.inr (Or.inl rfl))) (hrt _ (Or.inr (Or.inr (Or.inl rfl)))) (hrt _ (Or.inr (Or.inr (Or.inr rfl))))).ex hex4 (hrt _ (Or.inl rfl)) (hrt _ (Or.inr (Or.inl rfl))) (hrt _ (Or.inr (Or.inr (Or.inl rfl)))) (hrt _ (Or.inr (Or.inr (Or.inr rfl)))))
      have hex5 : g_ex (fun q => q = m9 ∨ q = ra ∨ q = eb ∨ q = wb0 ∨ q = t9 ∨ q = ta) w w_2 := (hex.trM hex3 (fun z _ hz => hz.elim (fun z => Or.inr (Or.inr (Or.inr (Or.inr (Or.inl z))))) (fun z => Or.inr (Or.inr (Or.inr (Or.inr (Or.inr z))))))).trM hex4 (fun z _ hz => hz.elim (fun z => Or.inr (Or.inr (Or.inr (Or.inr (Or.inl z))))) (fun z => Or.inr (Or.inr (Or.inr (Or.inr (Or.inr z))))))
      obtain ⟨⟨x1, x2, x4, x5, x6, x7, x8, x9, x10, hx0⟩, hP⟩ := hcx.at hex5
      refine lv_aload_n hx hb dX1_isReduced_84 rfl (lv_at hl 2 rfl) ?_
      refine g_get (ci := 0) (v := .ref m9) (C := RX1) (T := TX1) (N := 11) hx hb hts in_X1 hown hK hW hx0 rfl 3 (by decide) q357 (fun _ h9 => h9) rfl dX1_isReduced_85 ?_
      refine lv_aload_n hx hb dX1_isReduced_88 rfl (lv_at hl 5 rfl) ?_
      refine lv_iload_n hx hb dX1_isReduced_89 rfl (lv_at hl 4 rfl) ?_
      obtain ⟨rd9, hm9⟩ := hMa4.1
      refine g_calli (va_runV (As := [.ref t9, .int (c9)]) (rest := []) ⟨hx, hb, hml, hown, hts⟩ (mtX2_isFailing l D w_2 H.size m9 ra eb wb x st n cap t9 ta pg par pcap vv cd E x1 x2 (.ref m9) x4 x5 x6 x7 x8 x9 x10 ps P (xs.set i j) hMa4 hx0 hP ht4 nra c9) (cwV 2 hts (lw_V q1544 q1545 q1546 q38 q1547) rfl rfl rfl (by decide +kernel) ⟨Nat.le_trans (Nat.le_of_ble_eq_true rfl) hRf, Nat.le_trans (Nat.le_of_ble_eq_true rfl) hRl⟩) (g_preV hW hK hE hm9 rfl) rfl rfl hl.1 rfl (lv_room (Nat.le_of_ble_eq_true rfl)) dX1_isReduced_90 ⟨?_, ?_⟩) hW (fun r_ u1 H locs hp hW => ?_)
      · (try simp only [headSpec]); omega
      · (try simp only [headSpec]); omega
      obtain ⟨er, wb2, hMa2, hwb2, hex2⟩ := hp
      subst er
      have hx2 := hcx.tr hex5 hwb hex2
      have hwb3 := g_wbn hex5 hwb hwb2
      have hsep := hMa4.sep hK ht4 nra
      have ht2 := ht4.ex hex2 hsep.1 hsep.2
      by_cases hfl : mFails P (xs.set i j) c9 = true
      · rw [if_pos hfl]
        rw [if_pos hfl] at hs1 hs2
        refine lv_if_eq (tgt := 98) hx hb dX1_isReduced_93 (by decide) (fun hz => absurd hz (by decide)) (fun _ => ?_)
        exact kf wb2 _ _ _ _ _ _ u1 _ _ H locs ls hs1.symm (by omega) (by omega) hx2 (by rw [← hs2]; exact hMa2) hwb3 ht2 hW
      · rw [if_neg hfl]
        rw [if_neg hfl] at hs1 hs2
        refine lv_if_eq (tgt := 98) hx hb dX1_isReduced_93 (by decide) (fun _ => ?_) (fun hz => absurd rfl hz)
        refine lv_iinc (v := nI (j + 1)) (lv' := [(5, .int (nI (j + 1))), (4, .int (nI i)), (0, .ref x), (1, .ref d), (2, .int (c9)), (3, .ref t9)]) hx hb dX1_isReduced_98 hl (k := 0) rfl (nI_1 j) (by decide) rfl (fun ls hl => ?_)
        refine lv_goto (tgt := 58) hx hb dX1_isReduced_101 (by decide) ?_
        exact ih (j + 1) (mC P cap (xs.set i j)) wb2 _ _ _ _ _ (xs.set i j) u1 _ _ H locs ls (by omega) (by omega) hs1 hs2 (by omega) (by omega) hx2 hMa2 hwb3 ht2 hW hl
