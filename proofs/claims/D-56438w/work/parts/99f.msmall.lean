/-! the model: smallest *
-/
set_option maxRecDepth 100000
section MZ7
variable {D : va_G} {w w' : g_H} {lab : Nat → Nat} {y fq ac rn tt cK : Nat} {mf : Nat → Nat} {P : List mI} {C : List yC} {A : Nat → List (List Nat)} {cov : Nat → Bool} {K : List (List Nat)} {F : List yF} {en td st th : Int32} {E : Nat → Bool}
theorem g_MZ.run2 {s : State} (hK : va_K D gCl (gT D) s) {en2 td2 st2 th2 : Int32} {E2 : Nat → Bool} (h : g_MZ D w lab y mf P C A cov K fq ac F rn tt cK en td st E th) (hy : g_at w' y (.inr (10, mO mf (nI P.length) (nI C.length) en2 td2 st2 (nI rn) (lN tt) (nI K.length) (nI fq) (nI ac) (nI F.length) th2))) (hR : mRw D w' mf E2) (q : g_ex (fun q => q = y ∨ q = mf 14 ∨ q = mf 15) w w') : g_MZ D w' lab y mf P C A cov K fq ac F rn tt cK en2 td2 st2 E2 th2 := by
  obtain ⟨fE, g, a14, -, a15⟩ := h.2.2.2.1
  obtain ⟨-, hL, h1, -, h3, h4, h5, h6, h7, hb⟩ := h.parts (lab' := lab) q ((g_mut.obj h.1).or ((g_mut.arr a14 (g_neA hK (i := 2) (j := 1) rfl rfl (fun z => by cases z))).or (g_mut.arr a15 (g_neA hK (i := 0) (j := 1) rfl rfl (fun z => by cases z))))) (fun _ _ => rfl) (fun n => n = 20 ∨ n = 35 ∨ n = 36) (fun z _ hz => by
    rcases hz with hz | hz | hz
    · rw [hz]; exact Or.inl h.2.1.1
    · rw [hz]; exact Or.inr (Or.inl (h.2.1.2 14 (by decide)))
    · rw [hz]; exact Or.inr (Or.inr (h.2.1.2 15 (by decide))))
  exact ⟨hy, hL, h1 (by decide), hR, h3 (by decide), h4 (by decide), h5 (by decide), h6 (by decide), h7 (by decide), hb⟩
end MZ7
set_option maxHeartbeats 4000000 in
set_option maxRecDepth 100000 in
/-- Model.smallest: of one length -/
theorem lpX3_small1 {p : Program} {l : Launch} {e : Env} {R : Room} {s : State} {m : MethodId} {args : Array Value} {below : List Frame} {meth : Method} {c : Code} {Q : State → Prop} {D : va_G} {A : Nat → Prop} (hx : p.tables.exec = Jvm.exec) (hb : c.code = cX3_smallest) (hts : ∀ w ∈ lw_all, w.before args s = true) (hown : s.vm.findClass RX3 = some m.cls) (hK : va_K D gCl (gT D) s) (hE : g_Env D A s) (hml : c.maxLocals = 6) (hRf : 8 ≤ R.frames) (hRl : 214 ≤ R.locals) (y : Nat) (mf : Nat → Nat) (lab : Nat → Nat) (hL : mLab lab mf) (hly : lab y = 20) (cn rn : Int32) (tt : Int64) (km fi nx fm : Int32) (P : List mI) (w : g_H) (hP : mPr D w mf P) (nM : ∀ k, k ∈ [0, 1, 2, 3] → ¬ (mf k = y ∨ mf k = mf 14 ∨ mf k = mf 15)) (N : Nat) (hN : N ≤ 3) (CF SF : Nat) (hRc : CF + 4 ≤ R.cells) (hRs : SF + 27 ≤ R.slots) (c9 : Int32) (Z : Option (List Nat)) (n : Nat) (hn : n ≤ N) (rest : List (List Nat)) (kf : ∀ (zs : List Nat) (s9 : Nat) (en td st : Int32) (E : Nat → Bool) (w1 : g_H) (cells slots : Nat) (H : Heap) (locs : List Loc) (ls : Array Slot), Z = some zs → g_Str D w1 s9 (txt zs) → cells ≤ CF + 4 → slots ≤ SF + 27 → g_ex (fun q => q = y ∨ q = mf 14 ∨ q = mf 15) w w1 → g_at w1 y (.inr (10, mO mf (nI P.length) (cn) (en) (td) (st) (rn) (tt) (km) (fi) (nx) (fm) (0))) → mRw D w1 mf E → g_W D A s.heap H locs w1 → lv_has ls 6 [(0, .ref y), (1, .int (c9)), (2, .int (nI N)), (4, .int (nI n)), (3, .ref s9)] → W p l e R s m args below meth c H locs cells slots Q (F0 m 96 ls []))
    (kk : ∀ (en : Int32) (td : Int32) (st : Int32) (E : Nat → Bool) (w1 : g_H) (cells : Nat) (slots : Nat) (H : Heap) (locs : List Loc) (ls : Array Slot), mFind P c9 (rest) = Z → cells + 4 * (rest).length ≤ CF → slots + 27 * (rest).length ≤ SF → g_ex (fun q => q = y ∨ q = mf 14 ∨ q = mf 15) w w1 → g_at w1 y (.inr (10, mO mf (nI P.length) (cn) (en) (td) (st) (rn) (tt) (km) (fi) (nx) (fm) (2))) → mRw D w1 mf E → g_W D A s.heap H locs w1 → lv_has ls 6 [(0, .ref y), (1, .int (c9)), (2, .int (nI N)), (3, .ref (D.2 1000 0)), (4, .int (nI n))] → W p l e R s m args below meth c H locs cells slots Q (F0 m 96 ls [])) :
    ∀ (k : Nat) (j : Nat) (en : Int32) (td : Int32) (st : Int32) (E : Nat → Bool) (w1 : g_H) (cells : Nat) (slots : Nat) (H : Heap) (locs : List Loc) (ls : Array Slot), 8 ^ n < j + k → j ≤ 8 ^ n → mFind P c9 (octR n j ++ rest) = Z → cells + 4 * (octR n j ++ rest).length ≤ CF → slots + 27 * (octR n j ++ rest).length ≤ SF → g_ex (fun q => q = y ∨ q = mf 14 ∨ q = mf 15) w w1 → g_at w1 y (.inr (10, mO mf (nI P.length) (cn) (en) (td) (st) (rn) (tt) (km) (fi) (nx) (fm) (2))) → mRw D w1 mf E → g_W D A s.heap H locs w1 → lv_has ls 6 [(5, .int (nI j)), (0, .ref y), (1, .int (c9)), (2, .int (nI N)), (3, .ref (D.2 1000 0)), (4, .int (nI n))] → W p l e R s m args below meth c H locs cells slots Q (F0 m 44 ls []) := by
  intro k
  induction k with
  | zero => intro j en td st E w1 cells slots H locs ls hfuel hj hfo hcl hsl hex hy hR hW hl; exact absurd hfuel (by omega)
  | succ k ih =>
    intro j en td st E w1 cells slots H locs ls hfuel hj hfo hcl hsl hex hy hR hW hl
    have hp8 := p8_le (n := n) (by omega)
    refine lv_iload hx hb dX3_smallest_44 (lv_at hl 0 rfl) ?_
    refine lv_iload hx hb dX3_smallest_46 (lv_at hl 5 rfl) ?_
    refine g_calli (va_runS (As := [.int (nI n)]) (rest := [.int (nI j)]) ⟨hx, hb, hml, hown, hts⟩ (mtX3_inputMany l D w1 H.size n (by omega)) (va_cwS 1 hts (lw_S q2191 q2192 q47 q2193) rfl rfl rfl (by decide +kernel) ⟨Nat.le_trans (Nat.le_of_ble_eq_true rfl) hRf, Nat.le_trans (Nat.le_of_ble_eq_true rfl) hRl⟩) (g_preS hW hK hE) rfl rfl hl.1 rfl (lv_room (Nat.le_of_ble_eq_true rfl)) dX3_smallest_48 ⟨?_, ?_⟩) hW (fun r_ u_ H locs hp hW => ?_)
    · (try simp only [headSpec]); omega
    · (try simp only [headSpec]); omega
    obtain ⟨er, rfl⟩ := hp
    subst er
    refine g_icmp_ge (x := j) (y := 8 ^ n) (tgt := 96) hx hb (by omega) (by omega) dX3_smallest_51 (by decide) (fun hc => ?_) (fun hc => ?_)
    · rw [octR_end (by omega), List.nil_append] at hfo hcl hsl
      exact kk en td st E w1 cells slots H locs ls hfo hcl hsl hex hy hR hW (lv_sub hl [1, 2, 3, 4, 5] rfl)
    · rw [octR_cons hc, List.cons_append] at hfo hcl hsl
      rw [mFind_cons] at hfo
      rw [List.length_cons] at hcl hsl
      refine lv_aload_n hx hb dX3_smallest_54 rfl (lv_at hl 1 rfl) ?_
      refine g_get (ci := 10) (v := .int (2)) (C := RX3) (T := TX3) (N := 28) hx hb hts in_X3 hown hK hW hy rfl 27 (by decide) q1911 (fun _ h9 => h9) rfl dX3_smallest_55 ?_
      refine lv_iconst (v := 2) hx hb dX3_smallest_58 (by decide) ?_
      refine lv_icmp_ne (tgt := 96) hx hb dX3_smallest_59 (by decide) (fun hz => absurd rfl hz) (fun _ => ?_)
      refine lv_aload_n hx hb dX3_smallest_62 rfl (lv_at hl 1 rfl) ?_
      refine lv_iload hx hb dX3_smallest_63 (lv_at hl 5 rfl) ?_
      refine lv_iload hx hb dX3_smallest_65 (lv_at hl 0 rfl) ?_
      refine g_callq (va_runS (As := [.int (nI n), .int (nI j)]) (rest := [.ref y]) ⟨hx, hb, hml, hown, hts⟩ (mtX3_inputAt l D w1 H.size n j (by omega) (by omega)) (va_cwS 2 hts (lw_S q2194 q2195 q47 q2196) rfl rfl rfl (by decide +kernel) ⟨Nat.le_trans (Nat.le_of_ble_eq_true rfl) hRf, Nat.le_trans (Nat.le_of_ble_eq_true rfl) hRl⟩) (g_preS hW hK hE) rfl rfl hl.1 rfl (lv_room (Nat.le_of_ble_eq_true rfl)) dX3_smallest_67 ⟨?_, ?_⟩) hW (fun r_ u1 H locs hp hW => ?_)
      · (try simp only [headSpec]); omega
      · (try simp only [headSpec]); omega
      obtain ⟨s9, er, fs, hs9, hx9⟩ := hp
      subst er
      refine lv_iload_n hx hb dX3_smallest_70 rfl (lv_at hl 2 rfl) ?_
      have hexu := hex.tr (hx9.mono (fun _ _ z => z.elim))
      have hyu := hx9.at hy (fun z => z.elim)
      have hRu := hR.ex hx9 (fun z => z.elim) (fun z => z.elim)
      have hPu := hP.ex hexu nM
      refine g_calli (va_runV (As := [.ref s9, .int (c9)]) (rest := []) ⟨hx, hb, hml, hown, hts⟩ (mtX3_failsWith l D u1 H.size y mf lab hL hly cn en td st rn tt km fi nx fm 2 P E hyu hPu hRu s9 (txt (oct n j)) hs9 (txt_kHas (oct_sDg (by omega))) c9) (cwV 2 hts (lw_V q2077 q2079 qs30 q47 q2080) rfl rfl rfl (by decide +kernel) ⟨Nat.le_trans (Nat.le_of_ble_eq_true rfl) hRf, Nat.le_trans (Nat.le_of_ble_eq_true rfl) hRl⟩) (g_preV hW hK hE hyu rfl) rfl rfl hl.1 rfl (lv_room (Nat.le_of_ble_eq_true rfl)) dX3_smallest_71 ⟨?_, ?_⟩) hW (fun r_ u2 H locs hp hW => ?_)
      · (try simp only [headSpec]); omega
      · (try simp only [headSpec]); omega
      obtain ⟨er, hy2, hR2, hx2⟩ := hp
      rw [digs_txt2] at er hy2 hR2
      subst er
      have hexv := hexu.tr hx2
      have hv3 := mOut_lt (P := P) (xs := oct n j)
      by_cases hq9 : mFails P (oct n j) c9 = true
      · rw [if_pos hq9]
        rw [if_pos hq9] at hfo
        refine lv_if_eq (tgt := 90) hx hb dX3_smallest_74 (by decide) (fun hz => absurd hz (by decide)) (fun _ => ?_)
        refine lv_iload hx hb dX3_smallest_77 (lv_at hl 5 rfl) ?_
        refine lv_iload hx hb dX3_smallest_79 (lv_at hl 0 rfl) ?_
        refine g_callq (va_runS (As := [.int (nI n), .int (nI j)]) (rest := []) ⟨hx, hb, hml, hown, hts⟩ (mtX3_inputAt l D u2 H.size n j (by omega) (by omega)) (va_cwS 2 hts (lw_S q2194 q2195 q47 q2196) rfl rfl rfl (by decide +kernel) ⟨Nat.le_trans (Nat.le_of_ble_eq_true rfl) hRf, Nat.le_trans (Nat.le_of_ble_eq_true rfl) hRl⟩) (g_preS hW hK hE) rfl rfl hl.1 rfl (lv_room (Nat.le_of_ble_eq_true rfl)) dX3_smallest_81 ⟨?_, ?_⟩) hW (fun r_ u3 H locs hp hW => ?_)
        · (try simp only [headSpec]); omega
        · (try simp only [headSpec]); omega
        obtain ⟨s8, er, fs8, hs8, hx8⟩ := hp
        subst er
        have hexw := hexv.tr (hx8.mono (N := fun q => q = y ∨ q = mf 14 ∨ q = mf 15) (fun _ _ z => z.elim))
        have hyw := hx8.at hy2 (fun z => z)
        have hRw := hR2.ex hx8 (fun z => z.elim) (fun z => z.elim)
        refine lv_astore_n (lv' := [(3, .ref s8), (5, .int (nI j)), (0, .ref y), (1, .int (c9)), (2, .int (nI N)), (4, .int (nI n))]) hx hb dX3_smallest_84 rfl hl (by decide) rfl (fun ls hl => ?_)
        refine lv_aload_n hx hb dX3_smallest_85 rfl (lv_at hl 2 rfl) ?_
        refine lv_iconst (v := 0) hx hb dX3_smallest_86 (by decide) ?_
        refine g_putf (ci := 10) (v := .int (0)) (ty := .int) (C := RX3) (T := TX3) (N := 28) hx hb hts in_X3 tyX3 tyX3_ok nmX3 hown hK hW hyw rfl 27 (by decide) q1911 (fun _ h9 => h9) rfl (by decide +kernel) rfl rfl (Nat.le_of_ble_eq_true rfl) dX3_smallest_87 (fun H locs hW => ?_)
        obtain ⟨w_1, ew_1⟩ : ∃ z__, z__ = g_put u3 y (.inr (10, mO mf (nI P.length) (cn) (nI (mOut P (oct n j)).1) (mTo P (oct n j)) (nI (mOut P (oct n j)).2.2.1) (rn) (tt) (km) (fi) (nx) (fm) (0))) := ⟨_, rfl⟩
        have hW := g_W.ren hW ew_1 rfl
        have h_2 : g_at w_1 y (.inr (10, mO mf (nI P.length) (cn) (nI (mOut P (oct n j)).1) (mTo P (oct n j)) (nI (mOut P (oct n j)).2.2.1) (rn) (tt) (km) (fi) (nx) (fm) (0))) := by rw [ew_1]; exact g_at.put_self hyw.1
        have x_3 : g_ex (fun q => q = y ∨ q = mf 14 ∨ q = mf 15) w w_1 := by rw [ew_1]; exact hexw.put (fun hz9 => (Or.inl rfl))
        have hq4 : g_ex (fun q => q = y) u3 w_1 := by rw [ew_1]; exact g_ex.rf.put (fun hz9 => rfl)
        have hs4 := (g_mut.obj hyw).str hs8 hq4
        obtain ⟨fE9, g9, r14, rE14, r15⟩ := id hRw
        have hR4 : mRw D w_1 mf _ := hRw.ex hq4 (fun z => (g_neOA hyw r14) z.symm) (fun z => (g_neOA hyw r15) z.symm)
        refine lv_iinc (v := nI (j + 1)) (lv' := [(5, .int (nI (j + 1))), (3, .ref s8), (0, .ref y), (1, .int (c9)), (2, .int (nI N)), (4, .int (nI n))]) hx hb dX3_smallest_90 hl (k := 1) rfl (nI_1 j) (by decide) rfl (fun ls hl => ?_)
        refine lv_goto (tgt := 44) hx hb dX3_smallest_93 (by decide) ?_
        refine lv_iload hx hb dX3_smallest_44 (lv_at hl 0 rfl) ?_
        refine lv_iload hx hb dX3_smallest_46 (lv_at hl 5 rfl) ?_
        refine g_calli (va_runS (As := [.int (nI n)]) (rest := [.int (nI (j + 1))]) ⟨hx, hb, hml, hown, hts⟩ (mtX3_inputMany l D w_1 H.size n (by omega)) (va_cwS 1 hts (lw_S q2191 q2192 q47 q2193) rfl rfl rfl (by decide +kernel) ⟨Nat.le_trans (Nat.le_of_ble_eq_true rfl) hRf, Nat.le_trans (Nat.le_of_ble_eq_true rfl) hRl⟩) (g_preS hW hK hE) rfl rfl hl.1 rfl (lv_room (Nat.le_of_ble_eq_true rfl)) dX3_smallest_48 ⟨?_, ?_⟩) hW (fun r_ u_ H locs hp hW => ?_)
        · (try simp only [headSpec]); omega
        · (try simp only [headSpec]); omega
        obtain ⟨er, rfl⟩ := hp
        subst er
        refine g_icmp_ge (x := j + 1) (y := 8 ^ n) (tgt := 96) hx hb (by omega) (by omega) dX3_smallest_51 (by decide) (fun hd => ?_) (fun hd => ?_)
        · exact kf _ s8 _ _ _ _ w_1 _ _ H locs ls hfo.symm hs4 (by omega) (by omega) x_3 h_2 hR4 hW (lv_sub hl [2, 3, 4, 5, 1] rfl)
        · refine lv_aload_n hx hb dX3_smallest_54 rfl (lv_at hl 2 rfl) ?_
          refine g_get (ci := 10) (v := .int (0)) (C := RX3) (T := TX3) (N := 28) hx hb hts in_X3 hown hK hW h_2 rfl 27 (by decide) q1911 (fun _ h9 => h9) rfl dX3_smallest_55 ?_
          refine lv_iconst (v := 2) hx hb dX3_smallest_58 (by decide) ?_
          refine lv_icmp_ne (tgt := 96) hx hb dX3_smallest_59 (by decide) (fun _ => ?_) (fun hz => absurd (by first | exact hz | exact Classical.not_not.mp hz) (by decide))
          exact kf _ s8 _ _ _ _ w_1 _ _ H locs ls hfo.symm hs4 (by omega) (by omega) x_3 h_2 hR4 hW (lv_sub hl [2, 3, 4, 5, 1] rfl)
      · rw [if_neg hq9]
        rw [if_neg hq9] at hfo
        refine lv_if_eq (tgt := 90) hx hb dX3_smallest_74 (by decide) (fun _ => ?_) (fun hz => absurd rfl hz)
        refine lv_iinc (v := nI (j + 1)) (lv' := [(5, .int (nI (j + 1))), (0, .ref y), (1, .int (c9)), (2, .int (nI N)), (3, .ref (D.2 1000 0)), (4, .int (nI n))]) hx hb dX3_smallest_90 hl (k := 0) rfl (nI_1 j) (by decide) rfl (fun ls hl => ?_)
        refine lv_goto (tgt := 44) hx hb dX3_smallest_93 (by decide) ?_
        exact ih (j + 1) _ _ _ _ u2 _ _ H locs ls (by omega) (by omega) hfo (by omega) (by omega) hexv hy2 hR2 hW (lv_sub hl [0, 1, 2, 3, 4, 5] rfl)
set_option maxHeartbeats 4000000 in
set_option maxRecDepth 100000 in
/-- Model.smallest: its loop -/
theorem lpX3_small2 {p : Program} {l : Launch} {e : Env} {R : Room} {s : State} {m : MethodId} {args : Array Value} {below : List Frame} {meth : Method} {c : Code} {Q : State → Prop} {D : va_G} {A : Nat → Prop} (hx : p.tables.exec = Jvm.exec) (hb : c.code = cX3_smallest) (hts : ∀ w ∈ lw_all, w.before args s = true) (hown : s.vm.findClass RX3 = some m.cls) (hK : va_K D gCl (gT D) s) (hE : g_Env D A s) (hml : c.maxLocals = 6) (hRf : 8 ≤ R.frames) (hRl : 214 ≤ R.locals) (y : Nat) (mf : Nat → Nat) (lab : Nat → Nat) (hL : mLab lab mf) (hly : lab y = 20) (cn rn : Int32) (tt : Int64) (km fi nx fm : Int32) (P : List mI) (w : g_H) (hP : mPr D w mf P) (nM : ∀ k, k ∈ [0, 1, 2, 3] → ¬ (mf k = y ∨ mf k = mf 14 ∨ mf k = mf 15)) (N : Nat) (hN : N ≤ 3) (CF SF : Nat) (hRc : CF + 4 ≤ R.cells) (hRs : SF + 27 ≤ R.slots) (c9 : Int32) (Z : Option (List Nat)) (kf : ∀ (zs : List Nat) (s9 : Nat) (en td st : Int32) (E : Nat → Bool) (w1 : g_H) (cells slots : Nat) (H : Heap) (locs : List Loc) (ls : Array Slot), Z = some zs → g_Str D w1 s9 (txt zs) → cells ≤ CF + 4 → slots ≤ SF + 27 → g_ex (fun q => q = y ∨ q = mf 14 ∨ q = mf 15) w w1 → g_at w1 y (.inr (10, mO mf (nI P.length) (cn) (en) (td) (st) (rn) (tt) (km) (fi) (nx) (fm) (0))) → mRw D w1 mf E → g_W D A s.heap H locs w1 → lv_has ls 6 [(3, .ref s9)] → W p l e R s m args below meth c H locs cells slots Q (F0 m 102 ls []))
    (kk : ∀ (en td st : Int32) (E : Nat → Bool) (w1 : g_H) (cells slots : Nat) (H : Heap) (locs : List Loc) (ls : Array Slot), none = Z → cells ≤ CF → slots ≤ SF → g_ex (fun q => q = y ∨ q = mf 14 ∨ q = mf 15) w w1 → g_at w1 y (.inr (10, mO mf (nI P.length) (cn) (en) (td) (st) (rn) (tt) (km) (fi) (nx) (fm) (2))) → mRw D w1 mf E → g_W D A s.heap H locs w1 → lv_has ls 6 [(3, .ref (D.2 1000 0))] → W p l e R s m args below meth c H locs cells slots Q (F0 m 102 ls [])) :
    ∀ (k : Nat) (n : Nat) (en : Int32) (td : Int32) (st : Int32) (E : Nat → Bool) (w1 : g_H) (cells : Nat) (slots : Nat) (H : Heap) (locs : List Loc) (ls : Array Slot), N + 1 < n + k → n ≤ N + 1 → mFind P c9 (octs n N) = Z → cells + 4 * (octs n N).length ≤ CF → slots + 27 * (octs n N).length ≤ SF → g_ex (fun q => q = y ∨ q = mf 14 ∨ q = mf 15) w w1 → g_at w1 y (.inr (10, mO mf (nI P.length) (cn) (en) (td) (st) (rn) (tt) (km) (fi) (nx) (fm) (2))) → mRw D w1 mf E → g_W D A s.heap H locs w1 → lv_has ls 6 [(4, .int (nI n)), (0, .ref y), (1, .int (c9)), (2, .int (nI N)), (3, .ref (D.2 1000 0))] → W p l e R s m args below meth c H locs cells slots Q (F0 m 27 ls []) := by
  intro k
  induction k with
  | zero => intro n en td st E w1 cells slots H locs ls hfuel hn hfo hcl hsl hex hy hR hW hl; exact absurd hfuel (by omega)
  | succ k ih =>
    intro n en td st E w1 cells slots H locs ls hfuel hn hfo hcl hsl hex hy hR hW hl
    refine lv_iload hx hb dX3_smallest_27 (lv_at hl 0 rfl) ?_
    refine lv_iload_n hx hb dX3_smallest_29 rfl (lv_at hl 3 rfl) ?_
    refine g_icmp_gt (x := n) (y := N) (tgt := 102) hx hb (by omega) (by omega) dX3_smallest_30 (by decide) (fun hc => ?_) (fun hc => ?_)
    · rw [octs_end (by omega)] at hfo hcl hsl
      exact kk en td st E w1 cells slots H locs ls hfo (Nat.le_trans (Nat.le_add_right _ _) hcl) (Nat.le_trans (Nat.le_add_right _ _) hsl) hex hy hR hW (lv_sub hl [4] rfl)
    · rw [octs_cons (by omega)] at hfo hcl hsl
      refine lv_aload_n hx hb dX3_smallest_33 rfl (lv_at hl 1 rfl) ?_
      refine g_get (ci := 10) (v := .int (2)) (C := RX3) (T := TX3) (N := 28) hx hb hts in_X3 hown hK hW hy rfl 27 (by decide) q1911 (fun _ h9 => h9) rfl dX3_smallest_34 ?_
      refine lv_iconst (v := 2) hx hb dX3_smallest_37 (by decide) ?_
      refine lv_icmp_ne (tgt := 102) hx hb dX3_smallest_38 (by decide) (fun hz => absurd rfl hz) (fun _ => ?_)
      refine lv_iconst (v := 0) hx hb dX3_smallest_41 (by decide) ?_
      refine lv_istore (lv' := [(5, .int (0)), (4, .int (nI n)), (0, .ref y), (1, .int (c9)), (2, .int (nI N)), (3, .ref (D.2 1000 0))]) hx hb dX3_smallest_42 hl (by decide) rfl (fun ls hl => ?_)
      refine lpX3_small1 (D := D) hx hb hts hown hK hE hml (Nat.le_trans (Nat.le_of_ble_eq_true rfl) hRf) (Nat.le_trans (Nat.le_of_ble_eq_true rfl) hRl) y mf lab hL hly cn rn tt km fi nx fm P w hP nM N hN CF SF hRc hRs c9 Z n (by omega) (octs (n + 1) N) (fun zs s9 en2 td2 st2 E2 w2 cells slots H locs ls hz2 hs2 hcl2 hsl2 hex2 hy2 hR2 hW hl => ?_) (fun en2 td2 st2 E2 w2 cells slots H locs ls hfo2 hcl2 hsl2 hex2 hy2 hR2 hW hl => ?_) (8 ^ n + 1) 0 en td st E w1 _ _ H locs ls (by omega) (Nat.zero_le _) hfo hcl hsl hex hy hR hW (lv_sub hl [0, 2, 3, 4, 5, 1] rfl)
      · refine lv_iinc (v := nI (n + 1)) (lv' := [(4, .int (nI (n + 1))), (0, .ref y), (1, .int (c9)), (2, .int (nI N)), (3, .ref s9)]) hx hb dX3_smallest_96 hl (k := 3) rfl (nI_1 n) (by decide) rfl (fun ls hl => ?_)
        refine lv_goto (tgt := 27) hx hb dX3_smallest_99 (by decide) ?_
        refine lv_iload hx hb dX3_smallest_27 (lv_at hl 0 rfl) ?_
        refine lv_iload_n hx hb dX3_smallest_29 rfl (lv_at hl 3 rfl) ?_
        refine g_icmp_gt (x := n + 1) (y := N) (tgt := 102) hx hb (by omega) (by omega) dX3_smallest_30 (by decide) (fun hd => ?_) (fun hd => ?_)
        · exact kf zs s9 _ _ _ _ w2 _ _ H locs ls hz2 hs2 hcl2 hsl2 hex2 hy2 hR2 hW (lv_sub hl [4] rfl)
        · refine lv_aload_n hx hb dX3_smallest_33 rfl (lv_at hl 1 rfl) ?_
          refine g_get (ci := 10) (v := .int (0)) (C := RX3) (T := TX3) (N := 28) hx hb hts in_X3 hown hK hW hy2 rfl 27 (by decide) q1911 (fun _ h9 => h9) rfl dX3_smallest_34 ?_
          refine lv_iconst (v := 2) hx hb dX3_smallest_37 (by decide) ?_
          refine lv_icmp_ne (tgt := 102) hx hb dX3_smallest_38 (by decide) (fun _ => ?_) (fun hz => absurd (by first | exact hz | exact Classical.not_not.mp hz) (by decide))
          exact kf zs s9 _ _ _ _ w2 _ _ H locs ls hz2 hs2 hcl2 hsl2 hex2 hy2 hR2 hW (lv_sub hl [4] rfl)
      · refine lv_iinc (v := nI (n + 1)) (lv' := [(4, .int (nI (n + 1))), (0, .ref y), (1, .int (c9)), (2, .int (nI N)), (3, .ref (D.2 1000 0))]) hx hb dX3_smallest_96 hl (k := 4) rfl (nI_1 n) (by decide) rfl (fun ls hl => ?_)
        refine lv_goto (tgt := 27) hx hb dX3_smallest_99 (by decide) ?_
        exact ih (n + 1) en2 td2 st2 E2 w2 cells slots H locs ls (by omega) (by omega) hfo2 hcl2 hsl2 hex2 hy2 hR2 hW (lv_sub hl [0, 1, 2, 3, 4] rfl)
set_option maxHeartbeats 4000000 in
set_option maxRecDepth 100000 in
/-- Model.smallest -/
theorem mtX3_smallest (l : Launch) (D : va_G) (w : g_H) (sz : Nat) (y : Nat) (mf : Nat → Nat) (lab : Nat → Nat) (P : List mI) (C : List yC) (A9 : Nat → List (List Nat)) (cov : Nat → Bool) (K : List (List Nat)) (fq ac : Nat) (F : List yF) (rn tt cK : Nat) (en td st : Int32) (E : Nat → Bool) (th : Int32) (hZ : g_MZ D w lab y mf P C A9 cov K fq ac F rn tt cK en td st E th) (c9 n9 : Int32) : Met l yX3_smallest (ws_ yX3_smallest cX3_smallest 6 (some (.object "java/lang/String"))) ({ frames := 8, cells := 4 * ocN n9 + 4, slots := 27 * ocN n9 + 27, locals := 214 }) (g_Pc D [.ref y, .int (c9), .int (n9)] w sz) (g_Qq D w sz (fun r u => ∃ s9 th2, r = some s9 ∧ (∃ en2 td2 st2 E2, g_MZ D u lab y mf P C A9 cov K fq ac F rn tt cK en2 td2 st2 E2 th2) ∧ zCh w lab u lab ∧ ((¬ (0 ≤ n9 ∧ n9 ≤ 3) ∧ th2 = 1) ∨ ((0 ≤ n9 ∧ n9 ≤ 3) ∧ (mFind P c9 (octs 0 n9.toNatClampNeg)) = none ∧ th2 = 2) ∨ ((0 ≤ n9 ∧ n9 ≤ 3) ∧ ∃ zs, (mFind P c9 (octs 0 n9.toNatClampNeg)) = some zs ∧ th2 = 0 ∧ g_Str D u s9 (txt zs))))) (4 * ocN n9 + 4) (27 * ocN n9 + 27) (g_A w sz) := by
  refine Met.ofW (cc := cX3_smallest) (maxL := 6) (ret := (some (.object "java/lang/String"))) (by decide) rfl ?_
  intro p e s m args below meth c s₁ B hml hv
  obtain ⟨rfl, hI⟩ := hv
  have hx := B.exec
  have hb := B.bytes
  have hr := B.returns
  have hts := atoms_spec (ws := ws_ yX3_smallest cX3_smallest 6 (some (.object "java/lang/String"))) B.pre
  have hts : ∀ w ∈ lw_all, w.before _ s = true := fun w h => hts w (List.mem_cons_of_mem _ h)
  have hown : s.vm.findClass RX3 = some m.cls := findClass_of_methodNamed B.named
  have hlocks := B.notSynchronized
  have hsz := hI.1
  subst hsz
  have hW := g_W.start hI
  have hK := g_K hI
  have hE := g_E hI
  have hl := lv_entry ([.ref y, .int (c9), .int (n9)]) (n := 6) (by exact Nat.le_of_ble_eq_true rfl)
  rw [lg_entry_eq]
  generalize (lg_sl ([.ref y, .int (c9), .int (n9)]) ++ List.replicate (6 - (lg_sl ([.ref y, .int (c9), .int (n9)])).length) Slot.unset).toArray = ls at hl ⊢
  have hl : lv_has ls 6 [(0, .ref y), (1, .int (c9)), (2, .int (n9))] := hl
  obtain ⟨hy, ⟨hly, hL⟩, hP, hR, hC0, hA0, hV0, hK0, hF0, hb9⟩ := id hZ
  have x_1 : g_ex (fun q => q = y) w w := g_ex.rf
  refine lv_aload_n hx hb dX3_smallest_0 rfl (lv_at hl 0 rfl) ?_
  refine lv_iload_n hx hb dX3_smallest_1 rfl (lv_at hl 2 rfl) ?_
  refine lv_i2l (v := (n9 : Int32).toInt64) hx hb dX3_smallest_2 rfl ?_
  refine lv_lconst (v := 0) hx hb dX3_smallest_3 rfl ?_
  refine lv_ldc2 hx hb hown (hts _ q1979) dX3_smallest_4 ?_
  refine g_calli (va_runS (As := [.long ((n9 : Int32).toInt64), .long (0), .long (3)]) (rest := [.ref y]) ⟨hx, hb, hml, hown, hts⟩ (mtX3_in l D w s.heap.size (n9 : Int32).toInt64 (0) (3)) (va_cwS 3 hts (lw_S q1980 q1981 q47 q1982) rfl rfl rfl (by decide +kernel) ⟨Nat.le_of_ble_eq_true rfl, Nat.le_of_ble_eq_true rfl⟩) (g_preS hW hK hE) rfl rfl hl.1 rfl (lv_room (Nat.le_of_ble_eq_true rfl)) dX3_smallest_7 ⟨Nat.le_of_ble_eq_true rfl, Nat.le_of_ble_eq_true rfl⟩) hW (fun r_ u_ H locs hp hW => ?_)
  obtain ⟨er, rfl⟩ := hp
  subst er
  by_cases hq9 : (0 : Int64) ≤ (n9 : Int32).toInt64 ∧ (n9 : Int32).toInt64 ≤ 3
  · rw [if_pos hq9]
    refine lv_if_eq (tgt := 17) hx hb dX3_smallest_10 (by decide) (fun hz => absurd hz (by decide)) (fun _ => ?_)
    have hin : (0 : Int32) ≤ n9 ∧ n9 ≤ 3 := (i2l_in rfl rfl).mp hq9
    clear hq9
    have eN : ocN n9 = (octs 0 n9.toNatClampNeg).length := if_pos hin
    have hin2 := hin
    obtain ⟨N, eN9, hN, eC⟩ := n3_n hin
    subst eN9
    rw [eC] at eN ⊢
    refine lv_iconst (v := 2) hx hb dX3_smallest_13 (by decide) ?_
    refine lv_goto (tgt := 18) hx hb dX3_smallest_14 (by decide) ?_
    refine g_putf (ci := 10) (v := .int (2)) (ty := .int) (C := RX3) (T := TX3) (N := 28) hx hb hts in_X3 tyX3 tyX3_ok nmX3 hown hK hW hy rfl 27 (by decide) q1911 (fun _ h9 => h9) rfl (by decide +kernel) rfl rfl (Nat.le_of_ble_eq_true rfl) dX3_smallest_18 (fun H locs hW => ?_)
    obtain ⟨w_2, ew_2⟩ : ∃ z__, z__ = g_put w y (.inr (10, mO mf (nI P.length) (nI C.length) (en) (td) (st) (nI rn) (lN tt) (nI K.length) (nI fq) (nI ac) (nI F.length) (2))) := ⟨_, rfl⟩
    have hW := g_W.ren hW ew_2 rfl
    have h_3 : g_at w_2 y (.inr (10, mO mf (nI P.length) (nI C.length) (en) (td) (st) (nI rn) (lN tt) (nI K.length) (nI fq) (nI ac) (nI F.length) (2))) := by rw [ew_2]; exact g_at.put_self hy.1
    have x_4 : g_ex (fun q => q = y) w w_2 := by rw [ew_2]; exact x_1.put (fun hz9 => rfl)
    have hZ1 := hZ.obj (rn2 := rn) (tt2 := tt) (fq2 := fq) (ac2 := ac) h_3 x_4 hb9.2.1 hb9.2.2.1 hb9.2.2.2.1 hb9.2.2.2.2
    have hz1 := hZ.zobj x_4
    refine va_ldcS hx hb hown (rs_16 hE) dX3_smallest_21 ?_
    refine lv_astore_n (lv' := [(3, .ref (D.2 1000 0)), (0, .ref y), (1, .int (c9)), (2, .int (nI N))]) hx hb dX3_smallest_23 rfl hl (by decide) rfl (fun ls hl => ?_)
    refine lv_iconst (v := 0) hx hb dX3_smallest_24 (by decide) ?_
    refine lv_istore (lv' := [(4, .int (0)), (3, .ref (D.2 1000 0)), (0, .ref y), (1, .int (c9)), (2, .int (nI N))]) hx hb dX3_smallest_25 hl (by decide) rfl (fun ls hl => ?_)
    refine lpX3_small2 (D := D) hx hb hts hown hK hE hml (Nat.le_of_ble_eq_true rfl) (Nat.le_of_ble_eq_true rfl) y mf lab hL hly (nI C.length) (nI rn) (lN tt) (nI K.length) (nI fq) (nI ac) (nI F.length) P w_2 hZ1.2.2.1 (mNo hL hly) N hN (4 * ocN (nI N)) (27 * ocN (nI N)) ?_ ?_ c9 (mFind P c9 (octs 0 N)) (fun zs s9 en2 td2 st2 E2 w2 cells slots H locs ls hz2 hs2 hcl hsl hex2 hy2 hR2 hW hl => ?_) (fun en2 td2 st2 E2 w2 cells slots H locs ls hz2 hcl hsl hex2 hy2 hR2 hW hl => ?_) (N + 2) 0 en td st E w_2 _ _ _ _ ls (by omega) (by omega) rfl (by rw [eN]; omega) (by rw [eN]; omega) g_ex.rf h_3 hZ1.2.2.2.1 hW (lv_sub hl [0, 2, 3, 4, 1] rfl)
    · (try simp only [headSpec]); omega
    · (try simp only [headSpec]); omega
    · refine lv_aload_n hx hb dX3_smallest_102 rfl (lv_at hl 0 rfl) ?_
      have hZ4 := hZ1.run2 hK hy2 hR2 hex2
      exact g_qret (v := some s9) hx hb hr (Or.inl ⟨_, rfl⟩) hlocks hW (⟨s9, 0, rfl, ⟨_, _, _, _, hZ4⟩, hz1.tr (hZ1.zrun hex2), Or.inr (Or.inr ⟨hin2, zs, hz2, rfl, hs2⟩)⟩) (by omega) (by omega) dX3_smallest_103
    · refine lv_aload_n hx hb dX3_smallest_102 rfl (lv_at hl 0 rfl) ?_
      have hZ4 := hZ1.run hK hy2 hR2 hex2
      exact g_qret (v := some (D.2 1000 0)) hx hb hr (Or.inl ⟨_, rfl⟩) hlocks hW (⟨_, 2, rfl, ⟨_, _, _, _, hZ4⟩, hz1.tr (hZ1.zrun hex2), Or.inr (Or.inl ⟨hin2, hz2.symm, rfl⟩)⟩) (by omega) (by omega) dX3_smallest_103
  · rw [if_neg hq9]
    refine lv_if_eq (tgt := 17) hx hb dX3_smallest_10 (by decide) (fun _ => ?_) (fun hz => absurd rfl hz)
    have hin : ¬ ((0 : Int32) ≤ n9 ∧ n9 ≤ 3) := fun z => hq9 ((i2l_in rfl rfl).mpr z)
    clear hq9
    refine lv_iconst (v := 1) hx hb dX3_smallest_17 (by decide) ?_
    refine g_putf (ci := 10) (v := .int (1)) (ty := .int) (C := RX3) (T := TX3) (N := 28) hx hb hts in_X3 tyX3 tyX3_ok nmX3 hown hK hW hy rfl 27 (by decide) q1911 (fun _ h9 => h9) rfl (by decide +kernel) rfl rfl (Nat.le_of_ble_eq_true rfl) dX3_smallest_18 (fun H locs hW => ?_)
    obtain ⟨w_5, ew_5⟩ : ∃ z__, z__ = g_put w y (.inr (10, mO mf (nI P.length) (nI C.length) (en) (td) (st) (nI rn) (lN tt) (nI K.length) (nI fq) (nI ac) (nI F.length) (1))) := ⟨_, rfl⟩
    have hW := g_W.ren hW ew_5 rfl
    have h_6 : g_at w_5 y (.inr (10, mO mf (nI P.length) (nI C.length) (en) (td) (st) (nI rn) (lN tt) (nI K.length) (nI fq) (nI ac) (nI F.length) (1))) := by rw [ew_5]; exact g_at.put_self hy.1
    have x_7 : g_ex (fun q => q = y) w w_5 := by rw [ew_5]; exact x_1.put (fun hz9 => rfl)
    have hZ1 := hZ.obj (rn2 := rn) (tt2 := tt) (fq2 := fq) (ac2 := ac) h_6 x_7 hb9.2.1 hb9.2.2.1 hb9.2.2.2.1 hb9.2.2.2.2
    have hz1 := hZ.zobj x_7
    refine va_ldcS hx hb hown (rs_16 hE) dX3_smallest_21 ?_
    refine lv_astore_n (lv' := [(3, .ref (D.2 1000 0)), (0, .ref y), (1, .int (c9)), (2, .int (n9))]) hx hb dX3_smallest_23 rfl hl (by decide) rfl (fun ls hl => ?_)
    refine lv_iconst (v := 0) hx hb dX3_smallest_24 (by decide) ?_
    refine lv_istore (lv' := [(4, .int (0)), (3, .ref (D.2 1000 0)), (0, .ref y), (1, .int (c9)), (2, .int (n9))]) hx hb dX3_smallest_25 hl (by decide) rfl (fun ls hl => ?_)
    refine lv_iload hx hb dX3_smallest_27 (lv_at hl 0 rfl) ?_
    refine lv_iload_n hx hb dX3_smallest_29 rfl (lv_at hl 4 rfl) ?_
    refine lv_icmp_gt (tgt := 102) hx hb dX3_smallest_30 (by decide) (fun hc => ?_) (fun hc => ?_)
    · refine lv_aload_n hx hb dX3_smallest_102 rfl (lv_at hl 1 rfl) ?_
      exact g_qret (v := some (D.2 1000 0)) hx hb hr (Or.inl ⟨_, rfl⟩) hlocks hW (⟨_, 1, rfl, ⟨_, _, _, _, hZ1⟩, hz1, Or.inl ⟨hin, rfl⟩⟩) (by omega) (by omega) dX3_smallest_103
    · refine lv_aload_n hx hb dX3_smallest_33 rfl (lv_at hl 2 rfl) ?_
      refine g_get (ci := 10) (v := .int (1)) (C := RX3) (T := TX3) (N := 28) hx hb hts in_X3 hown hK hW h_6 rfl 27 (by decide) q1911 (fun _ h9 => h9) rfl dX3_smallest_34 ?_
      refine lv_iconst (v := 2) hx hb dX3_smallest_37 (by decide) ?_
      refine lv_icmp_ne (tgt := 102) hx hb dX3_smallest_38 (by decide) (fun _ => ?_) (fun hz => absurd (by first | exact hz | exact Classical.not_not.mp hz) (by decide))
      refine lv_aload_n hx hb dX3_smallest_102 rfl (lv_at hl 1 rfl) ?_
      exact g_qret (v := some (D.2 1000 0)) hx hb hr (Or.inl ⟨_, rfl⟩) hlocks hW (⟨_, 1, rfl, ⟨_, _, _, _, hZ1⟩, hz1, Or.inl ⟨hin, rfl⟩⟩) (by omega) (by omega) dX3_smallest_103
