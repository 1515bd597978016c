/-! the law's cases *
-/
set_option maxRecDepth 100000
theorem lcmp_self {a : Int64} : lg_cmp a a = 0 := by
  unfold lg_cmp
  rw [if_neg (fun h => Int64.lt_irrefl h)]
  simp
def eR1 (C : Prop) (r : Int32) : Prop := (C ∧ r = 0) ∨ (¬ C ∧ r = 1)
def eR2 (C1 C2 : Prop) (r : Int32) : Prop := ((C1 ∧ C2) ∧ r = 0) ∨ (¬ C1 ∧ r = 1) ∨ ((C1 ∧ ¬ C2) ∧ r = 2)
theorem eR1.eq {C : Prop} {r t : Int32} (h : eR1 C r) (k : eR1 C t) : r = t := by
  rcases h with ⟨h1, h2⟩ | ⟨h1, h2⟩ <;> rcases k with ⟨k1, k2⟩ | ⟨k1, k2⟩
  · rw [h2, k2]
  · exact absurd h1 k1
  · exact absurd k1 h1
  · rw [h2, k2]
theorem eR1.zero {C : Prop} {r : Int32} (h : eR1 C r) (e : r = 0) : C := by
  rcases h with ⟨h1, -⟩ | ⟨-, h2⟩
  · exact h1
  · exact absurd (h2.symm.trans e) (by decide)
theorem eR2.eq {C1 C2 : Prop} {r t : Int32} (h : eR2 C1 C2 r) (k : eR2 C1 C2 t) : r = t := by
  rcases h with ⟨h1, h2⟩ | ⟨h1, h2⟩ | ⟨h1, h2⟩ <;> rcases k with ⟨k1, k2⟩ | ⟨k1, k2⟩ | ⟨k1, k2⟩
  · rw [h2, k2]
  · exact absurd h1.1 k1
  · exact absurd h1.2 k1.2
  · exact absurd k1.1 h1
  · rw [h2, k2]
  · exact absurd k1.1 h1
  · exact absurd k1.2 h1.2
  · exact absurd h1.1 k1
  · rw [h2, k2]
theorem eR2.zero {C1 C2 : Prop} {r : Int32} (h : eR2 C1 C2 r) (e : r = 0) : C1 ∧ C2 := by
  rcases h with ⟨h1, -⟩ | ⟨-, h2⟩ | ⟨-, h2⟩
  · exact h1
  · exact absurd (h2.symm.trans e) (by decide)
  · exact absurd (h2.symm.trans e) (by decide)
theorem ex2 {E a b : String} {C1 C2 : Prop} {r : Int32} (n : a ≠ b) (h : (E = a ∧ ¬ C1) ∨ (E = b ∧ C1 ∧ ¬ C2)) (k : (E = a ∧ r = 1) ∨ (E = b ∧ r = 2)) : eR2 C1 C2 r ∧ ¬ (C1 ∧ C2) := by
  rcases h with ⟨h1, h2⟩ | ⟨h1, h2⟩ <;> rcases k with ⟨k1, k2⟩ | ⟨k1, k2⟩
  · exact ⟨Or.inr (Or.inl ⟨h2, k2⟩), fun q => h2 q.1⟩
  · exact absurd (h1.symm.trans k1) n
  · exact absurd (k1.symm.trans h1) n
  · exact ⟨Or.inr (Or.inr ⟨h2, k2⟩), fun q => h2.2 q.2⟩
def eD (A : Nat → List (List Nat)) (n : Int32) : Int32 := if n < 0 then 1 else nI (dvN A n).1
theorem dv_v {A : Nat → List (List Nat)} : ∀ (k lf : Nat) (t : List Nat) (ad : Nat), (dv A k lf t ad).1 = 0 ∨ (dv A k lf t ad).1 = 2 ∨ (dv A k lf t ad).1 = 3 := by
  intro k
  induction k with
  | zero =>
    intro lf t ad
    rw [dv_end (Or.inl rfl)]
    by_cases h : ad < t.length ∨ 8 < t.length
    · rw [if_pos h]; exact Or.inr (Or.inr rfl)
    · rw [if_neg h]; exact Or.inl rfl
  | succ k ih =>
    intro lf t ad
    by_cases h0 : ad < t.length
    · rw [dv, if_pos h0]
      by_cases h : (A (t.getD ad 0 - 65)).length = 0
      · rw [if_pos h]; exact Or.inr (Or.inl rfl)
      · rw [if_neg h]; exact ih _ _ _
    · rw [dv_end (Or.inr h0)]
      by_cases h : ad < t.length ∨ 8 < t.length
      · rw [if_pos h]; exact Or.inr (Or.inr rfl)
      · rw [if_neg h]; exact Or.inl rfl
theorem dv_3 {A : Nat → List (List Nat)} {n : Int32} : (dvN A n).1 = 0 ∨ (dvN A n).1 = 2 ∨ (dvN A n).1 = 3 := dv_v 12 n.toNatClampNeg [65] 0
theorem thN_e {n : Int32} : eR1 (0 ≤ n ∧ n ≤ 3) (thN n) := by
  unfold thN
  by_cases h : 0 ≤ n ∧ n ≤ 3
  · exact Or.inl ⟨h, if_pos h⟩
  · exact Or.inr ⟨h, if_neg h⟩
theorem rE_ok2 {P : List mI} (hP : P.length ≤ 16) : ∀ (ys : List (List Nat)) (E : Nat → Bool), eOk E → eOk (rE P ys E) := by
  intro ys
  induction ys with
  | nil => intro E h; exact h
  | cons y ys ih => intro E h; rw [rE]; exact ih _ (eOk.or h (eOk.es (mOut_edge hP)))
theorem rE_ok {P : List mI} {ys : List (List Nat)} (hP : P.length ≤ 16) : eOk (rE P ys (fun _ => false)) := rE_ok2 hP ys _ (fun _ h => by cases h)
theorem eD_zero {A : Nat → List (List Nat)} {n : Int32} (h : eD A n = 0) : ¬ n < 0 ∧ (dvN A n).1 = 0 := by
  unfold eD at h
  split at h
  · exact absurd h (by decide)
  · rename_i q
    refine ⟨q, ?_⟩
    rcases dv_3 (A := A) (n := n) with e | e | e
    · exact e
    · rw [e] at h; exact absurd h (by decide)
    · rw [e] at h; exact absurd h (by decide)
theorem ex3 {E a b c : String} {A : Nat → List (List Nat)} {n r : Int32} (n1 : a ≠ b) (n2 : a ≠ c) (n3 : b ≠ c) (h : (E = a ∧ n < 0) ∨ (E = b ∧ ¬ n < 0 ∧ (dvN A n).1 = 2) ∨ (E = c ∧ ¬ n < 0 ∧ (dvN A n).1 = 3)) (k : (E = a ∧ r = 1) ∨ (E = b ∧ r = 2) ∨ (E = c ∧ r = 3)) : r = eD A n ∧ ¬ (¬ n < 0 ∧ (dvN A n).1 = 0) := by
  unfold eD
  rcases h with ⟨h1, h2⟩ | ⟨h1, h2⟩ | ⟨h1, h2⟩ <;> rcases k with ⟨k1, k2⟩ | ⟨k1, k2⟩ | ⟨k1, k2⟩
  · exact ⟨by rw [if_pos h2, k2], fun q => q.1 h2⟩
  · exact absurd (h1.symm.trans k1) n1
  · exact absurd (h1.symm.trans k1) n2
  · exact absurd (k1.symm.trans h1) n1
  · exact ⟨by rw [if_neg h2.1, h2.2, k2]; rfl, fun q => by rw [h2.2] at q; exact absurd q.2 (by decide)⟩
  · exact absurd (h1.symm.trans k1) n3
  · exact absurd (k1.symm.trans h1) n2
  · exact absurd (k1.symm.trans h1) n3
  · exact ⟨by rw [if_neg h2.1, h2.2, k2]; rfl, fun q => by rw [h2.2] at q; exact absurd q.2 (by decide)⟩
theorem eD_0 {A : Nat → List (List Nat)} {n : Int32} (h : ¬ n < 0 ∧ (dvN A n).1 = 0) : eD A n = 0 := by unfold eD; rw [if_neg h.1, h.2]; rfl
theorem thI_e {t : List Nat} : eR1 (isIn t) (thI t) := by
  unfold thI
  by_cases h : inB t = true
  · exact Or.inl ⟨inB_iff.mp h, if_pos h⟩
  · exact Or.inr ⟨fun z => h (inB_iff.mpr z), if_neg h⟩
theorem thF_e {P : List mI} {t : List Nat} : eR2 (isIn t) ((mOut P (digs t)).1 = 1) (thF P t) := by
  unfold thF
  by_cases h : inB t = true
  · rw [if_pos h]
    by_cases k : (mOut P (digs t)).1 = 1
    · exact Or.inl ⟨⟨inB_iff.mp h, k⟩, if_pos k⟩
    · exact Or.inr (Or.inr ⟨⟨inB_iff.mp h, k⟩, if_neg k⟩)
  · rw [if_neg h]; exact Or.inr (Or.inl ⟨fun z => h (inB_iff.mpr z), rfl⟩)
set_option maxHeartbeats 4000000 in
set_option maxRecDepth 100000 in
/-- the law: runs -/
theorem lw_8 {p : Program} {l : Launch} {e : Env} {R : Room} {s : State} {m : MethodId} {args : Array Value} {below : List Frame} {meth : Method} {c : Code} {Q : State → Prop} {D : va_G} {A : Nat → Prop} (hx : p.tables.exec = Jvm.exec) (hb : c.code = cL_law) (hts : ∀ w ∈ lw_all, w.before args s = true) (hown : s.vm.findClass RX0 = some m.cls) (hK : va_K D gCl (gT D) s) (hE : g_Env D A s) (hml : c.maxLocals = 8) (hRf : 2 ≤ R.frames) (hRl : 32 ≤ R.locals) (hl9 : l.stackTraces = false) (b L : Nat) (xs : Nat → Int32) (hX : va_X b L xs s s.heap) (hbl : b < s.heap.size) (hbA : ¬ A b) (x y o i : Nat) (hi : i + 5 ≤ L) (hL : L ≤ 320) (z : yW) (hv : yV z) (hrn : z.rn ≤ 40 * i) (c0 s0 : Nat) (hRc : c0 + (0) ≤ R.cells) (hRs : s0 + (0) ≤ R.slots)
    (kk : ∀ (w2 : g_H) (l2 : Nat → Nat) (th2 : Int32) (cells slots : Nat) (H : Heap) (locs : List Loc) (ls : Array Slot), lR D w2 l2 x y o (z) th2 → cells ≤ c0 + (0) → slots ≤ s0 + (0) → g_W D A s.heap H locs w2 → lv_has ls 8 [(0, .ref b), (1, .ref x), (2, .ref y), (3, .ref o), (4, .int (nI i))] → W p l e R s m args below meth c H locs cells slots Q (F0 m 1835 ls [])) :
    ∀ (k : Nat) (w1 : g_H) (l1 : Nat → Nat) (th : Int32) (cells : Nat) (slots : Nat) (H : Heap) (locs : List Loc) (ls : Array Slot), 0 < k → lR D w1 l1 x y o z th → cells ≤ c0 → slots ≤ s0 → g_W D A s.heap H locs w1 → lv_has ls 8 [(0, .ref b), (1, .ref x), (2, .ref y), (3, .ref o), (4, .int (nI i))] → W p l e R s m args below meth c H locs cells slots Q (F0 m 711 ls []) := by
  intro k
  induction k with
  | zero => intro w1 l1 th cells slots H locs ls hfuel hR hcl hsl hW hl; exact absurd hfuel (by omega)
  | succ k ih =>
    intro w1 l1 th cells slots H locs ls hfuel hR hcl hsl hW hl
    obtain ⟨n0, d0, s0v, v0, f0, hM0⟩ := hR.mid
    obtain ⟨⟨rf, hS⟩, ⟨mf, en, td, st, E, hZ⟩, ho, hlo, hmu⟩ := id hM0
    obtain ⟨hvA, hcv, hKd, hcK, hYI, ⟨hfq, hac, hP16, hC8⟩, hCd, hcp3, hfI, hrn0⟩ := id hv
    have hF16 := hfI.lt hP16
    have hK3 := hYI.q.2.2
    have htt := hYI.2.2.2
    have hdl : (z.K.drop z.fq).length = z.K.length - z.fq := List.length_drop
    refine lv_aload_n hx hb dL_law_711 rfl (lv_at hl 1 rfl) ?_
    refine g_calli (va_runV (As := []) (rest := []) ⟨hx, hb, hml, hown, hts⟩ (mtX1_runs l D w1 H.size l1 x z.fq z.ac z.rn z.tt z.P z.C z.A z.cov z.K z.F z.cp (hS.sy hfq)) (cwV 0 hts (lw_V q411 q412 q413 q34 q414) rfl rfl rfl (by decide +kernel) ⟨Nat.le_trans (Nat.le_of_ble_eq_true rfl) hRf, Nat.le_trans (Nat.le_of_ble_eq_true rfl) hRl⟩) (g_preV hW hK hE hS.1.1 rfl) rfl rfl hl.1 rfl (lv_room (Nat.le_of_ble_eq_true rfl)) dL_law_712 ⟨?_, ?_⟩) hW (fun r_ u_ H locs hp hW => ?_)
    · (try simp only [headSpec]); omega
    · (try simp only [headSpec]); omega
    obtain ⟨er, rfl⟩ := hp
    subst er
    refine lv_aload_n hx hb dL_law_715 rfl (lv_at hl 2 rfl) ?_
    refine g_calli (va_runV (As := []) (rest := [.int (nI z.rn)]) ⟨hx, hb, hml, hown, hts⟩ (mtX3_runs_2 l D w1 H.size y mf l1 z.P z.C z.A z.cov z.K z.fq z.ac z.F z.rn z.tt z.cK en td st E th hZ) (cwV 0 hts (lw_V q2107 q2108 q2109 q47 q2110) rfl rfl rfl (by decide +kernel) ⟨Nat.le_trans (Nat.le_of_ble_eq_true rfl) hRf, Nat.le_trans (Nat.le_of_ble_eq_true rfl) hRl⟩) (g_preV hW hK hE hZ.1 rfl) rfl rfl hl.1 rfl (lv_room (Nat.le_of_ble_eq_true rfl)) dL_law_716 ⟨?_, ?_⟩) hW (fun r_ u2 H locs hp hW => ?_)
    · (try simp only [headSpec]); omega
    · (try simp only [headSpec]); omega
    obtain ⟨er, hZ2, hz2⟩ := hp
    have hMM := hM0.mod hK ⟨_, _, _, _, _, hZ2⟩ hz2
    refine lv_icmp_eq (tgt := 1835) hx hb dL_law_719 (by decide) (fun _ => ?_) (fun hz => absurd er.symm hz)
    exact kk _ _ _ _ _ H locs ls hMM.lR (by (try simp only [headSpec]); omega) (by (try simp only [headSpec]); omega) hW (lv_sub hl [0, 1, 2, 3, 4] rfl)
set_option maxHeartbeats 4000000 in
set_option maxRecDepth 100000 in
/-- the law: totalSteps -/
theorem lw_9 {p : Program} {l : Launch} {e : Env} {R : Room} {s : State} {m : MethodId} {args : Array Value} {below : List Frame} {meth : Method} {c : Code} {Q : State → Prop} {D : va_G} {A : Nat → Prop} (hx : p.tables.exec = Jvm.exec) (hb : c.code = cL_law) (hts : ∀ w ∈ lw_all, w.before args s = true) (hown : s.vm.findClass RX0 = some m.cls) (hK : va_K D gCl (gT D) s) (hE : g_Env D A s) (hml : c.maxLocals = 8) (hRf : 2 ≤ R.frames) (hRl : 32 ≤ R.locals) (hl9 : l.stackTraces = false) (b L : Nat) (xs : Nat → Int32) (hX : va_X b L xs s s.heap) (hbl : b < s.heap.size) (hbA : ¬ A b) (x y o i : Nat) (hi : i + 5 ≤ L) (hL : L ≤ 320) (z : yW) (hv : yV z) (hrn : z.rn ≤ 40 * i) (c0 s0 : Nat) (hRc : c0 + (0) ≤ R.cells) (hRs : s0 + (0) ≤ R.slots)
    (kk : ∀ (w2 : g_H) (l2 : Nat → Nat) (th2 : Int32) (cells slots : Nat) (H : Heap) (locs : List Loc) (ls : Array Slot), lR D w2 l2 x y o (z) th2 → cells ≤ c0 + (0) → slots ≤ s0 + (0) → g_W D A s.heap H locs w2 → lv_has ls 8 [(0, .ref b), (1, .ref x), (2, .ref y), (3, .ref o), (4, .int (nI i))] → W p l e R s m args below meth c H locs cells slots Q (F0 m 1835 ls [])) :
    ∀ (k : Nat) (w1 : g_H) (l1 : Nat → Nat) (th : Int32) (cells : Nat) (slots : Nat) (H : Heap) (locs : List Loc) (ls : Array Slot), 0 < k → lR D w1 l1 x y o z th → cells ≤ c0 → slots ≤ s0 → g_W D A s.heap H locs w1 → lv_has ls 8 [(0, .ref b), (1, .ref x), (2, .ref y), (3, .ref o), (4, .int (nI i))] → W p l e R s m args below meth c H locs cells slots Q (F0 m 724 ls []) := by
  intro k
  induction k with
  | zero => intro w1 l1 th cells slots H locs ls hfuel hR hcl hsl hW hl; exact absurd hfuel (by omega)
  | succ k ih =>
    intro w1 l1 th cells slots H locs ls hfuel hR hcl hsl hW hl
    obtain ⟨n0, d0, s0v, v0, f0, hM0⟩ := hR.mid
    obtain ⟨⟨rf, hS⟩, ⟨mf, en, td, st, E, hZ⟩, ho, hlo, hmu⟩ := id hM0
    obtain ⟨hvA, hcv, hKd, hcK, hYI, ⟨hfq, hac, hP16, hC8⟩, hCd, hcp3, hfI, hrn0⟩ := id hv
    have hF16 := hfI.lt hP16
    have hK3 := hYI.q.2.2
    have htt := hYI.2.2.2
    have hdl : (z.K.drop z.fq).length = z.K.length - z.fq := List.length_drop
    refine lv_aload_n hx hb dL_law_724 rfl (lv_at hl 1 rfl) ?_
    refine g_calll (va_runV (As := []) (rest := []) ⟨hx, hb, hml, hown, hts⟩ (mtX1_totalSteps l D w1 H.size l1 x z.fq z.ac z.rn z.tt z.P z.C z.A z.cov z.K z.F z.cp (hS.sy hfq)) (cwV 0 hts (lw_V q415 q416 q417 q34 q418) rfl rfl rfl (by decide +kernel) ⟨Nat.le_trans (Nat.le_of_ble_eq_true rfl) hRf, Nat.le_trans (Nat.le_of_ble_eq_true rfl) hRl⟩) (g_preV hW hK hE hS.1.1 rfl) rfl rfl hl.1 rfl (lv_room (Nat.le_of_ble_eq_true rfl)) dL_law_725 ⟨?_, ?_⟩) hW (fun r_ u_ H locs hp hW => ?_)
    · (try simp only [headSpec]); omega
    · (try simp only [headSpec]); omega
    obtain ⟨er, rfl⟩ := hp
    subst er
    refine lv_aload_n hx hb dL_law_728 rfl (lv_at hl 2 rfl) ?_
    refine g_calll (va_runV (As := []) (rest := [.long (lN z.tt)]) ⟨hx, hb, hml, hown, hts⟩ (mtX3_totalSteps l D w1 H.size y mf l1 z.P z.C z.A z.cov z.K z.fq z.ac z.F z.rn z.tt z.cK en td st E th hZ) (cwV 0 hts (lw_V q2111 q2112 q2113 q47 q2114) rfl rfl rfl (by decide +kernel) ⟨Nat.le_trans (Nat.le_of_ble_eq_true rfl) hRf, Nat.le_trans (Nat.le_of_ble_eq_true rfl) hRl⟩) (g_preV hW hK hE hZ.1 rfl) rfl rfl hl.1 rfl (lv_room (Nat.le_of_ble_eq_true rfl)) dL_law_729 ⟨?_, ?_⟩) hW (fun r_ u2 H locs hp hW => ?_)
    · (try simp only [headSpec]); omega
    · (try simp only [headSpec]); omega
    obtain ⟨er, hZ2, hz2⟩ := hp
    have hMM := hM0.mod hK ⟨_, _, _, _, _, hZ2⟩ hz2
    refine W.lcmp hx hb dL_law_732 ?_
    refine g_topi (y := 0) (by rw [er]; exact lcmp_self) ?_
    refine lv_if_eq (tgt := 1835) hx hb dL_law_733 (by decide) (fun _ => ?_) (fun hz => absurd rfl hz)
    exact kk _ _ _ _ _ H locs ls hMM.lR (by (try simp only [headSpec]); omega) (by (try simp only [headSpec]); omega) hW (lv_sub hl [0, 1, 2, 3, 4] rfl)
set_option maxHeartbeats 4000000 in
set_option maxRecDepth 100000 in
/-- the law: covered -/
theorem lw_10 {p : Program} {l : Launch} {e : Env} {R : Room} {s : State} {m : MethodId} {args : Array Value} {below : List Frame} {meth : Method} {c : Code} {Q : State → Prop} {D : va_G} {A : Nat → Prop} (hx : p.tables.exec = Jvm.exec) (hb : c.code = cL_law) (hts : ∀ w ∈ lw_all, w.before args s = true) (hown : s.vm.findClass RX0 = some m.cls) (hK : va_K D gCl (gT D) s) (hE : g_Env D A s) (hml : c.maxLocals = 8) (hRf : 5 ≤ R.frames) (hRl : 122 ≤ R.locals) (hl9 : l.stackTraces = false) (b L : Nat) (xs : Nat → Int32) (hX : va_X b L xs s s.heap) (hbl : b < s.heap.size) (hbA : ¬ A b) (x y o i : Nat) (hi : i + 5 ≤ L) (hL : L ≤ 320) (z : yW) (hv : yV z) (hrn : z.rn ≤ 40 * i) (c0 s0 : Nat) (hRc : c0 + (0) ≤ R.cells) (hRs : s0 + (0) ≤ R.slots)
    (kk : ∀ (w2 : g_H) (l2 : Nat → Nat) (th2 : Int32) (cells slots : Nat) (H : Heap) (locs : List Loc) (ls : Array Slot), lR D w2 l2 x y o (z) th2 → cells ≤ c0 + (0) → slots ≤ s0 + (0) → g_W D A s.heap H locs w2 → lv_has ls 8 [(0, .ref b), (1, .ref x), (2, .ref y), (3, .ref o), (4, .int (nI i))] → W p l e R s m args below meth c H locs cells slots Q (F0 m 1835 ls [])) :
    ∀ (k : Nat) (w1 : g_H) (l1 : Nat → Nat) (th : Int32) (cells : Nat) (slots : Nat) (H : Heap) (locs : List Loc) (ls : Array Slot), 0 < k → lR D w1 l1 x y o z th → cells ≤ c0 → slots ≤ s0 → g_W D A s.heap H locs w1 → lv_has ls 8 [(0, .ref b), (1, .ref x), (2, .ref y), (3, .ref o), (4, .int (nI i))] → W p l e R s m args below meth c H locs cells slots Q (F0 m 738 ls []) := by
  intro k
  induction k with
  | zero => intro w1 l1 th cells slots H locs ls hfuel hR hcl hsl hW hl; exact absurd hfuel (by omega)
  | succ k ih =>
    intro w1 l1 th cells slots H locs ls hfuel hR hcl hsl hW hl
    obtain ⟨n0, d0, s0v, v0, f0, hM0⟩ := hR.mid
    obtain ⟨⟨rf, hS⟩, ⟨mf, en, td, st, E, hZ⟩, ho, hlo, hmu⟩ := id hM0
    obtain ⟨hvA, hcv, hKd, hcK, hYI, ⟨hfq, hac, hP16, hC8⟩, hCd, hcp3, hfI, hrn0⟩ := id hv
    have hF16 := hfI.lt hP16
    have hK3 := hYI.q.2.2
    have htt := hYI.2.2.2
    have hdl : (z.K.drop z.fq).length = z.K.length - z.fq := List.length_drop
    refine lv_aload_n hx hb dL_law_738 rfl (lv_at hl 1 rfl) ?_
    refine g_calli (va_runV (As := []) (rest := []) ⟨hx, hb, hml, hown, hts⟩ (mtX1_covered l D w1 H.size l1 x z.fq z.ac z.rn z.tt z.P z.C z.A z.cov z.K z.F z.cp (hS.sy hfq)) (cwV 0 hts (lw_V q419 q420 q421 q34 q422) rfl rfl rfl (by decide +kernel) ⟨Nat.le_trans (Nat.le_of_ble_eq_true rfl) hRf, Nat.le_trans (Nat.le_of_ble_eq_true rfl) hRl⟩) (g_preV hW hK hE hS.1.1 rfl) rfl rfl hl.1 rfl (lv_room (Nat.le_of_ble_eq_true rfl)) dL_law_739 ⟨?_, ?_⟩) hW (fun r_ u_ H locs hp hW => ?_)
    · (try simp only [headSpec]); omega
    · (try simp only [headSpec]); omega
    obtain ⟨er, rfl⟩ := hp
    subst er
    refine lv_aload_n hx hb dL_law_742 rfl (lv_at hl 2 rfl) ?_
    refine g_calli (va_runV (As := []) (rest := [.int (nI (fb_ct z.cov 320))]) ⟨hx, hb, hml, hown, hts⟩ (mtX3_covered l D w1 H.size y mf l1 z.P z.C z.A z.cov z.K z.fq z.ac z.F z.rn z.tt z.cK en td st E th hZ) (cwV 0 hts (lw_V q2115 q2116 q2117 q47 q2118) rfl rfl rfl (by decide +kernel) ⟨Nat.le_trans (Nat.le_of_ble_eq_true rfl) hRf, Nat.le_trans (Nat.le_of_ble_eq_true rfl) hRl⟩) (g_preV hW hK hE hZ.1 rfl) rfl rfl hl.1 rfl (lv_room (Nat.le_of_ble_eq_true rfl)) dL_law_743 ⟨?_, ?_⟩) hW (fun r_ u2 H locs hp hW => ?_)
    · (try simp only [headSpec]); omega
    · (try simp only [headSpec]); omega
    obtain ⟨er, hZ2, hz2⟩ := hp
    have hMM := hM0.mod hK ⟨_, _, _, _, _, hZ2⟩ hz2
    rw [← ct_eOk hcv] at er
    refine lv_icmp_eq (tgt := 1835) hx hb dL_law_746 (by decide) (fun _ => ?_) (fun hz => absurd er.symm hz)
    exact kk _ _ _ _ _ H locs ls hMM.lR (by (try simp only [headSpec]); omega) (by (try simp only [headSpec]); omega) hW (lv_sub hl [0, 1, 2, 3, 4] rfl)
set_option maxHeartbeats 4000000 in
set_option maxRecDepth 100000 in
/-- the law: kept -/
theorem lw_12 {p : Program} {l : Launch} {e : Env} {R : Room} {s : State} {m : MethodId} {args : Array Value} {below : List Frame} {meth : Method} {c : Code} {Q : State → Prop} {D : va_G} {A : Nat → Prop} (hx : p.tables.exec = Jvm.exec) (hb : c.code = cL_law) (hts : ∀ w ∈ lw_all, w.before args s = true) (hown : s.vm.findClass RX0 = some m.cls) (hK : va_K D gCl (gT D) s) (hE : g_Env D A s) (hml : c.maxLocals = 8) (hRf : 3 ≤ R.frames) (hRl : 52 ≤ R.locals) (hl9 : l.stackTraces = false) (b L : Nat) (xs : Nat → Int32) (hX : va_X b L xs s s.heap) (hbl : b < s.heap.size) (hbA : ¬ A b) (x y o i : Nat) (hi : i + 5 ≤ L) (hL : L ≤ 320) (z : yW) (hv : yV z) (hrn : z.rn ≤ 40 * i) (c0 s0 : Nat) (hRc : c0 + (0) ≤ R.cells) (hRs : s0 + (0) ≤ R.slots)
    (kk : ∀ (w2 : g_H) (l2 : Nat → Nat) (th2 : Int32) (cells slots : Nat) (H : Heap) (locs : List Loc) (ls : Array Slot), lR D w2 l2 x y o (z) th2 → cells ≤ c0 + (0) → slots ≤ s0 + (0) → g_W D A s.heap H locs w2 → lv_has ls 8 [(0, .ref b), (1, .ref x), (2, .ref y), (3, .ref o), (4, .int (nI i))] → W p l e R s m args below meth c H locs cells slots Q (F0 m 1835 ls [])) :
    ∀ (k : Nat) (w1 : g_H) (l1 : Nat → Nat) (th : Int32) (cells : Nat) (slots : Nat) (H : Heap) (locs : List Loc) (ls : Array Slot), 0 < k → lR D w1 l1 x y o z th → cells ≤ c0 → slots ≤ s0 → g_W D A s.heap H locs w1 → lv_has ls 8 [(0, .ref b), (1, .ref x), (2, .ref y), (3, .ref o), (4, .int (nI i))] → W p l e R s m args below meth c H locs cells slots Q (F0 m 827 ls []) := by
  intro k
  induction k with
  | zero => intro w1 l1 th cells slots H locs ls hfuel hR hcl hsl hW hl; exact absurd hfuel (by omega)
  | succ k ih =>
    intro w1 l1 th cells slots H locs ls hfuel hR hcl hsl hW hl
    obtain ⟨n0, d0, s0v, v0, f0, hM0⟩ := hR.mid
    obtain ⟨⟨rf, hS⟩, ⟨mf, en, td, st, E, hZ⟩, ho, hlo, hmu⟩ := id hM0
    obtain ⟨hvA, hcv, hKd, hcK, hYI, ⟨hfq, hac, hP16, hC8⟩, hCd, hcp3, hfI, hrn0⟩ := id hv
    have hF16 := hfI.lt hP16
    have hK3 := hYI.q.2.2
    have htt := hYI.2.2.2
    have hdl : (z.K.drop z.fq).length = z.K.length - z.fq := List.length_drop
    refine lv_aload_n hx hb dL_law_827 rfl (lv_at hl 1 rfl) ?_
    refine g_calli (va_runV (As := []) (rest := []) ⟨hx, hb, hml, hown, hts⟩ (mtX1_kept l D w1 H.size l1 x z.fq z.ac z.rn z.tt z.P z.C z.A z.cov z.K z.F z.cp (hS.sy hfq)) (cwV 0 hts (lw_V q433 q434 q435 q34 q436) rfl rfl rfl (by decide +kernel) ⟨Nat.le_trans (Nat.le_of_ble_eq_true rfl) hRf, Nat.le_trans (Nat.le_of_ble_eq_true rfl) hRl⟩) (g_preV hW hK hE hS.1.1 rfl) rfl rfl hl.1 rfl (lv_room (Nat.le_of_ble_eq_true rfl)) dL_law_828 ⟨?_, ?_⟩) hW (fun r_ u_ H locs hp hW => ?_)
    · (try simp only [headSpec]); omega
    · (try simp only [headSpec]); omega
    obtain ⟨er, rfl⟩ := hp
    subst er
    refine lv_aload_n hx hb dL_law_831 rfl (lv_at hl 2 rfl) ?_
    refine g_calli (va_runV (As := []) (rest := [.int (nI z.K.length)]) ⟨hx, hb, hml, hown, hts⟩ (mtX3_kept l D w1 H.size y mf l1 z.P z.C z.A z.cov z.K z.fq z.ac z.F z.rn z.tt z.cK en td st E th hZ) (cwV 0 hts (lw_V q2127 q2128 q2129 q47 q2130) rfl rfl rfl (by decide +kernel) ⟨Nat.le_trans (Nat.le_of_ble_eq_true rfl) hRf, Nat.le_trans (Nat.le_of_ble_eq_true rfl) hRl⟩) (g_preV hW hK hE hZ.1 rfl) rfl rfl hl.1 rfl (lv_room (Nat.le_of_ble_eq_true rfl)) dL_law_832 ⟨?_, ?_⟩) hW (fun r_ u2 H locs hp hW => ?_)
    · (try simp only [headSpec]); omega
    · (try simp only [headSpec]); omega
    obtain ⟨er, hZ2, hz2⟩ := hp
    have hMM := hM0.mod hK ⟨_, _, _, _, _, hZ2⟩ hz2
    refine lv_icmp_eq (tgt := 1835) hx hb dL_law_835 (by decide) (fun _ => ?_) (fun hz => absurd er.symm hz)
    exact kk _ _ _ _ _ H locs ls hMM.lR (by (try simp only [headSpec]); omega) (by (try simp only [headSpec]); omega) hW (lv_sub hl [0, 1, 2, 3, 4] rfl)
set_option maxHeartbeats 4000000 in
set_option maxRecDepth 100000 in
/-- the law: queued -/
theorem lw_14 {p : Program} {l : Launch} {e : Env} {R : Room} {s : State} {m : MethodId} {args : Array Value} {below : List Frame} {meth : Method} {c : Code} {Q : State → Prop} {D : va_G} {A : Nat → Prop} (hx : p.tables.exec = Jvm.exec) (hb : c.code = cL_law) (hts : ∀ w ∈ lw_all, w.before args s = true) (hown : s.vm.findClass RX0 = some m.cls) (hK : va_K D gCl (gT D) s) (hE : g_Env D A s) (hml : c.maxLocals = 8) (hRf : 3 ≤ R.frames) (hRl : 52 ≤ R.locals) (hl9 : l.stackTraces = false) (b L : Nat) (xs : Nat → Int32) (hX : va_X b L xs s s.heap) (hbl : b < s.heap.size) (hbA : ¬ A b) (x y o i : Nat) (hi : i + 5 ≤ L) (hL : L ≤ 320) (z : yW) (hv : yV z) (hrn : z.rn ≤ 40 * i) (c0 s0 : Nat) (hRc : c0 + (0) ≤ R.cells) (hRs : s0 + (0) ≤ R.slots)
    (kk : ∀ (w2 : g_H) (l2 : Nat → Nat) (th2 : Int32) (cells slots : Nat) (H : Heap) (locs : List Loc) (ls : Array Slot), lR D w2 l2 x y o (z) th2 → cells ≤ c0 + (0) → slots ≤ s0 + (0) → g_W D A s.heap H locs w2 → lv_has ls 8 [(0, .ref b), (1, .ref x), (2, .ref y), (3, .ref o), (4, .int (nI i))] → W p l e R s m args below meth c H locs cells slots Q (F0 m 1835 ls [])) :
    ∀ (k : Nat) (w1 : g_H) (l1 : Nat → Nat) (th : Int32) (cells : Nat) (slots : Nat) (H : Heap) (locs : List Loc) (ls : Array Slot), 0 < k → lR D w1 l1 x y o z th → cells ≤ c0 → slots ≤ s0 → g_W D A s.heap H locs w1 → lv_has ls 8 [(0, .ref b), (1, .ref x), (2, .ref y), (3, .ref o), (4, .int (nI i))] → W p l e R s m args below meth c H locs cells slots Q (F0 m 898 ls []) := by
  intro k
  induction k with
  | zero => intro w1 l1 th cells slots H locs ls hfuel hR hcl hsl hW hl; exact absurd hfuel (by omega)
  | succ k ih =>
    intro w1 l1 th cells slots H locs ls hfuel hR hcl hsl hW hl
    obtain ⟨n0, d0, s0v, v0, f0, hM0⟩ := hR.mid
    obtain ⟨⟨rf, hS⟩, ⟨mf, en, td, st, E, hZ⟩, ho, hlo, hmu⟩ := id hM0
    obtain ⟨hvA, hcv, hKd, hcK, hYI, ⟨hfq, hac, hP16, hC8⟩, hCd, hcp3, hfI, hrn0⟩ := id hv
    have hF16 := hfI.lt hP16
    have hK3 := hYI.q.2.2
    have htt := hYI.2.2.2
    have hdl : (z.K.drop z.fq).length = z.K.length - z.fq := List.length_drop
    refine lv_aload_n hx hb dL_law_898 rfl (lv_at hl 1 rfl) ?_
    refine g_calli (va_runV (As := []) (rest := []) ⟨hx, hb, hml, hown, hts⟩ (mtX1_queued l D w1 H.size l1 x z.fq z.ac z.rn z.tt z.P z.C z.A z.cov z.K z.F z.cp (hS.sy hfq)) (cwV 0 hts (lw_V q451 q452 q453 q34 q454) rfl rfl rfl (by decide +kernel) ⟨Nat.le_trans (Nat.le_of_ble_eq_true rfl) hRf, Nat.le_trans (Nat.le_of_ble_eq_true rfl) hRl⟩) (g_preV hW hK hE hS.1.1 rfl) rfl rfl hl.1 rfl (lv_room (Nat.le_of_ble_eq_true rfl)) dL_law_899 ⟨?_, ?_⟩) hW (fun r_ u_ H locs hp hW => ?_)
    · (try simp only [headSpec]); omega
    · (try simp only [headSpec]); omega
    obtain ⟨er, rfl⟩ := hp
    subst er
    refine lv_aload_n hx hb dL_law_902 rfl (lv_at hl 2 rfl) ?_
    refine g_calli (va_runV (As := []) (rest := [.int (nI (z.K.length - z.fq))]) ⟨hx, hb, hml, hown, hts⟩ (mtX3_queued l D w1 H.size y mf l1 z.P z.C z.A z.cov z.K z.fq z.ac z.F z.rn z.tt z.cK en td st E th hZ) (cwV 0 hts (lw_V q2135 q2136 q2137 q47 q2138) rfl rfl rfl (by decide +kernel) ⟨Nat.le_trans (Nat.le_of_ble_eq_true rfl) hRf, Nat.le_trans (Nat.le_of_ble_eq_true rfl) hRl⟩) (g_preV hW hK hE hZ.1 rfl) rfl rfl hl.1 rfl (lv_room (Nat.le_of_ble_eq_true rfl)) dL_law_903 ⟨?_, ?_⟩) hW (fun r_ u2 H locs hp hW => ?_)
    · (try simp only [headSpec]); omega
    · (try simp only [headSpec]); omega
    obtain ⟨er, hZ2, hz2⟩ := hp
    have hMM := hM0.mod hK ⟨_, _, _, _, _, hZ2⟩ hz2
    refine lv_icmp_eq (tgt := 1835) hx hb dL_law_906 (by decide) (fun _ => ?_) (fun hz => absurd er.symm hz)
    exact kk _ _ _ _ _ H locs ls hMM.lR (by (try simp only [headSpec]); omega) (by (try simp only [headSpec]); omega) hW (lv_sub hl [0, 1, 2, 3, 4] rfl)
set_option maxHeartbeats 4000000 in
set_option maxRecDepth 100000 in
/-- the law: findings -/
theorem lw_15 {p : Program} {l : Launch} {e : Env} {R : Room} {s : State} {m : MethodId} {args : Array Value} {below : List Frame} {meth : Method} {c : Code} {Q : State → Prop} {D : va_G} {A : Nat → Prop} (hx : p.tables.exec = Jvm.exec) (hb : c.code = cL_law) (hts : ∀ w ∈ lw_all, w.before args s = true) (hown : s.vm.findClass RX0 = some m.cls) (hK : va_K D gCl (gT D) s) (hE : g_Env D A s) (hml : c.maxLocals = 8) (hRf : 3 ≤ R.frames) (hRl : 52 ≤ R.locals) (hl9 : l.stackTraces = false) (b L : Nat) (xs : Nat → Int32) (hX : va_X b L xs s s.heap) (hbl : b < s.heap.size) (hbA : ¬ A b) (x y o i : Nat) (hi : i + 5 ≤ L) (hL : L ≤ 320) (z : yW) (hv : yV z) (hrn : z.rn ≤ 40 * i) (c0 s0 : Nat) (hRc : c0 + (0) ≤ R.cells) (hRs : s0 + (0) ≤ R.slots)
    (kk : ∀ (w2 : g_H) (l2 : Nat → Nat) (th2 : Int32) (cells slots : Nat) (H : Heap) (locs : List Loc) (ls : Array Slot), lR D w2 l2 x y o (z) th2 → cells ≤ c0 + (0) → slots ≤ s0 + (0) → g_W D A s.heap H locs w2 → lv_has ls 8 [(0, .ref b), (1, .ref x), (2, .ref y), (3, .ref o), (4, .int (nI i))] → W p l e R s m args below meth c H locs cells slots Q (F0 m 1835 ls [])) :
    ∀ (k : Nat) (w1 : g_H) (l1 : Nat → Nat) (th : Int32) (cells : Nat) (slots : Nat) (H : Heap) (locs : List Loc) (ls : Array Slot), 0 < k → lR D w1 l1 x y o z th → cells ≤ c0 → slots ≤ s0 → g_W D A s.heap H locs w1 → lv_has ls 8 [(0, .ref b), (1, .ref x), (2, .ref y), (3, .ref o), (4, .int (nI i))] → W p l e R s m args below meth c H locs cells slots Q (F0 m 911 ls []) := by
  intro k
  induction k with
  | zero => intro w1 l1 th cells slots H locs ls hfuel hR hcl hsl hW hl; exact absurd hfuel (by omega)
  | succ k ih =>
    intro w1 l1 th cells slots H locs ls hfuel hR hcl hsl hW hl
    obtain ⟨n0, d0, s0v, v0, f0, hM0⟩ := hR.mid
    obtain ⟨⟨rf, hS⟩, ⟨mf, en, td, st, E, hZ⟩, ho, hlo, hmu⟩ := id hM0
    obtain ⟨hvA, hcv, hKd, hcK, hYI, ⟨hfq, hac, hP16, hC8⟩, hCd, hcp3, hfI, hrn0⟩ := id hv
    have hF16 := hfI.lt hP16
    have hK3 := hYI.q.2.2
    have htt := hYI.2.2.2
    have hdl : (z.K.drop z.fq).length = z.K.length - z.fq := List.length_drop
    refine lv_aload_n hx hb dL_law_911 rfl (lv_at hl 1 rfl) ?_
    refine g_calli (va_runV (As := []) (rest := []) ⟨hx, hb, hml, hown, hts⟩ (mtX1_findings l D w1 H.size l1 x z.fq z.ac z.rn z.tt z.P z.C z.A z.cov z.K z.F z.cp (hS.sy hfq)) (cwV 0 hts (lw_V q456 q457 q458 q34 q459) rfl rfl rfl (by decide +kernel) ⟨Nat.le_trans (Nat.le_of_ble_eq_true rfl) hRf, Nat.le_trans (Nat.le_of_ble_eq_true rfl) hRl⟩) (g_preV hW hK hE hS.1.1 rfl) rfl rfl hl.1 rfl (lv_room (Nat.le_of_ble_eq_true rfl)) dL_law_912 ⟨?_, ?_⟩) hW (fun r_ u_ H locs hp hW => ?_)
    · (try simp only [headSpec]); omega
    · (try simp only [headSpec]); omega
    obtain ⟨er, rfl⟩ := hp
    subst er
    refine lv_aload_n hx hb dL_law_915 rfl (lv_at hl 2 rfl) ?_
    refine g_calli (va_runV (As := []) (rest := [.int (nI z.F.length)]) ⟨hx, hb, hml, hown, hts⟩ (mtX3_findings l D w1 H.size y mf l1 z.P z.C z.A z.cov z.K z.fq z.ac z.F z.rn z.tt z.cK en td st E th hZ) (cwV 0 hts (lw_V q2139 q2140 q2141 q47 q2142) rfl rfl rfl (by decide +kernel) ⟨Nat.le_trans (Nat.le_of_ble_eq_true rfl) hRf, Nat.le_trans (Nat.le_of_ble_eq_true rfl) hRl⟩) (g_preV hW hK hE hZ.1 rfl) rfl rfl hl.1 rfl (lv_room (Nat.le_of_ble_eq_true rfl)) dL_law_916 ⟨?_, ?_⟩) hW (fun r_ u2 H locs hp hW => ?_)
    · (try simp only [headSpec]); omega
    · (try simp only [headSpec]); omega
    obtain ⟨er, hZ2, hz2⟩ := hp
    have hMM := hM0.mod hK ⟨_, _, _, _, _, hZ2⟩ hz2
    refine lv_icmp_eq (tgt := 1835) hx hb dL_law_919 (by decide) (fun _ => ?_) (fun hz => absurd er.symm hz)
    exact kk _ _ _ _ _ H locs ls hMM.lR (by (try simp only [headSpec]); omega) (by (try simp only [headSpec]); omega) hW (lv_sub hl [0, 1, 2, 3, 4] rfl)
set_option maxHeartbeats 4000000 in
set_option maxRecDepth 100000 in
/-- the law: take -/
theorem lw_4 {p : Program} {l : Launch} {e : Env} {R : Room} {s : State} {m : MethodId} {args : Array Value} {below : List Frame} {meth : Method} {c : Code} {Q : State → Prop} {D : va_G} {A : Nat → Prop} (hx : p.tables.exec = Jvm.exec) (hb : c.code = cL_law) (hts : ∀ w ∈ lw_all, w.before args s = true) (hown : s.vm.findClass RX0 = some m.cls) (hK : va_K D gCl (gT D) s) (hE : g_Env D A s) (hml : c.maxLocals = 8) (hRf : 15 ≤ R.frames) (hRl : 371 ≤ R.locals) (hl9 : l.stackTraces = false) (b L : Nat) (xs : Nat → Int32) (hX : va_X b L xs s s.heap) (hbl : b < s.heap.size) (hbA : ¬ A b) (x y o i : Nat) (hi : i + 5 ≤ L) (hL : L ≤ 320) (z : yW) (hv : yV z) (hrn : z.rn ≤ 40 * i) (c0 s0 : Nat) (hRc : c0 + (3 + tkM z.P (digs (lTx (xs (i + 1)))) z.cov z.K z.F z.cp + mtC z.P (lTx (xs (i + 1))) z.cov z.K.length z.cK z.F) ≤ R.cells) (hRs : s0 + (16 + tkS z.P (digs (lTx (xs (i + 1)))) z.cov z.K z.F z.cp + mtS z.P (lTx (xs (i + 1))) z.cov z.K.length z.cK z.F) ≤ R.slots)
    (kk : ∀ (w2 : g_H) (l2 : Nat → Nat) (th2 : Int32) (cells slots : Nat) (H : Heap) (locs : List Loc) (ls : Array Slot), lR D w2 l2 x y o (sTake z (lTx (xs (i + 1)))) th2 → cells ≤ c0 + (3 + tkM z.P (digs (lTx (xs (i + 1)))) z.cov z.K z.F z.cp + mtC z.P (lTx (xs (i + 1))) z.cov z.K.length z.cK z.F) → slots ≤ s0 + (16 + tkS z.P (digs (lTx (xs (i + 1)))) z.cov z.K z.F z.cp + mtS z.P (lTx (xs (i + 1))) z.cov z.K.length z.cK z.F) → g_W D A s.heap H locs w2 → lv_has ls 8 [(0, .ref b), (1, .ref x), (2, .ref y), (3, .ref o), (4, .int (nI i))] → W p l e R s m args below meth c H locs cells slots Q (F0 m 1835 ls [])) :
    ∀ (k : Nat) (w1 : g_H) (l1 : Nat → Nat) (th : Int32) (cells : Nat) (slots : Nat) (H : Heap) (locs : List Loc) (ls : Array Slot), 0 < k → lR D w1 l1 x y o z th → cells ≤ c0 → slots ≤ s0 → g_W D A s.heap H locs w1 → lv_has ls 8 [(0, .ref b), (1, .ref x), (2, .ref y), (3, .ref o), (4, .int (nI i))] → W p l e R s m args below meth c H locs cells slots Q (F0 m 507 ls []) := by
  intro k
  induction k with
  | zero => intro w1 l1 th cells slots H locs ls hfuel hR hcl hsl hW hl; exact absurd hfuel (by omega)
  | succ k ih =>
    intro w1 l1 th cells slots H locs ls hfuel hR hcl hsl hW hl
    obtain ⟨n0, d0, s0v, v0, f0, hM0⟩ := hR.mid
    obtain ⟨⟨rf, hS⟩, ⟨mf, en, td, st, E, hZ⟩, ho, hlo, hmu⟩ := id hM0
    obtain ⟨hvA, hcv, hKd, hcK, hYI, ⟨hfq, hac, hP16, hC8⟩, hCd, hcp3, hfI, hrn0⟩ := id hv
    have hF16 := hfI.lt hP16
    have hK3 := hYI.q.2.2
    have htt := hYI.2.2.2
    have hdl : (z.K.drop z.fq).length = z.K.length - z.fq := List.length_drop
    refine lv_aload_n hx hb dL_law_507 rfl (lv_at hl 1 rfl) ?_
    refine lv_aload_n hx hb dL_law_508 rfl (lv_at hl 0 rfl) ?_
    refine lv_iload hx hb dL_law_509 (lv_at hl 4 rfl) ?_
    refine lv_iconst (v := 1) hx hb dL_law_511 (by decide) ?_
    refine lv_iadd hx hb dL_law_512 ?_
    refine g_topi (y := nI (i + 1)) (nI_add i 1) ?_
    refine va_sld hx hb hX hbl hbA hW.2.2.1 (vp_in_nI (show i + 1 < L by omega) (by omega)) dL_law_513 ?_
    rw [nI_clamp (show i + 1 < 2 ^ 31 by omega)]
    refine g_callq (va_runS (As := [.int ((xs (i + 1)))]) (rest := [.ref x]) ⟨hx, hb, hml, hown, hts⟩ (mtX0_text l D w1 H.size (xs (i + 1))) (va_cwS 1 hts (lw_S q482 q483 q33 q484) rfl rfl rfl (by decide +kernel) ⟨Nat.le_trans (Nat.le_of_ble_eq_true rfl) hRf, Nat.le_trans (Nat.le_of_ble_eq_true rfl) hRl⟩) (g_preS hW hK hE) rfl rfl hl.1 rfl (lv_room (Nat.le_of_ble_eq_true rfl)) dL_law_514 ⟨?_, ?_⟩) hW (fun r_ u_ H locs hp hW => ?_)
    · (try simp only [headSpec]); omega
    · (try simp only [headSpec]); omega
    obtain ⟨er, rfl⟩ := hp
    subst er
    refine lv_aload_n hx hb dL_law_517 rfl (lv_at hl 3 rfl) ?_
    refine g_calli (vx_runSW (hh := [(0, 17, 20, 110)]) (As := [.ref x, .ref (D.2 1000 (fMod (xs (i + 1)) 14)), .ref o]) (rest := []) ⟨hx, hb, hml, hown, hts⟩ (mtX0_take l D w1 H.size hl9 l1 x z.ac z.rn z.tt rf z.P z.C z.A z.cov z.K (z.K.drop z.fq) z.F z.cp hS (D.2 1000 (fMod (xs (i + 1)) 14)) (lTx (xs (i + 1))) (lit_str (fMod_lt (by decide))) (by omega) (by omega) (by omega) (by omega) (by omega) o n0 d0 s0v v0 f0 ho (fun r1 u1 hp => by obtain ⟨-, -, l9, -, hy9⟩ := hp; exact (l_oC ho hlo hy9).1)) (vx_cwSW 3 hts (lw_SW q1146 q1147 q33 q1148) rfl rfl rfl (by decide +kernel) ⟨Nat.le_trans (Nat.le_of_ble_eq_true rfl) hRf, Nat.le_trans (Nat.le_of_ble_eq_true rfl) hRl⟩) (g_preS hW hK hE) rfl rfl hl.1 rfl (lv_room (Nat.le_of_ble_eq_true rfl)) dL_law_518 ⟨?_, ?_⟩) hW (fun r5 u1 H locs hp hW => ?_)
    · (try simp only [headSpec]); omega
    · (try simp only [headSpec]); omega
    have hC : ∃ l3 n1, lMid D u1 l3 x y o (sTake z (lTx (xs (i + 1)))) z th n1 d0 s0v v0 f0 ∧ ((isIn (lTx (xs (i + 1))) ∧ r5 = 0 ∧ n1 = (if (if tkB z.P (digs (lTx (xs (i + 1)))) z.cov = true then (1 : Int32) else 0) = 0 then 0 else 1)) ∨ (¬ isIn (lTx (xs (i + 1))) ∧ r5 = 1)) := by
      rcases hp with ⟨r1, u2, ⟨hin, er, l3, hS2, hy⟩, e, hr⟩ | ⟨E1, ⟨-, hni, ew⟩, hr⟩
      · have ez : sTake z (lTx (xs (i + 1))) = zTake z (digs (lTx (xs (i + 1)))) := if_pos hin
        rw [tkL_drop hfq, tkF_z] at hS2
        exact ⟨_, _, by rw [ez]; exact (hM0.cls hK (z2 := zTake z (digs (lTx (xs (i + 1))))) ⟨rf, hS2⟩ hy).put e, Or.inl ⟨hin, hr, by rw [er]⟩⟩
      · subst ew
        exact ⟨l1, n0, by rw [show sTake z (lTx (xs (i + 1))) = z from if_neg hni]; exact hM0, Or.inr ⟨hni, hr.2⟩⟩
    obtain ⟨l3, n1, hM1, hc1⟩ := hC
    obtain ⟨⟨rf3, hS3⟩, ⟨mf3, en3, td3, st3, E3, hZ3⟩, ho3, hlo3, hmu3⟩ := id hM1
    refine lv_istore (lv' := [(5, .int (r5)), (0, .ref b), (1, .ref x), (2, .ref y), (3, .ref o), (4, .int (nI i))]) hx hb dL_law_521 hl (by decide) rfl (fun ls hl => ?_)
    refine lv_aload_n hx hb dL_law_523 rfl (lv_at hl 3 rfl) ?_
    refine lv_aload_n hx hb dL_law_524 rfl (lv_at hl 1 rfl) ?_
    refine lv_iload hx hb dL_law_525 (lv_at hl 5 rfl) ?_
    refine lv_iconst (v := 1) hx hb dL_law_527 (by decide) ?_
    refine lv_iadd hx hb dL_law_528 ?_
    refine g_topi (y := nI (i + 1)) (nI_add i 1) ?_
    refine va_sld hx hb hX hbl hbA hW.2.2.1 (vp_in_nI (show i + 1 < L by omega) (by omega)) dL_law_529 ?_
    rw [nI_clamp (show i + 1 < 2 ^ 31 by omega)]
    refine g_callq (va_runS (As := [.int ((xs (i + 1)))]) (rest := [.ref y]) ⟨hx, hb, hml, hown, hts⟩ (mtX0_text l D u1 H.size (xs (i + 1))) (va_cwS 1 hts (lw_S q482 q483 q33 q484) rfl rfl rfl (by decide +kernel) ⟨Nat.le_trans (Nat.le_of_ble_eq_true rfl) hRf, Nat.le_trans (Nat.le_of_ble_eq_true rfl) hRl⟩) (g_preS hW hK hE) rfl rfl hl.1 rfl (lv_room (Nat.le_of_ble_eq_true rfl)) dL_law_530 ⟨?_, ?_⟩) hW (fun r_ u_ H locs hp hW => ?_)
    · (try simp only [headSpec]); omega
    · (try simp only [headSpec]); omega
    obtain ⟨er, rfl⟩ := hp
    subst er
    refine g_calli (va_runV (As := [.ref (D.2 1000 (fMod (xs (i + 1)) 14))]) (rest := []) ⟨hx, hb, hml, hown, hts⟩ (mtX3_take l D u1 H.size y mf3 l3 z.P z.C z.A z.cov z.K z.fq z.ac z.F z.rn z.tt z.cK en3 td3 st3 E3 th hZ3 (D.2 1000 (fMod (xs (i + 1)) 14)) (lTx (xs (i + 1))) (lit_str (fMod_lt (by decide))) hcv (by omega) (by omega) hF16 (by omega) (by omega)) (cwV 1 hts (lw_V q2026 q2027 q2028 q47 q2029) rfl rfl rfl (by decide +kernel) ⟨Nat.le_trans (Nat.le_of_ble_eq_true rfl) hRf, Nat.le_trans (Nat.le_of_ble_eq_true rfl) hRl⟩) (g_preV hW hK hE hZ3.1 rfl) rfl rfl hl.1 rfl (lv_room (Nat.le_of_ble_eq_true rfl)) dL_law_533 ⟨?_, ?_⟩) hW (fun r6 u2 H locs hp hW => ?_)
    · (try simp only [headSpec]); omega
    · (try simp only [headSpec]); omega
    have hC : ∃ l4 th2, lMid D u2 l4 x y o (sTake z (lTx (xs (i + 1)))) (sTake z (lTx (xs (i + 1)))) th2 n1 d0 s0v v0 f0 ∧ ((isIn (lTx (xs (i + 1))) ∧ r6 = (if tkB z.P (digs (lTx (xs (i + 1)))) z.cov = true then 1 else 0) ∧ th2 = 0) ∨ (¬ isIn (lTx (xs (i + 1))) ∧ th2 = 1)) := by
      obtain ⟨l9, mf9, en9, td9, st9, E9, hz9, ⟨hin, er, hZ9⟩ | ⟨hni, hZ9⟩⟩ := hp
      · exact ⟨_, 0, by rw [show sTake z (lTx (xs (i + 1))) = zTake z (digs (lTx (xs (i + 1)))) from if_pos hin] at hM1 ⊢; exact hM1.mod hK (z2 := zTake z (digs (lTx (xs (i + 1))))) ⟨_, _, _, _, _, hZ9⟩ hz9, Or.inl ⟨hin, er, rfl⟩⟩
      · exact ⟨_, 1, by rw [show sTake z (lTx (xs (i + 1))) = z from if_neg hni] at hM1 ⊢; exact hM1.mod hK ⟨_, _, _, _, _, hZ9⟩ hz9, Or.inr ⟨hni, rfl⟩⟩
    obtain ⟨l4, th2, hMM, hc2⟩ := hC
    have hag : r5 = th2 ∧ (r5 = 0 → n1 = if r6 = 0 then 0 else 1) := by
      rcases hc1 with ⟨h1, e1, e2⟩ | ⟨h1, e1⟩ <;> rcases hc2 with ⟨h2, e3, e4⟩ | ⟨h2, e4⟩
      · exact ⟨by rw [e1, e4], fun _ => by rw [e2, e3]⟩
      · exact absurd h1 h2
      · exact absurd h2 h1
      · exact ⟨by rw [e1, e4], fun h => absurd (e1.symm.trans h) (by decide)⟩
    obtain ⟨⟨rf4, hS4⟩, ⟨mf4, en4, td4, st4, E4, hZ4⟩, ho4, hlo4, hmu4⟩ := id hMM
    refine lv_istore (lv' := [(6, .int (r6)), (5, .int (r5)), (0, .ref b), (1, .ref x), (2, .ref y), (3, .ref o), (4, .int (nI i))]) hx hb dL_law_536 hl (by decide) rfl (fun ls hl => ?_)
    refine lv_aload_n hx hb dL_law_538 rfl (lv_at hl 4 rfl) ?_
    refine g_calli (va_runV (As := []) (rest := []) ⟨hx, hb, hml, hown, hts⟩ (mtX3_thrown l D u2 H.size y mf4 l4 (sTake z (lTx (xs (i + 1)))).P (sTake z (lTx (xs (i + 1)))).C (sTake z (lTx (xs (i + 1)))).A (sTake z (lTx (xs (i + 1)))).cov (sTake z (lTx (xs (i + 1)))).K (sTake z (lTx (xs (i + 1)))).fq (sTake z (lTx (xs (i + 1)))).ac (sTake z (lTx (xs (i + 1)))).F (sTake z (lTx (xs (i + 1)))).rn (sTake z (lTx (xs (i + 1)))).tt (sTake z (lTx (xs (i + 1)))).cK en4 td4 st4 E4 th2 hZ4) (cwV 0 hts (lw_V q1970 q1971 q1972 q47 q1973) rfl rfl rfl (by decide +kernel) ⟨Nat.le_trans (Nat.le_of_ble_eq_true rfl) hRf, Nat.le_trans (Nat.le_of_ble_eq_true rfl) hRl⟩) (g_preV hW hK hE hZ4.1 rfl) rfl rfl hl.1 rfl (lv_room (Nat.le_of_ble_eq_true rfl)) dL_law_539 ⟨?_, ?_⟩) hW (fun r_ u_ H locs hp hW => ?_)
    · (try simp only [headSpec]); omega
    · (try simp only [headSpec]); omega
    obtain ⟨er, rfl⟩ := hp
    rw [er]
    refine lv_iload hx hb dL_law_542 (lv_at hl 1 rfl) ?_
    refine lv_icmp_eq (tgt := 549) hx hb dL_law_544 (by decide) (fun _ => ?_) (fun hz => absurd hag.1.symm hz)
    refine lv_iload hx hb dL_law_549 (lv_at hl 1 rfl) ?_
    refine lv_if_ne (tgt := 574) hx hb dL_law_551 (by decide) (fun hz5 => ?_) (fun hz5 => ?_)
    · refine lv_goto (tgt := 1835) hx hb dL_law_574 (by decide) ?_
      exact kk _ _ _ _ _ H locs ls hMM.lR (by (try simp only [headSpec]); omega) (by (try simp only [headSpec]); omega) hW (lv_sub hl [2, 3, 4, 5, 6] rfl)
    · have h50 : r5 = 0 := by first | exact hz5 | exact Classical.not_not.mp hz5
      have hcd := h50
      have hn1 := hag.2 h50
      refine lv_aload_n hx hb dL_law_554 rfl (lv_at hl 5 rfl) ?_
      refine g_getN (ci := 9) (v := .long (n1)) (C := RX4) (T := TX4) (N := 5) hx hb hts in_X4 hown hK hW ho4 rfl 0 (by decide) (nf_q466 hE) (fun _ h9 => h9) rfl dL_law_555 ?_
      refine lv_iload hx hb dL_law_558 (lv_at hl 0 rfl) ?_
      refine lv_if_eq (tgt := 567) hx hb dL_law_560 (by decide) (fun hc6 => ?_) (fun hc6 => ?_)
      · refine lv_lconst (v := 0) hx hb dL_law_567 rfl ?_
        refine W.lcmp hx hb dL_law_568 ?_
        refine g_topi (y := 0) (by rw [hn1, if_pos hc6]; exact lcmp_self) ?_
        refine lv_if_eq (tgt := 574) hx hb dL_law_569 (by decide) (fun _ => ?_) (fun hz => absurd rfl hz)
        refine lv_goto (tgt := 1835) hx hb dL_law_574 (by decide) ?_
        exact kk _ _ _ _ _ H locs ls hMM.lR (by (try simp only [headSpec]); omega) (by (try simp only [headSpec]); omega) hW (lv_sub hl [2, 3, 4, 5, 6] rfl)
      · refine lv_lconst (v := 1) hx hb dL_law_563 rfl ?_
        refine lv_goto (tgt := 568) hx hb dL_law_564 (by decide) ?_
        refine W.lcmp hx hb dL_law_568 ?_
        refine g_topi (y := 0) (by rw [hn1, if_neg hc6]; exact lcmp_self) ?_
        refine lv_if_eq (tgt := 574) hx hb dL_law_569 (by decide) (fun _ => ?_) (fun hz => absurd rfl hz)
        refine lv_goto (tgt := 1835) hx hb dL_law_574 (by decide) ?_
        exact kk _ _ _ _ _ H locs ls hMM.lR (by (try simp only [headSpec]); omega) (by (try simp only [headSpec]); omega) hW (lv_sub hl [2, 3, 4, 5, 6] rfl)
set_option maxHeartbeats 4000000 in
set_option maxRecDepth 100000 in
/-- the law: steps -/
theorem lw_19 {p : Program} {l : Launch} {e : Env} {R : Room} {s : State} {m : MethodId} {args : Array Value} {below : List Frame} {meth : Method} {c : Code} {Q : State → Prop} {D : va_G} {A : Nat → Prop} (hx : p.tables.exec = Jvm.exec) (hb : c.code = cL_law) (hts : ∀ w ∈ lw_all, w.before args s = true) (hown : s.vm.findClass RX0 = some m.cls) (hK : va_K D gCl (gT D) s) (hE : g_Env D A s) (hml : c.maxLocals = 8) (hRf : 12 ≤ R.frames) (hRl : 235 ≤ R.locals) (hl9 : l.stackTraces = false) (b L : Nat) (xs : Nat → Int32) (hX : va_X b L xs s s.heap) (hbl : b < s.heap.size) (hbA : ¬ A b) (x y o i : Nat) (hi : i + 5 ≤ L) (hL : L ≤ 320) (z : yW) (hv : yV z) (hrn : z.rn ≤ 40 * i) (c0 s0 : Nat) (hRc : c0 + (3 + ((bsC (z.cp 9) (mOut z.P (digs (lTx (xs (i + 1))))).2.2.2) - z.cp 9)) ≤ R.cells) (hRs : s0 + (16 + 2 * ((bsC (z.cp 9) (mOut z.P (digs (lTx (xs (i + 1))))).2.2.2) - z.cp 9)) ≤ R.slots)
    (kk : ∀ (w2 : g_H) (l2 : Nat → Nat) (th2 : Int32) (cells slots : Nat) (H : Heap) (locs : List Loc) (ls : Array Slot), lR D w2 l2 x y o (sRun z (lTx (xs (i + 1)))) th2 → cells ≤ c0 + (3 + ((bsC (z.cp 9) (mOut z.P (digs (lTx (xs (i + 1))))).2.2.2) - z.cp 9)) → slots ≤ s0 + (16 + 2 * ((bsC (z.cp 9) (mOut z.P (digs (lTx (xs (i + 1))))).2.2.2) - z.cp 9)) → g_W D A s.heap H locs w2 → lv_has ls 8 [(0, .ref b), (1, .ref x), (2, .ref y), (3, .ref o), (4, .int (nI i))] → W p l e R s m args below meth c H locs cells slots Q (F0 m 1835 ls [])) :
    ∀ (k : Nat) (w1 : g_H) (l1 : Nat → Nat) (th : Int32) (cells : Nat) (slots : Nat) (H : Heap) (locs : List Loc) (ls : Array Slot), 0 < k → lR D w1 l1 x y o z th → cells ≤ c0 → slots ≤ s0 → g_W D A s.heap H locs w1 → lv_has ls 8 [(0, .ref b), (1, .ref x), (2, .ref y), (3, .ref o), (4, .int (nI i))] → W p l e R s m args below meth c H locs cells slots Q (F0 m 1145 ls []) := by
  intro k
  induction k with
  | zero => intro w1 l1 th cells slots H locs ls hfuel hR hcl hsl hW hl; exact absurd hfuel (by omega)
  | succ k ih =>
    intro w1 l1 th cells slots H locs ls hfuel hR hcl hsl hW hl
    obtain ⟨n0, d0, s0v, v0, f0, hM0⟩ := hR.mid
    obtain ⟨⟨rf, hS⟩, ⟨mf, en, td, st, E, hZ⟩, ho, hlo, hmu⟩ := id hM0
    obtain ⟨hvA, hcv, hKd, hcK, hYI, ⟨hfq, hac, hP16, hC8⟩, hCd, hcp3, hfI, hrn0⟩ := id hv
    have hF16 := hfI.lt hP16
    have hK3 := hYI.q.2.2
    have htt := hYI.2.2.2
    have hdl : (z.K.drop z.fq).length = z.K.length - z.fq := List.length_drop
    refine lv_aload_n hx hb dL_law_1145 rfl (lv_at hl 1 rfl) ?_
    refine lv_aload_n hx hb dL_law_1146 rfl (lv_at hl 0 rfl) ?_
    refine lv_iload hx hb dL_law_1147 (lv_at hl 4 rfl) ?_
    refine lv_iconst (v := 1) hx hb dL_law_1149 (by decide) ?_
    refine lv_iadd hx hb dL_law_1150 ?_
    refine g_topi (y := nI (i + 1)) (nI_add i 1) ?_
    refine va_sld hx hb hX hbl hbA hW.2.2.1 (vp_in_nI (show i + 1 < L by omega) (by omega)) dL_law_1151 ?_
    rw [nI_clamp (show i + 1 < 2 ^ 31 by omega)]
    refine g_callq (va_runS (As := [.int ((xs (i + 1)))]) (rest := [.ref x]) ⟨hx, hb, hml, hown, hts⟩ (mtX0_text l D w1 H.size (xs (i + 1))) (va_cwS 1 hts (lw_S q482 q483 q33 q484) rfl rfl rfl (by decide +kernel) ⟨Nat.le_trans (Nat.le_of_ble_eq_true rfl) hRf, Nat.le_trans (Nat.le_of_ble_eq_true rfl) hRl⟩) (g_preS hW hK hE) rfl rfl hl.1 rfl (lv_room (Nat.le_of_ble_eq_true rfl)) dL_law_1152 ⟨?_, ?_⟩) hW (fun r_ u_ H locs hp hW => ?_)
    · (try simp only [headSpec]); omega
    · (try simp only [headSpec]); omega
    obtain ⟨er, rfl⟩ := hp
    subst er
    refine lv_aload_n hx hb dL_law_1155 rfl (lv_at hl 3 rfl) ?_
    refine g_calli (vx_runSW (hh := [(0, 10, 13, 110)]) (As := [.ref x, .ref (D.2 1000 (fMod (xs (i + 1)) 14)), .ref o]) (rest := []) ⟨hx, hb, hml, hown, hts⟩ (mtX0_steps l D w1 H.size hl9 l1 x z.ac z.rn z.tt rf z.P z.C z.A z.cov z.K (z.K.drop z.fq) z.F z.cp hS (D.2 1000 (fMod (xs (i + 1)) 14)) (lTx (xs (i + 1))) (lit_str (fMod_lt (by decide))) o n0 d0 s0v v0 f0 ho (fun r1 u1 hp => by obtain ⟨-, -, l9, -, hy9⟩ := hp; exact (l_oC ho hlo hy9).1)) (vx_cwSW 3 hts (lw_SW q1772 q1773 q33 q1774) rfl rfl rfl (by decide +kernel) ⟨Nat.le_trans (Nat.le_of_ble_eq_true rfl) hRf, Nat.le_trans (Nat.le_of_ble_eq_true rfl) hRl⟩) (g_preS hW hK hE) rfl rfl hl.1 rfl (lv_room (Nat.le_of_ble_eq_true rfl)) dL_law_1156 ⟨?_, ?_⟩) hW (fun r5 u1 H locs hp hW => ?_)
    · (try simp only [headSpec]); omega
    · (try simp only [headSpec]); omega
    have hC : ∃ l3 n1, lMid D u1 l3 x y o (sRun z (lTx (xs (i + 1)))) z th n1 d0 s0v v0 f0 ∧ eR1 (isIn (lTx (xs (i + 1)))) r5 ∧ ((isIn (lTx (xs (i + 1)))) → n1 = (nI (mOut z.P (digs (lTx (xs (i + 1))))).2.2.1 : Int32).toInt64) := by
      rcases hp with ⟨r1, u2, ⟨hin, er, l3, hS2, hy⟩, e, hr⟩ | ⟨E1, ⟨-, hni, ew⟩, hr⟩
      · exact ⟨_, _, by rw [show sRun z (lTx (xs (i + 1))) = zCp z (bsC (z.cp 9) (mOut z.P (digs (lTx (xs (i + 1))))).2.2.2) from if_pos hin]; exact (hM0.cls hK (z2 := zCp z (bsC (z.cp 9) (mOut z.P (digs (lTx (xs (i + 1))))).2.2.2)) ⟨rf, hS2⟩ hy).put e, Or.inl ⟨hin, hr⟩, fun _ => by rw [er]⟩
      · subst ew
        exact ⟨l1, n0, by rw [show sRun z (lTx (xs (i + 1))) = z from if_neg hni]; exact hM0, Or.inr ⟨hni, hr.2⟩, fun q => absurd q hni⟩
    obtain ⟨l3, n1, hM1, hc1, hq1⟩ := hC
    obtain ⟨⟨rf3, hS3⟩, ⟨mf3, en3, td3, st3, E3, hZ3⟩, ho3, hlo3, hmu3⟩ := id hM1
    refine lv_istore (lv' := [(5, .int (r5)), (0, .ref b), (1, .ref x), (2, .ref y), (3, .ref o), (4, .int (nI i))]) hx hb dL_law_1159 hl (by decide) rfl (fun ls hl => ?_)
    refine lv_aload_n hx hb dL_law_1161 rfl (lv_at hl 3 rfl) ?_
    refine lv_aload_n hx hb dL_law_1162 rfl (lv_at hl 1 rfl) ?_
    refine lv_iload hx hb dL_law_1163 (lv_at hl 5 rfl) ?_
    refine lv_iconst (v := 1) hx hb dL_law_1165 (by decide) ?_
    refine lv_iadd hx hb dL_law_1166 ?_
    refine g_topi (y := nI (i + 1)) (nI_add i 1) ?_
    refine va_sld hx hb hX hbl hbA hW.2.2.1 (vp_in_nI (show i + 1 < L by omega) (by omega)) dL_law_1167 ?_
    rw [nI_clamp (show i + 1 < 2 ^ 31 by omega)]
    refine g_callq (va_runS (As := [.int ((xs (i + 1)))]) (rest := [.ref y]) ⟨hx, hb, hml, hown, hts⟩ (mtX0_text l D u1 H.size (xs (i + 1))) (va_cwS 1 hts (lw_S q482 q483 q33 q484) rfl rfl rfl (by decide +kernel) ⟨Nat.le_trans (Nat.le_of_ble_eq_true rfl) hRf, Nat.le_trans (Nat.le_of_ble_eq_true rfl) hRl⟩) (g_preS hW hK hE) rfl rfl hl.1 rfl (lv_room (Nat.le_of_ble_eq_true rfl)) dL_law_1168 ⟨?_, ?_⟩) hW (fun r_ u_ H locs hp hW => ?_)
    · (try simp only [headSpec]); omega
    · (try simp only [headSpec]); omega
    obtain ⟨er, rfl⟩ := hp
    subst er
    refine g_calli (va_runV (As := [.ref (D.2 1000 (fMod (xs (i + 1)) 14))]) (rest := []) ⟨hx, hb, hml, hown, hts⟩ (mtX3_steps l D u1 H.size y mf3 l3 z.P z.C z.A z.cov z.K z.fq z.ac z.F z.rn z.tt z.cK en3 td3 st3 E3 th hZ3 (D.2 1000 (fMod (xs (i + 1)) 14)) (lTx (xs (i + 1))) (lit_str (fMod_lt (by decide)))) (cwV 1 hts (lw_V q2167 q2168 q2169 q47 q2170) rfl rfl rfl (by decide +kernel) ⟨Nat.le_trans (Nat.le_of_ble_eq_true rfl) hRf, Nat.le_trans (Nat.le_of_ble_eq_true rfl) hRl⟩) (g_preV hW hK hE hZ3.1 rfl) rfl rfl hl.1 rfl (lv_room (Nat.le_of_ble_eq_true rfl)) dL_law_1171 ⟨?_, ?_⟩) hW (fun r6 u2 H locs hp hW => ?_)
    · (try simp only [headSpec]); omega
    · (try simp only [headSpec]); omega
    have hC : ∃ l4 th2, lMid D u2 l4 x y o (sRun z (lTx (xs (i + 1)))) (sRun z (lTx (xs (i + 1)))) th2 n1 d0 s0v v0 f0 ∧ eR1 (isIn (lTx (xs (i + 1)))) th2 ∧ ((isIn (lTx (xs (i + 1)))) → r6 = nI (mOut z.P (digs (lTx (xs (i + 1))))).2.2.1) := by
      obtain ⟨er, ⟨en9, td9, st9, E9, hZ9⟩, hz9⟩ := hp
      refine ⟨_, _, hM1.mod hK (z2 := sRun z (lTx (xs (i + 1)))) ⟨mf3, en9, td9, st9, E9, ?_⟩ hz9, thI_e, fun q => ?_⟩
      · by_cases q : isIn (lTx (xs (i + 1)))
        · rw [show sRun z (lTx (xs (i + 1))) = zCp z (bsC (z.cp 9) (mOut z.P (digs (lTx (xs (i + 1))))).2.2.2) from if_pos q]; exact hZ9
        · rw [show sRun z (lTx (xs (i + 1))) = z from if_neg q]; exact hZ9
      · exact er q
    obtain ⟨l4, th2, hMM, hc2, hq2⟩ := hC
    have hag : r5 = th2 ∧ True := ⟨hc1.eq hc2, trivial⟩
    obtain ⟨⟨rf4, hS4⟩, ⟨mf4, en4, td4, st4, E4, hZ4⟩, ho4, hlo4, hmu4⟩ := id hMM
    refine lv_istore (lv' := [(6, .int (r6)), (5, .int (r5)), (0, .ref b), (1, .ref x), (2, .ref y), (3, .ref o), (4, .int (nI i))]) hx hb dL_law_1174 hl (by decide) rfl (fun ls hl => ?_)
    refine lv_aload_n hx hb dL_law_1176 rfl (lv_at hl 4 rfl) ?_
    refine g_calli (va_runV (As := []) (rest := []) ⟨hx, hb, hml, hown, hts⟩ (mtX3_thrown l D u2 H.size y mf4 l4 (sRun z (lTx (xs (i + 1)))).P (sRun z (lTx (xs (i + 1)))).C (sRun z (lTx (xs (i + 1)))).A (sRun z (lTx (xs (i + 1)))).cov (sRun z (lTx (xs (i + 1)))).K (sRun z (lTx (xs (i + 1)))).fq (sRun z (lTx (xs (i + 1)))).ac (sRun z (lTx (xs (i + 1)))).F (sRun z (lTx (xs (i + 1)))).rn (sRun z (lTx (xs (i + 1)))).tt (sRun z (lTx (xs (i + 1)))).cK en4 td4 st4 E4 th2 hZ4) (cwV 0 hts (lw_V q1970 q1971 q1972 q47 q1973) rfl rfl rfl (by decide +kernel) ⟨Nat.le_trans (Nat.le_of_ble_eq_true rfl) hRf, Nat.le_trans (Nat.le_of_ble_eq_true rfl) hRl⟩) (g_preV hW hK hE hZ4.1 rfl) rfl rfl hl.1 rfl (lv_room (Nat.le_of_ble_eq_true rfl)) dL_law_1177 ⟨?_, ?_⟩) hW (fun r_ u_ H locs hp hW => ?_)
    · (try simp only [headSpec]); omega
    · (try simp only [headSpec]); omega
    obtain ⟨er, rfl⟩ := hp
    rw [er]
    refine lv_iload hx hb dL_law_1180 (lv_at hl 1 rfl) ?_
    refine lv_icmp_eq (tgt := 1187) hx hb dL_law_1182 (by decide) (fun _ => ?_) (fun hz => absurd hag.1.symm hz)
    refine lv_iload hx hb dL_law_1187 (lv_at hl 1 rfl) ?_
    refine lv_if_ne (tgt := 1205) hx hb dL_law_1189 (by decide) (fun hz5 => ?_) (fun hz5 => ?_)
    · refine lv_goto (tgt := 1835) hx hb dL_law_1205 (by decide) ?_
      exact kk _ _ _ _ _ H locs ls hMM.lR (by (try simp only [headSpec]); omega) (by (try simp only [headSpec]); omega) hW (lv_sub hl [2, 3, 4, 5, 6] rfl)
    · have h50 : r5 = 0 := by first | exact hz5 | exact Classical.not_not.mp hz5
      have hcd := hc1.zero h50
      have hn1 : n1 = r6.toInt64 := by rw [hq1 hcd, hq2 hcd]
      refine lv_aload_n hx hb dL_law_1192 rfl (lv_at hl 5 rfl) ?_
      refine g_getN (ci := 9) (v := .long (n1)) (C := RX4) (T := TX4) (N := 5) hx hb hts in_X4 hown hK hW ho4 rfl 0 (by decide) (nf_q466 hE) (fun _ h9 => h9) rfl dL_law_1193 ?_
      refine lv_iload hx hb dL_law_1196 (lv_at hl 0 rfl) ?_
      refine lv_i2l (v := (r6 : Int32).toInt64) hx hb dL_law_1198 rfl ?_
      refine W.lcmp hx hb dL_law_1199 ?_
      refine g_topi (y := 0) (by rw [hn1]; exact lcmp_self) ?_
      refine lv_if_eq (tgt := 1205) hx hb dL_law_1200 (by decide) (fun _ => ?_) (fun hz => absurd rfl hz)
      refine lv_goto (tgt := 1835) hx hb dL_law_1205 (by decide) ?_
      exact kk _ _ _ _ _ H locs ls hMM.lR (by (try simp only [headSpec]); omega) (by (try simp only [headSpec]); omega) hW (lv_sub hl [2, 3, 4, 5, 6] rfl)
set_option maxHeartbeats 4000000 in
set_option maxRecDepth 100000 in
/-- the law: edges -/
theorem lw_20 {p : Program} {l : Launch} {e : Env} {R : Room} {s : State} {m : MethodId} {args : Array Value} {below : List Frame} {meth : Method} {c : Code} {Q : State → Prop} {D : va_G} {A : Nat → Prop} (hx : p.tables.exec = Jvm.exec) (hb : c.code = cL_law) (hts : ∀ w ∈ lw_all, w.before args s = true) (hown : s.vm.findClass RX0 = some m.cls) (hK : va_K D gCl (gT D) s) (hE : g_Env D A s) (hml : c.maxLocals = 8) (hRf : 12 ≤ R.frames) (hRl : 235 ≤ R.locals) (hl9 : l.stackTraces = false) (b L : Nat) (xs : Nat → Int32) (hX : va_X b L xs s s.heap) (hbl : b < s.heap.size) (hbA : ¬ A b) (x y o i : Nat) (hi : i + 5 ≤ L) (hL : L ≤ 320) (z : yW) (hv : yV z) (hrn : z.rn ≤ 40 * i) (c0 s0 : Nat) (hRc : c0 + (3 + ((bsC (z.cp 9) (mOut z.P (digs (lTx (xs (i + 1))))).2.2.2) - z.cp 9)) ≤ R.cells) (hRs : s0 + (16 + 2 * ((bsC (z.cp 9) (mOut z.P (digs (lTx (xs (i + 1))))).2.2.2) - z.cp 9)) ≤ R.slots)
    (kk : ∀ (w2 : g_H) (l2 : Nat → Nat) (th2 : Int32) (cells slots : Nat) (H : Heap) (locs : List Loc) (ls : Array Slot), lR D w2 l2 x y o (sRun z (lTx (xs (i + 1)))) th2 → cells ≤ c0 + (3 + ((bsC (z.cp 9) (mOut z.P (digs (lTx (xs (i + 1))))).2.2.2) - z.cp 9)) → slots ≤ s0 + (16 + 2 * ((bsC (z.cp 9) (mOut z.P (digs (lTx (xs (i + 1))))).2.2.2) - z.cp 9)) → g_W D A s.heap H locs w2 → lv_has ls 8 [(0, .ref b), (1, .ref x), (2, .ref y), (3, .ref o), (4, .int (nI i))] → W p l e R s m args below meth c H locs cells slots Q (F0 m 1835 ls [])) :
    ∀ (k : Nat) (w1 : g_H) (l1 : Nat → Nat) (th : Int32) (cells : Nat) (slots : Nat) (H : Heap) (locs : List Loc) (ls : Array Slot), 0 < k → lR D w1 l1 x y o z th → cells ≤ c0 → slots ≤ s0 → g_W D A s.heap H locs w1 → lv_has ls 8 [(0, .ref b), (1, .ref x), (2, .ref y), (3, .ref o), (4, .int (nI i))] → W p l e R s m args below meth c H locs cells slots Q (F0 m 1208 ls []) := by
  intro k
  induction k with
  | zero => intro w1 l1 th cells slots H locs ls hfuel hR hcl hsl hW hl; exact absurd hfuel (by omega)
  | succ k ih =>
    intro w1 l1 th cells slots H locs ls hfuel hR hcl hsl hW hl
    obtain ⟨n0, d0, s0v, v0, f0, hM0⟩ := hR.mid
    obtain ⟨⟨rf, hS⟩, ⟨mf, en, td, st, E, hZ⟩, ho, hlo, hmu⟩ := id hM0
    obtain ⟨hvA, hcv, hKd, hcK, hYI, ⟨hfq, hac, hP16, hC8⟩, hCd, hcp3, hfI, hrn0⟩ := id hv
    have hF16 := hfI.lt hP16
    have hK3 := hYI.q.2.2
    have htt := hYI.2.2.2
    have hdl : (z.K.drop z.fq).length = z.K.length - z.fq := List.length_drop
    refine lv_aload_n hx hb dL_law_1208 rfl (lv_at hl 1 rfl) ?_
    refine lv_aload_n hx hb dL_law_1209 rfl (lv_at hl 0 rfl) ?_
    refine lv_iload hx hb dL_law_1210 (lv_at hl 4 rfl) ?_
    refine lv_iconst (v := 1) hx hb dL_law_1212 (by decide) ?_
    refine lv_iadd hx hb dL_law_1213 ?_
    refine g_topi (y := nI (i + 1)) (nI_add i 1) ?_
    refine va_sld hx hb hX hbl hbA hW.2.2.1 (vp_in_nI (show i + 1 < L by omega) (by omega)) dL_law_1214 ?_
    rw [nI_clamp (show i + 1 < 2 ^ 31 by omega)]
    refine g_callq (va_runS (As := [.int ((xs (i + 1)))]) (rest := [.ref x]) ⟨hx, hb, hml, hown, hts⟩ (mtX0_text l D w1 H.size (xs (i + 1))) (va_cwS 1 hts (lw_S q482 q483 q33 q484) rfl rfl rfl (by decide +kernel) ⟨Nat.le_trans (Nat.le_of_ble_eq_true rfl) hRf, Nat.le_trans (Nat.le_of_ble_eq_true rfl) hRl⟩) (g_preS hW hK hE) rfl rfl hl.1 rfl (lv_room (Nat.le_of_ble_eq_true rfl)) dL_law_1215 ⟨?_, ?_⟩) hW (fun r_ u_ H locs hp hW => ?_)
    · (try simp only [headSpec]); omega
    · (try simp only [headSpec]); omega
    obtain ⟨er, rfl⟩ := hp
    subst er
    refine lv_aload_n hx hb dL_law_1218 rfl (lv_at hl 3 rfl) ?_
    refine g_calli (vx_runSW (hh := [(0, 10, 13, 110)]) (As := [.ref x, .ref (D.2 1000 (fMod (xs (i + 1)) 14)), .ref o]) (rest := []) ⟨hx, hb, hml, hown, hts⟩ (mtX0_edges l D w1 H.size hl9 l1 x z.ac z.rn z.tt rf z.P z.C z.A z.cov z.K (z.K.drop z.fq) z.F z.cp hS (D.2 1000 (fMod (xs (i + 1)) 14)) (lTx (xs (i + 1))) (lit_str (fMod_lt (by decide))) o n0 d0 s0v v0 f0 ho (fun r1 u1 hp => by obtain ⟨-, -, l9, -, hy9⟩ := hp; exact (l_oC ho hlo hy9).1)) (vx_cwSW 3 hts (lw_SW q1779 q1780 q33 q1781) rfl rfl rfl (by decide +kernel) ⟨Nat.le_trans (Nat.le_of_ble_eq_true rfl) hRf, Nat.le_trans (Nat.le_of_ble_eq_true rfl) hRl⟩) (g_preS hW hK hE) rfl rfl hl.1 rfl (lv_room (Nat.le_of_ble_eq_true rfl)) dL_law_1219 ⟨?_, ?_⟩) hW (fun r5 u1 H locs hp hW => ?_)
    · (try simp only [headSpec]); omega
    · (try simp only [headSpec]); omega
    have hC : ∃ l3 n1, lMid D u1 l3 x y o (sRun z (lTx (xs (i + 1)))) z th n1 d0 s0v v0 f0 ∧ eR1 (isIn (lTx (xs (i + 1)))) r5 ∧ ((isIn (lTx (xs (i + 1)))) → n1 = (nI (fb_ct (bsE (fun _ => false) (mOut z.P (digs (lTx (xs (i + 1))))).2.2.2) 320) : Int32).toInt64) := by
      rcases hp with ⟨r1, u2, ⟨hin, er, l3, hS2, hy⟩, e, hr⟩ | ⟨E1, ⟨-, hni, ew⟩, hr⟩
      · exact ⟨_, _, by rw [show sRun z (lTx (xs (i + 1))) = zCp z (bsC (z.cp 9) (mOut z.P (digs (lTx (xs (i + 1))))).2.2.2) from if_pos hin]; exact (hM0.cls hK (z2 := zCp z (bsC (z.cp 9) (mOut z.P (digs (lTx (xs (i + 1))))).2.2.2)) ⟨rf, hS2⟩ hy).put e, Or.inl ⟨hin, hr⟩, fun _ => by rw [er]⟩
      · subst ew
        exact ⟨l1, n0, by rw [show sRun z (lTx (xs (i + 1))) = z from if_neg hni]; exact hM0, Or.inr ⟨hni, hr.2⟩, fun q => absurd q hni⟩
    obtain ⟨l3, n1, hM1, hc1, hq1⟩ := hC
    obtain ⟨⟨rf3, hS3⟩, ⟨mf3, en3, td3, st3, E3, hZ3⟩, ho3, hlo3, hmu3⟩ := id hM1
    refine lv_istore (lv' := [(5, .int (r5)), (0, .ref b), (1, .ref x), (2, .ref y), (3, .ref o), (4, .int (nI i))]) hx hb dL_law_1222 hl (by decide) rfl (fun ls hl => ?_)
    refine lv_aload_n hx hb dL_law_1224 rfl (lv_at hl 3 rfl) ?_
    refine lv_aload_n hx hb dL_law_1225 rfl (lv_at hl 1 rfl) ?_
    refine lv_iload hx hb dL_law_1226 (lv_at hl 5 rfl) ?_
    refine lv_iconst (v := 1) hx hb dL_law_1228 (by decide) ?_
    refine lv_iadd hx hb dL_law_1229 ?_
    refine g_topi (y := nI (i + 1)) (nI_add i 1) ?_
    refine va_sld hx hb hX hbl hbA hW.2.2.1 (vp_in_nI (show i + 1 < L by omega) (by omega)) dL_law_1230 ?_
    rw [nI_clamp (show i + 1 < 2 ^ 31 by omega)]
    refine g_callq (va_runS (As := [.int ((xs (i + 1)))]) (rest := [.ref y]) ⟨hx, hb, hml, hown, hts⟩ (mtX0_text l D u1 H.size (xs (i + 1))) (va_cwS 1 hts (lw_S q482 q483 q33 q484) rfl rfl rfl (by decide +kernel) ⟨Nat.le_trans (Nat.le_of_ble_eq_true rfl) hRf, Nat.le_trans (Nat.le_of_ble_eq_true rfl) hRl⟩) (g_preS hW hK hE) rfl rfl hl.1 rfl (lv_room (Nat.le_of_ble_eq_true rfl)) dL_law_1231 ⟨?_, ?_⟩) hW (fun r_ u_ H locs hp hW => ?_)
    · (try simp only [headSpec]); omega
    · (try simp only [headSpec]); omega
    obtain ⟨er, rfl⟩ := hp
    subst er
    refine g_calli (va_runV (As := [.ref (D.2 1000 (fMod (xs (i + 1)) 14))]) (rest := []) ⟨hx, hb, hml, hown, hts⟩ (mtX3_edges l D u1 H.size y mf3 l3 z.P z.C z.A z.cov z.K z.fq z.ac z.F z.rn z.tt z.cK en3 td3 st3 E3 th hZ3 (D.2 1000 (fMod (xs (i + 1)) 14)) (lTx (xs (i + 1))) (lit_str (fMod_lt (by decide)))) (cwV 1 hts (lw_V q2171 q2172 q2173 q47 q2174) rfl rfl rfl (by decide +kernel) ⟨Nat.le_trans (Nat.le_of_ble_eq_true rfl) hRf, Nat.le_trans (Nat.le_of_ble_eq_true rfl) hRl⟩) (g_preV hW hK hE hZ3.1 rfl) rfl rfl hl.1 rfl (lv_room (Nat.le_of_ble_eq_true rfl)) dL_law_1234 ⟨?_, ?_⟩) hW (fun r6 u2 H locs hp hW => ?_)
    · (try simp only [headSpec]); omega
    · (try simp only [headSpec]); omega
    have hC : ∃ l4 th2, lMid D u2 l4 x y o (sRun z (lTx (xs (i + 1)))) (sRun z (lTx (xs (i + 1)))) th2 n1 d0 s0v v0 f0 ∧ eR1 (isIn (lTx (xs (i + 1)))) th2 ∧ ((isIn (lTx (xs (i + 1)))) → r6 = nI (fb_ct (bsE (fun _ => false) (mOut z.P (digs (lTx (xs (i + 1))))).2.2.2) 320)) := by
      obtain ⟨er, ⟨en9, td9, st9, E9, hZ9⟩, hz9⟩ := hp
      refine ⟨_, _, hM1.mod hK (z2 := sRun z (lTx (xs (i + 1)))) ⟨mf3, en9, td9, st9, E9, ?_⟩ hz9, thI_e, fun q => ?_⟩
      · by_cases q : isIn (lTx (xs (i + 1)))
        · rw [show sRun z (lTx (xs (i + 1))) = zCp z (bsC (z.cp 9) (mOut z.P (digs (lTx (xs (i + 1))))).2.2.2) from if_pos q]; exact hZ9
        · rw [show sRun z (lTx (xs (i + 1))) = z from if_neg q]; exact hZ9
      · rw [er q, ct_eOk (eOk.es (mOut_edge hP16))]
    obtain ⟨l4, th2, hMM, hc2, hq2⟩ := hC
    have hag : r5 = th2 ∧ True := ⟨hc1.eq hc2, trivial⟩
    obtain ⟨⟨rf4, hS4⟩, ⟨mf4, en4, td4, st4, E4, hZ4⟩, ho4, hlo4, hmu4⟩ := id hMM
    refine lv_istore (lv' := [(6, .int (r6)), (5, .int (r5)), (0, .ref b), (1, .ref x), (2, .ref y), (3, .ref o), (4, .int (nI i))]) hx hb dL_law_1237 hl (by decide) rfl (fun ls hl => ?_)
    refine lv_aload_n hx hb dL_law_1239 rfl (lv_at hl 4 rfl) ?_
    refine g_calli (va_runV (As := []) (rest := []) ⟨hx, hb, hml, hown, hts⟩ (mtX3_thrown l D u2 H.size y mf4 l4 (sRun z (lTx (xs (i + 1)))).P (sRun z (lTx (xs (i + 1)))).C (sRun z (lTx (xs (i + 1)))).A (sRun z (lTx (xs (i + 1)))).cov (sRun z (lTx (xs (i + 1)))).K (sRun z (lTx (xs (i + 1)))).fq (sRun z (lTx (xs (i + 1)))).ac (sRun z (lTx (xs (i + 1)))).F (sRun z (lTx (xs (i + 1)))).rn (sRun z (lTx (xs (i + 1)))).tt (sRun z (lTx (xs (i + 1)))).cK en4 td4 st4 E4 th2 hZ4) (cwV 0 hts (lw_V q1970 q1971 q1972 q47 q1973) rfl rfl rfl (by decide +kernel) ⟨Nat.le_trans (Nat.le_of_ble_eq_true rfl) hRf, Nat.le_trans (Nat.le_of_ble_eq_true rfl) hRl⟩) (g_preV hW hK hE hZ4.1 rfl) rfl rfl hl.1 rfl (lv_room (Nat.le_of_ble_eq_true rfl)) dL_law_1240 ⟨?_, ?_⟩) hW (fun r_ u_ H locs hp hW => ?_)
    · (try simp only [headSpec]); omega
    · (try simp only [headSpec]); omega
    obtain ⟨er, rfl⟩ := hp
    rw [er]
    refine lv_iload hx hb dL_law_1243 (lv_at hl 1 rfl) ?_
    refine lv_icmp_eq (tgt := 1250) hx hb dL_law_1245 (by decide) (fun _ => ?_) (fun hz => absurd hag.1.symm hz)
    refine lv_iload hx hb dL_law_1250 (lv_at hl 1 rfl) ?_
    refine lv_if_ne (tgt := 1268) hx hb dL_law_1252 (by decide) (fun hz5 => ?_) (fun hz5 => ?_)
    · refine lv_goto (tgt := 1835) hx hb dL_law_1268 (by decide) ?_
      exact kk _ _ _ _ _ H locs ls hMM.lR (by (try simp only [headSpec]); omega) (by (try simp only [headSpec]); omega) hW (lv_sub hl [2, 3, 4, 5, 6] rfl)
    · have h50 : r5 = 0 := by first | exact hz5 | exact Classical.not_not.mp hz5
      have hcd := hc1.zero h50
      have hn1 : n1 = r6.toInt64 := by rw [hq1 hcd, hq2 hcd]
      refine lv_aload_n hx hb dL_law_1255 rfl (lv_at hl 5 rfl) ?_
      refine g_getN (ci := 9) (v := .long (n1)) (C := RX4) (T := TX4) (N := 5) hx hb hts in_X4 hown hK hW ho4 rfl 0 (by decide) (nf_q466 hE) (fun _ h9 => h9) rfl dL_law_1256 ?_
      refine lv_iload hx hb dL_law_1259 (lv_at hl 0 rfl) ?_
      refine lv_i2l (v := (r6 : Int32).toInt64) hx hb dL_law_1261 rfl ?_
      refine W.lcmp hx hb dL_law_1262 ?_
      refine g_topi (y := 0) (by rw [hn1]; exact lcmp_self) ?_
      refine lv_if_eq (tgt := 1268) hx hb dL_law_1263 (by decide) (fun _ => ?_) (fun hz => absurd rfl hz)
      refine lv_goto (tgt := 1835) hx hb dL_law_1268 (by decide) ?_
      exact kk _ _ _ _ _ H locs ls hMM.lR (by (try simp only [headSpec]); omega) (by (try simp only [headSpec]); omega) hW (lv_sub hl [2, 3, 4, 5, 6] rfl)
set_option maxHeartbeats 4000000 in
set_option maxRecDepth 100000 in
/-- the law: code -/
theorem lw_18 {p : Program} {l : Launch} {e : Env} {R : Room} {s : State} {m : MethodId} {args : Array Value} {below : List Frame} {meth : Method} {c : Code} {Q : State → Prop} {D : va_G} {A : Nat → Prop} (hx : p.tables.exec = Jvm.exec) (hb : c.code = cL_law) (hts : ∀ w ∈ lw_all, w.before args s = true) (hown : s.vm.findClass RX0 = some m.cls) (hK : va_K D gCl (gT D) s) (hE : g_Env D A s) (hml : c.maxLocals = 8) (hRf : 13 ≤ R.frames) (hRl : 258 ≤ R.locals) (hl9 : l.stackTraces = false) (b L : Nat) (xs : Nat → Int32) (hX : va_X b L xs s s.heap) (hbl : b < s.heap.size) (hbA : ¬ A b) (x y o i : Nat) (hi : i + 5 ≤ L) (hL : L ≤ 320) (z : yW) (hv : yV z) (hrn : z.rn ≤ 40 * i) (c0 s0 : Nat) (hRc : c0 + (4 + ((bsC (z.cp 9) (mOut z.P (digs (lTx (xs (i + 1))))).2.2.2) - z.cp 9)) ≤ R.cells) (hRs : s0 + (22 + 2 * ((bsC (z.cp 9) (mOut z.P (digs (lTx (xs (i + 1))))).2.2.2) - z.cp 9)) ≤ R.slots)
    (kk : ∀ (w2 : g_H) (l2 : Nat → Nat) (th2 : Int32) (cells slots : Nat) (H : Heap) (locs : List Loc) (ls : Array Slot), lR D w2 l2 x y o (sRun z (lTx (xs (i + 1)))) th2 → cells ≤ c0 + (4 + ((bsC (z.cp 9) (mOut z.P (digs (lTx (xs (i + 1))))).2.2.2) - z.cp 9)) → slots ≤ s0 + (22 + 2 * ((bsC (z.cp 9) (mOut z.P (digs (lTx (xs (i + 1))))).2.2.2) - z.cp 9)) → g_W D A s.heap H locs w2 → lv_has ls 8 [(0, .ref b), (1, .ref x), (2, .ref y), (3, .ref o), (4, .int (nI i))] → W p l e R s m args below meth c H locs cells slots Q (F0 m 1835 ls [])) :
    ∀ (k : Nat) (w1 : g_H) (l1 : Nat → Nat) (th : Int32) (cells : Nat) (slots : Nat) (H : Heap) (locs : List Loc) (ls : Array Slot), 0 < k → lR D w1 l1 x y o z th → cells ≤ c0 → slots ≤ s0 → g_W D A s.heap H locs w1 → lv_has ls 8 [(0, .ref b), (1, .ref x), (2, .ref y), (3, .ref o), (4, .int (nI i))] → W p l e R s m args below meth c H locs cells slots Q (F0 m 1082 ls []) := by
  intro k
  induction k with
  | zero => intro w1 l1 th cells slots H locs ls hfuel hR hcl hsl hW hl; exact absurd hfuel (by omega)
  | succ k ih =>
    intro w1 l1 th cells slots H locs ls hfuel hR hcl hsl hW hl
    obtain ⟨n0, d0, s0v, v0, f0, hM0⟩ := hR.mid
    obtain ⟨⟨rf, hS⟩, ⟨mf, en, td, st, E, hZ⟩, ho, hlo, hmu⟩ := id hM0
    obtain ⟨hvA, hcv, hKd, hcK, hYI, ⟨hfq, hac, hP16, hC8⟩, hCd, hcp3, hfI, hrn0⟩ := id hv
    have hF16 := hfI.lt hP16
    have hK3 := hYI.q.2.2
    have htt := hYI.2.2.2
    have hdl : (z.K.drop z.fq).length = z.K.length - z.fq := List.length_drop
    refine lv_aload_n hx hb dL_law_1082 rfl (lv_at hl 1 rfl) ?_
    refine lv_aload_n hx hb dL_law_1083 rfl (lv_at hl 0 rfl) ?_
    refine lv_iload hx hb dL_law_1084 (lv_at hl 4 rfl) ?_
    refine lv_iconst (v := 1) hx hb dL_law_1086 (by decide) ?_
    refine lv_iadd hx hb dL_law_1087 ?_
    refine g_topi (y := nI (i + 1)) (nI_add i 1) ?_
    refine va_sld hx hb hX hbl hbA hW.2.2.1 (vp_in_nI (show i + 1 < L by omega) (by omega)) dL_law_1088 ?_
    rw [nI_clamp (show i + 1 < 2 ^ 31 by omega)]
    refine g_callq (va_runS (As := [.int ((xs (i + 1)))]) (rest := [.ref x]) ⟨hx, hb, hml, hown, hts⟩ (mtX0_text l D w1 H.size (xs (i + 1))) (va_cwS 1 hts (lw_S q482 q483 q33 q484) rfl rfl rfl (by decide +kernel) ⟨Nat.le_trans (Nat.le_of_ble_eq_true rfl) hRf, Nat.le_trans (Nat.le_of_ble_eq_true rfl) hRl⟩) (g_preS hW hK hE) rfl rfl hl.1 rfl (lv_room (Nat.le_of_ble_eq_true rfl)) dL_law_1089 ⟨?_, ?_⟩) hW (fun r_ u_ H locs hp hW => ?_)
    · (try simp only [headSpec]); omega
    · (try simp only [headSpec]); omega
    obtain ⟨er, rfl⟩ := hp
    subst er
    refine lv_aload_n hx hb dL_law_1092 rfl (lv_at hl 3 rfl) ?_
    refine g_calli (vx_runSW (hh := [(0, 10, 13, 110), (0, 10, 16, 112)]) (As := [.ref x, .ref (D.2 1000 (fMod (xs (i + 1)) 14)), .ref o]) (rest := []) ⟨hx, hb, hml, hown, hts⟩ (mtX0_code l D w1 H.size hl9 l1 x z.ac z.rn z.tt rf z.P z.C z.A z.cov z.K (z.K.drop z.fq) z.F z.cp hS (D.2 1000 (fMod (xs (i + 1)) 14)) (lTx (xs (i + 1))) (lit_str (fMod_lt (by decide))) o n0 d0 s0v v0 f0 ho (fun r1 u1 hp => by obtain ⟨-, -, l9, -, hy9⟩ := hp; exact (l_oC ho hlo hy9).1)) (vx_cwSW 3 hts (lw_SW q1761 q1762 q33 q1763) rfl rfl rfl (by decide +kernel) ⟨Nat.le_trans (Nat.le_of_ble_eq_true rfl) hRf, Nat.le_trans (Nat.le_of_ble_eq_true rfl) hRl⟩) (g_preS hW hK hE) rfl rfl hl.1 rfl (lv_room (Nat.le_of_ble_eq_true rfl)) dL_law_1093 ⟨?_, ?_⟩) hW (fun r5 u1 H locs hp hW => ?_)
    · (try simp only [headSpec]); omega
    · (try simp only [headSpec]); omega
    have hC : ∃ l3 n1, lMid D u1 l3 x y o (sRun z (lTx (xs (i + 1)))) z th n1 d0 s0v v0 f0 ∧ eR2 (isIn (lTx (xs (i + 1)))) ((mOut z.P (digs (lTx (xs (i + 1))))).1 = 1) r5 ∧ ((isIn (lTx (xs (i + 1))) ∧ (mOut z.P (digs (lTx (xs (i + 1))))).1 = 1) → n1 = (mCode z.P (digs (lTx (xs (i + 1)))) : Int32).toInt64) := by
      rcases hp with ⟨r1, u2, ⟨hin, er, l3, hS2, hy⟩, e, hr⟩ | ⟨E1, ⟨hE, hni, ew⟩ | ⟨hE, hin, hno, l3, hS2, hy⟩, hr⟩
      · exact ⟨_, _, by rw [show sRun z (lTx (xs (i + 1))) = zCp z (bsC (z.cp 9) (mOut z.P (digs (lTx (xs (i + 1))))).2.2.2) from if_pos hin.1]; exact (hM0.cls hK (z2 := zCp z (bsC (z.cp 9) (mOut z.P (digs (lTx (xs (i + 1))))).2.2.2)) ⟨rf, hS2⟩ hy).put e, Or.inl ⟨hin, hr⟩, fun _ => by rw [er]⟩
      · subst ew
        exact ⟨l1, n0, by rw [show sRun z (lTx (xs (i + 1))) = z from if_neg hni]; exact hM0, Or.inr (Or.inl ⟨hni, by rcases hr with h | h; exact h.2; exact absurd (hE.symm.trans h.1) (by decide)⟩), fun q => absurd q.1 hni⟩
      · exact ⟨_, n0, by rw [show sRun z (lTx (xs (i + 1))) = zCp z (bsC (z.cp 9) (mOut z.P (digs (lTx (xs (i + 1))))).2.2.2) from if_pos hin]; exact hM0.cls hK (z2 := zCp z (bsC (z.cp 9) (mOut z.P (digs (lTx (xs (i + 1))))).2.2.2)) ⟨rf, hS2⟩ hy, Or.inr (Or.inr ⟨⟨hin, hno⟩, by rcases hr with h | h; exact absurd (hE.symm.trans h.1) (by decide); exact h.2⟩), fun q => absurd q.2 hno⟩
    obtain ⟨l3, n1, hM1, hc1, hq1⟩ := hC
    obtain ⟨⟨rf3, hS3⟩, ⟨mf3, en3, td3, st3, E3, hZ3⟩, ho3, hlo3, hmu3⟩ := id hM1
    refine lv_istore (lv' := [(5, .int (r5)), (0, .ref b), (1, .ref x), (2, .ref y), (3, .ref o), (4, .int (nI i))]) hx hb dL_law_1096 hl (by decide) rfl (fun ls hl => ?_)
    refine lv_aload_n hx hb dL_law_1098 rfl (lv_at hl 3 rfl) ?_
    refine lv_aload_n hx hb dL_law_1099 rfl (lv_at hl 1 rfl) ?_
    refine lv_iload hx hb dL_law_1100 (lv_at hl 5 rfl) ?_
    refine lv_iconst (v := 1) hx hb dL_law_1102 (by decide) ?_
    refine lv_iadd hx hb dL_law_1103 ?_
    refine g_topi (y := nI (i + 1)) (nI_add i 1) ?_
    refine va_sld hx hb hX hbl hbA hW.2.2.1 (vp_in_nI (show i + 1 < L by omega) (by omega)) dL_law_1104 ?_
    rw [nI_clamp (show i + 1 < 2 ^ 31 by omega)]
    refine g_callq (va_runS (As := [.int ((xs (i + 1)))]) (rest := [.ref y]) ⟨hx, hb, hml, hown, hts⟩ (mtX0_text l D u1 H.size (xs (i + 1))) (va_cwS 1 hts (lw_S q482 q483 q33 q484) rfl rfl rfl (by decide +kernel) ⟨Nat.le_trans (Nat.le_of_ble_eq_true rfl) hRf, Nat.le_trans (Nat.le_of_ble_eq_true rfl) hRl⟩) (g_preS hW hK hE) rfl rfl hl.1 rfl (lv_room (Nat.le_of_ble_eq_true rfl)) dL_law_1105 ⟨?_, ?_⟩) hW (fun r_ u_ H locs hp hW => ?_)
    · (try simp only [headSpec]); omega
    · (try simp only [headSpec]); omega
    obtain ⟨er, rfl⟩ := hp
    subst er
    refine g_calli (va_runV (As := [.ref (D.2 1000 (fMod (xs (i + 1)) 14))]) (rest := []) ⟨hx, hb, hml, hown, hts⟩ (mtX3_code l D u1 H.size y mf3 l3 z.P z.C z.A z.cov z.K z.fq z.ac z.F z.rn z.tt z.cK en3 td3 st3 E3 th hZ3 (D.2 1000 (fMod (xs (i + 1)) 14)) (lTx (xs (i + 1))) (lit_str (fMod_lt (by decide)))) (cwV 1 hts (lw_V q2159 q2160 q2161 q47 q2162) rfl rfl rfl (by decide +kernel) ⟨Nat.le_trans (Nat.le_of_ble_eq_true rfl) hRf, Nat.le_trans (Nat.le_of_ble_eq_true rfl) hRl⟩) (g_preV hW hK hE hZ3.1 rfl) rfl rfl hl.1 rfl (lv_room (Nat.le_of_ble_eq_true rfl)) dL_law_1108 ⟨?_, ?_⟩) hW (fun r6 u2 H locs hp hW => ?_)
    · (try simp only [headSpec]); omega
    · (try simp only [headSpec]); omega
    have hC : ∃ l4 th2, lMid D u2 l4 x y o (sRun z (lTx (xs (i + 1)))) (sRun z (lTx (xs (i + 1)))) th2 n1 d0 s0v v0 f0 ∧ eR2 (isIn (lTx (xs (i + 1)))) ((mOut z.P (digs (lTx (xs (i + 1))))).1 = 1) th2 ∧ ((isIn (lTx (xs (i + 1))) ∧ (mOut z.P (digs (lTx (xs (i + 1))))).1 = 1) → r6 = mCode z.P (digs (lTx (xs (i + 1))))) := by
      obtain ⟨er, ⟨en9, td9, st9, E9, hZ9⟩, hz9⟩ := hp
      refine ⟨_, _, hM1.mod hK (z2 := sRun z (lTx (xs (i + 1)))) ⟨mf3, en9, td9, st9, E9, ?_⟩ hz9, thF_e, fun q => er ⟨inB_iff.mpr q.1, q.2⟩⟩
      by_cases hin : isIn (lTx (xs (i + 1)))
      · rw [show sRun z (lTx (xs (i + 1))) = zCp z (bsC (z.cp 9) (mOut z.P (digs (lTx (xs (i + 1))))).2.2.2) from if_pos hin]; exact hZ9
      · rw [show sRun z (lTx (xs (i + 1))) = z from if_neg hin]; exact hZ9
    obtain ⟨l4, th2, hMM, hc2, hq2⟩ := hC
    have hag : r5 = th2 ∧ True := ⟨hc1.eq hc2, trivial⟩
    obtain ⟨⟨rf4, hS4⟩, ⟨mf4, en4, td4, st4, E4, hZ4⟩, ho4, hlo4, hmu4⟩ := id hMM
    refine lv_istore (lv' := [(6, .int (r6)), (5, .int (r5)), (0, .ref b), (1, .ref x), (2, .ref y), (3, .ref o), (4, .int (nI i))]) hx hb dL_law_1111 hl (by decide) rfl (fun ls hl => ?_)
    refine lv_aload_n hx hb dL_law_1113 rfl (lv_at hl 4 rfl) ?_
    refine g_calli (va_runV (As := []) (rest := []) ⟨hx, hb, hml, hown, hts⟩ (mtX3_thrown l D u2 H.size y mf4 l4 (sRun z (lTx (xs (i + 1)))).P (sRun z (lTx (xs (i + 1)))).C (sRun z (lTx (xs (i + 1)))).A (sRun z (lTx (xs (i + 1)))).cov (sRun z (lTx (xs (i + 1)))).K (sRun z (lTx (xs (i + 1)))).fq (sRun z (lTx (xs (i + 1)))).ac (sRun z (lTx (xs (i + 1)))).F (sRun z (lTx (xs (i + 1)))).rn (sRun z (lTx (xs (i + 1)))).tt (sRun z (lTx (xs (i + 1)))).cK en4 td4 st4 E4 th2 hZ4) (cwV 0 hts (lw_V q1970 q1971 q1972 q47 q1973) rfl rfl rfl (by decide +kernel) ⟨Nat.le_trans (Nat.le_of_ble_eq_true rfl) hRf, Nat.le_trans (Nat.le_of_ble_eq_true rfl) hRl⟩) (g_preV hW hK hE hZ4.1 rfl) rfl rfl hl.1 rfl (lv_room (Nat.le_of_ble_eq_true rfl)) dL_law_1114 ⟨?_, ?_⟩) hW (fun r_ u_ H locs hp hW => ?_)
    · (try simp only [headSpec]); omega
    · (try simp only [headSpec]); omega
    obtain ⟨er, rfl⟩ := hp
    rw [er]
    refine lv_iload hx hb dL_law_1117 (lv_at hl 1 rfl) ?_
    refine lv_icmp_eq (tgt := 1124) hx hb dL_law_1119 (by decide) (fun _ => ?_) (fun hz => absurd hag.1.symm hz)
    refine lv_iload hx hb dL_law_1124 (lv_at hl 1 rfl) ?_
    refine lv_if_ne (tgt := 1142) hx hb dL_law_1126 (by decide) (fun hz5 => ?_) (fun hz5 => ?_)
    · refine lv_goto (tgt := 1835) hx hb dL_law_1142 (by decide) ?_
      exact kk _ _ _ _ _ H locs ls hMM.lR (by (try simp only [headSpec]); omega) (by (try simp only [headSpec]); omega) hW (lv_sub hl [2, 3, 4, 5, 6] rfl)
    · have h50 : r5 = 0 := by first | exact hz5 | exact Classical.not_not.mp hz5
      have hcd := hc1.zero h50
      have hn1 : n1 = r6.toInt64 := by rw [hq1 hcd, hq2 hcd]
      refine lv_aload_n hx hb dL_law_1129 rfl (lv_at hl 5 rfl) ?_
      refine g_getN (ci := 9) (v := .long (n1)) (C := RX4) (T := TX4) (N := 5) hx hb hts in_X4 hown hK hW ho4 rfl 0 (by decide) (nf_q466 hE) (fun _ h9 => h9) rfl dL_law_1130 ?_
      refine lv_iload hx hb dL_law_1133 (lv_at hl 0 rfl) ?_
      refine lv_i2l (v := (r6 : Int32).toInt64) hx hb dL_law_1135 rfl ?_
      refine W.lcmp hx hb dL_law_1136 ?_
      refine g_topi (y := 0) (by rw [hn1]; exact lcmp_self) ?_
      refine lv_if_eq (tgt := 1142) hx hb dL_law_1137 (by decide) (fun _ => ?_) (fun hz => absurd rfl hz)
      refine lv_goto (tgt := 1835) hx hb dL_law_1142 (by decide) ?_
      exact kk _ _ _ _ _ H locs ls hMM.lR (by (try simp only [headSpec]); omega) (by (try simp only [headSpec]); omega) hW (lv_sub hl [2, 3, 4, 5, 6] rfl)
set_option maxHeartbeats 4000000 in
set_option maxRecDepth 100000 in
/-- the law: failingReductions -/
theorem lw_23 {p : Program} {l : Launch} {e : Env} {R : Room} {s : State} {m : MethodId} {args : Array Value} {below : List Frame} {meth : Method} {c : Code} {Q : State → Prop} {D : va_G} {A : Nat → Prop} (hx : p.tables.exec = Jvm.exec) (hb : c.code = cL_law) (hts : ∀ w ∈ lw_all, w.before args s = true) (hown : s.vm.findClass RX0 = some m.cls) (hK : va_K D gCl (gT D) s) (hE : g_Env D A s) (hml : c.maxLocals = 8) (hRf : 13 ≤ R.frames) (hRl : 263 ≤ R.locals) (hl9 : l.stackTraces = false) (b L : Nat) (xs : Nat → Int32) (hX : va_X b L xs s s.heap) (hbl : b < s.heap.size) (hbA : ¬ A b) (x y o i : Nat) (hi : i + 5 ≤ L) (hL : L ≤ 320) (z : yW) (hv : yV z) (hrn : z.rn ≤ 40 * i) (c0 s0 : Nat) (hRc : c0 + (6 + (rFold z.P (frC (digs (lTx (xs (i + 1)))) 0) (bsC (z.cp 9) (mOut z.P (digs (lTx (xs (i + 1))))).2.2.2) - z.cp 9) + 4 * frN z.P (lTx (xs (i + 1)))) ≤ R.cells) (hRs : s0 + (32 + 2 * (rFold z.P (frC (digs (lTx (xs (i + 1)))) 0) (bsC (z.cp 9) (mOut z.P (digs (lTx (xs (i + 1))))).2.2.2) - z.cp 9) + 32 * frN z.P (lTx (xs (i + 1)))) ≤ R.slots)
    (kk : ∀ (w2 : g_H) (l2 : Nat → Nat) (th2 : Int32) (cells slots : Nat) (H : Heap) (locs : List Loc) (ls : Array Slot), lR D w2 l2 x y o (sFr z (lTx (xs (i + 1)))) th2 → cells ≤ c0 + (6 + (rFold z.P (frC (digs (lTx (xs (i + 1)))) 0) (bsC (z.cp 9) (mOut z.P (digs (lTx (xs (i + 1))))).2.2.2) - z.cp 9) + 4 * frN z.P (lTx (xs (i + 1)))) → slots ≤ s0 + (32 + 2 * (rFold z.P (frC (digs (lTx (xs (i + 1)))) 0) (bsC (z.cp 9) (mOut z.P (digs (lTx (xs (i + 1))))).2.2.2) - z.cp 9) + 32 * frN z.P (lTx (xs (i + 1)))) → g_W D A s.heap H locs w2 → lv_has ls 8 [(0, .ref b), (1, .ref x), (2, .ref y), (3, .ref o), (4, .int (nI i))] → W p l e R s m args below meth c H locs cells slots Q (F0 m 1835 ls [])) :
    ∀ (k : Nat) (w1 : g_H) (l1 : Nat → Nat) (th : Int32) (cells : Nat) (slots : Nat) (H : Heap) (locs : List Loc) (ls : Array Slot), 0 < k → lR D w1 l1 x y o z th → cells ≤ c0 → slots ≤ s0 → g_W D A s.heap H locs w1 → lv_has ls 8 [(0, .ref b), (1, .ref x), (2, .ref y), (3, .ref o), (4, .int (nI i))] → W p l e R s m args below meth c H locs cells slots Q (F0 m 1441 ls []) := by
  intro k
  induction k with
  | zero => intro w1 l1 th cells slots H locs ls hfuel hR hcl hsl hW hl; exact absurd hfuel (by omega)
  | succ k ih =>
    intro w1 l1 th cells slots H locs ls hfuel hR hcl hsl hW hl
    obtain ⟨n0, d0, s0v, v0, f0, hM0⟩ := hR.mid
    obtain ⟨⟨rf, hS⟩, ⟨mf, en, td, st, E, hZ⟩, ho, hlo, hmu⟩ := id hM0
    obtain ⟨hvA, hcv, hKd, hcK, hYI, ⟨hfq, hac, hP16, hC8⟩, hCd, hcp3, hfI, hrn0⟩ := id hv
    have hF16 := hfI.lt hP16
    have hK3 := hYI.q.2.2
    have htt := hYI.2.2.2
    have hdl : (z.K.drop z.fq).length = z.K.length - z.fq := List.length_drop
    refine lv_aload_n hx hb dL_law_1441 rfl (lv_at hl 1 rfl) ?_
    refine lv_aload_n hx hb dL_law_1442 rfl (lv_at hl 0 rfl) ?_
    refine lv_iload hx hb dL_law_1443 (lv_at hl 4 rfl) ?_
    refine lv_iconst (v := 1) hx hb dL_law_1445 (by decide) ?_
    refine lv_iadd hx hb dL_law_1446 ?_
    refine g_topi (y := nI (i + 1)) (nI_add i 1) ?_
    refine va_sld hx hb hX hbl hbA hW.2.2.1 (vp_in_nI (show i + 1 < L by omega) (by omega)) dL_law_1447 ?_
    rw [nI_clamp (show i + 1 < 2 ^ 31 by omega)]
    refine g_callq (va_runS (As := [.int ((xs (i + 1)))]) (rest := [.ref x]) ⟨hx, hb, hml, hown, hts⟩ (mtX0_text l D w1 H.size (xs (i + 1))) (va_cwS 1 hts (lw_S q482 q483 q33 q484) rfl rfl rfl (by decide +kernel) ⟨Nat.le_trans (Nat.le_of_ble_eq_true rfl) hRf, Nat.le_trans (Nat.le_of_ble_eq_true rfl) hRl⟩) (g_preS hW hK hE) rfl rfl hl.1 rfl (lv_room (Nat.le_of_ble_eq_true rfl)) dL_law_1448 ⟨?_, ?_⟩) hW (fun r_ u_ H locs hp hW => ?_)
    · (try simp only [headSpec]); omega
    · (try simp only [headSpec]); omega
    obtain ⟨er, rfl⟩ := hp
    subst er
    refine lv_aload_n hx hb dL_law_1451 rfl (lv_at hl 3 rfl) ?_
    refine g_calli (vx_runSW (hh := [(0, 10, 13, 110), (0, 10, 16, 112)]) (As := [.ref x, .ref (D.2 1000 (fMod (xs (i + 1)) 14)), .ref o]) (rest := []) ⟨hx, hb, hml, hown, hts⟩ (mtX0_failingReductions l D w1 H.size hl9 l1 x z.ac z.rn z.tt rf z.P z.C z.A z.cov z.K (z.K.drop z.fq) z.F z.cp hS (D.2 1000 (fMod (xs (i + 1)) 14)) (lTx (xs (i + 1))) (lit_str (fMod_lt (by decide))) o n0 d0 s0v v0 f0 ho (fun r1 u1 hp => by obtain ⟨-, -, l9, -, hy9⟩ := hp; exact (l_oC ho hlo hy9).1)) (vx_cwSW 3 hts (lw_SW q1800 q1801 q33 q1802) rfl rfl rfl (by decide +kernel) ⟨Nat.le_trans (Nat.le_of_ble_eq_true rfl) hRf, Nat.le_trans (Nat.le_of_ble_eq_true rfl) hRl⟩) (g_preS hW hK hE) rfl rfl hl.1 rfl (lv_room (Nat.le_of_ble_eq_true rfl)) dL_law_1452 ⟨?_, ?_⟩) hW (fun r5 u1 H locs hp hW => ?_)
    · (try simp only [headSpec]); omega
    · (try simp only [headSpec]); omega
    have hC : ∃ l3 n1, lMid D u1 l3 x y o (sFr z (lTx (xs (i + 1)))) z th n1 d0 s0v v0 f0 ∧ eR2 (isIn (lTx (xs (i + 1)))) ((mOut z.P (digs (lTx (xs (i + 1))))).1 = 1) r5 ∧ ((isIn (lTx (xs (i + 1))) ∧ (mOut z.P (digs (lTx (xs (i + 1))))).1 = 1) → n1 = (nI (cFail z.P (mCode z.P (digs (lTx (xs (i + 1))))) (frC (digs (lTx (xs (i + 1)))) 0)) : Int32).toInt64) := by
      rcases hp with ⟨r1, u2, ⟨hin, er, l3, hS2, hy⟩, e, hr⟩ | ⟨E1, ⟨hE, hni, ew⟩ | ⟨hE, hin, hno, l3, hS2, hy⟩, hr⟩
      · exact ⟨_, _, by rw [show sFr z (lTx (xs (i + 1))) = zCp z (rFold z.P (frC (digs (lTx (xs (i + 1)))) 0) (bsC (z.cp 9) (mOut z.P (digs (lTx (xs (i + 1))))).2.2.2)) from (if_pos hin.1).trans (if_pos hin.2)]; exact (hM0.cls hK (z2 := zCp z (rFold z.P (frC (digs (lTx (xs (i + 1)))) 0) (bsC (z.cp 9) (mOut z.P (digs (lTx (xs (i + 1))))).2.2.2))) ⟨rf, hS2⟩ hy).put e, Or.inl ⟨hin, hr⟩, fun _ => by rw [er]⟩
      · subst ew
        exact ⟨l1, n0, by rw [show sFr z (lTx (xs (i + 1))) = z from if_neg hni]; exact hM0, Or.inr (Or.inl ⟨hni, by rcases hr with h | h; exact h.2; exact absurd (hE.symm.trans h.1) (by decide)⟩), fun q => absurd q.1 hni⟩
      · exact ⟨_, n0, by rw [show sFr z (lTx (xs (i + 1))) = zCp z (bsC (z.cp 9) (mOut z.P (digs (lTx (xs (i + 1))))).2.2.2) from (if_pos hin).trans (if_neg hno)]; exact hM0.cls hK (z2 := zCp z (bsC (z.cp 9) (mOut z.P (digs (lTx (xs (i + 1))))).2.2.2)) ⟨rf, hS2⟩ hy, Or.inr (Or.inr ⟨⟨hin, hno⟩, by rcases hr with h | h; exact absurd (hE.symm.trans h.1) (by decide); exact h.2⟩), fun q => absurd q.2 hno⟩
    obtain ⟨l3, n1, hM1, hc1, hq1⟩ := hC
    obtain ⟨⟨rf3, hS3⟩, ⟨mf3, en3, td3, st3, E3, hZ3⟩, ho3, hlo3, hmu3⟩ := id hM1
    refine lv_istore (lv' := [(5, .int (r5)), (0, .ref b), (1, .ref x), (2, .ref y), (3, .ref o), (4, .int (nI i))]) hx hb dL_law_1455 hl (by decide) rfl (fun ls hl => ?_)
    refine lv_aload_n hx hb dL_law_1457 rfl (lv_at hl 3 rfl) ?_
    refine lv_aload_n hx hb dL_law_1458 rfl (lv_at hl 1 rfl) ?_
    refine lv_iload hx hb dL_law_1459 (lv_at hl 5 rfl) ?_
    refine lv_iconst (v := 1) hx hb dL_law_1461 (by decide) ?_
    refine lv_iadd hx hb dL_law_1462 ?_
    refine g_topi (y := nI (i + 1)) (nI_add i 1) ?_
    refine va_sld hx hb hX hbl hbA hW.2.2.1 (vp_in_nI (show i + 1 < L by omega) (by omega)) dL_law_1463 ?_
    rw [nI_clamp (show i + 1 < 2 ^ 31 by omega)]
    refine g_callq (va_runS (As := [.int ((xs (i + 1)))]) (rest := [.ref y]) ⟨hx, hb, hml, hown, hts⟩ (mtX0_text l D u1 H.size (xs (i + 1))) (va_cwS 1 hts (lw_S q482 q483 q33 q484) rfl rfl rfl (by decide +kernel) ⟨Nat.le_trans (Nat.le_of_ble_eq_true rfl) hRf, Nat.le_trans (Nat.le_of_ble_eq_true rfl) hRl⟩) (g_preS hW hK hE) rfl rfl hl.1 rfl (lv_room (Nat.le_of_ble_eq_true rfl)) dL_law_1464 ⟨?_, ?_⟩) hW (fun r_ u_ H locs hp hW => ?_)
    · (try simp only [headSpec]); omega
    · (try simp only [headSpec]); omega
    obtain ⟨er, rfl⟩ := hp
    subst er
    refine g_calli (va_runV (As := [.ref (D.2 1000 (fMod (xs (i + 1)) 14))]) (rest := []) ⟨hx, hb, hml, hown, hts⟩ (mtX3_failingReductions l D u1 H.size y mf3 l3 z.P z.C z.A z.cov z.K z.fq z.ac z.F z.rn z.tt z.cK en3 td3 st3 E3 th hZ3 (D.2 1000 (fMod (xs (i + 1)) 14)) (lTx (xs (i + 1))) (lit_str (fMod_lt (by decide)))) (cwV 1 hts (lw_V q2183 q2184 q2185 q47 q2186) rfl rfl rfl (by decide +kernel) ⟨Nat.le_trans (Nat.le_of_ble_eq_true rfl) hRf, Nat.le_trans (Nat.le_of_ble_eq_true rfl) hRl⟩) (g_preV hW hK hE hZ3.1 rfl) rfl rfl hl.1 rfl (lv_room (Nat.le_of_ble_eq_true rfl)) dL_law_1467 ⟨?_, ?_⟩) hW (fun r6 u2 H locs hp hW => ?_)
    · (try simp only [headSpec]); omega
    · (try simp only [headSpec]); omega
    have hC : ∃ l4 th2, lMid D u2 l4 x y o (sFr z (lTx (xs (i + 1)))) (sFr z (lTx (xs (i + 1)))) th2 n1 d0 s0v v0 f0 ∧ eR2 (isIn (lTx (xs (i + 1)))) ((mOut z.P (digs (lTx (xs (i + 1))))).1 = 1) th2 ∧ ((isIn (lTx (xs (i + 1))) ∧ (mOut z.P (digs (lTx (xs (i + 1))))).1 = 1) → r6 = nI (cFail z.P (mCode z.P (digs (lTx (xs (i + 1))))) (frC (digs (lTx (xs (i + 1)))) 0))) := by
      obtain ⟨er, ⟨en9, td9, st9, E9, hZ9⟩, hz9⟩ := hp
      refine ⟨_, _, hM1.mod hK (z2 := sFr z (lTx (xs (i + 1)))) ⟨mf3, en9, td9, st9, E9, ?_⟩ hz9, thF_e, fun q => er ⟨inB_iff.mpr q.1, q.2⟩⟩
      by_cases hin : isIn (lTx (xs (i + 1)))
      · by_cases hno : (mOut z.P (digs (lTx (xs (i + 1))))).1 = 1
        · rw [show sFr z (lTx (xs (i + 1))) = zCp z (rFold z.P (frC (digs (lTx (xs (i + 1)))) 0) (bsC (z.cp 9) (mOut z.P (digs (lTx (xs (i + 1))))).2.2.2)) from (if_pos hin).trans (if_pos hno)]; exact hZ9
        · rw [show sFr z (lTx (xs (i + 1))) = zCp z (bsC (z.cp 9) (mOut z.P (digs (lTx (xs (i + 1))))).2.2.2) from (if_pos hin).trans (if_neg hno)]; exact hZ9
      · rw [show sFr z (lTx (xs (i + 1))) = z from if_neg hin]; exact hZ9
    obtain ⟨l4, th2, hMM, hc2, hq2⟩ := hC
    have hag : r5 = th2 ∧ True := ⟨hc1.eq hc2, trivial⟩
    obtain ⟨⟨rf4, hS4⟩, ⟨mf4, en4, td4, st4, E4, hZ4⟩, ho4, hlo4, hmu4⟩ := id hMM
    refine lv_istore (lv' := [(6, .int (r6)), (5, .int (r5)), (0, .ref b), (1, .ref x), (2, .ref y), (3, .ref o), (4, .int (nI i))]) hx hb dL_law_1470 hl (by decide) rfl (fun ls hl => ?_)
    refine lv_aload_n hx hb dL_law_1472 rfl (lv_at hl 4 rfl) ?_
    refine g_calli (va_runV (As := []) (rest := []) ⟨hx, hb, hml, hown, hts⟩ (mtX3_thrown l D u2 H.size y mf4 l4 (sFr z (lTx (xs (i + 1)))).P (sFr z (lTx (xs (i + 1)))).C (sFr z (lTx (xs (i + 1)))).A (sFr z (lTx (xs (i + 1)))).cov (sFr z (lTx (xs (i + 1)))).K (sFr z (lTx (xs (i + 1)))).fq (sFr z (lTx (xs (i + 1)))).ac (sFr z (lTx (xs (i + 1)))).F (sFr z (lTx (xs (i + 1)))).rn (sFr z (lTx (xs (i + 1)))).tt (sFr z (lTx (xs (i + 1)))).cK en4 td4 st4 E4 th2 hZ4) (cwV 0 hts (lw_V q1970 q1971 q1972 q47 q1973) rfl rfl rfl (by decide +kernel) ⟨Nat.le_trans (Nat.le_of_ble_eq_true rfl) hRf, Nat.le_trans (Nat.le_of_ble_eq_true rfl) hRl⟩) (g_preV hW hK hE hZ4.1 rfl) rfl rfl hl.1 rfl (lv_room (Nat.le_of_ble_eq_true rfl)) dL_law_1473 ⟨?_, ?_⟩) hW (fun r_ u_ H locs hp hW => ?_)
    · (try simp only [headSpec]); omega
    · (try simp only [headSpec]); omega
    obtain ⟨er, rfl⟩ := hp
    rw [er]
    refine lv_iload hx hb dL_law_1476 (lv_at hl 1 rfl) ?_
    refine lv_icmp_eq (tgt := 1483) hx hb dL_law_1478 (by decide) (fun _ => ?_) (fun hz => absurd hag.1.symm hz)
    refine lv_iload hx hb dL_law_1483 (lv_at hl 1 rfl) ?_
    refine lv_if_ne (tgt := 1501) hx hb dL_law_1485 (by decide) (fun hz5 => ?_) (fun hz5 => ?_)
    · refine lv_goto (tgt := 1835) hx hb dL_law_1501 (by decide) ?_
      exact kk _ _ _ _ _ H locs ls hMM.lR (by (try simp only [headSpec]); omega) (by (try simp only [headSpec]); omega) hW (lv_sub hl [2, 3, 4, 5, 6] rfl)
    · have h50 : r5 = 0 := by first | exact hz5 | exact Classical.not_not.mp hz5
      have hcd := hc1.zero h50
      have hn1 : n1 = r6.toInt64 := by rw [hq1 hcd, hq2 hcd]
      refine lv_aload_n hx hb dL_law_1488 rfl (lv_at hl 5 rfl) ?_
      refine g_getN (ci := 9) (v := .long (n1)) (C := RX4) (T := TX4) (N := 5) hx hb hts in_X4 hown hK hW ho4 rfl 0 (by decide) (nf_q466 hE) (fun _ h9 => h9) rfl dL_law_1489 ?_
      refine lv_iload hx hb dL_law_1492 (lv_at hl 0 rfl) ?_
      refine lv_i2l (v := (r6 : Int32).toInt64) hx hb dL_law_1494 rfl ?_
      refine W.lcmp hx hb dL_law_1495 ?_
      refine g_topi (y := 0) (by rw [hn1]; exact lcmp_self) ?_
      refine lv_if_eq (tgt := 1501) hx hb dL_law_1496 (by decide) (fun _ => ?_) (fun hz => absurd rfl hz)
      refine lv_goto (tgt := 1835) hx hb dL_law_1501 (by decide) ?_
      exact kk _ _ _ _ _ H locs ls hMM.lR (by (try simp only [headSpec]); omega) (by (try simp only [headSpec]); omega) hW (lv_sub hl [2, 3, 4, 5, 6] rfl)
set_option maxHeartbeats 4000000 in
set_option maxRecDepth 100000 in
/-- the law: count -/
theorem lw_25 {p : Program} {l : Launch} {e : Env} {R : Room} {s : State} {m : MethodId} {args : Array Value} {below : List Frame} {meth : Method} {c : Code} {Q : State → Prop} {D : va_G} {A : Nat → Prop} (hx : p.tables.exec = Jvm.exec) (hb : c.code = cL_law) (hts : ∀ w ∈ lw_all, w.before args s = true) (hown : s.vm.findClass RX0 = some m.cls) (hK : va_K D gCl (gT D) s) (hE : g_Env D A s) (hml : c.maxLocals = 8) (hRf : 12 ≤ R.frames) (hRl : 240 ≤ R.locals) (hl9 : l.stackTraces = false) (b L : Nat) (xs : Nat → Int32) (hX : va_X b L xs s s.heap) (hbl : b < s.heap.size) (hbA : ¬ A b) (x y o i : Nat) (hi : i + 5 ≤ L) (hL : L ≤ 320) (z : yW) (hv : yV z) (hrn : z.rn ≤ 40 * i) (c0 s0 : Nat) (hRc : c0 + (3 + ((rFold z.P (octs 0 (xs (i + 2)).toNatClampNeg) (z.cp 9)) - z.cp 9) + 4 * ocN (xs (i + 2))) ≤ R.cells) (hRs : s0 + (20 + 2 * ((rFold z.P (octs 0 (xs (i + 2)).toNatClampNeg) (z.cp 9)) - z.cp 9) + 27 * ocN (xs (i + 2))) ≤ R.slots)
    (kk : ∀ (w2 : g_H) (l2 : Nat → Nat) (th2 : Int32) (cells slots : Nat) (H : Heap) (locs : List Loc) (ls : Array Slot), lR D w2 l2 x y o (sCnt z (xs (i + 2))) th2 → cells ≤ c0 + (3 + ((rFold z.P (octs 0 (xs (i + 2)).toNatClampNeg) (z.cp 9)) - z.cp 9) + 4 * ocN (xs (i + 2))) → slots ≤ s0 + (20 + 2 * ((rFold z.P (octs 0 (xs (i + 2)).toNatClampNeg) (z.cp 9)) - z.cp 9) + 27 * ocN (xs (i + 2))) → g_W D A s.heap H locs w2 → lv_has ls 8 [(0, .ref b), (1, .ref x), (2, .ref y), (3, .ref o), (4, .int (nI i))] → W p l e R s m args below meth c H locs cells slots Q (F0 m 1835 ls [])) :
    ∀ (k : Nat) (w1 : g_H) (l1 : Nat → Nat) (th : Int32) (cells : Nat) (slots : Nat) (H : Heap) (locs : List Loc) (ls : Array Slot), 0 < k → lR D w1 l1 x y o z th → cells ≤ c0 → slots ≤ s0 → g_W D A s.heap H locs w1 → lv_has ls 8 [(0, .ref b), (1, .ref x), (2, .ref y), (3, .ref o), (4, .int (nI i))] → W p l e R s m args below meth c H locs cells slots Q (F0 m 1574 ls []) := by
  intro k
  induction k with
  | zero => intro w1 l1 th cells slots H locs ls hfuel hR hcl hsl hW hl; exact absurd hfuel (by omega)
  | succ k ih =>
    intro w1 l1 th cells slots H locs ls hfuel hR hcl hsl hW hl
    obtain ⟨n0, d0, s0v, v0, f0, hM0⟩ := hR.mid
    obtain ⟨⟨rf, hS⟩, ⟨mf, en, td, st, E, hZ⟩, ho, hlo, hmu⟩ := id hM0
    obtain ⟨hvA, hcv, hKd, hcK, hYI, ⟨hfq, hac, hP16, hC8⟩, hCd, hcp3, hfI, hrn0⟩ := id hv
    have hF16 := hfI.lt hP16
    have hK3 := hYI.q.2.2
    have htt := hYI.2.2.2
    have hdl : (z.K.drop z.fq).length = z.K.length - z.fq := List.length_drop
    refine lv_aload_n hx hb dL_law_1574 rfl (lv_at hl 1 rfl) ?_
    refine lv_aload_n hx hb dL_law_1575 rfl (lv_at hl 0 rfl) ?_
    refine lv_iload hx hb dL_law_1576 (lv_at hl 4 rfl) ?_
    refine lv_iconst (v := 1) hx hb dL_law_1578 (by decide) ?_
    refine lv_iadd hx hb dL_law_1579 ?_
    refine g_topi (y := nI (i + 1)) (nI_add i 1) ?_
    refine va_sld hx hb hX hbl hbA hW.2.2.1 (vp_in_nI (show i + 1 < L by omega) (by omega)) dL_law_1580 ?_
    rw [nI_clamp (show i + 1 < 2 ^ 31 by omega)]
    refine g_callq (va_runS (As := [.int ((xs (i + 1)))]) (rest := [.ref x]) ⟨hx, hb, hml, hown, hts⟩ (mtX0_toVerdict l D w1 H.size (xs (i + 1))) (va_cwS 1 hts (lw_S q524 q525 q33 q526) rfl rfl rfl (by decide +kernel) ⟨Nat.le_trans (Nat.le_of_ble_eq_true rfl) hRf, Nat.le_trans (Nat.le_of_ble_eq_true rfl) hRl⟩) (g_preS hW hK hE) rfl rfl hl.1 rfl (lv_room (Nat.le_of_ble_eq_true rfl)) dL_law_1581 ⟨?_, ?_⟩) hW (fun r_ u_ H locs hp hW => ?_)
    · (try simp only [headSpec]); omega
    · (try simp only [headSpec]); omega
    obtain ⟨er, rfl⟩ := hp
    subst er
    refine lv_aload_n hx hb dL_law_1584 rfl (lv_at hl 0 rfl) ?_
    refine lv_iload hx hb dL_law_1585 (lv_at hl 4 rfl) ?_
    refine lv_iconst (v := 2) hx hb dL_law_1587 (by decide) ?_
    refine lv_iadd hx hb dL_law_1588 ?_
    refine g_topi (y := nI (i + 2)) (nI_add i 2) ?_
    refine va_sld hx hb hX hbl hbA hW.2.2.1 (vp_in_nI (show i + 2 < L by omega) (by omega)) dL_law_1589 ?_
    rw [nI_clamp (show i + 2 < 2 ^ 31 by omega)]
    refine lv_aload_n hx hb dL_law_1590 rfl (lv_at hl 3 rfl) ?_
    refine g_calli (vx_runSW (hh := [(0, 11, 14, 110)]) (As := [.ref x, .ref (D.2 1003 (fMod (xs (i + 1)) 3)), .int ((xs (i + 2))), .ref o]) (rest := []) ⟨hx, hb, hml, hown, hts⟩ (mtX0_count l D w1 H.size hl9 l1 x z.ac z.rn z.tt rf z.P z.C z.A z.cov z.K (z.K.drop z.fq) z.F z.cp hS (fMod (xs (i + 1)) 3) (xs (i + 2)) (fMod_lt (by decide)) o n0 d0 s0v v0 f0 ho (fun r1 u1 hp => by obtain ⟨-, -, l9, -, hy9⟩ := hp; exact (l_oC ho hlo hy9).1)) (vx_cwSW 4 hts (lw_SW q1825 q1826 q33 q1827) rfl rfl rfl (by decide +kernel) ⟨Nat.le_trans (Nat.le_of_ble_eq_true rfl) hRf, Nat.le_trans (Nat.le_of_ble_eq_true rfl) hRl⟩) (g_preS hW hK hE) rfl rfl hl.1 rfl (lv_room (Nat.le_of_ble_eq_true rfl)) dL_law_1591 ⟨?_, ?_⟩) hW (fun r5 u1 H locs hp hW => ?_)
    · (try simp only [headSpec]); omega
    · (try simp only [headSpec]); omega
    have hC : ∃ l3 n1, lMid D u1 l3 x y o (sCnt z (xs (i + 2))) z th n1 d0 s0v v0 f0 ∧ eR1 (0 ≤ (xs (i + 2)) ∧ (xs (i + 2)) ≤ 3) r5 ∧ ((0 ≤ (xs (i + 2)) ∧ (xs (i + 2)) ≤ 3) → n1 = (nI (cCount z.P (fMod (xs (i + 1)) 3) (octs 0 (xs (i + 2)).toNatClampNeg)) : Int32).toInt64) := by
      rcases hp with ⟨r1, u2, ⟨hin, er, l3, hS2, hy⟩, e, hr⟩ | ⟨E1, ⟨-, hni, ew⟩, hr⟩
      · exact ⟨_, _, by rw [show sCnt z (xs (i + 2)) = zCp z (rFold z.P (octs 0 (xs (i + 2)).toNatClampNeg) (z.cp 9)) from if_pos hin]; exact (hM0.cls hK (z2 := zCp z (rFold z.P (octs 0 (xs (i + 2)).toNatClampNeg) (z.cp 9))) ⟨rf, hS2⟩ hy).put e, Or.inl ⟨hin, hr⟩, fun _ => by rw [er]⟩
      · subst ew
        exact ⟨l1, n0, by rw [show sCnt z (xs (i + 2)) = z from if_neg hni]; exact hM0, Or.inr ⟨hni, hr.2⟩, fun q => absurd q hni⟩
    obtain ⟨l3, n1, hM1, hc1, hq1⟩ := hC
    obtain ⟨⟨rf3, hS3⟩, ⟨mf3, en3, td3, st3, E3, hZ3⟩, ho3, hlo3, hmu3⟩ := id hM1
    refine lv_istore (lv' := [(5, .int (r5)), (0, .ref b), (1, .ref x), (2, .ref y), (3, .ref o), (4, .int (nI i))]) hx hb dL_law_1594 hl (by decide) rfl (fun ls hl => ?_)
    refine lv_aload_n hx hb dL_law_1596 rfl (lv_at hl 3 rfl) ?_
    refine lv_aload_n hx hb dL_law_1597 rfl (lv_at hl 1 rfl) ?_
    refine lv_iload hx hb dL_law_1598 (lv_at hl 5 rfl) ?_
    refine lv_iconst (v := 1) hx hb dL_law_1600 (by decide) ?_
    refine lv_iadd hx hb dL_law_1601 ?_
    refine g_topi (y := nI (i + 1)) (nI_add i 1) ?_
    refine va_sld hx hb hX hbl hbA hW.2.2.1 (vp_in_nI (show i + 1 < L by omega) (by omega)) dL_law_1602 ?_
    rw [nI_clamp (show i + 1 < 2 ^ 31 by omega)]
    refine g_callq (va_runS (As := [.int ((xs (i + 1)))]) (rest := [.ref y]) ⟨hx, hb, hml, hown, hts⟩ (mtX0_toVerdict l D u1 H.size (xs (i + 1))) (va_cwS 1 hts (lw_S q524 q525 q33 q526) rfl rfl rfl (by decide +kernel) ⟨Nat.le_trans (Nat.le_of_ble_eq_true rfl) hRf, Nat.le_trans (Nat.le_of_ble_eq_true rfl) hRl⟩) (g_preS hW hK hE) rfl rfl hl.1 rfl (lv_room (Nat.le_of_ble_eq_true rfl)) dL_law_1603 ⟨?_, ?_⟩) hW (fun r_ u_ H locs hp hW => ?_)
    · (try simp only [headSpec]); omega
    · (try simp only [headSpec]); omega
    obtain ⟨er, rfl⟩ := hp
    subst er
    refine lv_aload_n hx hb dL_law_1606 rfl (lv_at hl 1 rfl) ?_
    refine lv_iload hx hb dL_law_1607 (lv_at hl 5 rfl) ?_
    refine lv_iconst (v := 2) hx hb dL_law_1609 (by decide) ?_
    refine lv_iadd hx hb dL_law_1610 ?_
    refine g_topi (y := nI (i + 2)) (nI_add i 2) ?_
    refine va_sld hx hb hX hbl hbA hW.2.2.1 (vp_in_nI (show i + 2 < L by omega) (by omega)) dL_law_1611 ?_
    rw [nI_clamp (show i + 2 < 2 ^ 31 by omega)]
    refine g_calli (va_runV (As := [.ref (D.2 1003 (fMod (xs (i + 1)) 3)), .int ((xs (i + 2)))]) (rest := []) ⟨hx, hb, hml, hown, hts⟩ (mtX3_count l D u1 H.size y mf3 l3 z.P z.C z.A z.cov z.K z.fq z.ac z.F z.rn z.tt z.cK en3 td3 st3 E3 th hZ3 (fMod (xs (i + 1)) 3) (xs (i + 2)) (fMod_lt (by decide))) (cwV 2 hts (lw_V q2197 q2198 q2199 q47 q2200) rfl rfl rfl (by decide +kernel) ⟨Nat.le_trans (Nat.le_of_ble_eq_true rfl) hRf, Nat.le_trans (Nat.le_of_ble_eq_true rfl) hRl⟩) (g_preV hW hK hE hZ3.1 rfl) rfl rfl hl.1 rfl (lv_room (Nat.le_of_ble_eq_true rfl)) dL_law_1612 ⟨?_, ?_⟩) hW (fun r6 u2 H locs hp hW => ?_)
    · (try simp only [headSpec]); omega
    · (try simp only [headSpec]); omega
    have hC : ∃ l4 th2, lMid D u2 l4 x y o (sCnt z (xs (i + 2))) (sCnt z (xs (i + 2))) th2 n1 d0 s0v v0 f0 ∧ eR1 (0 ≤ (xs (i + 2)) ∧ (xs (i + 2)) ≤ 3) th2 ∧ ((0 ≤ (xs (i + 2)) ∧ (xs (i + 2)) ≤ 3) → r6 = nI (cCount z.P (fMod (xs (i + 1)) 3) (octs 0 (xs (i + 2)).toNatClampNeg))) := by
      obtain ⟨er, ⟨en9, td9, st9, E9, hZ9⟩, hz9⟩ := hp
      refine ⟨_, _, hM1.mod hK (z2 := sCnt z (xs (i + 2))) ⟨mf3, en9, td9, st9, E9, ?_⟩ hz9, thN_e, fun q => er q⟩
      by_cases hin : 0 ≤ (xs (i + 2)) ∧ (xs (i + 2)) ≤ 3
      · rw [show sCnt z (xs (i + 2)) = zCp z (rFold z.P (octs 0 (xs (i + 2)).toNatClampNeg) (z.cp 9)) from if_pos hin]; exact hZ9
      · rw [show sCnt z (xs (i + 2)) = z from if_neg hin]; exact hZ9
    obtain ⟨l4, th2, hMM, hc2, hq2⟩ := hC
    have hag : r5 = th2 ∧ True := ⟨hc1.eq hc2, trivial⟩
    obtain ⟨⟨rf4, hS4⟩, ⟨mf4, en4, td4, st4, E4, hZ4⟩, ho4, hlo4, hmu4⟩ := id hMM
    refine lv_istore (lv' := [(6, .int (r6)), (5, .int (r5)), (0, .ref b), (1, .ref x), (2, .ref y), (3, .ref o), (4, .int (nI i))]) hx hb dL_law_1615 hl (by decide) rfl (fun ls hl => ?_)
    refine lv_aload_n hx hb dL_law_1617 rfl (lv_at hl 4 rfl) ?_
    refine g_calli (va_runV (As := []) (rest := []) ⟨hx, hb, hml, hown, hts⟩ (mtX3_thrown l D u2 H.size y mf4 l4 (sCnt z (xs (i + 2))).P (sCnt z (xs (i + 2))).C (sCnt z (xs (i + 2))).A (sCnt z (xs (i + 2))).cov (sCnt z (xs (i + 2))).K (sCnt z (xs (i + 2))).fq (sCnt z (xs (i + 2))).ac (sCnt z (xs (i + 2))).F (sCnt z (xs (i + 2))).rn (sCnt z (xs (i + 2))).tt (sCnt z (xs (i + 2))).cK en4 td4 st4 E4 th2 hZ4) (cwV 0 hts (lw_V q1970 q1971 q1972 q47 q1973) rfl rfl rfl (by decide +kernel) ⟨Nat.le_trans (Nat.le_of_ble_eq_true rfl) hRf, Nat.le_trans (Nat.le_of_ble_eq_true rfl) hRl⟩) (g_preV hW hK hE hZ4.1 rfl) rfl rfl hl.1 rfl (lv_room (Nat.le_of_ble_eq_true rfl)) dL_law_1618 ⟨?_, ?_⟩) hW (fun r_ u_ H locs hp hW => ?_)
    · (try simp only [headSpec]); omega
    · (try simp only [headSpec]); omega
    obtain ⟨er, rfl⟩ := hp
    rw [er]
    refine lv_iload hx hb dL_law_1621 (lv_at hl 1 rfl) ?_
    refine lv_icmp_eq (tgt := 1628) hx hb dL_law_1623 (by decide) (fun _ => ?_) (fun hz => absurd hag.1.symm hz)
    refine lv_iload hx hb dL_law_1628 (lv_at hl 1 rfl) ?_
    refine lv_if_ne (tgt := 1646) hx hb dL_law_1630 (by decide) (fun hz5 => ?_) (fun hz5 => ?_)
    · refine lv_goto (tgt := 1835) hx hb dL_law_1646 (by decide) ?_
      exact kk _ _ _ _ _ H locs ls hMM.lR (by (try simp only [headSpec]); omega) (by (try simp only [headSpec]); omega) hW (lv_sub hl [2, 3, 4, 5, 6] rfl)
    · have h50 : r5 = 0 := by first | exact hz5 | exact Classical.not_not.mp hz5
      have hcd := hc1.zero h50
      have hn1 : n1 = r6.toInt64 := by rw [hq1 hcd, hq2 hcd]
      refine lv_aload_n hx hb dL_law_1633 rfl (lv_at hl 5 rfl) ?_
      refine g_getN (ci := 9) (v := .long (n1)) (C := RX4) (T := TX4) (N := 5) hx hb hts in_X4 hown hK hW ho4 rfl 0 (by decide) (nf_q466 hE) (fun _ h9 => h9) rfl dL_law_1634 ?_
      refine lv_iload hx hb dL_law_1637 (lv_at hl 0 rfl) ?_
      refine lv_i2l (v := (r6 : Int32).toInt64) hx hb dL_law_1639 rfl ?_
      refine W.lcmp hx hb dL_law_1640 ?_
      refine g_topi (y := 0) (by rw [hn1]; exact lcmp_self) ?_
      refine lv_if_eq (tgt := 1646) hx hb dL_law_1641 (by decide) (fun _ => ?_) (fun hz => absurd rfl hz)
      refine lv_goto (tgt := 1835) hx hb dL_law_1646 (by decide) ?_
      exact kk _ _ _ _ _ H locs ls hMM.lR (by (try simp only [headSpec]); omega) (by (try simp only [headSpec]); omega) hW (lv_sub hl [2, 3, 4, 5, 6] rfl)
set_option maxHeartbeats 4000000 in
set_option maxRecDepth 100000 in
/-- the law: reachable -/
theorem lw_26 {p : Program} {l : Launch} {e : Env} {R : Room} {s : State} {m : MethodId} {args : Array Value} {below : List Frame} {meth : Method} {c : Code} {Q : State → Prop} {D : va_G} {A : Nat → Prop} (hx : p.tables.exec = Jvm.exec) (hb : c.code = cL_law) (hts : ∀ w ∈ lw_all, w.before args s = true) (hown : s.vm.findClass RX0 = some m.cls) (hK : va_K D gCl (gT D) s) (hE : g_Env D A s) (hml : c.maxLocals = 8) (hRf : 12 ≤ R.frames) (hRl : 239 ≤ R.locals) (hl9 : l.stackTraces = false) (b L : Nat) (xs : Nat → Int32) (hX : va_X b L xs s s.heap) (hbl : b < s.heap.size) (hbA : ¬ A b) (x y o i : Nat) (hi : i + 5 ≤ L) (hL : L ≤ 320) (z : yW) (hv : yV z) (hrn : z.rn ≤ 40 * i) (c0 s0 : Nat) (hRc : c0 + (5 + ((rFold z.P (octs 0 (xs (i + 1)).toNatClampNeg) (z.cp 9)) - z.cp 9) + (rF2 z.P (octs 0 (xs (i + 1)).toNatClampNeg) 1 - 1) + (4 * ocN (xs (i + 1)) + 1)) ≤ R.cells) (hRs : s0 + (20 + 2 * ((rFold z.P (octs 0 (xs (i + 1)).toNatClampNeg) (z.cp 9)) - z.cp 9) + 2 * (rF2 z.P (octs 0 (xs (i + 1)).toNatClampNeg) 1 - 1) + (27 * ocN (xs (i + 1)) + 272)) ≤ R.slots)
    (kk : ∀ (w2 : g_H) (l2 : Nat → Nat) (th2 : Int32) (cells slots : Nat) (H : Heap) (locs : List Loc) (ls : Array Slot), lR D w2 l2 x y o (sCnt z (xs (i + 1))) th2 → cells ≤ c0 + (5 + ((rFold z.P (octs 0 (xs (i + 1)).toNatClampNeg) (z.cp 9)) - z.cp 9) + (rF2 z.P (octs 0 (xs (i + 1)).toNatClampNeg) 1 - 1) + (4 * ocN (xs (i + 1)) + 1)) → slots ≤ s0 + (20 + 2 * ((rFold z.P (octs 0 (xs (i + 1)).toNatClampNeg) (z.cp 9)) - z.cp 9) + 2 * (rF2 z.P (octs 0 (xs (i + 1)).toNatClampNeg) 1 - 1) + (27 * ocN (xs (i + 1)) + 272)) → g_W D A s.heap H locs w2 → lv_has ls 8 [(0, .ref b), (1, .ref x), (2, .ref y), (3, .ref o), (4, .int (nI i))] → W p l e R s m args below meth c H locs cells slots Q (F0 m 1835 ls [])) :
    ∀ (k : Nat) (w1 : g_H) (l1 : Nat → Nat) (th : Int32) (cells : Nat) (slots : Nat) (H : Heap) (locs : List Loc) (ls : Array Slot), 0 < k → lR D w1 l1 x y o z th → cells ≤ c0 → slots ≤ s0 → g_W D A s.heap H locs w1 → lv_has ls 8 [(0, .ref b), (1, .ref x), (2, .ref y), (3, .ref o), (4, .int (nI i))] → W p l e R s m args below meth c H locs cells slots Q (F0 m 1649 ls []) := by
  intro k
  induction k with
  | zero => intro w1 l1 th cells slots H locs ls hfuel hR hcl hsl hW hl; exact absurd hfuel (by omega)
  | succ k ih =>
    intro w1 l1 th cells slots H locs ls hfuel hR hcl hsl hW hl
    obtain ⟨n0, d0, s0v, v0, f0, hM0⟩ := hR.mid
    obtain ⟨⟨rf, hS⟩, ⟨mf, en, td, st, E, hZ⟩, ho, hlo, hmu⟩ := id hM0
    obtain ⟨hvA, hcv, hKd, hcK, hYI, ⟨hfq, hac, hP16, hC8⟩, hCd, hcp3, hfI, hrn0⟩ := id hv
    have hF16 := hfI.lt hP16
    have hK3 := hYI.q.2.2
    have htt := hYI.2.2.2
    have hdl : (z.K.drop z.fq).length = z.K.length - z.fq := List.length_drop
    refine lv_aload_n hx hb dL_law_1649 rfl (lv_at hl 1 rfl) ?_
    refine lv_aload_n hx hb dL_law_1650 rfl (lv_at hl 0 rfl) ?_
    refine lv_iload hx hb dL_law_1651 (lv_at hl 4 rfl) ?_
    refine lv_iconst (v := 1) hx hb dL_law_1653 (by decide) ?_
    refine lv_iadd hx hb dL_law_1654 ?_
    refine g_topi (y := nI (i + 1)) (nI_add i 1) ?_
    refine va_sld hx hb hX hbl hbA hW.2.2.1 (vp_in_nI (show i + 1 < L by omega) (by omega)) dL_law_1655 ?_
    rw [nI_clamp (show i + 1 < 2 ^ 31 by omega)]
    refine lv_aload_n hx hb dL_law_1656 rfl (lv_at hl 3 rfl) ?_
    refine g_calli (vx_runSW (hh := [(0, 10, 13, 110)]) (As := [.ref x, .int ((xs (i + 1))), .ref o]) (rest := []) ⟨hx, hb, hml, hown, hts⟩ (mtX0_reachable l D w1 H.size hl9 l1 x z.ac z.rn z.tt rf z.P z.C z.A z.cov z.K (z.K.drop z.fq) z.F z.cp hS (xs (i + 1)) o n0 d0 s0v v0 f0 ho (fun r1 u1 hp => by obtain ⟨-, -, l9, -, hy9⟩ := hp; exact (l_oC ho hlo hy9).1)) (vx_cwSW 3 hts (lw_SW q1832 q1833 q33 q1834) rfl rfl rfl (by decide +kernel) ⟨Nat.le_trans (Nat.le_of_ble_eq_true rfl) hRf, Nat.le_trans (Nat.le_of_ble_eq_true rfl) hRl⟩) (g_preS hW hK hE) rfl rfl hl.1 rfl (lv_room (Nat.le_of_ble_eq_true rfl)) dL_law_1657 ⟨?_, ?_⟩) hW (fun r5 u1 H locs hp hW => ?_)
    · (try simp only [headSpec]); omega
    · (try simp only [headSpec]); omega
    have hC : ∃ l3 n1, lMid D u1 l3 x y o (sCnt z (xs (i + 1))) z th n1 d0 s0v v0 f0 ∧ eR1 (0 ≤ (xs (i + 1)) ∧ (xs (i + 1)) ≤ 3) r5 ∧ ((0 ≤ (xs (i + 1)) ∧ (xs (i + 1)) ≤ 3) → n1 = (nI (fb_ct (rE z.P (octs 0 (xs (i + 1)).toNatClampNeg) (fun _ => false)) 320) : Int32).toInt64) := by
      rcases hp with ⟨r1, u2, ⟨hin, er, l3, hS2, hy⟩, e, hr⟩ | ⟨E1, ⟨-, hni, ew⟩, hr⟩
      · exact ⟨_, _, by rw [show sCnt z (xs (i + 1)) = zCp z (rFold z.P (octs 0 (xs (i + 1)).toNatClampNeg) (z.cp 9)) from if_pos hin]; exact (hM0.cls hK (z2 := zCp z (rFold z.P (octs 0 (xs (i + 1)).toNatClampNeg) (z.cp 9))) ⟨rf, hS2⟩ hy).put e, Or.inl ⟨hin, hr⟩, fun _ => by rw [er]⟩
      · subst ew
        exact ⟨l1, n0, by rw [show sCnt z (xs (i + 1)) = z from if_neg hni]; exact hM0, Or.inr ⟨hni, hr.2⟩, fun q => absurd q hni⟩
    obtain ⟨l3, n1, hM1, hc1, hq1⟩ := hC
    obtain ⟨⟨rf3, hS3⟩, ⟨mf3, en3, td3, st3, E3, hZ3⟩, ho3, hlo3, hmu3⟩ := id hM1
    refine lv_istore (lv' := [(5, .int (r5)), (0, .ref b), (1, .ref x), (2, .ref y), (3, .ref o), (4, .int (nI i))]) hx hb dL_law_1660 hl (by decide) rfl (fun ls hl => ?_)
    refine lv_aload_n hx hb dL_law_1662 rfl (lv_at hl 3 rfl) ?_
    refine lv_aload_n hx hb dL_law_1663 rfl (lv_at hl 1 rfl) ?_
    refine lv_iload hx hb dL_law_1664 (lv_at hl 5 rfl) ?_
    refine lv_iconst (v := 1) hx hb dL_law_1666 (by decide) ?_
    refine lv_iadd hx hb dL_law_1667 ?_
    refine g_topi (y := nI (i + 1)) (nI_add i 1) ?_
    refine va_sld hx hb hX hbl hbA hW.2.2.1 (vp_in_nI (show i + 1 < L by omega) (by omega)) dL_law_1668 ?_
    rw [nI_clamp (show i + 1 < 2 ^ 31 by omega)]
    refine g_calli (va_runV (As := [.int ((xs (i + 1)))]) (rest := []) ⟨hx, hb, hml, hown, hts⟩ (mtX3_reachable l D u1 H.size y mf3 l3 z.P z.C z.A z.cov z.K z.fq z.ac z.F z.rn z.tt z.cK en3 td3 st3 E3 th hZ3 (xs (i + 1))) (cwV 1 hts (lw_V q2201 q2202 q2203 q47 q2204) rfl rfl rfl (by decide +kernel) ⟨Nat.le_trans (Nat.le_of_ble_eq_true rfl) hRf, Nat.le_trans (Nat.le_of_ble_eq_true rfl) hRl⟩) (g_preV hW hK hE hZ3.1 rfl) rfl rfl hl.1 rfl (lv_room (Nat.le_of_ble_eq_true rfl)) dL_law_1669 ⟨?_, ?_⟩) hW (fun r6 u2 H locs hp hW => ?_)
    · (try simp only [headSpec]); omega
    · (try simp only [headSpec]); omega
    have hC : ∃ l4 th2, lMid D u2 l4 x y o (sCnt z (xs (i + 1))) (sCnt z (xs (i + 1))) th2 n1 d0 s0v v0 f0 ∧ eR1 (0 ≤ (xs (i + 1)) ∧ (xs (i + 1)) ≤ 3) th2 ∧ ((0 ≤ (xs (i + 1)) ∧ (xs (i + 1)) ≤ 3) → r6 = nI (fb_ct (rE z.P (octs 0 (xs (i + 1)).toNatClampNeg) (fun _ => false)) 320)) := by
      obtain ⟨er, lab9, en9, td9, st9, E9, hZ9, hz9⟩ := hp
      refine ⟨_, _, hM1.mod hK (z2 := sCnt z (xs (i + 1))) ⟨mf3, en9, td9, st9, E9, ?_⟩ hz9, thN_e, fun q => by rw [er q, ct_eOk (rE_ok hP16)]⟩
      by_cases hin : 0 ≤ (xs (i + 1)) ∧ (xs (i + 1)) ≤ 3
      · rw [show sCnt z (xs (i + 1)) = zCp z (rFold z.P (octs 0 (xs (i + 1)).toNatClampNeg) (z.cp 9)) from if_pos hin]; exact hZ9
      · rw [show sCnt z (xs (i + 1)) = z from if_neg hin]; exact hZ9
    obtain ⟨l4, th2, hMM, hc2, hq2⟩ := hC
    have hag : r5 = th2 ∧ True := ⟨hc1.eq hc2, trivial⟩
    obtain ⟨⟨rf4, hS4⟩, ⟨mf4, en4, td4, st4, E4, hZ4⟩, ho4, hlo4, hmu4⟩ := id hMM
    refine lv_istore (lv' := [(6, .int (r6)), (5, .int (r5)), (0, .ref b), (1, .ref x), (2, .ref y), (3, .ref o), (4, .int (nI i))]) hx hb dL_law_1672 hl (by decide) rfl (fun ls hl => ?_)
    refine lv_aload_n hx hb dL_law_1674 rfl (lv_at hl 4 rfl) ?_
    refine g_calli (va_runV (As := []) (rest := []) ⟨hx, hb, hml, hown, hts⟩ (mtX3_thrown l D u2 H.size y mf4 l4 (sCnt z (xs (i + 1))).P (sCnt z (xs (i + 1))).C (sCnt z (xs (i + 1))).A (sCnt z (xs (i + 1))).cov (sCnt z (xs (i + 1))).K (sCnt z (xs (i + 1))).fq (sCnt z (xs (i + 1))).ac (sCnt z (xs (i + 1))).F (sCnt z (xs (i + 1))).rn (sCnt z (xs (i + 1))).tt (sCnt z (xs (i + 1))).cK en4 td4 st4 E4 th2 hZ4) (cwV 0 hts (lw_V q1970 q1971 q1972 q47 q1973) rfl rfl rfl (by decide +kernel) ⟨Nat.le_trans (Nat.le_of_ble_eq_true rfl) hRf, Nat.le_trans (Nat.le_of_ble_eq_true rfl) hRl⟩) (g_preV hW hK hE hZ4.1 rfl) rfl rfl hl.1 rfl (lv_room (Nat.le_of_ble_eq_true rfl)) dL_law_1675 ⟨?_, ?_⟩) hW (fun r_ u_ H locs hp hW => ?_)
    · (try simp only [headSpec]); omega
    · (try simp only [headSpec]); omega
    obtain ⟨er, rfl⟩ := hp
    rw [er]
    refine lv_iload hx hb dL_law_1678 (lv_at hl 1 rfl) ?_
    refine lv_icmp_eq (tgt := 1685) hx hb dL_law_1680 (by decide) (fun _ => ?_) (fun hz => absurd hag.1.symm hz)
    refine lv_iload hx hb dL_law_1685 (lv_at hl 1 rfl) ?_
    refine lv_if_ne (tgt := 1703) hx hb dL_law_1687 (by decide) (fun hz5 => ?_) (fun hz5 => ?_)
    · refine lv_goto (tgt := 1835) hx hb dL_law_1703 (by decide) ?_
      exact kk _ _ _ _ _ H locs ls hMM.lR (by (try simp only [headSpec]); omega) (by (try simp only [headSpec]); omega) hW (lv_sub hl [2, 3, 4, 5, 6] rfl)
    · have h50 : r5 = 0 := by first | exact hz5 | exact Classical.not_not.mp hz5
      have hcd := hc1.zero h50
      have hn1 : n1 = r6.toInt64 := by rw [hq1 hcd, hq2 hcd]
      refine lv_aload_n hx hb dL_law_1690 rfl (lv_at hl 5 rfl) ?_
      refine g_getN (ci := 9) (v := .long (n1)) (C := RX4) (T := TX4) (N := 5) hx hb hts in_X4 hown hK hW ho4 rfl 0 (by decide) (nf_q466 hE) (fun _ h9 => h9) rfl dL_law_1691 ?_
      refine lv_iload hx hb dL_law_1694 (lv_at hl 0 rfl) ?_
      refine lv_i2l (v := (r6 : Int32).toInt64) hx hb dL_law_1696 rfl ?_
      refine W.lcmp hx hb dL_law_1697 ?_
      refine g_topi (y := 0) (by rw [hn1]; exact lcmp_self) ?_
      refine lv_if_eq (tgt := 1703) hx hb dL_law_1698 (by decide) (fun _ => ?_) (fun hz => absurd rfl hz)
      refine lv_goto (tgt := 1835) hx hb dL_law_1703 (by decide) ?_
      exact kk _ _ _ _ _ H locs ls hMM.lR (by (try simp only [headSpec]); omega) (by (try simp only [headSpec]); omega) hW (lv_sub hl [2, 3, 4, 5, 6] rfl)
