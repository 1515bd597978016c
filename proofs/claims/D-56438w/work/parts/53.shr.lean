/-! ShrinkYard.isReduced, shrink *
-/
set_option maxRecDepth 100000
/-- said so that arithmetic does not see it -/
def g_ni (M : Nat → Prop) (q : Nat) : Prop := ¬ M q
def g_nq (a b : Nat) : Prop := a ≠ b
def g_Sep (t ta m9 ra eb wb : Nat) : Prop := (¬ (t = m9 ∨ t = ra ∨ t = eb ∨ t = wb)) ∧ ¬ (ta = m9 ∨ ta = ra ∨ ta = eb ∨ ta = wb)
/-- what stands all through a number of runs: the yard's object, its program; M: the places that change -/
def g_CX (D : va_G) (w : g_H) (x m9 ra eb wb0 pg par pcap : Nat) (ps : List Nat) (P : List mI) (M : Nat → Prop) : Prop := (∃ x1 x2 x4 x5 x6 x7 x8 x9 x10 : Value, g_at w x (.inr (0, [.ref pg, x1, x2, .ref m9, x4, x5, x6, x7, x8, x9, x10]))) ∧ g_Pg D w pg par ps pcap P ∧ (M m9 ∧ M ra ∧ M eb ∧ M wb0) ∧ ¬ M x ∧ ¬ M pg ∧ (0 < pcap → ¬ M par) ∧ ∀ j, j < P.length → ¬ M (ps.getD j 0)
theorem g_CX.at {D : va_G} {w w1 : g_H} {x m9 ra eb wb0 pg par pcap : Nat} {ps : List Nat} {P : List mI} {M : Nat → Prop} (h : g_CX D w x m9 ra eb wb0 pg par pcap ps P M) (k : g_ex M w w1) : (∃ x1 x2 x4 x5 x6 x7 x8 x9 x10 : Value, g_at w1 x (.inr (0, [.ref pg, x1, x2, .ref m9, x4, x5, x6, x7, x8, x9, x10]))) ∧ g_Pg D w1 pg par ps pcap P := by
  obtain ⟨⟨x1, x2, x4, x5, x6, x7, x8, x9, x10, hx⟩, hP, -, n1, n2, n3, n4⟩ := h
  exact ⟨⟨x1, x2, x4, x5, x6, x7, x8, x9, x10, k.at hx n1⟩, hP.ex k n2 n3 n4⟩
theorem g_CX.tr {D : va_G} {w w1 w2 : g_H} {x m9 ra eb wb0 wb pg par pcap : Nat} {ps : List Nat} {P : List mI} {M : Nat → Prop} (h : g_CX D w x m9 ra eb wb0 pg par pcap ps P M) (k : g_ex M w w1) (hwb : wb = wb0 ∨ wb ∉ w.1) (k2 : g_ex (fun q => q = m9 ∨ q = ra ∨ q = eb ∨ q = wb) w1 w2) : g_ex M w w2 := by
  obtain ⟨-, -, ⟨m1, m2, m3, m4⟩, -⟩ := h
  refine k.trM k2 (fun z hz hq => ?_)
  rcases hq with q | q | q | q
  · rw [q]; exact m1
  · rw [q]; exact m2
  · rw [q]; exact m3
  · rcases hwb with r | r
    · rw [q, r]; exact m4
    · exact absurd (q ▸ hz) r
theorem g_wbn {w w1 : g_H} {M : Nat → Prop} {wb wb0 wb2 : Nat} (k : g_ex M w w1) (h : wb = wb0 ∨ wb ∉ w.1) (h2 : wb2 = wb ∨ wb2 ∉ w1.1) : wb2 = wb0 ∨ wb2 ∉ w.1 := by
  rcases h2 with h2 | h2
  · rw [h2]; exact h
  · exact Or.inr (fun z => h2 (k.1 _ z))
theorem g_Ma.sep {D : va_G} {s : State} {w : g_H} {m9 ra eb wb x st n cap t ta : Nat} {vv : Value} {cd : Int32} {E : Nat → Bool} {ys : List Nat} (hK : va_K D gCl (gT D) s) (hM : g_Ma D w m9 ra eb wb x vv cd st E n cap) (ht : g_Dig D w t ta ys) (nra : ra ≠ ta) : g_Sep t ta m9 ra eb wb := by
  obtain ⟨⟨rd, hm⟩, ⟨f, hra⟩, hbs, ⟨fw, hwb, -⟩, -⟩ := hM
  obtain ⟨ht1, ⟨g, hta, -⟩, -⟩ := ht
  refine ⟨fun z => ?_, fun z => ?_⟩
  · rcases z with z | z | z | z
    · exact g_neO ht1 hm (by decide) z
    · exact g_neOA ht1 hra z
    · exact g_neO ht1 hbs (by decide) z
    · exact g_neOA ht1 hwb z
  · rcases z with z | z | z | z
    · exact g_neAO hta hm z
    · exact nra z.symm
    · exact g_neAO hta hbs z
    · exact g_ne hta hwb (fun q => g_neA hK (i := 0) (j := 3) rfl rfl (fun z => by cases z) (Prod.mk.inj (Sum.inl.inj q)).1) z
/-- the edges' capacity behind a run -/
noncomputable def mC (P : List mI) (cap : Nat) (ys : List Nat) : Nat := bsC cap (mOut P ys).2.2.2
theorem mC_ge (P : List mI) (cap : Nat) (ys : List Nat) : cap ≤ mC P cap ys := bsC_ge _ _
/-- the first of some inputs that fails with c; the capacity behind the tries -/
noncomputable def sFind (P : List mI) (c : Int32) : List (List Nat) → Nat → Option (List Nat) × Nat
  | [], cap => (none, cap)
  | y :: ys, cap => if mFails P y c = true then (some y, mC P cap y) else sFind P c ys (mC P cap y)
theorem sFind_ge (P : List mI) (c : Int32) : ∀ (ys : List (List Nat)) (cap : Nat), cap ≤ (sFind P c ys cap).2
  | [], _ => Nat.le_refl _
  | y :: ys, cap => by
    unfold sFind
    split
    · exact mC_ge _ _ _
    · exact Nat.le_trans (mC_ge P cap y) (sFind_ge P c ys _)
def delC (xs : List Nat) (i : Nat) : List (List Nat) := ((List.range xs.length).drop i).map (fun p => xs.eraseIdx p)
def repD (xs : List Nat) (i j : Nat) : List (List Nat) := ((List.range (xs.getD i 0)).drop j).map (fun e => xs.set i e)
def repC (xs : List Nat) (i : Nat) : List (List Nat) := ((List.range xs.length).drop i).flatMap (fun p => repD xs p 0)
def redL (xs : List Nat) : List (List Nat) := delC xs 0 ++ repC xs 0
theorem rng_drop {n i : Nat} (h : i < n) : (List.range n).drop i = i :: (List.range n).drop (i + 1) := by
  rw [List.drop_eq_getElem_cons (by rw [List.length_range]; exact h), List.getElem_range]
theorem rng_end {n i : Nat} (h : n ≤ i) : (List.range n).drop i = [] := List.drop_eq_nil_of_le (by rw [List.length_range]; exact h)
theorem delC_cons {xs : List Nat} {i : Nat} (h : i < xs.length) : delC xs i = xs.eraseIdx i :: delC xs (i + 1) := by unfold delC; rw [rng_drop h]; rfl
theorem delC_end {xs : List Nat} {i : Nat} (h : xs.length ≤ i) : delC xs i = [] := by unfold delC; rw [rng_end h]; rfl
theorem repD_cons {xs : List Nat} {i j : Nat} (h : j < xs.getD i 0) : repD xs i j = xs.set i j :: repD xs i (j + 1) := by unfold repD; rw [rng_drop h]; rfl
theorem repD_end {xs : List Nat} {i j : Nat} (h : xs.getD i 0 ≤ j) : repD xs i j = [] := by unfold repD; rw [rng_end h]; rfl
theorem repC_cons {xs : List Nat} {i : Nat} (h : i < xs.length) : repC xs i = repD xs i 0 ++ repC xs (i + 1) := by unfold repC; rw [rng_drop h]; rfl
theorem repC_end {xs : List Nat} {i : Nat} (h : xs.length ≤ i) : repC xs i = [] := by unfold repC; rw [rng_end h]; rfl
set_option maxHeartbeats 4000000 in
set_option maxRecDepth 100000 in
/-- ShrinkYard.isReduced: deletions -/
theorem lpX1_isReduced1 {p : Program} {l : Launch} {e : Env} {R : Room} {s : State} {m : MethodId} {args : Array Value} {below : List Frame} {meth : Method} {c : Code} {Q : State → Prop} {D : va_G} {A : Nat → Prop} (hx : p.tables.exec = Jvm.exec) (hb : c.code = cX1_isReduced) (hts : ∀ w ∈ lw_all, w.before args s = true) (hown : s.vm.findClass RX1 = some m.cls) (hK : va_K D gCl (gT D) s) (hE : g_Env D A s) (hml : c.maxLocals = 6) (hRf : 8 ≤ R.frames) (hRl : 213 ≤ R.locals) (w : g_H) (x m9 ra eb wb0 pg par pcap d da t9 ta : Nat) (ps : List Nat) (P : List mI) (xs : List Nat) (c9 : Int32) (hcx : g_CX D w x m9 ra eb wb0 pg par pcap ps P (fun q => q = m9 ∨ q = ra ∨ q = eb ∨ q = wb0 ∨ q = t9 ∨ q = ta)) (hd : g_Dig D w d da xs) (hdM : g_ni (fun q => q = m9 ∨ q = ra ∨ q = eb ∨ q = wb0 ∨ q = t9 ∨ q = ta) d) (hdaM : g_ni (fun q => q = m9 ∨ q = ra ∨ q = eb ∨ q = wb0 ∨ q = t9 ∨ q = ta) da) (nra : g_nq ra ta) (ntd : g_nq t9 d) (nta : g_nq ta da) (h9 : ∀ y ∈ xs, y < 8) (CF SF capF : Nat) (rF : Option (List Nat)) (hRc : CF ≤ R.cells) (hRs : SF ≤ R.slots) (kf : ∀ (wb : Nat) (vv : Value) (cd : Int32) (st : Nat) (E : Nat → Bool) (n : Nat) (zs : List Nat) (w1 : g_H) (cells slots : Nat) (H : Heap) (locs : List Loc) (ls : Array Slot), rF = some zs → cells ≤ CF → slots ≤ SF → g_ex (fun q => q = m9 ∨ q = ra ∨ q = eb ∨ q = wb0 ∨ q = t9 ∨ q = ta) w w1 → g_Ma D w1 m9 ra eb wb x vv cd st E n capF → (wb = wb0 ∨ wb ∉ w.1) → g_Dig D w1 t9 ta zs → g_W D A s.heap H locs w1 → W p l e R s m args below meth c H locs cells slots Q (F0 m 35 ls []))
    (kk : ∀ (cap : Nat) (wb : Nat) (vv : Value) (cd : Int32) (st : Nat) (E : Nat → Bool) (n : Nat) (zs : List Nat) (w1 : g_H) (cells : Nat) (slots : Nat) (H : Heap) (locs : List Loc) (ls : Array Slot), (sFind P c9 (repC xs 0) cap).1 = rF → (sFind P c9 (repC xs 0) cap).2 = capF → cells + (capF - cap) ≤ CF → slots + 2 * (capF - cap) ≤ SF → g_ex (fun q => q = m9 ∨ q = ra ∨ q = eb ∨ q = wb0 ∨ q = t9 ∨ q = ta) w w1 → g_Ma D w1 m9 ra eb wb x vv cd st E n cap → (wb = wb0 ∨ wb ∉ w.1) → g_Dig D w1 t9 ta zs → g_W D A s.heap H locs w1 → lv_has ls 6 [(0, .ref x), (1, .ref d), (2, .int (c9)), (3, .ref t9)] → W p l e R s m args below meth c H locs cells slots Q (F0 m 43 ls [])) :
    ∀ (k : Nat) (i : Nat) (cap : Nat) (wb : Nat) (vv : Value) (cd : Int32) (st : Nat) (E : Nat → Bool) (n : Nat) (zs : List Nat) (w1 : g_H) (cells : Nat) (slots : Nat) (H : Heap) (locs : List Loc) (ls : Array Slot), xs.length < i + k → i ≤ xs.length → (sFind P c9 (delC xs i ++ repC xs 0) cap).1 = rF → (sFind P c9 (delC xs i ++ repC xs 0) cap).2 = capF → cells + (capF - cap) ≤ CF → slots + 2 * (capF - cap) ≤ SF → g_ex (fun q => q = m9 ∨ q = ra ∨ q = eb ∨ q = wb0 ∨ q = t9 ∨ q = ta) w w1 → g_Ma D w1 m9 ra eb wb x vv cd st E n cap → (wb = wb0 ∨ wb ∉ w.1) → g_Dig D w1 t9 ta zs → g_W D A s.heap H locs w1 → lv_has ls 6 [(4, .int (nI i)), (0, .ref x), (1, .ref d), (2, .int (c9)), (3, .ref t9)] → W p l e R s m args below meth c H locs cells slots Q (F0 m 3 ls []) := by
  intro k
  induction k with
  | zero => intro i cap wb vv cd st E n zs w1 cells slots H locs ls hfuel hi hs1 hs2 hcl hsl hex hMa hwb ht hW hl; exact absurd hfuel (by omega)
  | succ k ih =>
    intro i cap wb vv cd st E n zs w1 cells slots H locs ls hfuel hi hs1 hs2 hcl hsl hex hMa hwb ht hW hl
    have hd1 := hd.ex hex hdM hdaM
    obtain ⟨hd2, -, hd8⟩ := id hd1
    obtain ⟨ht1, ⟨g9, htg, -⟩, ht8⟩ := id ht
    refine lv_iload hx hb dX1_isReduced_3 (lv_at hl 0 rfl) ?_
    refine lv_aload_n hx hb dX1_isReduced_5 rfl (lv_at hl 2 rfl) ?_
    refine g_getN (ci := 2) (v := .int (nI xs.length)) (C := RX11) (T := TX11) (N := 2) hx hb hts in_X11 hown hK hW hd2 rfl 1 (by decide) (nf_q1171 hE) (fun _ h9 => h9) rfl dX1_isReduced_6 ?_
    refine g_icmp_ge (tgt := 43) hx hb (by omega) (by omega) dX1_isReduced_9 (by decide) (fun hc => ?_) (fun hc => ?_)
    · rw [delC_end hc, List.nil_append] at hs1 hs2
      exact kk cap wb vv cd st E n zs w1 cells slots H locs ls hs1 hs2 hcl hsl hex hMa hwb ht hW (lv_sub hl [1, 2, 3, 4] rfl)
    · rw [delC_cons hc, List.cons_append] at hs1 hs2
      unfold sFind at hs1 hs2
      have hq1 := mC_ge P cap (xs.eraseIdx i)
      have hq2 := sFind_ge P c9 (delC xs (i + 1) ++ repC xs 0) (mC P cap (xs.eraseIdx i))
      have hq3 : mC P cap (xs.eraseIdx i) ≤ capF := by rw [← hs2]; split; exact Nat.le_refl _; exact hq2
      have hq4 : bsC cap (mOut P (xs.eraseIdx i)).2.2.2 = mC P cap (xs.eraseIdx i) := rfl
      refine lv_aload_n hx hb dX1_isReduced_12 rfl (lv_at hl 4 rfl) ?_
      refine lv_aload_n hx hb dX1_isReduced_13 rfl (lv_at hl 2 rfl) ?_
      refine g_callv (va_runV (As := [.ref d]) (rest := []) ⟨hx, hb, hml, hown, hts⟩ (mtX11_copy l D w1 H.size t9 d ta da zs.length g9 xs ht1 htg hd1 ntd nta) (cwV 1 hts (lw_V q1532 q1533 q1534 q75 q1535) rfl rfl rfl (by decide +kernel) ⟨Nat.le_trans (Nat.le_of_ble_eq_true rfl) hRf, Nat.le_trans (Nat.le_of_ble_eq_true rfl) hRl⟩) (g_preV hW hK hE ht1 rfl) rfl rfl hl.1 rfl (lv_room (Nat.le_of_ble_eq_true rfl)) dX1_isReduced_14 ⟨?_, ?_⟩) hW (fun u3 H locs hp hW => ?_)
      · omega
      · omega
      obtain ⟨ht3, hex3⟩ := hp
      refine lv_aload_n hx hb dX1_isReduced_17 rfl (lv_at hl 4 rfl) ?_
      refine lv_iload hx hb dX1_isReduced_18 (lv_at hl 0 rfl) ?_
      refine g_callv (va_runV (As := [.int (nI i)]) (rest := []) ⟨hx, hb, hml, hown, hts⟩ (mtX11_delete l D u3 H.size t9 ta i xs ht3 hc) (cwV 1 hts (lw_V q1540 q1541 q1542 q75 q1543) rfl rfl rfl (by decide +kernel) ⟨Nat.le_trans (Nat.le_of_ble_eq_true rfl) hRf, Nat.le_trans (Nat.le_of_ble_eq_true rfl) hRl⟩) (g_preV hW hK hE ht3.1 rfl) rfl rfl hl.1 rfl (lv_room (Nat.le_of_ble_eq_true rfl)) dX1_isReduced_20 ⟨?_, ?_⟩) hW (fun u4 H locs hp hW => ?_)
      · omega
      · omega
      obtain ⟨ht4, hex4⟩ := hp
      have hsep0 := hMa.sep hK ht nra
      have hrt : ∀ q, (q = m9 ∨ q = ra ∨ q = eb ∨ q = wb) → ¬ (q = t9 ∨ q = ta) := fun q h1 h2 => h2.elim (fun z => hsep0.1 (z ▸ h1)) (fun z => hsep0.2 (z ▸ h1))
      have hMa4 := ((hMa.ex hex3 (hrt _ (Or.inl rfl)) (hrt _ (Or.inr (Or.inl rfl))) (hrt _ (Or.inr (Or.inr (Or.inl rfl)))) (hrt _ (Or.inr (Or.inr (Or.inr rfl))))).ex hex4 (hrt _ (Or.inl rfl)) (hrt _ (Or.inr (Or.inl rfl))) (hrt _ (Or.inr (Or.inr (Or.inl rfl)))) (hrt _ (Or.inr (Or.inr (Or.inr rfl)))))
      have hex5 : g_ex (fun q => q = m9 ∨ q = ra ∨ q = eb ∨ q = wb0 ∨ q = t9 ∨ q = ta) w u4 := (hex.trM hex3 (fun z _ hz => hz.elim (fun z => Or.inr (Or.inr (Or.inr (Or.inr (Or.inl z))))) (fun z => Or.inr (Or.inr (Or.inr (Or.inr (Or.inr z))))))).trM hex4 (fun z _ hz => hz.elim (fun z => Or.inr (Or.inr (Or.inr (Or.inr (Or.inl z))))) (fun z => Or.inr (Or.inr (Or.inr (Or.inr (Or.inr z))))))
      obtain ⟨⟨x1, x2, x4, x5, x6, x7, x8, x9, x10, hx0⟩, hP⟩ := hcx.at hex5
      refine lv_aload_n hx hb dX1_isReduced_23 rfl (lv_at hl 1 rfl) ?_
      refine g_get (ci := 0) (v := .ref m9) (C := RX1) (T := TX1) (N := 11) hx hb hts in_X1 hown hK hW hx0 rfl 3 (by decide) q357 (fun _ h9 => h9) rfl dX1_isReduced_24 ?_
      refine lv_aload_n hx hb dX1_isReduced_27 rfl (lv_at hl 4 rfl) ?_
      refine lv_iload_n hx hb dX1_isReduced_28 rfl (lv_at hl 3 rfl) ?_
      obtain ⟨rd9, hm9⟩ := hMa4.1
      refine g_calli (va_runV (As := [.ref t9, .int (c9)]) (rest := []) ⟨hx, hb, hml, hown, hts⟩ (mtX2_isFailing l D u4 H.size m9 ra eb wb x st n cap t9 ta pg par pcap vv cd E x1 x2 (.ref m9) x4 x5 x6 x7 x8 x9 x10 ps P (xs.eraseIdx i) hMa4 hx0 hP ht4 nra c9) (cwV 2 hts (lw_V q1544 q1545 q1546 q38 q1547) rfl rfl rfl (by decide +kernel) ⟨Nat.le_trans (Nat.le_of_ble_eq_true rfl) hRf, Nat.le_trans (Nat.le_of_ble_eq_true rfl) hRl⟩) (g_preV hW hK hE hm9 rfl) rfl rfl hl.1 rfl (lv_room (Nat.le_of_ble_eq_true rfl)) dX1_isReduced_29 ⟨?_, ?_⟩) hW (fun r_ u1 H locs hp hW => ?_)
      · (try simp only [headSpec]); omega
      · (try simp only [headSpec]); omega
      obtain ⟨er, wb2, hMa2, hwb2, hex2⟩ := hp
      subst er
      have hx2 := hcx.tr hex5 hwb hex2
      have hwb3 := g_wbn hex5 hwb hwb2
      have hsep := hMa4.sep hK ht4 nra
      have ht2 := ht4.ex hex2 hsep.1 hsep.2
      by_cases hfl : mFails P (xs.eraseIdx i) c9 = true
      · rw [if_pos hfl]
        rw [if_pos hfl] at hs1 hs2
        refine lv_if_eq (tgt := 37) hx hb dX1_isReduced_32 (by decide) (fun hz => absurd hz (by decide)) (fun _ => ?_)
        exact kf wb2 _ _ _ _ _ _ u1 _ _ H locs ls hs1.symm (by omega) (by omega) hx2 (by rw [← hs2]; exact hMa2) hwb3 ht2 hW
      · rw [if_neg hfl]
        rw [if_neg hfl] at hs1 hs2
        refine lv_if_eq (tgt := 37) hx hb dX1_isReduced_32 (by decide) (fun _ => ?_) (fun hz => absurd rfl hz)
        refine lv_iinc (v := nI (i + 1)) (lv' := [(4, .int (nI (i + 1))), (0, .ref x), (1, .ref d), (2, .int (c9)), (3, .ref t9)]) hx hb dX1_isReduced_37 hl (k := 0) rfl (nI_1 i) (by decide) rfl (fun ls hl => ?_)
        refine lv_goto (tgt := 3) hx hb dX1_isReduced_40 (by decide) ?_
        exact ih (i + 1) (mC P cap (xs.eraseIdx i)) wb2 _ _ _ _ _ (xs.eraseIdx i) u1 _ _ H locs ls (by omega) (by omega) hs1 hs2 (by omega) (by omega) hx2 hMa2 hwb3 ht2 hW hl
