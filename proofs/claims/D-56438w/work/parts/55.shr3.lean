/-! ShrinkYard.isReduced -/
set_option maxRecDepth 100000
set_option maxHeartbeats 4000000 in
set_option maxRecDepth 100000 in
/-- ShrinkYard.isReduced: replacements -/
theorem lpX1_isReduced2 {p : Program} {l : Launch} {e : Env} {R : Room} {s : State} {m : MethodId} {args : Array Value} {below : List Frame} {meth : Method} {c : Code} {Q : State → Prop} {D : va_G} {A : Nat → Prop} (hx : p.tables.exec = Jvm.exec) (hb : c.code = cX1_isReduced) (hts : ∀ w ∈ lw_all, w.before args s = true) (hown : s.vm.findClass RX1 = some m.cls) (hK : va_K D gCl (gT D) s) (hE : g_Env D A s) (hml : c.maxLocals = 6) (hRf : 8 ≤ R.frames) (hRl : 213 ≤ R.locals) (w : g_H) (x m9 ra eb wb0 pg par pcap d da t9 ta : Nat) (ps : List Nat) (P : List mI) (xs : List Nat) (c9 : Int32) (hcx : g_CX D w x m9 ra eb wb0 pg par pcap ps P (fun q => q = m9 ∨ q = ra ∨ q = eb ∨ q = wb0 ∨ q = t9 ∨ q = ta)) (hd : g_Dig D w d da xs) (hdM : g_ni (fun q => q = m9 ∨ q = ra ∨ q = eb ∨ q = wb0 ∨ q = t9 ∨ q = ta) d) (hdaM : g_ni (fun q => q = m9 ∨ q = ra ∨ q = eb ∨ q = wb0 ∨ q = t9 ∨ q = ta) da) (nra : g_nq ra ta) (ntd : g_nq t9 d) (nta : g_nq ta da) (h9 : ∀ y ∈ xs, y < 8) (CF SF capF : Nat) (rF : Option (List Nat)) (hRc : CF ≤ R.cells) (hRs : SF ≤ R.slots) (kf : ∀ (wb : Nat) (vv : Value) (cd : Int32) (st : Nat) (E : Nat → Bool) (n : Nat) (zs : List Nat) (w1 : g_H) (cells slots : Nat) (H : Heap) (locs : List Loc) (ls : Array Slot), rF = some zs → cells ≤ CF → slots ≤ SF → g_ex (fun q => q = m9 ∨ q = ra ∨ q = eb ∨ q = wb0 ∨ q = t9 ∨ q = ta) w w1 → g_Ma D w1 m9 ra eb wb x vv cd st E n capF → (wb = wb0 ∨ wb ∉ w.1) → g_Dig D w1 t9 ta zs → g_W D A s.heap H locs w1 → W p l e R s m args below meth c H locs cells slots Q (F0 m 96 ls []))
    (kk : ∀ (cap : Nat) (wb : Nat) (vv : Value) (cd : Int32) (st : Nat) (E : Nat → Bool) (n : Nat) (zs : List Nat) (w1 : g_H) (cells : Nat) (slots : Nat) (H : Heap) (locs : List Loc) (ls : Array Slot), rF = none → cap = capF → cells ≤ CF → slots ≤ SF → g_ex (fun q => q = m9 ∨ q = ra ∨ q = eb ∨ q = wb0 ∨ q = t9 ∨ q = ta) w w1 → g_Ma D w1 m9 ra eb wb x vv cd st E n cap → (wb = wb0 ∨ wb ∉ w.1) → g_Dig D w1 t9 ta zs → g_W D A s.heap H locs w1 → lv_has ls 6 [(0, .ref x), (1, .ref d), (2, .int (c9)), (3, .ref t9)] → W p l e R s m args below meth c H locs cells slots Q (F0 m 110 ls [])) :
    ∀ (k : Nat) (i : Nat) (cap : Nat) (wb : Nat) (vv : Value) (cd : Int32) (st : Nat) (E : Nat → Bool) (n : Nat) (zs : List Nat) (w1 : g_H) (cells : Nat) (slots : Nat) (H : Heap) (locs : List Loc) (ls : Array Slot), xs.length < i + k → i ≤ xs.length → (sFind P c9 (repC xs i) cap).1 = rF → (sFind P c9 (repC xs i) cap).2 = capF → cells + (capF - cap) ≤ CF → slots + 2 * (capF - cap) ≤ SF → g_ex (fun q => q = m9 ∨ q = ra ∨ q = eb ∨ q = wb0 ∨ q = t9 ∨ q = ta) w w1 → g_Ma D w1 m9 ra eb wb x vv cd st E n cap → (wb = wb0 ∨ wb ∉ w.1) → g_Dig D w1 t9 ta zs → g_W D A s.heap H locs w1 → lv_has ls 6 [(4, .int (nI i)), (0, .ref x), (1, .ref d), (2, .int (c9)), (3, .ref t9)] → W p l e R s m args below meth c H locs cells slots Q (F0 m 46 ls []) := by
  intro k
  induction k with
  | zero => intro i cap wb vv cd st E n zs w1 cells slots H locs ls hfuel hi hs1 hs2 hcl hsl hex hMa hwb ht hW hl; exact absurd hfuel (by omega)
  | succ k ih =>
    intro i cap wb vv cd st E n zs w1 cells slots H locs ls hfuel hi hs1 hs2 hcl hsl hex hMa hwb ht hW hl
    have hd1 := hd.ex hex hdM hdaM
    obtain ⟨hd2, -, hd8⟩ := id hd1
    refine lv_iload hx hb dX1_isReduced_46 (lv_at hl 0 rfl) ?_
    refine lv_aload_n hx hb dX1_isReduced_48 rfl (lv_at hl 2 rfl) ?_
    refine g_getN (ci := 2) (v := .int (nI xs.length)) (C := RX11) (T := TX11) (N := 2) hx hb hts in_X11 hown hK hW hd2 rfl 1 (by decide) (nf_q1171 hE) (fun _ h9 => h9) rfl dX1_isReduced_49 ?_
    refine g_icmp_ge (tgt := 110) hx hb (by omega) (by omega) dX1_isReduced_52 (by decide) (fun hc => ?_) (fun hc => ?_)
    · rw [repC_end hc] at hs1 hs2
      have hs2 : cap = capF := hs2
      exact kk cap wb vv cd st E n zs w1 cells slots H locs ls hs1.symm hs2 (by omega) (by omega) hex hMa hwb ht hW (lv_sub hl [1, 2, 3, 4] rfl)
    · rw [repC_cons hc] at hs1 hs2
      refine lv_iconst (v := 0) hx hb dX1_isReduced_55 (by decide) ?_
      refine lv_istore (lv' := [(5, .int (0)), (4, .int (nI i)), (0, .ref x), (1, .ref d), (2, .int (c9)), (3, .ref t9)]) hx hb dX1_isReduced_56 hl (by decide) rfl (fun ls hl => ?_)
      refine lpX1_isReduced3 (D := D) hx hb hts hown hK hE hml hRf hRl w x m9 ra eb wb0 pg par pcap d da t9 ta ps P xs c9 hcx hd hdM hdaM nra ntd nta h9 CF SF capF rF hRc hRs i hc kf (fun cap wb vv cd st E n zs w1 cells slots H locs ls hs1 hs2 hcl hsl hex hMa hwb ht hW hl => ?_) (xs.getD i 0 + 1) 0 cap wb vv cd st E n zs w1 cells slots H locs ls (by omega) (by omega) hs1 hs2 hcl hsl hex hMa hwb ht hW hl
      refine lv_iinc (v := nI (i + 1)) (lv' := [(4, .int (nI (i + 1))), (0, .ref x), (1, .ref d), (2, .int (c9)), (3, .ref t9)]) hx hb dX1_isReduced_104 hl (k := 0) rfl (nI_1 i) (by decide) rfl (fun ls hl => ?_)
      refine lv_goto (tgt := 46) hx hb dX1_isReduced_107 (by decide) ?_
      exact ih (i + 1) cap wb vv cd st E n zs w1 cells slots H locs ls (by omega) (by omega) hs1 hs2 hcl hsl hex hMa hwb ht hW hl
set_option maxHeartbeats 4000000 in
set_option maxRecDepth 100000 in
/-- ShrinkYard.isReduced -/
theorem mtX1_isReduced (l : Launch) (D : va_G) (w : g_H) (sz : Nat) (x m9 ra eb wb pg par pcap d da t9 ta st n cap : Nat) (vv : Value) (cd : Int32) (E : Nat → Bool) (ps : List Nat) (P : List mI) (xs zs : List Nat) (c9 : Int32) (hcx : g_CX D w x m9 ra eb wb pg par pcap ps P (fun q => q = m9 ∨ q = ra ∨ q = eb ∨ q = wb ∨ q = t9 ∨ q = ta)) (hMa : g_Ma D w m9 ra eb wb x vv cd st E n cap) (hd : g_Dig D w d da xs) (ht : g_Dig D w t9 ta zs) (nrd : ra ≠ da) (nra : ra ≠ ta) (ntd : t9 ≠ d) (nta : ta ≠ da) (h9 : ∀ y ∈ xs, y < 8) : Met l yX1_isReduced (ws_ yX1_isReduced cX1_isReduced 6 (some .boolean)) ({ frames := 8, cells := (sFind P c9 (redL xs) cap).2 - cap, slots := 2 * ((sFind P c9 (redL xs) cap).2 - cap), locals := 213 }) (g_Pc D [.ref x, .ref d, .int (c9), .ref t9] w sz) (g_Qi D w sz (fun r u => r = (if (sFind P c9 (redL xs) cap).1.isSome = true then 1 else 0) ∧ ∃ wb2 vv cd st E n ys, g_Ma D u m9 ra eb wb2 x vv cd st E n (sFind P c9 (redL xs) cap).2 ∧ (wb2 = wb ∨ wb2 ∉ w.1) ∧ g_Dig D u t9 ta ys ∧ (∀ y, (sFind P c9 (redL xs) cap).1 = some y → ys = y) ∧ g_ex (fun q => q = m9 ∨ q = ra ∨ q = eb ∨ q = wb ∨ q = t9 ∨ q = ta) w u)) ((sFind P c9 (redL xs) cap).2 - cap) (2 * ((sFind P c9 (redL xs) cap).2 - cap)) (g_A w sz) := by
  refine Met.ofW (cc := cX1_isReduced) (maxL := 6) (ret := (some .boolean)) (by decide) rfl ?_
  intro p e s m args below meth c s₁ B hml hv
  obtain ⟨rfl, hI⟩ := hv
  have hx := B.exec
  have hb := B.bytes
  have hr := B.returns
  have hts := atoms_spec (ws := ws_ yX1_isReduced cX1_isReduced 6 (some .boolean)) B.pre
  have hts : ∀ w ∈ lw_all, w.before _ s = true := fun w h => hts w (List.mem_cons_of_mem _ h)
  have hown : s.vm.findClass RX1 = some m.cls := findClass_of_methodNamed B.named
  have hlocks := B.notSynchronized
  have hsz := hI.1
  subst hsz
  have hW := g_W.start hI
  have hK := g_K hI
  have hE := g_E hI
  have hl := lv_entry ([.ref x, .ref d, .int (c9), .ref t9]) (n := 6) (by exact Nat.le_of_ble_eq_true rfl)
  rw [lg_entry_eq]
  generalize (lg_sl ([.ref x, .ref d, .int (c9), .ref t9]) ++ List.replicate (6 - (lg_sl ([.ref x, .ref d, .int (c9), .ref t9])).length) Slot.unset).toArray = ls at hl ⊢
  have hl : lv_has ls 6 [(0, .ref x), (1, .ref d), (2, .int (c9)), (3, .ref t9)] := hl
  have hsd := hMa.sep hK hd nrd
  have hdM : g_ni (fun q => q = m9 ∨ q = ra ∨ q = eb ∨ q = wb ∨ q = t9 ∨ q = ta) d := fun z => hsd.1 (z.elim Or.inl (fun z => z.elim (fun z => Or.inr (Or.inl z)) (fun z => z.elim (fun z => Or.inr (Or.inr (Or.inl z))) (fun z => z.elim (fun z => Or.inr (Or.inr (Or.inr z))) (fun z => z.elim (fun z => absurd z.symm ntd) (fun z => absurd z (by obtain ⟨f9, hf9, -⟩ := ht.2.1; exact g_neOA hd.1 hf9)))))))
  have hdaM : g_ni (fun q => q = m9 ∨ q = ra ∨ q = eb ∨ q = wb ∨ q = t9 ∨ q = ta) da := fun z => hsd.2 (z.elim Or.inl (fun z => z.elim (fun z => Or.inr (Or.inl z)) (fun z => z.elim (fun z => Or.inr (Or.inr (Or.inl z))) (fun z => z.elim (fun z => Or.inr (Or.inr (Or.inr z))) (fun z => z.elim (fun z => absurd z (by obtain ⟨f9, hf9, -⟩ := hd.2.1; exact g_neAO hf9 ht.1)) (fun z => absurd z.symm nta))))))
  refine lv_iconst (v := 0) hx hb dX1_isReduced_0 (by decide) ?_
  refine lv_istore (lv' := [(4, .int (0)), (0, .ref x), (1, .ref d), (2, .int (c9)), (3, .ref t9)]) hx hb dX1_isReduced_1 hl (by decide) rfl (fun ls hl => ?_)
  refine lpX1_isReduced1 (D := D) hx hb hts hown hK hE hml (Nat.le_of_ble_eq_true rfl) (Nat.le_of_ble_eq_true rfl) w x m9 ra eb wb pg par pcap d da t9 ta ps P xs c9 hcx hd hdM hdaM nra ntd nta h9 ((sFind P c9 (redL xs) cap).2 - cap) (2 * ((sFind P c9 (redL xs) cap).2 - cap)) (sFind P c9 (redL xs) cap).2 (sFind P c9 (redL xs) cap).1 (Nat.le_refl _) (Nat.le_refl _) (fun wb2 vv cd st E n zs w1 cells slots H locs ls hf hcl hsl hex hMa hwb ht hW => ?_) (fun cap2 wb2 vv cd st E n zs w1 cells slots H locs ls hs1 hs2 hcl hsl hex hMa hwb ht hW hl => ?_) (xs.length + 1) 0 cap wb vv cd st E n zs w _ _ _ _ ls (by omega) (by omega) rfl rfl (by omega) (by omega) g_ex.rf hMa (Or.inl rfl) ht hW hl
  · refine lv_iconst (v := 1) hx hb dX1_isReduced_35 (by decide) ?_
    have e9 : (sFind P c9 (redL xs) cap).1.isSome = true := by rw [hf]; rfl
    exact g_zret (v := 1) hx hb hr hlocks (by rfl) hW (⟨by rw [if_pos e9], wb2, vv, cd, st, E, n, zs, hMa, hwb, ht, (fun y hy => Option.some.inj (hf.symm.trans hy)), hex⟩) hcl hsl dX1_isReduced_36
  · refine lv_iconst (v := 0) hx hb dX1_isReduced_43 (by decide) ?_
    refine lv_istore (lv' := [(4, .int (0)), (0, .ref x), (1, .ref d), (2, .int (c9)), (3, .ref t9)]) hx hb dX1_isReduced_44 hl (by decide) rfl (fun ls hl => ?_)
    refine lpX1_isReduced2 (D := D) hx hb hts hown hK hE hml (Nat.le_of_ble_eq_true rfl) (Nat.le_of_ble_eq_true rfl) w x m9 ra eb wb pg par pcap d da t9 ta ps P xs c9 hcx hd hdM hdaM nra ntd nta h9 ((sFind P c9 (redL xs) cap).2 - cap) (2 * ((sFind P c9 (redL xs) cap).2 - cap)) (sFind P c9 (redL xs) cap).2 (sFind P c9 (redL xs) cap).1 (Nat.le_refl _) (Nat.le_refl _) (fun wb2 vv cd st E n zs w1 cells slots H locs ls hf hcl hsl hex hMa hwb ht hW => ?_) (fun cap2 wb2 vv cd st E n zs w1 cells slots H locs ls hn hcp hcl hsl hex hMa hwb ht hW hl => ?_) (xs.length + 1) 0 cap2 wb2 vv cd st E n zs w1 _ _ _ _ ls (by omega) (by omega) hs1 hs2 (by omega) (by omega) hex hMa hwb ht hW hl
    · refine lv_iconst (v := 1) hx hb dX1_isReduced_96 (by decide) ?_
      have e9 : (sFind P c9 (redL xs) cap).1.isSome = true := by rw [hf]; rfl
      exact g_zret (v := 1) hx hb hr hlocks (by rfl) hW (⟨by rw [if_pos e9], wb2, vv, cd, st, E, n, zs, hMa, hwb, ht, (fun y hy => Option.some.inj (hf.symm.trans hy)), hex⟩) hcl hsl dX1_isReduced_97
    · refine lv_iconst (v := 0) hx hb dX1_isReduced_110 (by decide) ?_
      have e9 : ¬ (sFind P c9 (redL xs) cap).1.isSome = true := by rw [hn]; simp
      exact g_zret (v := 0) hx hb hr hlocks (by rfl) hW (⟨by rw [if_neg e9], wb2, vv, cd, st, E, n, zs, (by rw [← hcp]; exact hMa), hwb, ht, (fun y hy => by rw [hn] at hy; cases hy), hex⟩) hcl hsl dX1_isReduced_111
