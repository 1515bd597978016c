/-! ShrinkYard$Digits: an input's digits. g_Dig D w a da xs: at a stands a Digits with its array at da, holding the digits xs (at most 8) -/
set_option maxRecDepth 100000
def g_Dig (D : va_G) (w : g_H) (a da : Nat) (xs : List Nat) : Prop := g_at w a (.inr (2, [.ref da, .int (nI xs.length)])) ∧ (∃ f : Nat → Int32, g_at w da (.inl (D.1 100, 8, .inl f)) ∧ g_is f xs) ∧ xs.length ≤ 8
theorem g_Dig.ex {D : va_G} {M : Nat → Prop} {w w' : g_H} {a da : Nat} {xs : List Nat} (h : g_Dig D w a da xs) (k : g_ex M w w') (n1 : ¬ M a) (n2 : ¬ M da) : g_Dig D w' a da xs := by
  obtain ⟨h1, ⟨f, h2, h3⟩, h4⟩ := h
  exact ⟨k.at h1 n1, ⟨f, k.at h2 n2, h3⟩, h4⟩
theorem g_erase {xs : List Nat} {p : Nat} {f g : Nat → Int32} (hp : p < xs.length) (h : g_is g xs) (h1 : ∀ j, p ≤ j → j < xs.length - 1 → f j = g (j + 1)) (h2 : ∀ j, j < p → f j = g j) : g_is f (xs.eraseIdx p) := by
  intro j hj
  rw [List.length_eraseIdx_of_lt hp] at hj
  rw [List.getD_eq_getElem?_getD, List.getElem?_eraseIdx]
  by_cases q : j < p
  · rw [if_pos q, h2 j q, h j (by omega), List.getD_eq_getElem?_getD]
  · rw [if_neg q, h1 j (by omega) hj, h (j + 1) (by omega), List.getD_eq_getElem?_getD]
theorem g_ins {xs : List Nat} {p d : Nat} {f g : Nat → Int32} (hp : p ≤ xs.length) (h : g_is g xs) (h1 : ∀ j, p < j → j ≤ xs.length → f j = g (j - 1)) (h2 : ∀ j, j < p → f j = g j) (h3 : f p = nI d) : g_is f (xs.insertIdx p d) := by
  intro j hj
  rw [List.length_insertIdx_of_le_length hp] at hj
  rw [List.getD_eq_getElem?_getD, List.getElem?_insertIdx]
  by_cases q : j < p
  · rw [if_pos q, h2 j q, h j (by omega), List.getD_eq_getElem?_getD]
  · rw [if_neg q]
    by_cases r : j = p
    · subst r; rw [if_pos rfl, if_pos hp, h3]; rfl
    · rw [if_neg r, h1 j (by omega) (by omega), h (j - 1) (by omega), List.getD_eq_getElem?_getD]
/-- the next input of the same length, if there is one: the places from i on are 7 and become 0, the one ahead of them grows -/
def dNx : List Nat → Option (List Nat)
  | [] => none
  | x :: xs => match dNx xs with
    | some ys => some (x :: ys)
    | none => if x = 7 then none else some ((x + 1) :: xs.map (fun _ => 0))
set_option maxHeartbeats 4000000 in
set_option maxRecDepth 100000 in
/-- Digits.copy: its loop -/
theorem lpX11_copy {p : Program} {l : Launch} {e : Env} {R : Room} {s : State} {m : MethodId} {args : Array Value} {below : List Frame} {meth : Method} {c : Code} {cells slots : Nat} {Q : State → Prop} {D : va_G} {A : Nat → Prop} {H0 : Heap} (hx : p.tables.exec = Jvm.exec) (hb : c.code = cX11_copy) (hts : ∀ w ∈ lw_all, w.before args s = true) (hown : s.vm.findClass RX11 = some m.cls) (hK : va_K D gCl (gT D) s) (w : g_H) (a b da db n : Nat) (g : Nat → Int32) (hn : n ≤ 8) (nab : a ≠ b) (nd : da ≠ db)
    (kk : ∀ (w1 : g_H) (f1 : Nat → Int32) (H : Heap) (locs : List Loc) (ls : Array Slot), (∀ j, j < n → f1 j = g j) → g_ex (fun q => q = a ∨ q = da) w w1 → g_at w1 a (.inr (2, [.ref da, .int (nI n)])) → g_at w1 da (.inl (D.1 100, 8, .inl (f1))) → g_at w1 b (.inr (2, [.ref db, .int (nI n)])) → g_at w1 db (.inl (D.1 100, 8, .inl (g))) → g_W D A H0 H locs w1 → lv_has ls 3 [(0, .ref a)] → W p l e R s m args below meth c H locs cells slots Q (F0 m 36 ls [])) :
    ∀ (k : Nat) (i : Nat) (w1 : g_H) (f1 : Nat → Int32) (H : Heap) (locs : List Loc) (ls : Array Slot), n < i + k → i ≤ n → (∀ j, j < i → f1 j = g j) → g_ex (fun q => q = a ∨ q = da) w w1 → g_at w1 a (.inr (2, [.ref da, .int (nI n)])) → g_at w1 da (.inl (D.1 100, 8, .inl (f1))) → g_at w1 b (.inr (2, [.ref db, .int (nI n)])) → g_at w1 db (.inl (D.1 100, 8, .inl (g))) → g_W D A H0 H locs w1 → lv_has ls 3 [(2, .int (nI i)), (0, .ref a), (1, .ref b)] → W p l e R s m args below meth c H locs cells slots Q (F0 m 10 ls []) := by
  intro k
  induction k with
  | zero => intro i w1 f1 H locs ls hfuel hi hf hex h1 h2 h3 h4 hW hl; exact absurd hfuel (by omega)
  | succ k ih =>
    intro i w1 f1 H locs ls hfuel hi hf hex h1 h2 h3 h4 hW hl
    refine lv_iload_n hx hb dX11_copy_10 rfl (lv_at hl 0 rfl) ?_
    refine lv_aload_n hx hb dX11_copy_11 rfl (lv_at hl 1 rfl) ?_
    refine g_get (ci := 2) (v := .int (nI n)) (C := RX11) (T := TX11) (N := 2) hx hb hts in_X11 hown hK hW h1 rfl 1 (by decide) q1167 (fun _ h9 => h9) rfl dX11_copy_12 ?_
    refine g_icmp_ge (tgt := 36) hx hb (by omega) (by omega) dX11_copy_15 (by decide) (fun hc => ?_) (fun hc => ?_)
    · have e1 : i = n := by omega
      subst e1
      exact kk w1 f1 H locs ls hf hex h1 h2 h3 h4 hW (lv_sub hl [1] rfl)
    · refine lv_aload_n hx hb dX11_copy_18 rfl (lv_at hl 1 rfl) ?_
      refine g_get (ci := 2) (v := .ref da) (C := RX11) (T := TX11) (N := 2) hx hb hts in_X11 hown hK hW h1 rfl 0 (by decide) q1162 (fun _ h9 => h9) rfl dX11_copy_19 ?_
      refine lv_iload_n hx hb dX11_copy_22 rfl (lv_at hl 0 rfl) ?_
      refine lv_aload_n hx hb dX11_copy_23 rfl (lv_at hl 2 rfl) ?_
      refine g_get (ci := 2) (v := .ref db) (C := RX11) (T := TX11) (N := 2) hx hb hts in_X11 hown hK hW h3 rfl 0 (by decide) q1162 (fun _ h9 => h9) rfl dX11_copy_24 ?_
      refine lv_iload_n hx hb dX11_copy_27 rfl (lv_at hl 0 rfl) ?_
      refine g_iald (i := i) hx hb hK hW h4 (by omega) (by decide) dX11_copy_28 ?_
      refine g_iast (i := i) hx hb hK hW h2 (by omega) (by decide) dX11_copy_29 (fun H locs hW => ?_)
      obtain ⟨f_1, ef_1⟩ : ∃ z__, z__ = upd (f1) (i) (g (i)) := ⟨_, rfl⟩
      rw [← ef_1] at hW
      obtain ⟨w_2, ew_2⟩ : ∃ z__, z__ = g_put w1 da (.inl (D.1 100, 8, .inl (f_1))) := ⟨_, rfl⟩
      have hW := g_W.ren hW ew_2 rfl
      have h_3 : g_at w_2 a (.inr (2, [.ref da, .int (nI n)])) := by rw [ew_2]; exact h1.put (g_neOA h1 h2)
      have h_4 : g_at w_2 da (.inl (D.1 100, 8, .inl (f_1))) := by rw [ew_2]; exact g_at.put_self h2.1
      have h_5 : g_at w_2 b (.inr (2, [.ref db, .int (nI n)])) := by rw [ew_2]; exact h3.put (g_neOA h3 h2)
      have h_6 : g_at w_2 db (.inl (D.1 100, 8, .inl (g))) := by rw [ew_2]; exact h4.put nd.symm
      have x_7 : g_ex (fun q => q = a ∨ q = da) w w_2 := by rw [ew_2]; exact hex.put (fun hz9 => (Or.inr (rfl)))
      refine lv_iinc (v := nI (i + 1)) (lv' := [(2, .int (nI (i + 1))), (0, .ref a), (1, .ref b)]) hx hb dX11_copy_30 hl (k := 0) rfl (nI_1 i) (by decide) rfl (fun ls hl => ?_)
      refine lv_goto (tgt := 10) hx hb dX11_copy_33 (by decide) ?_
      refine ih (i + 1) w_2 f_1 H locs ls (by omega) (by omega) (fun j hj => ?_) x_7 h_3 h_4 h_5 h_6 hW hl
      rw [ef_1]
      by_cases hji : j = i
      · subst hji; exact pk_us
      · rw [pk_un hji]; exact hf j (by omega)
set_option maxHeartbeats 4000000 in
set_option maxRecDepth 100000 in
/-- Digits.copy: the digits of another -/
theorem mtX11_copy (l : Launch) (D : va_G) (w : g_H) (sz : Nat) (a b da db la : Nat) (fa : Nat → Int32) (ys : List Nat) (ha : g_at w a (.inr (2, [.ref da, .int (nI la)]))) (hda : g_at w da (.inl (D.1 100, 8, .inl fa))) (hbd : g_Dig D w b db ys) (nab : a ≠ b) (nd : da ≠ db) : Met l yX11_copy (ws_ yX11_copy cX11_copy 3 none) ({ frames := 1, cells := 0, slots := 0, locals := 12 }) (g_Pc D [.ref a, .ref b] w sz) (g_Qv D w sz (fun u => g_Dig D u a da ys ∧ g_ex (fun q => q = a ∨ q = da) w u)) (0) (0) (g_A w sz) := by
  refine Met.ofW (cc := cX11_copy) (maxL := 3) (ret := none) (by decide) rfl ?_
  intro p e s m args below meth c s₁ B hml hv
  obtain ⟨rfl, hI⟩ := hv
  have hx := B.exec
  have hb := B.bytes
  have hr := B.returns
  have hts := atoms_spec (ws := ws_ yX11_copy cX11_copy 3 none) B.pre
  have hts : ∀ w ∈ lw_all, w.before _ s = true := fun w h => hts w (List.mem_cons_of_mem _ h)
  have hown : s.vm.findClass RX11 = some m.cls := findClass_of_methodNamed B.named
  have hlocks := B.notSynchronized
  have hsz := hI.1
  subst hsz
  have hW := g_W.start hI
  have hK := g_K hI
  have hE := g_E hI
  have hl := lv_entry ([.ref a, .ref b]) (n := 3) (by exact Nat.le_of_ble_eq_true rfl)
  rw [lg_entry_eq]
  generalize (lg_sl ([.ref a, .ref b]) ++ List.replicate (3 - (lg_sl ([.ref a, .ref b])).length) Slot.unset).toArray = ls at hl ⊢
  have hl : lv_has ls 3 [(0, .ref a), (1, .ref b)] := hl
  obtain ⟨hb1, ⟨g, hb2, hg⟩, hlen⟩ := hbd
  have x_1 : g_ex (fun q => q = a ∨ q = da) w w := g_ex.rf
  refine lv_aload_n hx hb dX11_copy_0 rfl (lv_at hl 0 rfl) ?_
  refine lv_aload_n hx hb dX11_copy_1 rfl (lv_at hl 1 rfl) ?_
  refine g_get (ci := 2) (v := .int (nI ys.length)) (C := RX11) (T := TX11) (N := 2) hx hb hts in_X11 hown hK hW hb1 rfl 1 (by decide) q1167 (fun _ h9 => h9) rfl dX11_copy_2 ?_
  refine g_putf (ci := 2) (v := .int (nI ys.length)) (ty := .int) (C := RX11) (T := TX11) (N := 2) hx hb hts in_X11 tyX11 tyX11_ok nmX11 hown hK hW ha rfl 1 (by decide) q1167 (fun _ h9 => h9) rfl (by decide +kernel) rfl rfl (Nat.le_of_ble_eq_true rfl) dX11_copy_5 (fun H locs hW => ?_)
  obtain ⟨w_2, ew_2⟩ : ∃ z__, z__ = g_put w a (.inr (2, [.ref da, .int (nI ys.length)])) := ⟨_, rfl⟩
  have hW := g_W.ren hW ew_2 rfl
  have h_3 : g_at w_2 a (.inr (2, [.ref da, .int (nI ys.length)])) := by rw [ew_2]; exact g_at.put_self ha.1
  have h_4 : g_at w_2 da (.inl (D.1 100, 8, .inl (fa))) := by rw [ew_2]; exact hda.put (g_neAO hda ha)
  have h_5 : g_at w_2 b (.inr (2, [.ref db, .int (nI ys.length)])) := by rw [ew_2]; exact hb1.put nab.symm
  have h_6 : g_at w_2 db (.inl (D.1 100, 8, .inl (g))) := by rw [ew_2]; exact hb2.put (g_neAO hb2 ha)
  have x_7 : g_ex (fun q => q = a ∨ q = da) w w_2 := by rw [ew_2]; exact x_1.put (fun hz9 => (Or.inl rfl))
  refine lv_iconst (v := 0) hx hb dX11_copy_8 (by decide) ?_
  refine lv_istore_n (lv' := [(2, .int (0)), (0, .ref a), (1, .ref b)]) hx hb dX11_copy_9 rfl hl (by decide) rfl (fun ls hl => ?_)
  refine lpX11_copy (D := D) hx hb hts hown hK w a b da db ys.length g hlen nab nd (fun w1 f1 H locs ls hf hex k1 k2 k3 k4 hW hl => ?_) (ys.length + 1) 0 w_2 fa H locs ls (by omega) (by omega) (fun j hj => absurd hj (by omega)) x_7 h_3 h_4 h_5 h_6 hW hl
  exact g_vret hx hb hr hlocks hW (⟨⟨k1, ⟨f1, k2, fun j hj => (hf j hj).trans (hg j hj)⟩, hlen⟩, hex⟩) (by omega) (by omega) dX11_copy_36
set_option maxHeartbeats 4000000 in
set_option maxRecDepth 100000 in
/-- new Digits() -/
theorem mtX11_init (l : Launch) (D : va_G) (w : g_H) (sz : Nat) (a : Nat) (ha : g_at w a (.inr (2, [.null, .int 0]))) : Met l yX11_init (ws_ yX11_init cX11_init 1 none) ({ frames := 1, cells := 1, slots := 8, locals := 12 }) (g_Pc D [.ref a] w sz) (g_Qv D w sz (fun u => ∃ da, da ∉ w.1 ∧ g_Dig D u a da [] ∧ g_ex (fun q => q = a) w u)) (1) (8) (g_A w sz) := by
  refine Met.ofW (cc := cX11_init) (maxL := 1) (ret := none) (by decide) rfl ?_
  intro p e s m args below meth c s₁ B hml hv
  obtain ⟨rfl, hI⟩ := hv
  have hx := B.exec
  have hb := B.bytes
  have hr := B.returns
  have hts := atoms_spec (ws := ws_ yX11_init cX11_init 1 none) B.pre
  have hts : ∀ w ∈ lw_all, w.before _ s = true := fun w h => hts w (List.mem_cons_of_mem _ h)
  have hown : s.vm.findClass RX11 = some m.cls := findClass_of_methodNamed B.named
  have hlocks := B.notSynchronized
  have hin : meth.name = "<init>" := (name_of_methodNamed B.named B.method).1
  have hsz := hI.1
  subst hsz
  have hW := g_W.start hI
  have hK := g_K hI
  have hE := g_E hI
  have hl := lv_entry ([.ref a]) (n := 1) (by exact Nat.le_of_ble_eq_true rfl)
  rw [lg_entry_eq]
  generalize (lg_sl ([.ref a]) ++ List.replicate (1 - (lg_sl ([.ref a])).length) Slot.unset).toArray = ls at hl ⊢
  have hl : lv_has ls 1 [(0, .ref a)] := hl
  have x_1 : g_ex (fun q => q = a) w w := g_ex.rf
  refine lv_aload_n hx hb dX11_init_0 rfl (lv_at hl 0 rfl) ?_
  refine W.objInit hx hb hown (hts _ q1161) (hts _ q104) (hts _ q105) rfl (by rw [hml]; exact hl.1) rfl dX11_init_1 (Nat.le_of_ble_eq_true rfl) (Nat.le_of_ble_eq_true rfl) ?_
  refine W.eq (g2 := F0 m 4 ls []) rfl ?_
  refine lv_aload_n hx hb dX11_init_4 rfl (lv_at hl 0 rfl) ?_
  refine lv_bipush (v := 8) hx hb dX11_init_5 (by decide) ?_
  refine g_newa (k := 0) (atype := .int) (ty := .int) (cB := D.1 100) hx hb rfl (hts _ q187) hK hW rfl 8 (8, .inl (fun _ => 0)) (fun _ => rfl) (by decide) (by decide +kernel) (by decide +kernel) (by decide) (by decide) dX11_init_7 (fun q_2 H hq hW => ?_)
  have hq_2 := hq
  obtain ⟨w_3, ew_3⟩ : ∃ z__, z__ = g_push w q_2 (.inl (D.1 100, 8, .inl ((fun _ => 0)))) := ⟨_, rfl⟩
  have hW := g_W.ren hW ew_3 rfl
  have h_4 : g_at w_3 a (.inr (2, [.null, .int (0)])) := by rw [ew_3]; exact ha.push hq
  have h_5 : g_at w_3 q_2 (.inl (D.1 100, 8, .inl ((fun _ => 0)))) := by rw [ew_3]; exact g_at.push_self
  have x_6 : g_ex (fun q => q = a) w w_3 := by rw [ew_3]; exact x_1.push hq
  refine g_putF (ci := 2) (v := .ref q_2) (ty := (.array .int)) (C := RX11) (T := TX11) (N := 2) hx hb hts in_X11 tyX11 tyX11_ok nmX11 hown hK hW h_4 rfl 0 (by decide) q1162 (fun _ h9 => h9) rfl hin rfl (by decide +kernel) rfl rfl (Nat.le_of_ble_eq_true rfl) dX11_init_9 (fun H locs hW => ?_)
  obtain ⟨w_7, ew_7⟩ : ∃ z__, z__ = g_put w_3 a (.inr (2, [.ref q_2, .int (0)])) := ⟨_, rfl⟩
  have hW := g_W.ren hW ew_7 rfl
  have h_8 : g_at w_7 a (.inr (2, [.ref q_2, .int (0)])) := by rw [ew_7]; exact g_at.put_self h_4.1
  have h_9 : g_at w_7 q_2 (.inl (D.1 100, 8, .inl ((fun _ => 0)))) := by rw [ew_7]; exact h_5.put (g_neAO h_5 h_4)
  have x_10 : g_ex (fun q => q = a) w w_7 := by rw [ew_7]; exact x_6.put (fun hz9 => rfl)
  exact g_vret hx hb hr hlocks hW (⟨q_2, hq, ⟨h_8, ⟨fun _ => 0, h_9, fun j hj => absurd hj (by simp)⟩, by simp⟩, x_10⟩) (by omega) (by omega) dX11_init_12
set_option maxHeartbeats 4000000 in
set_option maxRecDepth 100000 in
/-- Digits.delete: its loop -/
theorem lpX11_delete {p : Program} {l : Launch} {e : Env} {R : Room} {s : State} {m : MethodId} {args : Array Value} {below : List Frame} {meth : Method} {c : Code} {cells slots : Nat} {Q : State → Prop} {D : va_G} {A : Nat → Prop} {H0 : Heap} (hx : p.tables.exec = Jvm.exec) (hb : c.code = cX11_delete) (hts : ∀ w ∈ lw_all, w.before args s = true) (hown : s.vm.findClass RX11 = some m.cls) (hK : va_K D gCl (gT D) s) (w : g_H) (a da n pl : Nat) (g : Nat → Int32) (hn : n < 8)
    (kk : ∀ (w1 : g_H) (f1 : Nat → Int32) (H : Heap) (locs : List Loc) (ls : Array Slot), (∀ j, pl ≤ j → j < n → f1 j = g (j + 1)) → (∀ j, j < pl → f1 j = g j) → g_ex (fun q => q = a ∨ q = da) w w1 → g_at w1 a (.inr (2, [.ref da, .int (nI n)])) → g_at w1 da (.inl (D.1 100, 8, .inl (f1))) → g_W D A H0 H locs w1 → lv_has ls 3 [(0, .ref a)] → W p l e R s m args below meth c H locs cells slots Q (F0 m 40 ls [])) :
    ∀ (k : Nat) (i : Nat) (w1 : g_H) (f1 : Nat → Int32) (H : Heap) (locs : List Loc) (ls : Array Slot), n < i + k → pl ≤ i → i ≤ n → (∀ j, pl ≤ j → j < i → f1 j = g (j + 1)) → (∀ j, j < pl ∨ i ≤ j → f1 j = g j) → g_ex (fun q => q = a ∨ q = da) w w1 → g_at w1 a (.inr (2, [.ref da, .int (nI n)])) → g_at w1 da (.inl (D.1 100, 8, .inl (f1))) → g_W D A H0 H locs w1 → lv_has ls 3 [(2, .int (nI i)), (0, .ref a)] → W p l e R s m args below meth c H locs cells slots Q (F0 m 12 ls []) := by
  intro k
  induction k with
  | zero => intro i w1 f1 H locs ls hfuel hi hi2 hf hg hex h1 h2 hW hl; exact absurd hfuel (by omega)
  | succ k ih =>
    intro i w1 f1 H locs ls hfuel hi hi2 hf hg hex h1 h2 hW hl
    refine lv_iload_n hx hb dX11_delete_12 rfl (lv_at hl 0 rfl) ?_
    refine lv_aload_n hx hb dX11_delete_13 rfl (lv_at hl 1 rfl) ?_
    refine g_get (ci := 2) (v := .int (nI n)) (C := RX11) (T := TX11) (N := 2) hx hb hts in_X11 hown hK hW h1 rfl 1 (by decide) q1167 (fun _ h9 => h9) rfl dX11_delete_14 ?_
    refine g_icmp_ge (tgt := 40) hx hb (by omega) (by omega) dX11_delete_17 (by decide) (fun hc => ?_) (fun hc => ?_)
    · have e1 : i = n := by omega
      subst e1
      exact kk w1 f1 H locs ls (fun j a b => hf j a b) (fun j a => hg j (Or.inl a)) hex h1 h2 hW (lv_sub hl [1] rfl)
    · refine lv_aload_n hx hb dX11_delete_20 rfl (lv_at hl 1 rfl) ?_
      refine g_get (ci := 2) (v := .ref da) (C := RX11) (T := TX11) (N := 2) hx hb hts in_X11 hown hK hW h1 rfl 0 (by decide) q1162 (fun _ h9 => h9) rfl dX11_delete_21 ?_
      refine lv_iload_n hx hb dX11_delete_24 rfl (lv_at hl 0 rfl) ?_
      refine lv_aload_n hx hb dX11_delete_25 rfl (lv_at hl 1 rfl) ?_
      refine g_get (ci := 2) (v := .ref da) (C := RX11) (T := TX11) (N := 2) hx hb hts in_X11 hown hK hW h1 rfl 0 (by decide) q1162 (fun _ h9 => h9) rfl dX11_delete_26 ?_
      refine lv_iload_n hx hb dX11_delete_29 rfl (lv_at hl 0 rfl) ?_
      refine lv_iconst (v := 1) hx hb dX11_delete_30 (by decide) ?_
      refine lv_iadd hx hb dX11_delete_31 ?_
      refine g_topi (y := nI (i + 1)) (nI_1 i) ?_
      refine g_iald (i := i + 1) hx hb hK hW h2 (by omega) (by decide) dX11_delete_32 ?_
      refine g_iast (i := i) hx hb hK hW h2 (by omega) (by decide) dX11_delete_33 (fun H locs hW => ?_)
      obtain ⟨f_1, ef_1⟩ : ∃ z__, z__ = upd (f1) (i) (f1 (i + 1)) := ⟨_, rfl⟩
      rw [← ef_1] at hW
      obtain ⟨w_2, ew_2⟩ : ∃ z__, z__ = g_put w1 da (.inl (D.1 100, 8, .inl (f_1))) := ⟨_, rfl⟩
      have hW := g_W.ren hW ew_2 rfl
      have h_3 : g_at w_2 a (.inr (2, [.ref da, .int (nI n)])) := by rw [ew_2]; exact h1.put (g_neOA h1 h2)
      have h_4 : g_at w_2 da (.inl (D.1 100, 8, .inl (f_1))) := by rw [ew_2]; exact g_at.put_self h2.1
      have x_5 : g_ex (fun q => q = a ∨ q = da) w w_2 := by rw [ew_2]; exact hex.put (fun hz9 => (Or.inr (rfl)))
      refine lv_iinc (v := nI (i + 1)) (lv' := [(2, .int (nI (i + 1))), (0, .ref a)]) hx hb dX11_delete_34 hl (k := 0) rfl (nI_1 i) (by decide) rfl (fun ls hl => ?_)
      refine lv_goto (tgt := 12) hx hb dX11_delete_37 (by decide) ?_
      refine ih (i + 1) w_2 f_1 H locs ls (by omega) (by omega) (by omega) (fun j a b => ?_) (fun j a => ?_) x_5 h_3 h_4 hW hl
      · rw [ef_1]
        by_cases hji : j = i
        · subst hji; rw [pk_us]; exact hg (j + 1) (Or.inr (by omega))
        · rw [pk_un hji]; exact hf j a (by omega)
      · rw [ef_1, pk_un (by omega)]; exact hg j (by omega)
set_option maxHeartbeats 4000000 in
set_option maxRecDepth 100000 in
/-- Digits.delete -/
theorem mtX11_delete (l : Launch) (D : va_G) (w : g_H) (sz : Nat) (a da pl : Nat) (xs : List Nat) (hd : g_Dig D w a da xs) (hp : pl < xs.length) : Met l yX11_delete (ws_ yX11_delete cX11_delete 3 none) ({ frames := 1, cells := 0, slots := 0, locals := 12 }) (g_Pc D [.ref a, .int (nI pl)] w sz) (g_Qv D w sz (fun u => g_Dig D u a da (xs.eraseIdx pl) ∧ g_ex (fun q => q = a ∨ q = da) w u)) (0) (0) (g_A w sz) := by
  refine Met.ofW (cc := cX11_delete) (maxL := 3) (ret := none) (by decide) rfl ?_
  intro p e s m args below meth c s₁ B hml hv
  obtain ⟨rfl, hI⟩ := hv
  have hx := B.exec
  have hb := B.bytes
  have hr := B.returns
  have hts := atoms_spec (ws := ws_ yX11_delete cX11_delete 3 none) B.pre
  have hts : ∀ w ∈ lw_all, w.before _ s = true := fun w h => hts w (List.mem_cons_of_mem _ h)
  have hown : s.vm.findClass RX11 = some m.cls := findClass_of_methodNamed B.named
  have hlocks := B.notSynchronized
  have hsz := hI.1
  subst hsz
  have hW := g_W.start hI
  have hK := g_K hI
  have hE := g_E hI
  have hl := lv_entry ([.ref a, .int (nI pl)]) (n := 3) (by exact Nat.le_of_ble_eq_true rfl)
  rw [lg_entry_eq]
  generalize (lg_sl ([.ref a, .int (nI pl)]) ++ List.replicate (3 - (lg_sl ([.ref a, .int (nI pl)])).length) Slot.unset).toArray = ls at hl ⊢
  have hl : lv_has ls 3 [(0, .ref a), (1, .int (nI pl))] := hl
  obtain ⟨ha, ⟨g, hda, hg⟩, hlen⟩ := hd
  have x_1 : g_ex (fun q => q = a ∨ q = da) w w := g_ex.rf
  refine lv_aload_n hx hb dX11_delete_0 rfl (lv_at hl 0 rfl) ?_
  refine lv_dup hx hb dX11_delete_1 rfl ?_
  refine g_get (ci := 2) (v := .int (nI xs.length)) (C := RX11) (T := TX11) (N := 2) hx hb hts in_X11 hown hK hW ha rfl 1 (by decide) q1167 (fun _ h9 => h9) rfl dX11_delete_2 ?_
  refine lv_iconst (v := 1) hx hb dX11_delete_5 (by decide) ?_
  refine lv_isub hx hb dX11_delete_6 ?_
  refine g_topi (y := nI (xs.length - 1)) (nI_m1 (by omega)) ?_
  refine g_putf (ci := 2) (v := .int (nI (xs.length - 1))) (ty := .int) (C := RX11) (T := TX11) (N := 2) hx hb hts in_X11 tyX11 tyX11_ok nmX11 hown hK hW ha rfl 1 (by decide) q1167 (fun _ h9 => h9) rfl (by decide +kernel) rfl rfl (Nat.le_of_ble_eq_true rfl) dX11_delete_7 (fun H locs hW => ?_)
  obtain ⟨w_2, ew_2⟩ : ∃ z__, z__ = g_put w a (.inr (2, [.ref da, .int (nI (xs.length - 1))])) := ⟨_, rfl⟩
  have hW := g_W.ren hW ew_2 rfl
  have h_3 : g_at w_2 a (.inr (2, [.ref da, .int (nI (xs.length - 1))])) := by rw [ew_2]; exact g_at.put_self ha.1
  have h_4 : g_at w_2 da (.inl (D.1 100, 8, .inl (g))) := by rw [ew_2]; exact hda.put (g_neAO hda ha)
  have x_5 : g_ex (fun q => q = a ∨ q = da) w w_2 := by rw [ew_2]; exact x_1.put (fun hz9 => (Or.inl rfl))
  refine lv_iload_n hx hb dX11_delete_10 rfl (lv_at hl 1 rfl) ?_
  refine lv_istore_n (lv' := [(2, .int (nI pl)), (0, .ref a), (1, .int (nI pl))]) hx hb dX11_delete_11 rfl hl (by decide) rfl (fun ls hl => ?_)
  refine lpX11_delete (D := D) hx hb hts hown hK w a da (xs.length - 1) pl g (by omega) (fun w1 f1 H locs ls hf1 hf2 hex k1 k2 hW hl => ?_) (xs.length + 1) pl w_2 g H locs ls (by omega) (by omega) (by omega) (fun j a b => absurd a (by omega)) (fun j _ => rfl) x_5 h_3 h_4 hW (lv_sub hl [0, 1] rfl)
  have el := List.length_eraseIdx_of_lt hp
  exact g_vret hx hb hr hlocks hW (⟨⟨by rw [el]; exact k1, ⟨f1, k2, g_erase hp hg hf1 hf2⟩, by rw [el]; omega⟩, hex⟩) (by omega) (by omega) dX11_delete_40
set_option maxHeartbeats 4000000 in
set_option maxRecDepth 100000 in
/-- Digits.clear: its loop -/
theorem lpX11_clear {p : Program} {l : Launch} {e : Env} {R : Room} {s : State} {m : MethodId} {args : Array Value} {below : List Frame} {meth : Method} {c : Code} {cells slots : Nat} {Q : State → Prop} {D : va_G} {A : Nat → Prop} {H0 : Heap} (hx : p.tables.exec = Jvm.exec) (hb : c.code = cX11_clear) (hts : ∀ w ∈ lw_all, w.before args s = true) (hown : s.vm.findClass RX11 = some m.cls) (hK : va_K D gCl (gT D) s) (w : g_H) (a da n : Nat) (hn : n ≤ 8)
    (kk : ∀ (w1 : g_H) (f1 : Nat → Int32) (H : Heap) (locs : List Loc) (ls : Array Slot), (∀ j, j < n → f1 j = 0) → g_ex (fun q => q = a ∨ q = da) w w1 → g_at w1 a (.inr (2, [.ref da, .int (nI n)])) → g_at w1 da (.inl (D.1 100, 8, .inl (f1))) → g_W D A H0 H locs w1 → lv_has ls 3 [(0, .ref a)] → W p l e R s m args below meth c H locs cells slots Q (F0 m 25 ls [])) :
    ∀ (k : Nat) (i : Nat) (w1 : g_H) (f1 : Nat → Int32) (H : Heap) (locs : List Loc) (ls : Array Slot), n < i + k → i ≤ n → (∀ j, j < i → f1 j = 0) → g_ex (fun q => q = a ∨ q = da) w w1 → g_at w1 a (.inr (2, [.ref da, .int (nI n)])) → g_at w1 da (.inl (D.1 100, 8, .inl (f1))) → g_W D A H0 H locs w1 → lv_has ls 3 [(2, .int (nI i)), (0, .ref a), (1, .int (nI n))] → W p l e R s m args below meth c H locs cells slots Q (F0 m 7 ls []) := by
  intro k
  induction k with
  | zero => intro i w1 f1 H locs ls hfuel hi2 hf hex h1 h2 hW hl; exact absurd hfuel (by omega)
  | succ k ih =>
    intro i w1 f1 H locs ls hfuel hi2 hf hex h1 h2 hW hl
    refine lv_iload_n hx hb dX11_clear_7 rfl (lv_at hl 0 rfl) ?_
    refine lv_iload_n hx hb dX11_clear_8 rfl (lv_at hl 2 rfl) ?_
    refine g_icmp_ge (tgt := 25) hx hb (by omega) (by omega) dX11_clear_9 (by decide) (fun hc => ?_) (fun hc => ?_)
    · have e1 : i = n := by omega
      subst e1
      exact kk w1 f1 H locs ls hf hex h1 h2 hW (lv_sub hl [1] rfl)
    · refine lv_aload_n hx hb dX11_clear_12 rfl (lv_at hl 1 rfl) ?_
      refine g_get (ci := 2) (v := .ref da) (C := RX11) (T := TX11) (N := 2) hx hb hts in_X11 hown hK hW h1 rfl 0 (by decide) q1162 (fun _ h9 => h9) rfl dX11_clear_13 ?_
      refine lv_iload_n hx hb dX11_clear_16 rfl (lv_at hl 0 rfl) ?_
      refine lv_iconst (v := 0) hx hb dX11_clear_17 (by decide) ?_
      refine g_iast (i := i) hx hb hK hW h2 (by omega) (by decide) dX11_clear_18 (fun H locs hW => ?_)
      obtain ⟨f_1, ef_1⟩ : ∃ z__, z__ = upd (f1) (i) (0) := ⟨_, rfl⟩
      rw [← ef_1] at hW
      obtain ⟨w_2, ew_2⟩ : ∃ z__, z__ = g_put w1 da (.inl (D.1 100, 8, .inl (f_1))) := ⟨_, rfl⟩
      have hW := g_W.ren hW ew_2 rfl
      have h_3 : g_at w_2 a (.inr (2, [.ref da, .int (nI n)])) := by rw [ew_2]; exact h1.put (g_neOA h1 h2)
      have h_4 : g_at w_2 da (.inl (D.1 100, 8, .inl (f_1))) := by rw [ew_2]; exact g_at.put_self h2.1
      have x_5 : g_ex (fun q => q = a ∨ q = da) w w_2 := by rw [ew_2]; exact hex.put (fun hz9 => (Or.inr (rfl)))
      refine lv_iinc (v := nI (i + 1)) (lv' := [(2, .int (nI (i + 1))), (0, .ref a), (1, .int (nI n))]) hx hb dX11_clear_19 hl (k := 0) rfl (nI_1 i) (by decide) rfl (fun ls hl => ?_)
      refine lv_goto (tgt := 7) hx hb dX11_clear_22 (by decide) ?_
      refine ih (i + 1) w_2 f_1 H locs ls (by omega) (by omega) (fun j a => ?_) x_5 h_3 h_4 hW hl
      rw [ef_1]
      by_cases hji : j = i
      · subst hji; rw [pk_us]
      · rw [pk_un hji]; exact hf j (by omega)
set_option maxHeartbeats 4000000 in
set_option maxRecDepth 100000 in
/-- Digits.clear -/
theorem mtX11_clear (l : Launch) (D : va_G) (w : g_H) (sz : Nat) (a da n : Nat) (xs : List Nat) (hd : g_Dig D w a da xs) (hn : n ≤ 8) : Met l yX11_clear (ws_ yX11_clear cX11_clear 3 none) ({ frames := 1, cells := 0, slots := 0, locals := 12 }) (g_Pc D [.ref a, .int (nI n)] w sz) (g_Qv D w sz (fun u => g_Dig D u a da (List.replicate n 0) ∧ g_ex (fun q => q = a ∨ q = da) w u)) (0) (0) (g_A w sz) := by
  refine Met.ofW (cc := cX11_clear) (maxL := 3) (ret := none) (by decide) rfl ?_
  intro p e s m args below meth c s₁ B hml hv
  obtain ⟨rfl, hI⟩ := hv
  have hx := B.exec
  have hb := B.bytes
  have hr := B.returns
  have hts := atoms_spec (ws := ws_ yX11_clear cX11_clear 3 none) B.pre
  have hts : ∀ w ∈ lw_all, w.before _ s = true := fun w h => hts w (List.mem_cons_of_mem _ h)
  have hown : s.vm.findClass RX11 = some m.cls := findClass_of_methodNamed B.named
  have hlocks := B.notSynchronized
  have hsz := hI.1
  subst hsz
  have hW := g_W.start hI
  have hK := g_K hI
  have hE := g_E hI
  have hl := lv_entry ([.ref a, .int (nI n)]) (n := 3) (by exact Nat.le_of_ble_eq_true rfl)
  rw [lg_entry_eq]
  generalize (lg_sl ([.ref a, .int (nI n)]) ++ List.replicate (3 - (lg_sl ([.ref a, .int (nI n)])).length) Slot.unset).toArray = ls at hl ⊢
  have hl : lv_has ls 3 [(0, .ref a), (1, .int (nI n))] := hl
  obtain ⟨ha, ⟨g, hda, hg⟩, hlen⟩ := hd
  have x_1 : g_ex (fun q => q = a ∨ q = da) w w := g_ex.rf
  refine lv_aload_n hx hb dX11_clear_0 rfl (lv_at hl 0 rfl) ?_
  refine lv_iload_n hx hb dX11_clear_1 rfl (lv_at hl 1 rfl) ?_
  refine g_putf (ci := 2) (v := .int (nI n)) (ty := .int) (C := RX11) (T := TX11) (N := 2) hx hb hts in_X11 tyX11 tyX11_ok nmX11 hown hK hW ha rfl 1 (by decide) q1167 (fun _ h9 => h9) rfl (by decide +kernel) rfl rfl (Nat.le_of_ble_eq_true rfl) dX11_clear_2 (fun H locs hW => ?_)
  obtain ⟨w_2, ew_2⟩ : ∃ z__, z__ = g_put w a (.inr (2, [.ref da, .int (nI n)])) := ⟨_, rfl⟩
  have hW := g_W.ren hW ew_2 rfl
  have h_3 : g_at w_2 a (.inr (2, [.ref da, .int (nI n)])) := by rw [ew_2]; exact g_at.put_self ha.1
  have h_4 : g_at w_2 da (.inl (D.1 100, 8, .inl (g))) := by rw [ew_2]; exact hda.put (g_neAO hda ha)
  have x_5 : g_ex (fun q => q = a ∨ q = da) w w_2 := by rw [ew_2]; exact x_1.put (fun hz9 => (Or.inl rfl))
  refine lv_iconst (v := 0) hx hb dX11_clear_5 (by decide) ?_
  refine lv_istore_n (lv' := [(2, .int (0)), (0, .ref a), (1, .int (nI n))]) hx hb dX11_clear_6 rfl hl (by decide) rfl (fun ls hl => ?_)
  refine lpX11_clear (D := D) hx hb hts hown hK w a da n hn (fun w1 f1 H locs ls hf1 hex k1 k2 hW hl => ?_) (n + 1) 0 w_2 g H locs ls (by omega) (by omega) (fun j a => absurd a (by omega)) x_5 h_3 h_4 hW hl
  exact g_vret hx hb hr hlocks hW (⟨⟨by rw [List.length_replicate]; exact k1, ⟨f1, k2, fun j hj => by rw [List.length_replicate] at hj; rw [hf1 j hj, List.getD_eq_getElem?_getD, List.getElem?_replicate, if_pos hj]; rfl⟩, by rw [List.length_replicate]; exact hn⟩, hex⟩) (by omega) (by omega) dX11_clear_25
set_option maxHeartbeats 4000000 in
set_option maxRecDepth 100000 in
/-- Digits.swap -/
theorem mtX11_swap (l : Launch) (D : va_G) (w : g_H) (sz : Nat) (a da pl : Nat) (xs : List Nat) (hd : g_Dig D w a da xs) (hp : pl + 1 < xs.length) : Met l yX11_swap (ws_ yX11_swap cX11_swap 3 none) ({ frames := 1, cells := 0, slots := 0, locals := 12 }) (g_Pc D [.ref a, .int (nI pl)] w sz) (g_Qv D w sz (fun u => g_Dig D u a da ((xs.set pl (xs.getD (pl + 1) 0)).set (pl + 1) (xs.getD pl 0)) ∧ g_ex (fun q => q = a ∨ q = da) w u)) (0) (0) (g_A w sz) := by
  refine Met.ofW (cc := cX11_swap) (maxL := 3) (ret := none) (by decide) rfl ?_
  intro p e s m args below meth c s₁ B hml hv
  obtain ⟨rfl, hI⟩ := hv
  have hx := B.exec
  have hb := B.bytes
  have hr := B.returns
  have hts := atoms_spec (ws := ws_ yX11_swap cX11_swap 3 none) B.pre
  have hts : ∀ w ∈ lw_all, w.before _ s = true := fun w h => hts w (List.mem_cons_of_mem _ h)
  have hown : s.vm.findClass RX11 = some m.cls := findClass_of_methodNamed B.named
  have hlocks := B.notSynchronized
  have hsz := hI.1
  subst hsz
  have hW := g_W.start hI
  have hK := g_K hI
  have hE := g_E hI
  have hl := lv_entry ([.ref a, .int (nI pl)]) (n := 3) (by exact Nat.le_of_ble_eq_true rfl)
  rw [lg_entry_eq]
  generalize (lg_sl ([.ref a, .int (nI pl)]) ++ List.replicate (3 - (lg_sl ([.ref a, .int (nI pl)])).length) Slot.unset).toArray = ls at hl ⊢
  have hl : lv_has ls 3 [(0, .ref a), (1, .int (nI pl))] := hl
  obtain ⟨ha, ⟨g, hda, hg⟩, hlen⟩ := hd
  have x_1 : g_ex (fun q => q = a ∨ q = da) w w := g_ex.rf
  refine lv_aload_n hx hb dX11_swap_0 rfl (lv_at hl 0 rfl) ?_
  refine g_get (ci := 2) (v := .ref da) (C := RX11) (T := TX11) (N := 2) hx hb hts in_X11 hown hK hW ha rfl 0 (by decide) q1162 (fun _ h9 => h9) rfl dX11_swap_1 ?_
  refine lv_iload_n hx hb dX11_swap_4 rfl (lv_at hl 1 rfl) ?_
  refine g_iald (i := pl) hx hb hK hW hda (by omega) (by decide) dX11_swap_5 ?_
  refine lv_istore_n (lv' := [(2, .int (g (pl))), (0, .ref a), (1, .int (nI pl))]) hx hb dX11_swap_6 rfl hl (by decide) rfl (fun ls hl => ?_)
  refine lv_aload_n hx hb dX11_swap_7 rfl (lv_at hl 1 rfl) ?_
  refine g_get (ci := 2) (v := .ref da) (C := RX11) (T := TX11) (N := 2) hx hb hts in_X11 hown hK hW ha rfl 0 (by decide) q1162 (fun _ h9 => h9) rfl dX11_swap_8 ?_
  refine lv_iload_n hx hb dX11_swap_11 rfl (lv_at hl 2 rfl) ?_
  refine lv_aload_n hx hb dX11_swap_12 rfl (lv_at hl 1 rfl) ?_
  refine g_get (ci := 2) (v := .ref da) (C := RX11) (T := TX11) (N := 2) hx hb hts in_X11 hown hK hW ha rfl 0 (by decide) q1162 (fun _ h9 => h9) rfl dX11_swap_13 ?_
  refine lv_iload_n hx hb dX11_swap_16 rfl (lv_at hl 2 rfl) ?_
  refine lv_iconst (v := 1) hx hb dX11_swap_17 (by decide) ?_
  refine lv_iadd hx hb dX11_swap_18 ?_
  refine g_topi (y := nI (pl + 1)) (nI_1 pl) ?_
  refine g_iald (i := pl + 1) hx hb hK hW hda (by omega) (by decide) dX11_swap_19 ?_
  refine g_iast (i := pl) hx hb hK hW hda (by omega) (by decide) dX11_swap_20 (fun H locs hW => ?_)
  obtain ⟨f_2, ef_2⟩ : ∃ z__, z__ = upd (g) (pl) (g (pl + 1)) := ⟨_, rfl⟩
  rw [← ef_2] at hW
  obtain ⟨w_3, ew_3⟩ : ∃ z__, z__ = g_put w da (.inl (D.1 100, 8, .inl (f_2))) := ⟨_, rfl⟩
  have hW := g_W.ren hW ew_3 rfl
  have h_4 : g_at w_3 a (.inr (2, [.ref da, .int (nI xs.length)])) := by rw [ew_3]; exact ha.put (g_neOA ha hda)
  have h_5 : g_at w_3 da (.inl (D.1 100, 8, .inl (f_2))) := by rw [ew_3]; exact g_at.put_self hda.1
  have x_6 : g_ex (fun q => q = a ∨ q = da) w w_3 := by rw [ew_3]; exact x_1.put (fun hz9 => (Or.inr (rfl)))
  refine lv_aload_n hx hb dX11_swap_21 rfl (lv_at hl 1 rfl) ?_
  refine g_get (ci := 2) (v := .ref da) (C := RX11) (T := TX11) (N := 2) hx hb hts in_X11 hown hK hW h_4 rfl 0 (by decide) q1162 (fun _ h9 => h9) rfl dX11_swap_22 ?_
  refine lv_iload_n hx hb dX11_swap_25 rfl (lv_at hl 2 rfl) ?_
  refine lv_iconst (v := 1) hx hb dX11_swap_26 (by decide) ?_
  refine lv_iadd hx hb dX11_swap_27 ?_
  refine lv_iload_n hx hb dX11_swap_28 rfl (lv_at hl 0 rfl) ?_
  rw [show (nI pl + 1 : Int32) = nI (pl + 1) from nI_1 pl]
  refine g_iast (i := pl + 1) hx hb hK hW h_5 (by omega) (by decide) dX11_swap_29 (fun H locs hW => ?_)
  obtain ⟨f_7, ef_7⟩ : ∃ z__, z__ = upd (f_2) (pl + 1) (g (pl)) := ⟨_, rfl⟩
  rw [← ef_7] at hW
  obtain ⟨w_8, ew_8⟩ : ∃ z__, z__ = g_put w_3 da (.inl (D.1 100, 8, .inl (f_7))) := ⟨_, rfl⟩
  have hW := g_W.ren hW ew_8 rfl
  have h_9 : g_at w_8 a (.inr (2, [.ref da, .int (nI xs.length)])) := by rw [ew_8]; exact h_4.put (g_neOA h_4 h_5)
  have h_10 : g_at w_8 da (.inl (D.1 100, 8, .inl (f_7))) := by rw [ew_8]; exact g_at.put_self h_5.1
  have x_11 : g_ex (fun q => q = a ∨ q = da) w w_8 := by rw [ew_8]; exact x_6.put (fun hz9 => (Or.inr (rfl)))
  have el : ((xs.set pl (xs.getD (pl + 1) 0)).set (pl + 1) (xs.getD pl 0)).length = xs.length := by simp
  have hz : g_is f_7 ((xs.set pl (xs.getD (pl + 1) 0)).set (pl + 1) (xs.getD pl 0)) := by
    intro j hj
    rw [el] at hj
    rw [ef_7, ef_2, List.getD_eq_getElem?_getD, List.getElem?_set, List.length_set]
    by_cases q1 : j = pl + 1
    · subst q1; rw [pk_us, if_pos rfl, if_pos hj, hg pl (by omega)]; rfl
    · rw [pk_un q1, if_neg (Ne.symm q1), List.getElem?_set]
      by_cases q2 : j = pl
      · subst q2; rw [pk_us, if_pos rfl, if_pos hj, hg _ (by omega)]; rfl
      · rw [pk_un q2, if_neg (Ne.symm q2), hg j hj, List.getD_eq_getElem?_getD]
  exact g_vret hx hb hr hlocks hW (⟨⟨by rw [el]; exact h_9, ⟨f_7, h_10, hz⟩, by rw [el]; exact hlen⟩, x_11⟩) (by omega) (by omega) dX11_swap_30
set_option maxHeartbeats 4000000 in
set_option maxRecDepth 100000 in
/-- Digits.insert: its loop -/
theorem lpX11_insert {p : Program} {l : Launch} {e : Env} {R : Room} {s : State} {m : MethodId} {args : Array Value} {below : List Frame} {meth : Method} {c : Code} {cells slots : Nat} {Q : State → Prop} {D : va_G} {A : Nat → Prop} {H0 : Heap} (hx : p.tables.exec = Jvm.exec) (hb : c.code = cX11_insert) (hts : ∀ w ∈ lw_all, w.before args s = true) (hown : s.vm.findClass RX11 = some m.cls) (hK : va_K D gCl (gT D) s) (w : g_H) (a da n pl : Nat) (d : Int32) (g : Nat → Int32) (hn : n < 8)
    (kk : ∀ (w1 : g_H) (f1 : Nat → Int32) (H : Heap) (locs : List Loc) (ls : Array Slot), (∀ j, pl < j → j ≤ n → f1 j = g (j - 1)) → (∀ j, j < pl → f1 j = g j) → g_ex (fun q => q = a ∨ q = da) w w1 → g_at w1 a (.inr (2, [.ref da, .int (nI n)])) → g_at w1 da (.inl (D.1 100, 8, .inl (f1))) → g_W D A H0 H locs w1 → lv_has ls 4 [(0, .ref a), (1, .int (nI pl)), (2, .int d)] → W p l e R s m args below meth c H locs cells slots Q (F0 m 30 ls [])) :
    ∀ (k : Nat) (i : Nat) (w1 : g_H) (f1 : Nat → Int32) (H : Heap) (locs : List Loc) (ls : Array Slot), i < pl + k → pl ≤ i → i ≤ n → (∀ j, i < j → j ≤ n → f1 j = g (j - 1)) → (∀ j, j < i → f1 j = g j) → g_ex (fun q => q = a ∨ q = da) w w1 → g_at w1 a (.inr (2, [.ref da, .int (nI n)])) → g_at w1 da (.inl (D.1 100, 8, .inl (f1))) → g_W D A H0 H locs w1 → lv_has ls 4 [(3, .int (nI i)), (0, .ref a), (1, .int (nI pl)), (2, .int (d))] → W p l e R s m args below meth c H locs cells slots Q (F0 m 5 ls []) := by
  intro k
  induction k with
  | zero => intro i w1 f1 H locs ls hfuel hi hi2 hf hg hex h1 h2 hW hl; exact absurd hfuel (by omega)
  | succ k ih =>
    intro i w1 f1 H locs ls hfuel hi hi2 hf hg hex h1 h2 hW hl
    refine lv_iload_n hx hb dX11_insert_5 rfl (lv_at hl 0 rfl) ?_
    refine lv_iload_n hx hb dX11_insert_6 rfl (lv_at hl 2 rfl) ?_
    refine g_icmp_le (tgt := 30) hx hb (by omega) (by omega) dX11_insert_7 (by decide) (fun hc => ?_) (fun hc => ?_)
    · have e1 : i = pl := by omega
      subst e1
      exact kk w1 f1 H locs ls hf hg hex h1 h2 hW (lv_sub hl [1, 2, 3] rfl)
    · refine lv_aload_n hx hb dX11_insert_10 rfl (lv_at hl 1 rfl) ?_
      refine g_get (ci := 2) (v := .ref da) (C := RX11) (T := TX11) (N := 2) hx hb hts in_X11 hown hK hW h1 rfl 0 (by decide) q1162 (fun _ h9 => h9) rfl dX11_insert_11 ?_
      refine lv_iload_n hx hb dX11_insert_14 rfl (lv_at hl 0 rfl) ?_
      refine lv_aload_n hx hb dX11_insert_15 rfl (lv_at hl 1 rfl) ?_
      refine g_get (ci := 2) (v := .ref da) (C := RX11) (T := TX11) (N := 2) hx hb hts in_X11 hown hK hW h1 rfl 0 (by decide) q1162 (fun _ h9 => h9) rfl dX11_insert_16 ?_
      refine lv_iload_n hx hb dX11_insert_19 rfl (lv_at hl 0 rfl) ?_
      refine lv_iconst (v := 1) hx hb dX11_insert_20 (by decide) ?_
      refine lv_isub hx hb dX11_insert_21 ?_
      refine g_topi (y := nI (i - 1)) (nI_m1 (by omega)) ?_
      refine g_iald (i := i - 1) hx hb hK hW h2 (by omega) (by decide) dX11_insert_22 ?_
      refine g_iast (i := i) hx hb hK hW h2 (by omega) (by decide) dX11_insert_23 (fun H locs hW => ?_)
      obtain ⟨f_1, ef_1⟩ : ∃ z__, z__ = upd (f1) (i) (f1 (i - 1)) := ⟨_, rfl⟩
      rw [← ef_1] at hW
      obtain ⟨w_2, ew_2⟩ : ∃ z__, z__ = g_put w1 da (.inl (D.1 100, 8, .inl (f_1))) := ⟨_, rfl⟩
      have hW := g_W.ren hW ew_2 rfl
      have h_3 : g_at w_2 a (.inr (2, [.ref da, .int (nI n)])) := by rw [ew_2]; exact h1.put (g_neOA h1 h2)
      have h_4 : g_at w_2 da (.inl (D.1 100, 8, .inl (f_1))) := by rw [ew_2]; exact g_at.put_self h2.1
      have x_5 : g_ex (fun q => q = a ∨ q = da) w w_2 := by rw [ew_2]; exact hex.put (fun hz9 => (Or.inr (rfl)))
      refine lv_iinc (v := nI (i - 1)) (lv' := [(3, .int (nI (i - 1))), (0, .ref a), (1, .int (nI pl)), (2, .int (d))]) hx hb dX11_insert_24 hl (k := 0) rfl ((nI_dec _).trans (nI_m1 (by omega))) (by decide) rfl (fun ls hl => ?_)
      refine lv_goto (tgt := 5) hx hb dX11_insert_27 (by decide) ?_
      refine ih (i - 1) w_2 f_1 H locs ls (by omega) (by omega) (by omega) (fun j a b => ?_) (fun j a => ?_) x_5 h_3 h_4 hW hl
      · rw [ef_1]
        by_cases hji : j = i
        · subst hji; rw [pk_us]; exact hg (j - 1) (by omega)
        · rw [pk_un hji]; exact hf j (by omega) b
      · rw [ef_1, pk_un (by omega)]; exact hg j (by omega)
set_option maxHeartbeats 4000000 in
set_option maxRecDepth 100000 in
/-- Digits.insert -/
theorem mtX11_insert (l : Launch) (D : va_G) (w : g_H) (sz : Nat) (a da pl d : Nat) (xs : List Nat) (hd : g_Dig D w a da xs) (hp : pl ≤ xs.length) (h8 : xs.length < 8) : Met l yX11_insert (ws_ yX11_insert cX11_insert 4 none) ({ frames := 1, cells := 0, slots := 0, locals := 12 }) (g_Pc D [.ref a, .int (nI pl), .int (nI d)] w sz) (g_Qv D w sz (fun u => g_Dig D u a da (xs.insertIdx pl d) ∧ g_ex (fun q => q = a ∨ q = da) w u)) (0) (0) (g_A w sz) := by
  refine Met.ofW (cc := cX11_insert) (maxL := 4) (ret := none) (by decide) rfl ?_
  intro p e s m args below meth c s₁ B hml hv
  obtain ⟨rfl, hI⟩ := hv
  have hx := B.exec
  have hb := B.bytes
  have hr := B.returns
  have hts := atoms_spec (ws := ws_ yX11_insert cX11_insert 4 none) B.pre
  have hts : ∀ w ∈ lw_all, w.before _ s = true := fun w h => hts w (List.mem_cons_of_mem _ h)
  have hown : s.vm.findClass RX11 = some m.cls := findClass_of_methodNamed B.named
  have hlocks := B.notSynchronized
  have hsz := hI.1
  subst hsz
  have hW := g_W.start hI
  have hK := g_K hI
  have hE := g_E hI
  have hl := lv_entry ([.ref a, .int (nI pl), .int (nI d)]) (n := 4) (by exact Nat.le_of_ble_eq_true rfl)
  rw [lg_entry_eq]
  generalize (lg_sl ([.ref a, .int (nI pl), .int (nI d)]) ++ List.replicate (4 - (lg_sl ([.ref a, .int (nI pl), .int (nI d)])).length) Slot.unset).toArray = ls at hl ⊢
  have hl : lv_has ls 4 [(0, .ref a), (1, .int (nI pl)), (2, .int (nI d))] := hl
  obtain ⟨ha, ⟨g, hda, hg⟩, hlen⟩ := hd
  have x_1 : g_ex (fun q => q = a ∨ q = da) w w := g_ex.rf
  refine lv_aload_n hx hb dX11_insert_0 rfl (lv_at hl 0 rfl) ?_
  refine g_get (ci := 2) (v := .int (nI xs.length)) (C := RX11) (T := TX11) (N := 2) hx hb hts in_X11 hown hK hW ha rfl 1 (by decide) q1167 (fun _ h9 => h9) rfl dX11_insert_1 ?_
  refine lv_istore_n (lv' := [(3, .int (nI xs.length)), (0, .ref a), (1, .int (nI pl)), (2, .int (nI d))]) hx hb dX11_insert_4 rfl hl (by decide) rfl (fun ls hl => ?_)
  refine lpX11_insert (D := D) hx hb hts hown hK w a da xs.length pl (nI d) g (by omega) (fun w1 f1 H locs ls hf1 hf2 hex k1 k2 hW hl => ?_) (xs.length + 1) xs.length w g _ _ ls (by omega) (by omega) (by omega) (fun j a b => absurd a (by omega)) (fun j _ => rfl) x_1 ha hda hW hl
  refine lv_aload_n hx hb dX11_insert_30 rfl (lv_at hl 0 rfl) ?_
  refine g_get (ci := 2) (v := .ref da) (C := RX11) (T := TX11) (N := 2) hx hb hts in_X11 hown hK hW k1 rfl 0 (by decide) q1162 (fun _ h9 => h9) rfl dX11_insert_31 ?_
  refine lv_iload_n hx hb dX11_insert_34 rfl (lv_at hl 1 rfl) ?_
  refine lv_iload_n hx hb dX11_insert_35 rfl (lv_at hl 2 rfl) ?_
  refine g_iast (i := pl) hx hb hK hW k2 (by omega) (by decide) dX11_insert_36 (fun H locs hW => ?_)
  obtain ⟨f_2, ef_2⟩ : ∃ z__, z__ = upd (f1) (pl) (nI d) := ⟨_, rfl⟩
  rw [← ef_2] at hW
  obtain ⟨w_3, ew_3⟩ : ∃ z__, z__ = g_put w1 da (.inl (D.1 100, 8, .inl (f_2))) := ⟨_, rfl⟩
  have hW := g_W.ren hW ew_3 rfl
  have h_4 : g_at w_3 a (.inr (2, [.ref da, .int (nI xs.length)])) := by rw [ew_3]; exact k1.put (g_neOA k1 k2)
  have h_5 : g_at w_3 da (.inl (D.1 100, 8, .inl (f_2))) := by rw [ew_3]; exact g_at.put_self k2.1
  have x_6 : g_ex (fun q => q = a ∨ q = da) w w_3 := by rw [ew_3]; exact hex.put (fun hz9 => (Or.inr (rfl)))
  refine lv_aload_n hx hb dX11_insert_37 rfl (lv_at hl 0 rfl) ?_
  refine lv_dup hx hb dX11_insert_38 rfl ?_
  refine g_get (ci := 2) (v := .int (nI xs.length)) (C := RX11) (T := TX11) (N := 2) hx hb hts in_X11 hown hK hW h_4 rfl 1 (by decide) q1167 (fun _ h9 => h9) rfl dX11_insert_39 ?_
  refine lv_iconst (v := 1) hx hb dX11_insert_42 (by decide) ?_
  refine lv_iadd hx hb dX11_insert_43 ?_
  refine g_topi (y := nI (xs.length + 1)) (nI_1 _) ?_
  refine g_putf (ci := 2) (v := .int (nI (xs.length + 1))) (ty := .int) (C := RX11) (T := TX11) (N := 2) hx hb hts in_X11 tyX11 tyX11_ok nmX11 hown hK hW h_4 rfl 1 (by decide) q1167 (fun _ h9 => h9) rfl (by decide +kernel) rfl rfl (Nat.le_of_ble_eq_true rfl) dX11_insert_44 (fun H locs hW => ?_)
  obtain ⟨w_7, ew_7⟩ : ∃ z__, z__ = g_put w_3 a (.inr (2, [.ref da, .int (nI (xs.length + 1))])) := ⟨_, rfl⟩
  have hW := g_W.ren hW ew_7 rfl
  have h_8 : g_at w_7 a (.inr (2, [.ref da, .int (nI (xs.length + 1))])) := by rw [ew_7]; exact g_at.put_self h_4.1
  have h_9 : g_at w_7 da (.inl (D.1 100, 8, .inl (f_2))) := by rw [ew_7]; exact h_5.put (g_neAO h_5 h_4)
  have x_10 : g_ex (fun q => q = a ∨ q = da) w w_7 := by rw [ew_7]; exact x_6.put (fun hz9 => (Or.inl rfl))
  have el := List.length_insertIdx_of_le_length hp (a := d)
  exact g_vret hx hb hr hlocks hW (⟨⟨by rw [el]; exact h_8, ⟨f_2, h_9, g_ins hp hg (fun j a b => by rw [ef_2, pk_un (by omega)]; exact hf1 j a b) (fun j a => by rw [ef_2, pk_un (by omega)]; exact hf2 j a) (by rw [ef_2, pk_us])⟩, by rw [el]; omega⟩, x_10⟩) (by omega) (by omega) dX11_insert_47
set_option maxHeartbeats 4000000 in
set_option maxRecDepth 100000 in
/-- Digits.isNext: its loop -/
theorem lpX11_isNext {p : Program} {l : Launch} {e : Env} {R : Room} {s : State} {m : MethodId} {args : Array Value} {below : List Frame} {meth : Method} {c : Code} {cells slots : Nat} {Q : State → Prop} {D : va_G} {A : Nat → Prop} {H0 : Heap} (hx : p.tables.exec = Jvm.exec) (hb : c.code = cX11_isNext) (hts : ∀ w ∈ lw_all, w.before args s = true) (hown : s.vm.findClass RX11 = some m.cls) (hK : va_K D gCl (gT D) s) (w : g_H) (a da n : Nat) (g : Nat → Int32) (hn : n ≤ 8)
    (kk : ∀ (i : Nat) (w1 : g_H) (f1 : Nat → Int32) (H : Heap) (locs : List Loc) (ls : Array Slot), i ≤ n → (∀ j, i ≤ j → j < n → g j = 7) → (0 < i → g (i - 1) ≠ 7) → (∀ j, i ≤ j → j < n → f1 j = 0) → (∀ j, j < i → f1 j = g j) → g_ex (fun q => q = a ∨ q = da) w w1 → g_at w1 a (.inr (2, [.ref da, .int (nI n)])) → g_at w1 da (.inl (D.1 100, 8, .inl (f1))) → g_W D A H0 H locs w1 → lv_has ls 2 [(1, .int (nI i - 1)), (0, .ref a)] → W p l e R s m args below meth c H locs cells slots Q (F0 m 35 ls [])) :
    ∀ (k : Nat) (i : Nat) (w1 : g_H) (f1 : Nat → Int32) (H : Heap) (locs : List Loc) (ls : Array Slot), i < k → i ≤ n → (∀ j, i ≤ j → j < n → g j = 7) → (∀ j, i ≤ j → j < n → f1 j = 0) → (∀ j, j < i → f1 j = g j) → g_ex (fun q => q = a ∨ q = da) w w1 → g_at w1 a (.inr (2, [.ref da, .int (nI n)])) → g_at w1 da (.inl (D.1 100, 8, .inl (f1))) → g_W D A H0 H locs w1 → lv_has ls 2 [(1, .int (nI i - 1)), (0, .ref a)] → W p l e R s m args below meth c H locs cells slots Q (F0 m 7 ls []) := by
  intro k
  induction k with
  | zero => intro i w1 f1 H locs ls hfuel hi2 h7 hf hg hex h1 h2 hW hl; exact absurd hfuel (by omega)
  | succ k ih =>
    intro i w1 f1 H locs ls hfuel hi2 h7 hf hg hex h1 h2 hW hl
    refine lv_iload_n hx hb dX11_isNext_7 rfl (lv_at hl 0 rfl) ?_
    refine lv_if_lt (tgt := 35) hx hb dX11_isNext_8 (by decide) (fun hc => ?_) (fun hc => ?_)
    · have e0 : i = 0 := (nI_pneg (by omega)).mp hc
      exact kk i w1 f1 H locs ls hi2 h7 (fun q => absurd q (by omega)) hf hg hex h1 h2 hW hl
    · have e0 : 0 < i := by rcases Nat.eq_zero_or_pos i with q | q; exact absurd ((nI_pneg (by omega)).mpr q) hc; exact q
      refine lv_aload_n hx hb dX11_isNext_11 rfl (lv_at hl 1 rfl) ?_
      refine g_get (ci := 2) (v := .ref da) (C := RX11) (T := TX11) (N := 2) hx hb hts in_X11 hown hK hW h1 rfl 0 (by decide) q1162 (fun _ h9 => h9) rfl dX11_isNext_12 ?_
      refine lv_iload_n hx hb dX11_isNext_15 rfl (lv_at hl 0 rfl) ?_
      refine g_topi (y := nI (i - 1)) (nI_m1 e0) ?_
      refine g_iald (i := i - 1) hx hb hK hW h2 (by omega) (by decide) dX11_isNext_16 ?_
      refine lv_bipush (v := 7) hx hb dX11_isNext_17 (by decide) ?_
      refine lv_icmp_ne (tgt := 35) hx hb dX11_isNext_19 (by decide) (fun hq => ?_) (fun hq => ?_)
      · exact kk i w1 f1 H locs ls hi2 h7 (fun _ => by rw [← hg (i - 1) (by omega)]; exact hq) hf hg hex h1 h2 hW hl
      · have hq : f1 (i - 1) = 7 := by first | exact Classical.not_not.mp hq | exact hq
        refine lv_aload_n hx hb dX11_isNext_22 rfl (lv_at hl 1 rfl) ?_
        refine g_get (ci := 2) (v := .ref da) (C := RX11) (T := TX11) (N := 2) hx hb hts in_X11 hown hK hW h1 rfl 0 (by decide) q1162 (fun _ h9 => h9) rfl dX11_isNext_23 ?_
        refine lv_iload_n hx hb dX11_isNext_26 rfl (lv_at hl 0 rfl) ?_
        refine lv_iconst (v := 0) hx hb dX11_isNext_27 (by decide) ?_
        rw [show (nI i - 1 : Int32) = nI (i - 1) from nI_m1 e0]
        refine g_iast (i := i - 1) hx hb hK hW h2 (by omega) (by decide) dX11_isNext_28 (fun H locs hW => ?_)
        obtain ⟨f_1, ef_1⟩ : ∃ z__, z__ = upd (f1) (i - 1) (0) := ⟨_, rfl⟩
        rw [← ef_1] at hW
        obtain ⟨w_2, ew_2⟩ : ∃ z__, z__ = g_put w1 da (.inl (D.1 100, 8, .inl (f_1))) := ⟨_, rfl⟩
        have hW := g_W.ren hW ew_2 rfl
        have h_3 : g_at w_2 a (.inr (2, [.ref da, .int (nI n)])) := by rw [ew_2]; exact h1.put (g_neOA h1 h2)
        have h_4 : g_at w_2 da (.inl (D.1 100, 8, .inl (f_1))) := by rw [ew_2]; exact g_at.put_self h2.1
        have x_5 : g_ex (fun q => q = a ∨ q = da) w w_2 := by rw [ew_2]; exact hex.put (fun hz9 => (Or.inr (rfl)))
        refine lv_iinc (v := nI (i - 1) - 1) (lv' := [(1, .int (nI (i - 1) - 1)), (0, .ref a)]) hx hb dX11_isNext_29 hl (k := 0) rfl (by rw [nI_dec, nI_m1 e0]) (by decide) rfl (fun ls hl => ?_)
        refine lv_goto (tgt := 7) hx hb dX11_isNext_32 (by decide) ?_
        refine ih (i - 1) w_2 f_1 H locs ls (by omega) (by omega) (fun j a b => ?_) (fun j a b => ?_) (fun j a => ?_) x_5 h_3 h_4 hW hl
        · rcases Nat.lt_or_ge j i with q | q
          · rw [show j = i - 1 by omega, ← hg (i - 1) (by omega)]; exact hq
          · exact h7 j q b
        · rw [ef_1]
          by_cases r : j = i - 1
          · rw [r, pk_us]
          · rw [pk_un r]; exact hf j (by omega) b
        · rw [ef_1, pk_un (by omega)]; exact hg j (by omega)
set_option maxHeartbeats 4000000 in
set_option maxRecDepth 100000 in
/-- Digits.isNext -/
theorem mtX11_isNext (l : Launch) (D : va_G) (w : g_H) (sz : Nat) (a da n : Nat) (g : Nat → Int32) (ha : g_at w a (.inr (2, [.ref da, .int (nI n)]))) (hda : g_at w da (.inl (D.1 100, 8, .inl g))) (hn : n ≤ 8) : Met l yX11_isNext (ws_ yX11_isNext cX11_isNext 2 (some .boolean)) ({ frames := 1, cells := 0, slots := 0, locals := 12 }) (g_Pc D [.ref a] w sz) (g_Qi D w sz (fun r u => ∃ (i : Nat) (f : Nat → Int32), i ≤ n ∧ (∀ j, i ≤ j → j < n → g j = 7) ∧ (0 < i → g (i - 1) ≠ 7) ∧ (∀ j, i ≤ j → j < n → f j = 0) ∧ (∀ j, j + 1 < i → f j = g j) ∧ (0 < i → f (i - 1) = g (i - 1) + 1) ∧ r = (if i = 0 then 0 else 1) ∧ g_at u a (.inr (2, [.ref da, .int (nI n)])) ∧ g_at u da (.inl (D.1 100, 8, .inl f)) ∧ g_ex (fun q => q = a ∨ q = da) w u)) (0) (0) (g_A w sz) := by
  refine Met.ofW (cc := cX11_isNext) (maxL := 2) (ret := (some .boolean)) (by decide) rfl ?_
  intro p e s m args below meth c s₁ B hml hv
  obtain ⟨rfl, hI⟩ := hv
  have hx := B.exec
  have hb := B.bytes
  have hr := B.returns
  have hts := atoms_spec (ws := ws_ yX11_isNext cX11_isNext 2 (some .boolean)) B.pre
  have hts : ∀ w ∈ lw_all, w.before _ s = true := fun w h => hts w (List.mem_cons_of_mem _ h)
  have hown : s.vm.findClass RX11 = some m.cls := findClass_of_methodNamed B.named
  have hlocks := B.notSynchronized
  have hsz := hI.1
  subst hsz
  have hW := g_W.start hI
  have hK := g_K hI
  have hE := g_E hI
  have hl := lv_entry ([.ref a]) (n := 2) (by exact Nat.le_of_ble_eq_true rfl)
  rw [lg_entry_eq]
  generalize (lg_sl ([.ref a]) ++ List.replicate (2 - (lg_sl ([.ref a])).length) Slot.unset).toArray = ls at hl ⊢
  have hl : lv_has ls 2 [(0, .ref a)] := hl
  have x_1 : g_ex (fun q => q = a ∨ q = da) w w := g_ex.rf
  refine lv_aload_n hx hb dX11_isNext_0 rfl (lv_at hl 0 rfl) ?_
  refine g_get (ci := 2) (v := .int (nI n)) (C := RX11) (T := TX11) (N := 2) hx hb hts in_X11 hown hK hW ha rfl 1 (by decide) q1167 (fun _ h9 => h9) rfl dX11_isNext_1 ?_
  refine lv_iconst (v := 1) hx hb dX11_isNext_4 (by decide) ?_
  refine lv_isub hx hb dX11_isNext_5 ?_
  refine lv_istore_n (lv' := [(1, .int ((nI n) - (1))), (0, .ref a)]) hx hb dX11_isNext_6 rfl hl (by decide) rfl (fun ls hl => ?_)
  refine lpX11_isNext (D := D) hx hb hts hown hK w a da n g hn (fun i w1 f1 H locs ls hi h7 hne hf hg hex k1 k2 hW hl => ?_) (n + 1) n w g _ _ ls (by omega) (by omega) (fun j a b => absurd a (by omega)) (fun j a b => absurd a (by omega)) (fun j _ => rfl) x_1 ha hda hW hl
  refine lv_iload_n hx hb dX11_isNext_35 rfl (lv_at hl 0 rfl) ?_
  refine lv_if_lt (tgt := 49) hx hb dX11_isNext_36 (by decide) (fun hc => ?_) (fun hc => ?_)
  · have e0 : i = 0 := (nI_pneg (by omega)).mp hc
    refine lv_iload_n hx hb dX11_isNext_49 rfl (lv_at hl 0 rfl) ?_
    refine lv_if_lt (tgt := 57) hx hb dX11_isNext_50 (by decide) (fun hd => ?_) (fun hd => ?_)
    · refine lv_iconst (v := 0) hx hb dX11_isNext_57 (by decide) ?_
      exact g_zret (v := 0) hx hb hr hlocks (by rfl) hW (⟨i, f1, hi, h7, hne, hf, fun j a => absurd a (by omega), fun a => absurd a (by omega), by rw [if_pos e0], k1, k2, hex⟩) (by omega) (by omega) dX11_isNext_58
    · exact absurd hc hd
  · have e0 : 0 < i := by rcases Nat.eq_zero_or_pos i with q | q; exact absurd ((nI_pneg (by omega)).mpr q) hc; exact q
    rw [show (nI i - 1 : Int32) = nI (i - 1) from nI_m1 e0] at hl
    refine lv_aload_n hx hb dX11_isNext_39 rfl (lv_at hl 1 rfl) ?_
    refine g_get (ci := 2) (v := .ref da) (C := RX11) (T := TX11) (N := 2) hx hb hts in_X11 hown hK hW k1 rfl 0 (by decide) q1162 (fun _ h9 => h9) rfl dX11_isNext_40 ?_
    refine lv_iload_n hx hb dX11_isNext_43 rfl (lv_at hl 0 rfl) ?_
    refine lv_dup2_11 hx hb dX11_isNext_44 rfl rfl ?_
    refine g_iald (i := i - 1) hx hb hK hW k2 (by omega) (by decide) dX11_isNext_45 ?_
    refine lv_iconst (v := 1) hx hb dX11_isNext_46 (by decide) ?_
    refine lv_iadd hx hb dX11_isNext_47 ?_
    refine g_iast (i := i - 1) hx hb hK hW k2 (by omega) (by decide) dX11_isNext_48 (fun H locs hW => ?_)
    obtain ⟨f_2, ef_2⟩ : ∃ z__, z__ = upd (f1) (i - 1) ((f1 (i - 1)) + (1)) := ⟨_, rfl⟩
    rw [← ef_2] at hW
    obtain ⟨w_3, ew_3⟩ : ∃ z__, z__ = g_put w1 da (.inl (D.1 100, 8, .inl (f_2))) := ⟨_, rfl⟩
    have hW := g_W.ren hW ew_3 rfl
    have h_4 : g_at w_3 a (.inr (2, [.ref da, .int (nI n)])) := by rw [ew_3]; exact k1.put (g_neOA k1 k2)
    have h_5 : g_at w_3 da (.inl (D.1 100, 8, .inl (f_2))) := by rw [ew_3]; exact g_at.put_self k2.1
    have x_6 : g_ex (fun q => q = a ∨ q = da) w w_3 := by rw [ew_3]; exact hex.put (fun hz9 => (Or.inr (rfl)))
    refine lv_iload_n hx hb dX11_isNext_49 rfl (lv_at hl 0 rfl) ?_
    refine lv_if_lt (tgt := 57) hx hb dX11_isNext_50 (by decide) (fun hd => ?_) (fun hd => ?_)
    · exact absurd hd (nI_pos (by omega))
    · refine lv_iconst (v := 1) hx hb dX11_isNext_53 (by decide) ?_
      refine lv_goto (tgt := 58) hx hb dX11_isNext_54 (by decide) ?_
      exact g_zret (v := 1) hx hb hr hlocks (by rfl) hW (⟨i, f_2, hi, h7, hne, fun j a b => by rw [ef_2, pk_un (by omega)]; exact hf j a b, fun j a => by rw [ef_2, pk_un (by omega)]; exact hg j (by omega), fun a => by rw [ef_2, pk_us, hg _ (by omega)], by rw [if_neg (by omega)], h_4, h_5, x_6⟩) (by omega) (by omega) dX11_isNext_58
