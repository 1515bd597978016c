/-! ShrinkYard$Machine: run and isFailing whole, the constructor -/
set_option maxRecDepth 100000
def g_Ma (D : va_G) (w : g_H) (m9 ra eb wb x : Nat) (vv : Value) (cd : Int32) (st : Nat) (E : Nat → Bool) (n cap : Nat) : Prop := (∃ rd : Nat, g_at w m9 (.inr (1, [.ref ra, .ref eb, vv, .int (cd), .int (nI st), .int (nI rd), .ref x]))) ∧ (∃ f : Nat → Int32, g_at w ra (.inl (D.1 100, 4, .inl f))) ∧ g_BS D w eb wb E n cap
theorem g_Ma.ex {D : va_G} {M : Nat → Prop} {w w' : g_H} {m9 ra eb wb x st n cap : Nat} {vv : Value} {cd : Int32} {E : Nat → Bool} (h : g_Ma D w m9 ra eb wb x vv cd st E n cap) (k : g_ex M w w') (n1 : ¬ M m9) (n2 : ¬ M ra) (n3 : ¬ M eb) (n4 : ¬ M wb) : g_Ma D w' m9 ra eb wb x vv cd st E n cap := by
  obtain ⟨⟨rd, h1⟩, ⟨f, h2⟩, h3⟩ := h
  exact ⟨⟨rd, k.at h1 n1⟩, ⟨f, k.at h2 n2⟩, h3.ex k n3 n4⟩
def g_Pg (D : va_G) (w : g_H) (pg par : Nat) (ps : List Nat) (pcap : Nat) (P : List mI) : Prop := g_AL D w pg par ps pcap ∧ ps.length = P.length ∧ P.length ≤ 16 ∧ ∀ j, j < P.length → g_Ins D w (ps.getD j 0) (P.getD j mI0)
theorem g_Pg.ex {D : va_G} {M : Nat → Prop} {w w' : g_H} {pg par pcap : Nat} {ps : List Nat} {P : List mI} (h : g_Pg D w pg par ps pcap P) (k : g_ex M w w') (n1 : ¬ M pg) (n2 : 0 < pcap → ¬ M par) (n3 : ∀ j, j < P.length → ¬ M (ps.getD j 0)) : g_Pg D w' pg par ps pcap P := by
  obtain ⟨h1, h2, h3, h4⟩ := h
  exact ⟨h1.ex k n1 n2, h2, h3, fun j hj => ⟨k.at (h4 j hj).1 (n3 j hj), (h4 j hj).2⟩⟩
theorem g_Pg.ok {D : va_G} {w : g_H} {pg par pcap : Nat} {ps : List Nat} {P : List mI} (h : g_Pg D w pg par ps pcap P) {j : Nat} (hj : j < P.length) : mOk (P.getD j mI0) := (h.2.2.2 j hj).2
theorem m_regs_ext {i : mI} {xs : List Nat} {rd : Nat} {g g' : Nat → Int32} (hi : mOk i) (h : ∀ j, j < 4 → g j = g' j) : ∀ j, j < 4 → mRegs i xs rd g j = mRegs i xs rd g' j := by
  intro j hj
  unfold mRegs
  have e1 := h _ hi.2.1
  by_cases q0 : i.1 = 0
  · rw [if_pos q0, if_pos q0]; by_cases r : j = i.2.1
    · subst r; rw [pk_us, pk_us]
    · rw [pk_un r, pk_un r]; exact h j hj
  rw [if_neg q0, if_neg q0]
  by_cases q1 : i.1 = 1
  · rw [if_pos q1, if_pos q1]; by_cases r : j = i.2.1
    · subst r; rw [pk_us, pk_us]
    · rw [pk_un r, pk_un r]; exact h j hj
  rw [if_neg q1, if_neg q1]
  by_cases q2 : i.1 = 2
  · rw [if_pos q2, if_pos q2]; by_cases r : j = i.2.1
    · subst r; rw [pk_us, pk_us, e1]
    · rw [pk_un r, pk_un r]; exact h j hj
  rw [if_neg q2, if_neg q2]
  by_cases q3 : i.1 = 3
  · rw [if_pos q3, if_pos q3]; by_cases r : j = i.2.1
    · subst r; rw [pk_us, pk_us, e1, h _ (hi.2.2.2 q3)]
    · rw [pk_un r, pk_un r]; exact h j hj
  rw [if_neg q3, if_neg q3]
  exact h j hj
theorem m_next_ext {i : mI} {g g' : Nat → Int32} {ad : Nat} (hi : mOk i) (h : ∀ j, j < 4 → g j = g' j) : mNext i g ad = mNext i g' ad := by
  unfold mNext
  rw [h _ hi.2.1]
theorem m_ext {P : List mI} {xs : List Nat} (hP : ∀ j, j < P.length → mOk (P.getD j mI0)) : ∀ (k ad : Nat) (g g' : Nat → Int32) (rd st : Nat), (∀ j, j < 4 → g j = g' j) → mRun P xs k ad g rd st = mRun P xs k ad g' rd st := by
  intro k
  induction k with
  | zero => intro ad g g' rd st _; rfl
  | succ k ih =>
    intro ad g g' rd st h
    by_cases q : ad < P.length
    · have h1 := m_regs_ext (xs := xs) (rd := rd) (hP ad q) h
      have h2 := m_next_ext (ad := ad) (hP ad q) h1
      have h3 : ∀ nx, mRun P xs k nx (mRegs (P.getD ad mI0) xs rd g) (mRd (P.getD ad mI0) rd) (st + 1) = mRun P xs k nx (mRegs (P.getD ad mI0) xs rd g') (mRd (P.getD ad mI0) rd) (st + 1) := fun nx => ih nx _ _ _ _ h1
      unfold mRun
      rw [if_pos q, if_pos q, h2]
      simp only [h3]
    · unfold mRun
      rw [if_neg q, if_neg q]
theorem m_code {P : List mI} {xs : List Nat} : ∀ (k ad : Nat) (g : Nat → Int32) (rd st : Nat), (mRun P xs k ad g rd st).1 = 1 → ∃ v, (mRun P xs k ad g rd st).2.1 = some v := by
  intro k
  induction k with
  | zero => intro ad g rd st h; cases h
  | succ k ih =>
    intro ad g rd st h
    unfold mRun at h ⊢
    split at h
    · rename_i q
      rw [if_pos q]
      split at h
      · rename_i q2
        exact ⟨_, rfl⟩
      · rename_i nx q2
        split at h
        · cases h
        · rename_i q3
          rw [if_neg q3]
          exact ih _ _ _ _ h
    · cases h
noncomputable def mFails (P : List mI) (xs : List Nat) (c : Int32) : Bool := decide ((mOut P xs).1 = 1 ∧ (mOut P xs).2.1 = some c)
theorem m_vd {P : List mI} {xs : List Nat} : ∀ (k ad : Nat) (g : Nat → Int32) (rd st : Nat), (mRun P xs k ad g rd st).1 < 3 := by
  intro k
  induction k with
  | zero => intro ad g rd st; exact (by decide : 2 < 3)
  | succ k ih =>
    intro ad g rd st
    unfold mRun
    split
    · split
      · split
        · exact (by decide : (1 : Nat) < 3)
        · exact (by decide : (0 : Nat) < 3)
      · split
        · exact (by decide : (2 : Nat) < 3)
        · exact ih _ _ _ _
    · exact (by decide : (0 : Nat) < 3)
set_option maxHeartbeats 4000000 in
set_option maxRecDepth 100000 in
/-- Machine.run: the registers -/
theorem lpX2_run0 {p : Program} {l : Launch} {e : Env} {R : Room} {s : State} {m : MethodId} {args : Array Value} {below : List Frame} {meth : Method} {c : Code} {cells slots : Nat} {Q : State → Prop} {D : va_G} {A : Nat → Prop} {H0 : Heap} (hx : p.tables.exec = Jvm.exec) (hb : c.code = cX2_run) (hts : ∀ w ∈ lw_all, w.before args s = true) (hown : s.vm.findClass RX2 = some m.cls) (hK : va_K D gCl (gT D) s) (w : g_H) (m9 ra eb x d rd st : Nat) (vv : Value) (cd : Int32)
    (kk : ∀ (w1 : g_H) (g : Nat → Int32) (H : Heap) (locs : List Loc) (ls : Array Slot), g_ex (fun q => q = ra) w w1 → g_at w1 m9 (.inr (1, [.ref ra, .ref eb, vv, .int (cd), .int (nI st), .int (nI rd), .ref x])) → g_at w1 ra (.inl (D.1 100, 4, .inl g)) → (∀ j, j < 4 → g j = 0) → g_W D A H0 H locs w1 → lv_has ls 4 [(0, .ref m9), (1, .ref d)] → W p l e R s m args below meth c H locs cells slots Q (F0 m 20 ls [])) :
    ∀ (k : Nat) (i : Nat) (w1 : g_H) (g : Nat → Int32) (H : Heap) (locs : List Loc) (ls : Array Slot), 4 < i + k → i ≤ 4 → g_ex (fun q => q = ra) w w1 → g_at w1 m9 (.inr (1, [.ref ra, .ref eb, vv, .int (cd), .int (nI st), .int (nI rd), .ref x])) → g_at w1 ra (.inl (D.1 100, 4, .inl g)) → (∀ j, j < i → g j = 0) → g_W D A H0 H locs w1 → lv_has ls 4 [(2, .int (nI i)), (0, .ref m9), (1, .ref d)] → W p l e R s m args below meth c H locs cells slots Q (F0 m 2 ls []) := by
  intro k
  induction k with
  | zero => intro i w1 g H locs ls hfuel hi hex hm hra hz hW hl; exact absurd hfuel (by omega)
  | succ k ih =>
    intro i w1 g H locs ls hfuel hi hex hm hra hz hW hl
    refine lv_iload_n hx hb dX2_run_2 rfl (lv_at hl 0 rfl) ?_
    refine lv_iconst (v := 4) hx hb dX2_run_3 (by decide) ?_
    refine g_icmp_ge (x := i) (y := 4) (tgt := 20) hx hb (by omega) (by decide) dX2_run_4 (by decide) (fun hc => ?_) (fun hc => ?_)
    · have e0 : i = 4 := by omega
      subst e0
      exact kk w1 g H locs ls hex hm hra hz hW (lv_sub hl [1, 2] rfl)
    · refine lv_aload_n hx hb dX2_run_7 rfl (lv_at hl 1 rfl) ?_
      refine g_get (ci := 1) (v := .ref ra) (C := RX2) (T := TX2) (N := 7) hx hb hts in_X2 hown hK hW hm rfl 0 (by decide) q189 (fun _ h9 => h9) rfl dX2_run_8 ?_
      refine lv_iload_n hx hb dX2_run_11 rfl (lv_at hl 0 rfl) ?_
      refine lv_iconst (v := 0) hx hb dX2_run_12 (by decide) ?_
      refine g_iast (i := i) hx hb hK hW hra (hc) (by decide) dX2_run_13 (fun H locs hW => ?_)
      obtain ⟨f_1, ef_1⟩ : ∃ z__, z__ = upd (g) (i) (0) := ⟨_, rfl⟩
      rw [← ef_1] at hW
      obtain ⟨w_2, ew_2⟩ : ∃ z__, z__ = g_put w1 ra (.inl (D.1 100, 4, .inl (f_1))) := ⟨_, rfl⟩
      have hW := g_W.ren hW ew_2 rfl
      have h_3 : g_at w_2 m9 (.inr (1, [.ref ra, .ref eb, vv, .int (cd), .int (nI st), .int (nI rd), .ref x])) := by rw [ew_2]; exact hm.put (g_neOA hm hra)
      have h_4 : g_at w_2 ra (.inl (D.1 100, 4, .inl (f_1))) := by rw [ew_2]; exact g_at.put_self hra.1
      have x_5 : g_ex (fun q => q = ra) w w_2 := by rw [ew_2]; exact hex.put (fun hz9 => rfl)
      refine lv_iinc (v := nI (i + 1)) (lv' := [(2, .int (nI (i + 1))), (0, .ref m9), (1, .ref d)]) hx hb dX2_run_14 hl (k := 0) rfl (nI_1 i) (by decide) rfl (fun ls hl => ?_)
      refine lv_goto (tgt := 2) hx hb dX2_run_17 (by decide) ?_
      refine ih (i + 1) w_2 f_1 H locs ls (by omega) (by omega) x_5 h_3 h_4 (fun j hj => ?_) hW hl
      rw [ef_1]
      by_cases r : j = i
      · subst r; exact pk_us
      · rw [pk_un r]; exact hz j (by omega)
set_option maxHeartbeats 4000000 in
set_option maxRecDepth 100000 in
/-- Machine.run -/
theorem mtX2_run (l : Launch) (D : va_G) (w : g_H) (sz : Nat) (m9 ra eb wb x st n cap d da pg par pcap : Nat) (vv : Value) (cd : Int32) (E : Nat → Bool) (x1 x2 x3 x4 x5 x6 x7 x8 x9 x10 : Value) (ps : List Nat) (P : List mI) (xs : List Nat) (hM : g_Ma D w m9 ra eb wb x vv cd st E n cap) (hx0 : g_at w x (.inr (0, [.ref pg, x1, x2, x3, x4, x5, x6, x7, x8, x9, x10]))) (hP : g_Pg D w pg par ps pcap P) (hd : g_Dig D w d da xs) (nra : ra ≠ da) : Met l yX2_run (ws_ yX2_run cX2_run 4 none) ({ frames := 6, cells := bsC cap (mOut P xs).2.2.2 - cap, slots := 2 * (bsC cap (mOut P xs).2.2.2 - cap), locals := 168 }) (g_Pc D [.ref m9, .ref d] w sz) (g_Qv D w sz (fun u => ∃ wb2, g_Ma D u m9 ra eb wb2 x (.ref (D.2 1003 (mOut P xs).1)) ((mOut P xs).2.1.getD cd) (mOut P xs).2.2.1 (bsE (fun _ => false) (mOut P xs).2.2.2) (bsN 0 (mOut P xs).2.2.2) (bsC cap (mOut P xs).2.2.2) ∧ (wb2 = wb ∨ wb2 ∉ w.1) ∧ g_ex (fun q => q = m9 ∨ q = ra ∨ q = eb ∨ q = wb) w u)) (bsC cap (mOut P xs).2.2.2 - cap) (2 * (bsC cap (mOut P xs).2.2.2 - cap)) (g_A w sz) := by
  refine Met.ofW (cc := cX2_run) (maxL := 4) (ret := none) (by decide) rfl ?_
  intro p e s m args below meth c s₁ B hml hv
  obtain ⟨rfl, hI⟩ := hv
  have hx := B.exec
  have hb := B.bytes
  have hr := B.returns
  have hts := atoms_spec (ws := ws_ yX2_run cX2_run 4 none) B.pre
  have hts : ∀ w ∈ lw_all, w.before _ s = true := fun w h => hts w (List.mem_cons_of_mem _ h)
  have hown : s.vm.findClass RX2 = some m.cls := findClass_of_methodNamed B.named
  have hlocks := B.notSynchronized
  have hsz := hI.1
  subst hsz
  have hW := g_W.start hI
  have hK := g_K hI
  have hE := g_E hI
  have hl := lv_entry ([.ref m9, .ref d]) (n := 4) (by exact Nat.le_of_ble_eq_true rfl)
  rw [lg_entry_eq]
  generalize (lg_sl ([.ref m9, .ref d]) ++ List.replicate (4 - (lg_sl ([.ref m9, .ref d])).length) Slot.unset).toArray = ls at hl ⊢
  have hl : lv_has ls 4 [(0, .ref m9), (1, .ref d)] := hl
  obtain ⟨⟨rd, hm⟩, ⟨f, hra⟩, hbs⟩ := hM
  have hra0 := hra
  have hm0 := hm
  have x_1 : g_ex (fun q => q = ra) w w := g_ex.rf
  obtain ⟨mo9, hpg, -, -, hpar⟩ := id hP.1
  obtain ⟨fw, hwb, -⟩ := id hbs.2.1
  obtain ⟨fd, hda, -⟩ := id hd.2.1
  have hnO : ∀ (q ci : Nat) (fs : List Value), g_at w q (.inr (ci, fs)) → ci ≠ 1 → ci ≠ 14 → ¬ (q = m9 ∨ q = ra ∨ q = eb ∨ q = wb) := fun q ci fs h h1 h2 z => z.elim (fun z => g_neO h hm h1 z) (fun z => z.elim (fun z => g_neOA h hra z) (fun z => z.elim (fun z => g_neO h hbs.1 h2 z) (fun z => g_neOA h hwb z)))
  have n03 : D.1 100 ≠ D.1 103 := g_neA hK (i := 0) (j := 3) rfl rfl (fun z => by cases z)
  have n04 : D.1 104 ≠ D.1 100 := g_neA hK (i := 4) (j := 0) rfl rfl (fun z => by cases z)
  have n34 : D.1 104 ≠ D.1 103 := g_neA hK (i := 4) (j := 3) rfl rfl (fun z => by cases z)
  have hwr : wb ≠ ra := g_ne hwb hra (fun q => n03 (Prod.mk.inj (Sum.inl.inj q)).1.symm)
  have hdaM : ¬ (da = m9 ∨ da = ra ∨ da = eb ∨ da = wb) := fun z => z.elim (fun z => g_neAO hda hm z) (fun z => z.elim (fun z => nra z.symm) (fun z => z.elim (fun z => g_neAO hda hbs.1 z) (fun z => g_ne hda hwb (fun q => n03 (Prod.mk.inj (Sum.inl.inj q)).1) z)))
  have hparM : 0 < pcap → ¬ (par = m9 ∨ par = ra ∨ par = eb ∨ par = wb) := fun h0 => by
    rcases hpar with ⟨h9, -⟩ | ⟨-, fp, hfp, -⟩
    · omega
    · exact fun z => z.elim (fun z => g_neAO hfp hm z) (fun z => z.elim (fun z => g_ne hfp hra (fun q => n04 (Prod.mk.inj (Sum.inl.inj q)).1) z) (fun z => z.elim (fun z => g_neAO hfp hbs.1 z) (fun z => g_ne hfp hwb (fun q => n34 (Prod.mk.inj (Sum.inl.inj q)).1) z)))
  refine lv_iconst (v := 0) hx hb dX2_run_0 (by decide) ?_
  refine lv_istore_n (lv' := [(2, .int (0)), (0, .ref m9), (1, .ref d)]) hx hb dX2_run_1 rfl hl (by decide) rfl (fun ls hl => ?_)
  refine lpX2_run0 (D := D) hx hb hts hown hK w m9 ra eb x d rd st vv cd (fun w1 g H locs ls hex0 hm hra hz hW hl => ?_) 5 0 w f _ _ ls (by omega) (by omega) g_ex.rf hm hra (fun j hj => absurd hj (by omega)) hW hl
  have hbs1 : g_BS D w1 eb wb E n cap := hbs.ex hex0 (fun z => g_neOA hbs.1 hra0 z) (fun z => hwr z)
  refine lv_aload_n hx hb dX2_run_20 rfl (lv_at hl 0 rfl) ?_
  refine g_get (ci := 1) (v := .ref eb) (C := RX2) (T := TX2) (N := 7) hx hb hts in_X2 hown hK hW hm rfl 1 (by decide) q190 (fun _ h9 => h9) rfl dX2_run_21 ?_
  refine g_callv (va_runV (As := []) (rest := []) ⟨hx, hb, hml, hown, hts⟩ (mtJ3_clear l D w1 H.size eb wb n cap E hbs1) (cwV 0 hts (lw_V q1191 q393 q394 q39 q395) rfl rfl rfl (by decide +kernel) ⟨Nat.le_of_ble_eq_true rfl, Nat.le_of_ble_eq_true rfl⟩) (g_preV hW hK hE hbs1.1 rfl) rfl rfl hl.1 rfl (lv_room (Nat.le_of_ble_eq_true rfl)) dX2_run_24 ⟨?_, ?_⟩) hW (fun u1 H locs hp hW => ?_)
  · (try simp only [headSpec]); omega
  · (try simp only [headSpec]); omega
  obtain ⟨hbs2, hex2⟩ := hp
  have hm2 := hex2.at hm (fun z => z.elim (fun z => g_neO hm hbs1.1 (by decide) z) (fun z => by obtain ⟨f9, hf9, -⟩ := hbs1.2.1; exact g_neOA hm hf9 z))
  have hra2 := hex2.at hra (fun z => z.elim (fun z => g_neAO hra hbs1.1 z) (fun z => hwr z.symm))
  have hx2 : g_ex (fun q => q = m9 ∨ q = ra ∨ q = eb ∨ q = wb) w u1 := (hex0.mono (fun _ _ z => Or.inr (Or.inl z))).trM hex2 (fun z _ hz => hz.elim (fun z => Or.inr (Or.inr (Or.inl z))) (fun z => Or.inr (Or.inr (Or.inr z))))
  refine lv_aload_n hx hb dX2_run_27 rfl (lv_at hl 0 rfl) ?_
  refine va_gets hx hb ((hE.2.2.2.2.2.2.2.1.1 0 (by decide)).1) hW.2.2.1 hown (hts _ q1192) (fun _ h9 => h9) dX2_run_28 ?_
  refine g_putf (ci := 1) (v := .ref (D.2 1003 0)) (ty := (.object "Verdict")) (C := RX2) (T := TX2) (N := 7) hx hb hts in_X2 tyX2 tyX2_ok nmX2 hown hK hW hm2 rfl 2 (by decide) q192 (fun _ h9 => h9) rfl (by decide +kernel) rfl rfl (Nat.le_of_ble_eq_true rfl) dX2_run_31 (fun H locs hW => ?_)
  obtain ⟨w_2, ew_2⟩ : ∃ z__, z__ = g_put u1 m9 (.inr (1, [.ref ra, .ref eb, .ref (D.2 1003 0), .int (cd), .int (nI st), .int (nI rd), .ref x])) := ⟨_, rfl⟩
  have hW := g_W.ren hW ew_2 rfl
  have h_3 : g_at w_2 m9 (.inr (1, [.ref ra, .ref eb, .ref (D.2 1003 0), .int (cd), .int (nI st), .int (nI rd), .ref x])) := by rw [ew_2]; exact g_at.put_self hm2.1
  have h_4 : g_at w_2 ra (.inl (D.1 100, 4, .inl (g))) := by rw [ew_2]; exact hra2.put (g_neAO hra2 hm2)
  have x_5 : g_ex (fun q => q = m9 ∨ q = ra ∨ q = eb ∨ q = wb) w w_2 := by rw [ew_2]; exact hx2.put (fun hz9 => (Or.inl rfl))
  refine lv_aload_n hx hb dX2_run_34 rfl (lv_at hl 0 rfl) ?_
  refine lv_iconst (v := 0) hx hb dX2_run_35 (by decide) ?_
  refine g_putf (ci := 1) (v := .int (0)) (ty := .int) (C := RX2) (T := TX2) (N := 7) hx hb hts in_X2 tyX2 tyX2_ok nmX2 hown hK hW h_3 rfl 4 (by decide) q196 (fun _ h9 => h9) rfl (by decide +kernel) rfl rfl (Nat.le_of_ble_eq_true rfl) dX2_run_36 (fun H locs hW => ?_)
  obtain ⟨w_6, ew_6⟩ : ∃ z__, z__ = g_put w_2 m9 (.inr (1, [.ref ra, .ref eb, .ref (D.2 1003 0), .int (cd), .int (0), .int (nI rd), .ref x])) := ⟨_, rfl⟩
  have hW := g_W.ren hW ew_6 rfl
  have h_7 : g_at w_6 m9 (.inr (1, [.ref ra, .ref eb, .ref (D.2 1003 0), .int (cd), .int (0), .int (nI rd), .ref x])) := by rw [ew_6]; exact g_at.put_self h_3.1
  have h_8 : g_at w_6 ra (.inl (D.1 100, 4, .inl (g))) := by rw [ew_6]; exact h_4.put (g_neAO h_4 h_3)
  have x_9 : g_ex (fun q => q = m9 ∨ q = ra ∨ q = eb ∨ q = wb) w w_6 := by rw [ew_6]; exact x_5.put (fun hz9 => (Or.inl rfl))
  refine lv_aload_n hx hb dX2_run_39 rfl (lv_at hl 0 rfl) ?_
  refine lv_iconst (v := 0) hx hb dX2_run_40 (by decide) ?_
  refine g_putf (ci := 1) (v := .int (0)) (ty := .int) (C := RX2) (T := TX2) (N := 7) hx hb hts in_X2 tyX2 tyX2_ok nmX2 hown hK hW h_7 rfl 5 (by decide) q198 (fun _ h9 => h9) rfl (by decide +kernel) rfl rfl (Nat.le_of_ble_eq_true rfl) dX2_run_41 (fun H locs hW => ?_)
  obtain ⟨w_10, ew_10⟩ : ∃ z__, z__ = g_put w_6 m9 (.inr (1, [.ref ra, .ref eb, .ref (D.2 1003 0), .int (cd), .int (0), .int (0), .ref x])) := ⟨_, rfl⟩
  have hW := g_W.ren hW ew_10 rfl
  have h_11 : g_at w_10 m9 (.inr (1, [.ref ra, .ref eb, .ref (D.2 1003 0), .int (cd), .int (0), .int (0), .ref x])) := by rw [ew_10]; exact g_at.put_self h_7.1
  have h_12 : g_at w_10 ra (.inl (D.1 100, 4, .inl (g))) := by rw [ew_10]; exact h_8.put (g_neAO h_8 h_7)
  have x_13 : g_ex (fun q => q = m9 ∨ q = ra ∨ q = eb ∨ q = wb) w w_10 := by rw [ew_10]; exact x_9.put (fun hz9 => (Or.inl rfl))
  refine lv_iconst (v := 0) hx hb dX2_run_44 (by decide) ?_
  refine lv_istore_n (lv' := [(2, .int (0)), (0, .ref m9), (1, .ref d)]) hx hb dX2_run_45 rfl hl (by decide) rfl (fun ls hl => ?_)
  have hbs3 : g_BS D w_10 eb wb (fun _ => false) 0 cap := by rw [ew_10, ew_6, ew_2]; exact ((hbs2.put hm2).put ⟨hm2.1, va_up_self _ _ _⟩).put ⟨hm2.1, va_up_self _ _ _⟩
  have hmx : mRun P xs 65 0 g 0 0 = mOut P xs := (m_ext (fun j hj => hP.ok hj) 65 0 g (fun _ => 0) 0 0 hz).trans (mOut_eq P xs).symm
  refine lpX2_run (D := D) hx hb hts hown hK hE w m9 ra eb wb x d da pg par pcap cd x1 x2 x3 x4 x5 x6 x7 x8 x9 x10 ps P xs hx0 hP.1 hP.2.1 hP.2.2.1 hP.2.2.2 hd (hnO _ _ _ hpg (by decide) (by decide)) hparM (hnO _ _ _ hx0 (by decide) (by decide)) (hnO _ _ _ hd.1 (by decide) (by decide)) hdaM (fun j hj => hnO _ _ _ (hP.2.2.2 j hj).1 (by decide) (by decide)) hra0.1 (mOut P xs).1 (mOut P xs).2.2.1 (bsN 0 (mOut P xs).2.2.2) (bsC cap (mOut P xs).2.2.2) (bsC cap (mOut P xs).2.2.2 - cap) (2 * (bsC cap (mOut P xs).2.2.2 - cap)) (mOut P xs).2.1 (bsE (fun _ => false) (mOut P xs).2.2.2) (Nat.le_of_ble_eq_true rfl) (Nat.le_of_ble_eq_true rfl) (Nat.le_refl _) (Nat.le_refl _) hml (fun rdF gF wb2 w1 cells slots H locs ls hcl hsl hex hm hra hbs hwb2 hW hl => ?_) 65 0 g 0 0 (fun _ => false) 0 cap wb w_10 _ _ _ _ ls rfl (by omega) (by omega) (by omega) (fun z => by omega) (by rw [hmx]) (by rw [hmx]) (by rw [hmx]) (by rw [hmx]) (by rw [hmx]) (by rw [hmx]) (by omega) (by omega) x_13 h_11 h_12 hbs3 (Or.inl rfl) hW hl
  exact g_vret hx hb hr hlocks hW (⟨wb2, ⟨⟨rdF, hm⟩, ⟨gF, hra⟩, hbs⟩, hwb2, hex⟩) hcl hsl dX2_run_198
set_option maxHeartbeats 4000000 in
set_option maxRecDepth 100000 in
/-- Machine.isFailing -/
theorem mtX2_isFailing (l : Launch) (D : va_G) (w : g_H) (sz : Nat) (m9 ra eb wb x st n cap d da pg par pcap : Nat) (vv : Value) (cd : Int32) (E : Nat → Bool) (x1 x2 x3 x4 x5 x6 x7 x8 x9 x10 : Value) (ps : List Nat) (P : List mI) (xs : List Nat) (hM : g_Ma D w m9 ra eb wb x vv cd st E n cap) (hx0 : g_at w x (.inr (0, [.ref pg, x1, x2, x3, x4, x5, x6, x7, x8, x9, x10]))) (hP : g_Pg D w pg par ps pcap P) (hd : g_Dig D w d da xs) (nra : ra ≠ da) (c9 : Int32) : Met l yX2_isFailing (ws_ yX2_isFailing cX2_isFailing 3 (some .boolean)) ({ frames := 7, cells := bsC cap (mOut P xs).2.2.2 - cap, slots := 2 * (bsC cap (mOut P xs).2.2.2 - cap), locals := 191 }) (g_Pc D [.ref m9, .ref d, .int (c9)] w sz) (g_Qi D w sz (fun r u => r = (if mFails P xs c9 = true then 1 else 0) ∧ ∃ wb2, g_Ma D u m9 ra eb wb2 x (.ref (D.2 1003 (mOut P xs).1)) ((mOut P xs).2.1.getD cd) (mOut P xs).2.2.1 (bsE (fun _ => false) (mOut P xs).2.2.2) (bsN 0 (mOut P xs).2.2.2) (bsC cap (mOut P xs).2.2.2) ∧ (wb2 = wb ∨ wb2 ∉ w.1) ∧ g_ex (fun q => q = m9 ∨ q = ra ∨ q = eb ∨ q = wb) w u)) (bsC cap (mOut P xs).2.2.2 - cap) (2 * (bsC cap (mOut P xs).2.2.2 - cap)) (g_A w sz) := by
  refine Met.ofW (cc := cX2_isFailing) (maxL := 3) (ret := (some .boolean)) (by decide) rfl ?_
  intro p e s m args below meth c s₁ B hml hv
  obtain ⟨rfl, hI⟩ := hv
  have hx := B.exec
  have hb := B.bytes
  have hr := B.returns
  have hts := atoms_spec (ws := ws_ yX2_isFailing cX2_isFailing 3 (some .boolean)) B.pre
  have hts : ∀ w ∈ lw_all, w.before _ s = true := fun w h => hts w (List.mem_cons_of_mem _ h)
  have hown : s.vm.findClass RX2 = some m.cls := findClass_of_methodNamed B.named
  have hlocks := B.notSynchronized
  have hsz := hI.1
  subst hsz
  have hW := g_W.start hI
  have hK := g_K hI
  have hE := g_E hI
  have hl := lv_entry ([.ref m9, .ref d, .int (c9)]) (n := 3) (by exact Nat.le_of_ble_eq_true rfl)
  rw [lg_entry_eq]
  generalize (lg_sl ([.ref m9, .ref d, .int (c9)]) ++ List.replicate (3 - (lg_sl ([.ref m9, .ref d, .int (c9)])).length) Slot.unset).toArray = ls at hl ⊢
  have hl : lv_has ls 3 [(0, .ref m9), (1, .ref d), (2, .int (c9))] := hl
  obtain ⟨rd0, hm0⟩ := hM.1
  refine lv_aload_n hx hb dX2_isFailing_0 rfl (lv_at hl 0 rfl) ?_
  refine lv_aload_n hx hb dX2_isFailing_1 rfl (lv_at hl 1 rfl) ?_
  refine g_callv (va_runV (As := [.ref d]) (rest := []) ⟨hx, hb, hml, hown, hts⟩ (mtX2_run l D w s.heap.size m9 ra eb wb x st n cap d da pg par pcap vv cd E x1 x2 x3 x4 x5 x6 x7 x8 x9 x10 ps P xs hM hx0 hP hd nra) (cwV 1 hts (lw_V q1548 q1188 q1189 q38 q1190) rfl rfl rfl (by decide +kernel) ⟨Nat.le_of_ble_eq_true rfl, Nat.le_of_ble_eq_true rfl⟩) (g_preV hW hK hE hm0 rfl) rfl rfl hl.1 rfl (lv_room (Nat.le_of_ble_eq_true rfl)) dX2_isFailing_2 ⟨?_, ?_⟩) hW (fun u1 H locs hp hW => ?_)
  · (try simp only [headSpec]); omega
  · (try simp only [headSpec]); omega
  obtain ⟨wb2, ⟨⟨rd, hm⟩, hra, hbs⟩, hwb2, hex⟩ := hp
  have hmm : g_Ma D u1 m9 ra eb wb2 x (.ref (D.2 1003 (mOut P xs).1)) ((mOut P xs).2.1.getD cd) (mOut P xs).2.2.1 (bsE (fun _ => false) (mOut P xs).2.2.2) (bsN 0 (mOut P xs).2.2.2) (bsC cap (mOut P xs).2.2.2) := ⟨⟨rd, hm⟩, hra, hbs⟩
  have h3 : (mOut P xs).1 < 3 := by rw [mOut_eq]; exact m_vd _ _ _ _ _
  refine lv_aload_n hx hb dX2_isFailing_5 rfl (lv_at hl 0 rfl) ?_
  refine g_get (ci := 1) (v := (.ref (D.2 1003 (mOut P xs).1))) (C := RX2) (T := TX2) (N := 7) hx hb hts in_X2 hown hK hW hm rfl 2 (by decide) q192 (fun _ h9 => h9) rfl dX2_isFailing_6 ?_
  refine va_gets hx hb ((hE.2.2.2.2.2.2.2.1.1 1 (by decide)).1) hW.2.2.1 hown (hts _ q1219) (fun _ h9 => h9) dX2_isFailing_9 ?_
  refine lv_acmp_ne (rx := some (D.2 1003 (mOut P xs).1)) (ry := some (D.2 1003 1)) (tgt := 27) hx hb dX2_isFailing_12 (by decide) (fun hc => ?_) (fun hc => ?_)
  · have hz : ¬ mFails P xs c9 = true := fun z => hc (by rw [(of_decide_eq_true z).1])
    refine lv_iconst (v := 0) hx hb dX2_isFailing_27 (by decide) ?_
    exact g_zret (v := 0) hx hb hr hlocks (by rfl) hW (⟨by rw [if_neg hz], wb2, hmm, hwb2, hex⟩) (by omega) (by omega) dX2_isFailing_28
  · have h1 : (mOut P xs).1 = 1 := g_vdI hE h3 (by decide) (Option.some.inj (by first | exact hc | exact Classical.not_not.mp hc))
    obtain ⟨v, hv⟩ := m_code _ _ _ _ _ ((congrArg Prod.fst (mOut_eq P xs)).symm.trans h1)
    have hv2 : (mOut P xs).2.1 = some v := by rw [mOut_eq]; exact hv
    refine lv_aload_n hx hb dX2_isFailing_15 rfl (lv_at hl 0 rfl) ?_
    refine g_get (ci := 1) (v := .int (((mOut P xs).2.1.getD cd))) (C := RX2) (T := TX2) (N := 7) hx hb hts in_X2 hown hK hW hm rfl 3 (by decide) q194 (fun _ h9 => h9) rfl dX2_isFailing_16 ?_
    refine lv_iload_n hx hb dX2_isFailing_19 rfl (lv_at hl 2 rfl) ?_
    refine lv_icmp_ne (tgt := 27) hx hb dX2_isFailing_20 (by decide) (fun hd2 => ?_) (fun hd2 => ?_)
    · have hz : ¬ mFails P xs c9 = true := fun z => hd2 (by have := (of_decide_eq_true z).2; rw [this]; rfl)
      refine lv_iconst (v := 0) hx hb dX2_isFailing_27 (by decide) ?_
      exact g_zret (v := 0) hx hb hr hlocks (by rfl) hW (⟨by rw [if_neg hz], wb2, hmm, hwb2, hex⟩) (by omega) (by omega) dX2_isFailing_28
    · have hz : mFails P xs c9 = true := decide_eq_true ⟨h1, by rw [hv2] at hd2 ⊢; exact congrArg some (by first | exact hd2 | exact Classical.not_not.mp hd2)⟩
      refine lv_iconst (v := 1) hx hb dX2_isFailing_23 (by decide) ?_
      refine lv_goto (tgt := 28) hx hb dX2_isFailing_24 (by decide) ?_
      exact g_zret (v := 1) hx hb hr hlocks (by rfl) hW (⟨by rw [if_pos hz], wb2, hmm, hwb2, hex⟩) (by omega) (by omega) dX2_isFailing_28
set_option maxHeartbeats 4000000 in
set_option maxRecDepth 100000 in
/-- new Machine -/
theorem mtX2_init (l : Launch) (D : va_G) (w : g_H) (sz : Nat) (m9 x : Nat) (hm : g_at w m9 (.inr (1, [.null, .null, .null, .int 0, .int 0, .int 0, .null]))) : Met l yX2_init (ws_ yX2_init cX2_init 2 none) ({ frames := 4, cells := 4, slots := 9, locals := 73 }) (g_Pc D [.ref m9, .ref x] w sz) (g_Qv D w sz (fun u => ∃ ra eb wb, ra ∉ w.1 ∧ eb ∉ w.1 ∧ wb ∉ w.1 ∧ g_Ma D u m9 ra eb wb x .null 0 0 (fun _ => false) 0 1 ∧ g_ex (fun q => q = m9) w u)) (4) (9) (g_A w sz) := by
  refine Met.ofW (cc := cX2_init) (maxL := 2) (ret := none) (by decide) rfl ?_
  intro p e s m args below meth c s₁ B hml hv
  obtain ⟨rfl, hI⟩ := hv
  have hx := B.exec
  have hb := B.bytes
  have hr := B.returns
  have hts := atoms_spec (ws := ws_ yX2_init cX2_init 2 none) B.pre
  have hts : ∀ w ∈ lw_all, w.before _ s = true := fun w h => hts w (List.mem_cons_of_mem _ h)
  have hown : s.vm.findClass RX2 = some m.cls := findClass_of_methodNamed B.named
  have hlocks := B.notSynchronized
  have hin : meth.name = "<init>" := (name_of_methodNamed B.named B.method).1
  have hsz := hI.1
  subst hsz
  have hW := g_W.start hI
  have hK := g_K hI
  have hE := g_E hI
  have hl := lv_entry ([.ref m9, .ref x]) (n := 2) (by exact Nat.le_of_ble_eq_true rfl)
  rw [lg_entry_eq]
  generalize (lg_sl ([.ref m9, .ref x]) ++ List.replicate (2 - (lg_sl ([.ref m9, .ref x])).length) Slot.unset).toArray = ls at hl ⊢
  have hl : lv_has ls 2 [(0, .ref m9), (1, .ref x)] := hl
  have x_1 : g_ex (fun q => q = m9) w w := g_ex.rf
  refine lv_aload_n hx hb dX2_init_0 rfl (lv_at hl 0 rfl) ?_
  refine lv_aload_n hx hb dX2_init_1 rfl (lv_at hl 1 rfl) ?_
  refine g_putF (ci := 1) (v := .ref x) (ty := (.object "ShrinkYard")) (C := RX2) (T := TX2) (N := 7) hx hb hts in_X2 tyX2 tyX2_ok nmX2 hown hK hW hm rfl 6 (by decide) q199 (fun _ h9 => h9) rfl hin rfl (by decide +kernel) rfl rfl (Nat.le_of_ble_eq_true rfl) dX2_init_2 (fun H locs hW => ?_)
  obtain ⟨w_2, ew_2⟩ : ∃ z__, z__ = g_put w m9 (.inr (1, [.null, .null, .null, .int (0), .int (0), .int (0), .ref x])) := ⟨_, rfl⟩
  have hW := g_W.ren hW ew_2 rfl
  have h_3 : g_at w_2 m9 (.inr (1, [.null, .null, .null, .int (0), .int (0), .int (0), .ref x])) := by rw [ew_2]; exact g_at.put_self hm.1
  have x_4 : g_ex (fun q => q = m9) w w_2 := by rw [ew_2]; exact x_1.put (fun hz9 => rfl)
  refine lv_aload_n hx hb dX2_init_5 rfl (lv_at hl 0 rfl) ?_
  refine W.objInit hx hb hown (hts _ q163) (hts _ q104) (hts _ q105) rfl (by rw [hml]; exact hl.1) rfl dX2_init_6 (Nat.le_of_ble_eq_true rfl) (Nat.le_of_ble_eq_true rfl) ?_
  refine W.eq (g2 := F0 m 9 ls []) rfl ?_
  refine lv_aload_n hx hb dX2_init_9 rfl (lv_at hl 0 rfl) ?_
  refine lv_iconst (v := 4) hx hb dX2_init_10 (by decide) ?_
  refine g_newa (k := 0) (atype := .int) (ty := .int) (cB := D.1 100) hx hb rfl (hts _ q187) hK hW rfl 4 (4, .inl (fun _ => 0)) (fun _ => rfl) (by decide) (by decide +kernel) (by decide +kernel) (by decide) (by decide) dX2_init_11 (fun q_5 H hq hW => ?_)
  have hq_5 := hq
  obtain ⟨w_6, ew_6⟩ : ∃ z__, z__ = g_push w_2 q_5 (.inl (D.1 100, 4, .inl ((fun _ => 0)))) := ⟨_, rfl⟩
  have hW := g_W.ren hW ew_6 rfl
  have h_7 : g_at w_6 m9 (.inr (1, [.null, .null, .null, .int (0), .int (0), .int (0), .ref x])) := by rw [ew_6]; exact h_3.push hq
  have h_8 : g_at w_6 q_5 (.inl (D.1 100, 4, .inl ((fun _ => 0)))) := by rw [ew_6]; exact g_at.push_self
  have x_9 : g_ex (fun q => q = m9) w w_6 := by rw [ew_6]; exact x_4.push hq
  refine g_putF (ci := 1) (v := .ref q_5) (ty := (.array .int)) (C := RX2) (T := TX2) (N := 7) hx hb hts in_X2 tyX2 tyX2_ok nmX2 hown hK hW h_7 rfl 0 (by decide) q189 (fun _ h9 => h9) rfl hin rfl (by decide +kernel) rfl rfl (Nat.le_of_ble_eq_true rfl) dX2_init_13 (fun H locs hW => ?_)
  obtain ⟨w_10, ew_10⟩ : ∃ z__, z__ = g_put w_6 m9 (.inr (1, [.ref q_5, .null, .null, .int (0), .int (0), .int (0), .ref x])) := ⟨_, rfl⟩
  have hW := g_W.ren hW ew_10 rfl
  have h_11 : g_at w_10 m9 (.inr (1, [.ref q_5, .null, .null, .int (0), .int (0), .int (0), .ref x])) := by rw [ew_10]; exact g_at.put_self h_7.1
  have h_12 : g_at w_10 q_5 (.inl (D.1 100, 4, .inl ((fun _ => 0)))) := by rw [ew_10]; exact h_8.put (g_neAO h_8 h_7)
  have x_13 : g_ex (fun q => q = m9) w w_10 := by rw [ew_10]; exact x_9.put (fun hz9 => rfl)
  refine lv_aload_n hx hb dX2_init_16 rfl (lv_at hl 0 rfl) ?_
  refine g_newo (ci := 14) (C := RJ3) (T := TJ3) (N := 3) hx hb hts in_J3 tyJ3 tyJ3_ok hown q164 q165 q39 hK hW rfl [.null, .int (0), .int (0)] (by decide +kernel) ?_ ?_ dX2_init_17 (fun o_14 H hq hW => ?_)
  · show _ ≤ 4; omega
  · show _ ≤ 9; omega
  have ho_14 := hq
  obtain ⟨w_15, ew_15⟩ : ∃ z__, z__ = g_push w_10 o_14 (.inr (14, [.null, .int (0), .int (0)])) := ⟨_, rfl⟩
  have hW := g_W.ren hW ew_15 rfl
  have h_16 : g_at w_15 m9 (.inr (1, [.ref q_5, .null, .null, .int (0), .int (0), .int (0), .ref x])) := by rw [ew_15]; exact h_11.push hq
  have h_17 : g_at w_15 q_5 (.inl (D.1 100, 4, .inl ((fun _ => 0)))) := by rw [ew_15]; exact h_12.push hq
  have h_18 : g_at w_15 o_14 (.inr (14, [.null, .int (0), .int (0)])) := by rw [ew_15]; exact g_at.push_self
  have x_19 : g_ex (fun q => q = m9) w w_15 := by rw [ew_15]; exact x_13.push hq
  refine lv_dup hx hb dX2_init_20 rfl ?_
  refine g_callv (va_runI (As := []) (rest := [.ref o_14, .ref m9]) ⟨hx, hb, hml, hown, hts⟩ (mtJ3_init l D w_15 H.size o_14 h_18) (cwI 0 hts (lw_meth q168) rfl rfl rfl (hts _ q39) (hts _ q166) (hts _ q167) rfl (by decide +kernel) ⟨Nat.le_of_ble_eq_true rfl, Nat.le_of_ble_eq_true rfl⟩) (g_preS hW hK hE) rfl rfl hl.1 rfl (lv_room (Nat.le_of_ble_eq_true rfl)) dX2_init_21 ⟨?_, ?_⟩) hW (fun u1 H locs hp hW => ?_)
  · (try simp only [headSpec]); omega
  · (try simp only [headSpec]); omega
  obtain ⟨wb, hwb, hbs, hex1⟩ := hp
  have hm1 := hex1.at h_16 (fun z => ho_14 (by rw [← z]; exact h_11.1))
  have hra1 := hex1.at h_17 (fun z => ho_14 (by rw [← z]; exact h_12.1))
  have hx1 : g_ex (fun q => q = m9) w u1 := x_19.trM hex1 (fun z hz1 hz2 => absurd (hz2 ▸ hz1) (fun q => ho_14 (x_13.1 _ q)))
  refine g_putF (ci := 1) (v := .ref o_14) (ty := (.object "java/util/BitSet")) (C := RX2) (T := TX2) (N := 7) hx hb hts in_X2 tyX2 tyX2_ok nmX2 hown hK hW hm1 rfl 1 (by decide) q190 (fun _ h9 => h9) rfl hin rfl (by decide +kernel) rfl rfl (Nat.le_of_ble_eq_true rfl) dX2_init_24 (fun H locs hW => ?_)
  obtain ⟨w_20, ew_20⟩ : ∃ z__, z__ = g_put u1 m9 (.inr (1, [.ref q_5, .ref o_14, .null, .int (0), .int (0), .int (0), .ref x])) := ⟨_, rfl⟩
  have hW := g_W.ren hW ew_20 rfl
  have h_21 : g_at w_20 m9 (.inr (1, [.ref q_5, .ref o_14, .null, .int (0), .int (0), .int (0), .ref x])) := by rw [ew_20]; exact g_at.put_self hm1.1
  have h_22 : g_at w_20 q_5 (.inl (D.1 100, 4, .inl ((fun _ => 0)))) := by rw [ew_20]; exact hra1.put (g_neAO hra1 hm1)
  have x_23 : g_ex (fun q => q = m9) w w_20 := by rw [ew_20]; exact hx1.put (fun hz9 => rfl)
  have hbs5 : g_BS D w_20 o_14 wb (fun _ => false) 0 1 := by rw [ew_20]; exact g_BS.put hbs hm1
  exact g_vret hx hb hr hlocks hW (⟨q_5, o_14, wb, (fun q => hq_5 (x_4.1 _ q)), (fun q => ho_14 (x_13.1 _ q)), (fun q => hwb (x_19.1 _ q)), ⟨⟨0, h_21⟩, ⟨_, h_22⟩, hbs5⟩, x_23⟩) (by omega) (by omega) dX2_init_27
