/-! the model: grown, takes (its rows) *
-/
set_option maxRecDepth 100000
theorem m_edge {P : List mI} {xs : List Nat} (hP : P.length ≤ 16) : ∀ (k ad : Nat) (g : Nat → Int32) (rd st : Nat), ∀ e ∈ (mRun P xs k ad g rd st).2.2.2, e < 272 := by
  intro k
  induction k with
  | zero => intro ad g rd st e he; cases he
  | succ k ih =>
    intro ad g rd st e he
    unfold mRun at he
    split at he
    · rename_i h
      split at he
      · cases he
      · split at he
        · cases he
        · rcases List.mem_cons.mp he with q | q
          · rw [q]; omega
          · exact ih _ _ _ _ e q
    · cases he
theorem mOut_edge {P : List mI} {xs : List Nat} (hP : P.length ≤ 16) : ∀ e ∈ (mOut P xs).2.2.2, e < 272 := by rw [mOut_eq]; exact m_edge hP 65 0 _ 0 0
theorem bsE_mem {E : Nat → Bool} : ∀ (es : List Nat) {E : Nat → Bool} {e : Nat}, bsE E es e = true ↔ E e = true ∨ e ∈ es
  | [], E, e => by unfold bsE; simp
  | x :: es, E, e => by
    unfold bsE
    rw [bsE_mem (E := fun z => z == x || E z) es]
    simp only [Bool.or_eq_true, beq_iff_eq, List.mem_cons]
    constructor
    · rintro ((h | h) | h)
      · exact Or.inr (Or.inl h)
      · exact Or.inl h
      · exact Or.inr (Or.inr h)
    · rintro (h | h | h)
      · exact Or.inl (Or.inr h)
      · exact Or.inl (Or.inl h)
      · exact Or.inr h
/-- edges lie in the row -/
def eOk (E : Nat → Bool) : Prop := ∀ e, E e = true → e < 272
theorem ct_eOk {E : Nat → Bool} (h : eOk E) : fb_ct E 320 = fb_ct E 272 := by
  have : ∀ n, 272 ≤ n → fb_ct E n = fb_ct E 272 := fun n hn => by
    induction n with
    | zero => omega
    | succ n ih =>
      by_cases e : n + 1 = 272
      · rw [e]
      · rw [fb_ct_succ, ih (by omega)]
        have : E n = false := Bool.eq_false_iff.mpr (fun z => by have := h n z; omega)
        rw [this]; rfl
  exact this 320 (by decide)
theorem eOk.or {E G : Nat → Bool} (h : eOk E) (k : eOk G) : eOk (fun e => E e || G e) := fun e he => by
  rw [Bool.or_eq_true] at he
  exact he.elim (h e) (k e)
theorem eOk.es {es : List Nat} (h : ∀ e ∈ es, e < 272) : eOk (bsE (fun _ => false) es) := fun e he => by
  rcases (bsE_mem (E := fun _ => false) es).mp he with q | q
  · cases q
  · exact h e q
/-- is there a new edge among the first n -/
def nwE (cov E : Nat → Bool) : Nat → Bool
  | 0 => false
  | n + 1 => nwE cov E n || (E n && !cov n)
theorem nwE_ct {cov E : Nat → Bool} : ∀ n, (nwE cov E n = true → fb_ct cov n < fb_ct (fun e => cov e || E e) n) ∧ (nwE cov E n = false → fb_ct cov n = fb_ct (fun e => cov e || E e) n)
  | 0 => ⟨fun h => (by cases h), fun _ => rfl⟩
  | n + 1 => by
    obtain ⟨h1, h2⟩ := nwE_ct (cov := cov) (E := E) n
    unfold nwE
    rw [fb_ct_succ, fb_ct_succ]
    have hle := ct_imp (p := cov) (q := fun e => cov e || E e) (fun j hj => by rw [hj]; rfl) n
    cases q : nwE cov E n with
    | true => have := h1 q; refine ⟨fun _ => ?_, fun z => by simp at z⟩; cases c : cov n <;> cases e : E n <;> simp <;> omega
    | false => have := h2 q; cases c : cov n <;> cases e : E n <;> simp <;> omega
theorem nwE_cvM {cov : Nat → Bool} {es : List Nat} (h : eOk cov) (k : ∀ e ∈ es, e < 272) : nwE cov (bsE (fun _ => false) es) 272 = cvM cov es := by
  have h2 := nwE_ct (cov := cov) (E := bsE (fun _ => false) es) 272
  unfold cvM cvO
  rw [ct_eOk h, ct_eOk (h.or (eOk.es k))]
  cases q : nwE cov (bsE (fun _ => false) es) 272 with
  | true => exact (decide_eq_true (h2.1 q)).symm
  | false => exact (decide_eq_false (by have := h2.2 q; omega)).symm
set_option maxHeartbeats 4000000 in
set_option maxRecDepth 100000 in
/-- Model.grown: its loop -/
theorem lpX3_grown {p : Program} {l : Launch} {e : Env} {R : Room} {s : State} {m : MethodId} {args : Array Value} {below : List Frame} {meth : Method} {c : Code} {cells slots : Nat} {Q : State → Prop} {D : va_G} {A : Nat → Prop} (hx : p.tables.exec = Jvm.exec) (hb : c.code = cX3_grown) (hts : ∀ w ∈ lw_all, w.before args s = true) (hown : s.vm.findClass RX3 = some m.cls) (hK : va_K D gCl (gT D) s) (hE : g_Env D A s) (hml : c.maxLocals = 3) (hRf : 1 ≤ R.frames) (hRl : 12 ≤ R.locals) (hRc : cells ≤ R.cells) (hRs : slots ≤ R.slots) (w : g_H) (ar q n : Nat) (f : Nat → Option Nat) (har : mA5 D w ar n f) (hob : ∀ j, j < n → ∀ v, f j = some v → g_Ob D w 16 v) (hn : n < 2000) (hq : q ∉ w.1)
    (kk : ∀ (w2 : g_H) (g2 : Nat → Option Nat) (H : Heap) (locs : List Loc) (ls : Array Slot), g_ex (fun _ => False) w w2 → mA5 D w2 q (2 * n) g2 → (∀ j, j < n → g2 j = f j) → g_W D A s.heap H locs w2 → lv_has ls 3 [(1, .ref q)] → W p l e R s m args below meth c H locs cells slots Q (F0 m 28 ls [])) :
    ∀ (k : Nat) (i : Nat) (g : Nat → Option Nat) (w1 : g_H) (H : Heap) (locs : List Loc) (ls : Array Slot), n < i + k → i ≤ n → g_ex (fun _ => False) w w1 → mA5 D w1 q (2 * n) g → (∀ j, j < i → g j = f j) → g_W D A s.heap H locs w1 → lv_has ls 3 [(2, .int (nI i)), (0, .ref ar), (1, .ref q)] → W p l e R s m args below meth c H locs cells slots Q (F0 m 10 ls []) := by
  intro k
  induction k with
  | zero => intro i g w1 H locs ls hfuel hi hex hqa hg hW hl; exact absurd hfuel (by omega)
  | succ k ih =>
    intro i g w1 H locs ls hfuel hi hex hqa hg hW hl
    have hab := hex.at har (fun z => z)
    have nqa : q ≠ ar := fun z => hq (z ▸ har.1)
    refine lv_iload_n hx hb dX3_grown_10 rfl (lv_at hl 0 rfl) ?_
    refine lv_aload_n hx hb dX3_grown_11 rfl (lv_at hl 1 rfl) ?_
    refine g_alen hx hb hK hW 5 hab rfl dX3_grown_12 ?_
    refine g_icmp_ge (x := i) (y := n) (tgt := 28) hx hb (by omega) (by omega) dX3_grown_13 (by decide) (fun hc => ?_) (fun hc => ?_)
    · exact kk w1 g H locs ls hex hqa (fun j hj => hg j (by omega)) hW (lv_sub hl [2] rfl)
    · refine lv_aload_n hx hb dX3_grown_16 rfl (lv_at hl 2 rfl) ?_
      refine lv_iload_n hx hb dX3_grown_17 rfl (lv_at hl 0 rfl) ?_
      refine lv_aload_n hx hb dX3_grown_18 rfl (lv_at hl 1 rfl) ?_
      refine lv_iload_n hx hb dX3_grown_19 rfl (lv_at hl 0 rfl) ?_
      refine g_aldSq (n := n) (i := i) hx hb hK hW hab hc (by omega) dX3_grown_20 ?_
      cases hv : f i with
      | none =>
        refine g_astSN (n := 2 * n) (i := nI i) hx hb hK hW hqa (vp_in_nI (by omega) (by omega)) dX3_grown_21 (fun H locs hW => ?_)
        rw [nI_clamp (by omega)] at hW
        obtain ⟨f_1, ef_1⟩ : ∃ z__, z__ = va_up g i none := ⟨_, rfl⟩
        rw [← ef_1] at hW
        obtain ⟨w_2, ew_2⟩ : ∃ z__, z__ = g_put w1 q (.inl (D.1 105, (2 * n), .inr (.inr (.inr (.inr (f_1)))))) := ⟨_, rfl⟩
        have hW := g_W.ren hW ew_2 rfl
        have h_3 : g_at w_2 ar (.inl (D.1 105, n, .inr (.inr (.inr (.inr (f)))))) := by rw [ew_2]; exact hab.put nqa.symm
        have h_4 : g_at w_2 q (.inl (D.1 105, (2 * n), .inr (.inr (.inr (.inr (f_1)))))) := by rw [ew_2]; exact g_at.put_self hqa.1
        have x_5 : g_ex (fun _ => False) w w_2 := by rw [ew_2]; exact hex.put (fun hz9 => (hq hz9))
        refine lv_iinc (v := nI (i + 1)) (lv' := [(2, .int (nI (i + 1))), (0, .ref ar), (1, .ref q)]) hx hb dX3_grown_22 hl (k := 0) rfl (nI_1 i) (by decide) rfl (fun ls hl => ?_)
        refine lv_goto (tgt := 10) hx hb dX3_grown_25 (by decide) ?_
        exact ih (i + 1) f_1 w_2 H locs ls (by omega) (by omega) x_5 h_4 (fun j hj => by rw [ef_1]; by_cases e9 : j = i; (rw [e9, va_up_self, hv]); (rw [va_up_ne _ _ e9]; exact hg j (by omega))) hW (lv_sub hl [0, 1, 2] rfl)
      | some v9 =>
        refine g_astSt (n := 2 * n) (i := i) (y := v9) hx hb hK hE hW hqa ((hob i hc v9 hv).ex hex (fun z => z)) (by omega) (by omega) dX3_grown_21 (fun H locs hW => ?_)
        obtain ⟨f_6, ef_6⟩ : ∃ z__, z__ = va_up g i (some v9) := ⟨_, rfl⟩
        rw [← ef_6] at hW
        obtain ⟨w_7, ew_7⟩ : ∃ z__, z__ = g_put w1 q (.inl (D.1 105, (2 * n), .inr (.inr (.inr (.inr (f_6)))))) := ⟨_, rfl⟩
        have hW := g_W.ren hW ew_7 rfl
        have h_8 : g_at w_7 ar (.inl (D.1 105, n, .inr (.inr (.inr (.inr (f)))))) := by rw [ew_7]; exact hab.put nqa.symm
        have h_9 : g_at w_7 q (.inl (D.1 105, (2 * n), .inr (.inr (.inr (.inr (f_6)))))) := by rw [ew_7]; exact g_at.put_self hqa.1
        have x_10 : g_ex (fun _ => False) w w_7 := by rw [ew_7]; exact hex.put (fun hz9 => (hq hz9))
        refine lv_iinc (v := nI (i + 1)) (lv' := [(2, .int (nI (i + 1))), (0, .ref ar), (1, .ref q)]) hx hb dX3_grown_22 hl (k := 0) rfl (nI_1 i) (by decide) rfl (fun ls hl => ?_)
        refine lv_goto (tgt := 10) hx hb dX3_grown_25 (by decide) ?_
        exact ih (i + 1) f_6 w_7 H locs ls (by omega) (by omega) x_10 h_9 (fun j hj => by rw [ef_6]; by_cases e9 : j = i; (rw [e9, va_up_self, hv]); (rw [va_up_ne _ _ e9]; exact hg j (by omega))) hW (lv_sub hl [0, 1, 2] rfl)
set_option maxHeartbeats 4000000 in
set_option maxRecDepth 100000 in
/-- Model.grown -/
theorem mtX3_grown (l : Launch) (D : va_G) (w : g_H) (sz : Nat) (ar n : Nat) (f : Nat → Option Nat) (har : mA5 D w ar n f) (hob : ∀ j, j < n → ∀ v, f j = some v → g_Ob D w 16 v) (hn : n < 1000) : Met l yX3_grown (ws_ yX3_grown cX3_grown 3 (some (.array (.object "java/lang/String")))) ({ frames := 1, cells := 1, slots := 2 * n, locals := 12 }) (g_Pc D [.ref ar] w sz) (g_Qq D w sz (fun r u => ∃ (q : Nat) (g : Nat → Option Nat), r = some q ∧ q ∉ w.1 ∧ mA5 D u q (2 * n) g ∧ (∀ j, j < n → g j = f j) ∧ g_ex (fun _ => False) w u)) (1) (2 * n) (g_A w sz) := by
  refine Met.ofW (cc := cX3_grown) (maxL := 3) (ret := (some (.array (.object "java/lang/String")))) (by decide) rfl ?_
  intro p e s m args below meth c s₁ B hml hv
  obtain ⟨rfl, hI⟩ := hv
  have hx := B.exec
  have hb := B.bytes
  have hr := B.returns
  have hts := atoms_spec (ws := ws_ yX3_grown cX3_grown 3 (some (.array (.object "java/lang/String")))) B.pre
  have hts : ∀ w ∈ lw_all, w.before _ s = true := fun w h => hts w (List.mem_cons_of_mem _ h)
  have hown : s.vm.findClass RX3 = some m.cls := findClass_of_methodNamed B.named
  have hlocks := B.notSynchronized
  have hsz := hI.1
  subst hsz
  have hW := g_W.start hI
  have hK := g_K hI
  have hE := g_E hI
  have hl := lv_entry ([.ref ar]) (n := 3) (by exact Nat.le_of_ble_eq_true rfl)
  rw [lg_entry_eq]
  generalize (lg_sl ([.ref ar]) ++ List.replicate (3 - (lg_sl ([.ref ar])).length) Slot.unset).toArray = ls at hl ⊢
  have hl : lv_has ls 3 [(0, .ref ar)] := hl
  have x_1 : g_ex (fun _ => False) w w := g_ex.rf
  refine lv_iconst (v := 2) hx hb dX3_grown_0 (by decide) ?_
  refine lv_aload_n hx hb dX3_grown_1 rfl (lv_at hl 0 rfl) ?_
  refine g_alen hx hb hK hW 5 har rfl dX3_grown_2 ?_
  refine lv_imul hx hb dX3_grown_3 ?_
  refine g_topi (y := nI (2 * n)) (pk_mul 2 n) ?_
  refine g_newq (k := 5) (cB := D.1 105) hx hb hts hown q1882 hE.as hK hW rfl (2 * n) (nI_pos (by omega)) (nI_clamp (by omega)) (by omega) ?_ ?_ dX3_grown_4 (fun q_2 H hq hW => ?_)
  · (try simp only [headSpec]); omega
  · (try simp only [headSpec]); omega
  have hq_2 := hq
  obtain ⟨w_3, ew_3⟩ : ∃ z__, z__ = g_push w q_2 (.inl (D.1 105, 2 * n, .inr (.inr (.inr (.inr ((fun _ => none))))))) := ⟨_, rfl⟩
  have hW := g_W.ren hW ew_3 rfl
  have h_4 : g_at w_3 ar (.inl (D.1 105, n, .inr (.inr (.inr (.inr (f)))))) := by rw [ew_3]; exact har.push hq
  have h_5 : g_at w_3 q_2 (.inl (D.1 105, 2 * n, .inr (.inr (.inr (.inr ((fun _ => none))))))) := by rw [ew_3]; exact g_at.push_self
  have x_6 : g_ex (fun _ => False) w w_3 := by rw [ew_3]; exact x_1.push hq
  refine lv_astore_n (lv' := [(1, .ref q_2), (0, .ref ar)]) hx hb dX3_grown_7 rfl hl (by decide) rfl (fun ls hl => ?_)
  refine lv_iconst (v := 0) hx hb dX3_grown_8 (by decide) ?_
  refine lv_istore_n (lv' := [(2, .int (0)), (1, .ref q_2), (0, .ref ar)]) hx hb dX3_grown_9 rfl hl (by decide) rfl (fun ls hl => ?_)
  refine lpX3_grown (D := D) hx hb hts hown hK hE hml (Nat.le_of_ble_eq_true rfl) (Nat.le_of_ble_eq_true rfl) ?_ ?_ w ar q_2 n f har hob (by omega) hq_2 (fun w2 g2 H locs ls hex hqa hg hW hl => ?_) (n + 1) 0 _ w_3 _ _ ls (by omega) (by omega) x_6 h_5 (fun _ z => absurd z (Nat.not_lt_zero _)) hW (lv_sub hl [0, 2, 1] rfl)
  · (try simp only [headSpec]); omega
  · (try simp only [headSpec]); omega
  refine lv_aload_n hx hb dX3_grown_28 rfl (lv_at hl 0 rfl) ?_
  exact g_qret (v := some q_2) hx hb hr (Or.inr ⟨_, rfl⟩) hlocks hW (⟨q_2, g2, rfl, hq_2, hqa, hg, hex⟩) (by omega) (by omega) dX3_grown_29
