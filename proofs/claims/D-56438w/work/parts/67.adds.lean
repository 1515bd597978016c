/-! ShrinkYard: add, addChange, addAlternative, reset *
-/
set_option maxRecDepth 100000
def iOk (op : Nat) (rg vl tg : Int32) : Prop := (0 ≤ rg ∧ rg ≤ 3) ∧ (-99 ≤ vl ∧ vl ≤ 99) ∧ 0 ≤ tg ∧ tg ≤ (if op = 3 then 3 else 31)
theorem iOk_m {op : Nat} {rg vl tg : Int32} (ho : op < 9) (h : iOk op rg vl tg) : ∃ a b, rg = nI a ∧ tg = nI b ∧ rg.toNatClampNeg = a ∧ tg.toNatClampNeg = b ∧ mOk (op, a, vl, b) := by
  obtain ⟨⟨h1, h2⟩, -, h3, h4⟩ := h
  obtain ⟨a, ha, rfl⟩ := nI_of (Int32.not_lt.mpr h1)
  obtain ⟨b, hb, rfl⟩ := nI_of (Int32.not_lt.mpr h3)
  have q1 : a ≤ 3 := Nat.le_of_not_lt (fun z => Int32.not_le.mpr ((nI_ltI (a := 3) (by decide) ha).mpr z) h2)
  refine ⟨a, b, rfl, rfl, nI_clamp ha, nI_clamp hb, ho, by show a < 4; omega, ?_, fun e => ?_⟩
  · show b < 32
    split at h4
    · have : b ≤ 3 := Nat.le_of_not_lt (fun z => Int32.not_le.mpr ((nI_ltI (a := 3) (by decide) hb).mpr z) h4)
      omega
    · have : b ≤ 31 := Nat.le_of_not_lt (fun z => Int32.not_le.mpr ((nI_ltI (a := 31) (by decide) hb).mpr z) h4)
      omega
  · show b < 4
    have e : op = 3 := e
    rw [if_pos e] at h4
    have : b ≤ 3 := Nat.le_of_not_lt (fun z => Int32.not_le.mpr ((nI_ltI (a := 3) (by decide) hb).mpr z) h4)
    omega
theorem g_app {α : Type} {xs : List Nat} {ys : List α} {p : α → Nat → Prop} {y : Nat} {z d : α} (hl : xs.length = ys.length) (h : ∀ j, j < ys.length → p (ys.getD j d) (xs.getD j 0)) (hz : p z y) : ∀ j, j < (ys ++ [z]).length → p ((ys ++ [z]).getD j d) ((xs ++ [y]).getD j 0) := by
  intro j hj
  rw [List.length_append] at hj
  by_cases q : j < ys.length
  · rw [List.getD_eq_getElem?_getD, List.getD_eq_getElem?_getD, List.getElem?_append_left q, List.getElem?_append_left (by omega), ← List.getD_eq_getElem?_getD, ← List.getD_eq_getElem?_getD]
    exact h j q
  · have e : j = ys.length := by simp at hj; omega
    subst e
    rw [List.getD_eq_getElem?_getD, List.getD_eq_getElem?_getD, List.getElem?_append_right (Nat.le_refl _), List.getElem?_append_right (by omega), hl, Nat.sub_self]
    exact hz
theorem g_Strs.app {D : va_G} {w : g_H} {ks : List Nat} {ts : List (List Nat)} {y : Nat} {t : List Nat} (h : g_Strs D w ks ts) (hy : g_Str D w y t) : g_Strs D w (ks ++ [y]) (ts ++ [t]) := ⟨by rw [List.length_append, List.length_append, h.1]; rfl, g_app (p := fun t y => g_Str D w y t) h.1 h.2 hy⟩
theorem g_Fins.app {D : va_G} {w : g_H} {fs : List Nat} {F : List (List Nat × List Nat × Int32)} {y a b : Nat} {t : List Nat × List Nat × Int32} (h : g_Fins D w fs F) (h1 : g_at w y (.inr (8, [.ref a, .ref b, .int t.2.2]))) (h2 : g_Str D w a t.1) (h3 : g_Str D w b t.2.1) : g_Fins D w (fs ++ [y]) (F ++ [t]) := ⟨by rw [List.length_append, List.length_append, h.1]; rfl, g_app (p := fun t y => ∃ a b : Nat, g_at w y (.inr (8, [.ref a, .ref b, .int t.2.2])) ∧ g_Str D w a t.1 ∧ g_Str D w b t.2.1) h.1 h.2 ⟨a, b, h1, h2, h3⟩⟩
theorem g_mem_getD {xs : List Nat} {p : Nat → Prop} (h : ∀ j, j < xs.length → p (xs.getD j 0)) : ∀ y ∈ xs, p y := fun y hy => by
  obtain ⟨i, hi, e⟩ := g_of_mem hy
  rw [← e]; exact h i hi
set_option maxHeartbeats 4000000 in
set_option maxRecDepth 100000 in
/-- ShrinkYard.add -/
theorem mtX1_add (l : Launch) (hl9 : l.stackTraces = false) (D : va_G) (w : g_H) (sz : Nat) (lab : Nat → Nat) (x ac rn tt : Nat) (rf : Nat → Nat) (P : List mI) (C : List yC) (A : Nat → List (List Nat)) (cov : Nat → Bool) (K Q : List (List Nat)) (F : List (List Nat × List Nat × Int32)) (cp : Nat → Nat) (hS : g_SZ D w lab x rf P C A cov K Q ac F rn tt cp) (i9 op : Nat) (rg vl tg : Int32) (hi : g_at w i9 (.inr (7, [.ref (D.2 1002 op), .int (rg), .int (vl), .int (tg)]))) (hop : op < 9) : vx_Met l yX1_add (ws_ yX1_add cX1_add 3 (some .int)) ({ frames := 12, cells := 2 + g_ac P.length (cp 2), slots := 12 + g_as P.length (cp 2), locals := 304 }) (g_Pc D [.ref x, .ref i9] w sz) (g_Qi D w sz (fun r u => (iOk op rg vl tg ∧ P.length < 16 ∧ rn = 0) ∧ r = nI (P.length + 1) ∧ ∃ l2, g_SZ D u l2 x rf (P ++ [(op, rg.toNatClampNeg, vl, tg.toNatClampNeg)]) C A cov K Q ac F rn tt (cpU cp 2 (g_an P.length (cp 2))) ∧ yCh w lab u l2)) (g_XC D w sz (fun E u => w = u ∧ ((E = "java/lang/IllegalArgumentException" ∧ ¬ iOk op rg vl tg) ∨ (E = "java/lang/IllegalStateException" ∧ iOk op rg vl tg ∧ ¬ (P.length < 16 ∧ rn = 0))))) (2 + g_ac P.length (cp 2)) (12 + g_as P.length (cp 2)) (g_A w sz) := by
  refine vx_ofW (cc := cX1_add) (maxL := 3) (ret := (some .int)) (by decide) rfl ?_
  intro p e s m args below meth c s₁ B hml hhand hv
  have hout : ∀ pc : Nat, ∀ x ∈ c.exceptionTable.toList, covers x pc = false := fun _ x hx => (hhand x hx).elim
  obtain ⟨rfl, hI⟩ := hv
  have hx := B.exec
  have hb := B.bytes
  have hr := B.returns
  have hts := atoms_spec (ws := ws_ yX1_add cX1_add 3 (some .int)) B.pre
  have hts : ∀ w ∈ lw_all, w.before _ s = true := fun w h => hts w (List.mem_cons_of_mem _ h)
  have hown : s.vm.findClass RX1 = some m.cls := findClass_of_methodNamed B.named
  have hlocks := B.notSynchronized
  have hsz := hI.1
  subst hsz
  have hW := g_W.start hI
  have hK := g_K hI
  have hE := g_E hI
  have hl := lv_entry ([.ref x, .ref i9]) (n := 3) (by exact Nat.le_of_ble_eq_true rfl)
  rw [lg_entry_eq]
  generalize (lg_sl ([.ref x, .ref i9]) ++ List.replicate (3 - (lg_sl ([.ref x, .ref i9])).length) Slot.unset).toArray = ls at hl ⊢
  have hl : lv_has ls 3 [(0, .ref x), (1, .ref i9)] := hl
  refine lv_aload_n hx hb dX1_add_0 rfl (lv_at hl 1 rfl) ?_
  refine g_callq (va_runV (As := []) (rest := []) ⟨hx, hb, hml, hown, hts⟩ (mtX5_op l D w s.heap.size i9 (D.2 1002 op) rg vl tg hi) (cwV 0 hts (lw_V q553 q554 q555 q49 q556) rfl rfl rfl (by decide +kernel) ⟨Nat.le_of_ble_eq_true rfl, Nat.le_of_ble_eq_true rfl⟩) (g_preV hW hK hE hi rfl) rfl rfl hl.1 rfl (lv_room (Nat.le_of_ble_eq_true rfl)) dX1_add_1 ⟨?_, ?_⟩) hW (fun r_ u_ H locs hp hW => ?_)
  · (try simp only [headSpec]); omega
  · (try simp only [headSpec]); omega
  obtain ⟨er, rfl⟩ := hp
  subst er
  refine va_gets hx hb ((hE.2.2.2.2.2.2.1.1 3 (by decide)).1) hW.2.2.1 hown (hts _ q557) (fun _ h9 => h9) dX1_add_4 ?_
  refine lv_acmp_ne (rx := some (D.2 1002 op)) (ry := some (D.2 1002 3)) (tgt := 14) hx hb dX1_add_7 (by decide) (fun hc => ?_) (fun hc => ?_)
  · have h3 : op ≠ 3 := fun z => hc (by rw [z])
    have hgr : (if op = 3 then (3 : Int32) else 31) = 31 := if_neg h3
    have hok : iOk op rg vl tg ↔ (0 ≤ rg ∧ rg ≤ 3) ∧ (-99 ≤ vl ∧ vl ≤ 99) ∧ 0 ≤ tg ∧ tg ≤ 31 := by unfold iOk; rw [hgr]
    refine lv_bipush (v := 31) hx hb dX1_add_14 (by decide) ?_
    refine lv_istore_n (lv' := [(2, .int (31)), (0, .ref x), (1, .ref i9)]) hx hb dX1_add_16 rfl hl (by decide) rfl (fun ls hl => ?_)
    refine lv_aload_n hx hb dX1_add_17 rfl (lv_at hl 2 rfl) ?_
    refine g_calli (va_runV (As := []) (rest := []) ⟨hx, hb, hml, hown, hts⟩ (mtX5_register l D w H.size i9 (D.2 1002 op) rg vl tg hi) (cwV 0 hts (lw_V q558 q559 q560 q49 q561) rfl rfl rfl (by decide +kernel) ⟨Nat.le_of_ble_eq_true rfl, Nat.le_of_ble_eq_true rfl⟩) (g_preV hW hK hE hi rfl) rfl rfl hl.1 rfl (lv_room (Nat.le_of_ble_eq_true rfl)) dX1_add_18 ⟨?_, ?_⟩) hW (fun r_ u_ H locs hp hW => ?_)
    · (try simp only [headSpec]); omega
    · (try simp only [headSpec]); omega
    obtain ⟨er, rfl⟩ := hp
    rw [er]
    refine lv_iconst (v := 0) hx hb dX1_add_21 (by decide) ?_
    refine lv_iconst (v := 3) hx hb dX1_add_22 (by decide) ?_
    refine g_calli (va_runS (As := [.int (rg), .int (0), .int (3)]) (rest := []) ⟨hx, hb, hml, hown, hts⟩ (mtX1_isIn l D w H.size rg 0 3) (va_cwS 3 hts (lw_S q562 q563 q34 q564) rfl rfl rfl (by decide +kernel) ⟨Nat.le_of_ble_eq_true rfl, Nat.le_of_ble_eq_true rfl⟩) (g_preS hW hK hE) rfl rfl hl.1 rfl (lv_room (Nat.le_of_ble_eq_true rfl)) dX1_add_23 ⟨?_, ?_⟩) hW (fun r_ u_ H locs hp hW => ?_)
    · (try simp only [headSpec]); omega
    · (try simp only [headSpec]); omega
    obtain ⟨er, rfl⟩ := hp
    subst er
    by_cases hq9 : 0 ≤ rg ∧ rg ≤ 3
    · rw [if_pos hq9]
      refine lv_if_eq (tgt := 59) hx hb dX1_add_26 (by decide) (fun hz => absurd hz (by decide)) (fun _ => ?_)
      have hi1 := hq9
      refine lv_aload_n hx hb dX1_add_29 rfl (lv_at hl 2 rfl) ?_
      refine g_calli (va_runV (As := []) (rest := []) ⟨hx, hb, hml, hown, hts⟩ (mtX5_value l D w H.size i9 (D.2 1002 op) rg vl tg hi) (cwV 0 hts (lw_V q565 q566 q567 q49 q568) rfl rfl rfl (by decide +kernel) ⟨Nat.le_of_ble_eq_true rfl, Nat.le_of_ble_eq_true rfl⟩) (g_preV hW hK hE hi rfl) rfl rfl hl.1 rfl (lv_room (Nat.le_of_ble_eq_true rfl)) dX1_add_30 ⟨?_, ?_⟩) hW (fun r_ u_ H locs hp hW => ?_)
      · (try simp only [headSpec]); omega
      · (try simp only [headSpec]); omega
      obtain ⟨er, rfl⟩ := hp
      rw [er]
      refine lv_bipush (v := (-99)) hx hb dX1_add_33 (by decide) ?_
      refine lv_bipush (v := 99) hx hb dX1_add_35 (by decide) ?_
      refine g_calli (va_runS (As := [.int (vl), .int ((-99)), .int (99)]) (rest := []) ⟨hx, hb, hml, hown, hts⟩ (mtX1_isIn l D w H.size vl (-99) 99) (va_cwS 3 hts (lw_S q562 q563 q34 q564) rfl rfl rfl (by decide +kernel) ⟨Nat.le_of_ble_eq_true rfl, Nat.le_of_ble_eq_true rfl⟩) (g_preS hW hK hE) rfl rfl hl.1 rfl (lv_room (Nat.le_of_ble_eq_true rfl)) dX1_add_37 ⟨?_, ?_⟩) hW (fun r_ u_ H locs hp hW => ?_)
      · (try simp only [headSpec]); omega
      · (try simp only [headSpec]); omega
      obtain ⟨er, rfl⟩ := hp
      subst er
      by_cases hq9 : -99 ≤ vl ∧ vl ≤ 99
      · rw [if_pos hq9]
        refine lv_if_eq (tgt := 59) hx hb dX1_add_40 (by decide) (fun hz => absurd hz (by decide)) (fun _ => ?_)
        have hi2 := hq9
        refine lv_aload_n hx hb dX1_add_43 rfl (lv_at hl 2 rfl) ?_
        refine g_calli (va_runV (As := []) (rest := []) ⟨hx, hb, hml, hown, hts⟩ (mtX5_target l D w H.size i9 (D.2 1002 op) rg vl tg hi) (cwV 0 hts (lw_V q569 q570 q571 q49 q572) rfl rfl rfl (by decide +kernel) ⟨Nat.le_of_ble_eq_true rfl, Nat.le_of_ble_eq_true rfl⟩) (g_preV hW hK hE hi rfl) rfl rfl hl.1 rfl (lv_room (Nat.le_of_ble_eq_true rfl)) dX1_add_44 ⟨?_, ?_⟩) hW (fun r_ u_ H locs hp hW => ?_)
        · (try simp only [headSpec]); omega
        · (try simp only [headSpec]); omega
        obtain ⟨er, rfl⟩ := hp
        rw [er]
        refine lv_iconst (v := 0) hx hb dX1_add_47 (by decide) ?_
        refine lv_iload_n hx hb dX1_add_48 rfl (lv_at hl 0 rfl) ?_
        refine g_calli (va_runS (As := [.int (tg), .int (0), .int (31)]) (rest := []) ⟨hx, hb, hml, hown, hts⟩ (mtX1_isIn l D w H.size tg 0 31) (va_cwS 3 hts (lw_S q562 q563 q34 q564) rfl rfl rfl (by decide +kernel) ⟨Nat.le_of_ble_eq_true rfl, Nat.le_of_ble_eq_true rfl⟩) (g_preS hW hK hE) rfl rfl hl.1 rfl (lv_room (Nat.le_of_ble_eq_true rfl)) dX1_add_49 ⟨?_, ?_⟩) hW (fun r_ u_ H locs hp hW => ?_)
        · (try simp only [headSpec]); omega
        · (try simp only [headSpec]); omega
        obtain ⟨er, rfl⟩ := hp
        subst er
        by_cases hq9 : 0 ≤ tg ∧ tg ≤ 31
        · rw [if_pos hq9]
          refine lv_if_eq (tgt := 59) hx hb dX1_add_52 (by decide) (fun hz => absurd hz (by decide)) (fun _ => ?_)
          have hall : iOk op rg vl tg := hok.mpr ⟨hi1, hi2, hq9⟩
          refine lv_iconst (v := 1) hx hb dX1_add_55 (by decide) ?_
          refine lv_goto (tgt := 60) hx hb dX1_add_56 (by decide) ?_
          refine g_xcallv (vx_runS (As := [.int (1)]) (rest := []) ⟨hx, hb, hml, hown, hts⟩ (mtX1_requireArgument l hl9 D w H.size 1) (va_cwS 1 hts (lw_S q573 q574 q34 q575) rfl rfl rfl (by decide +kernel) ⟨Nat.le_of_ble_eq_true rfl, Nat.le_of_ble_eq_true rfl⟩) (g_preS hW hK hE) rfl rfl hl.1 rfl (lv_room (Nat.le_of_ble_eq_true rfl)) dX1_add_60 ⟨?_, ?_⟩) hW (fun E ce q9 u_ H locs hp hW hxc1 hxc2 hxc3 => g_xout (hout _) hlocks hW (absurd hp.2.1 (by decide)) hxc1 hxc2 hxc3 ?_ ?_) (fun u_ H locs hp hW => ?_)
          · (try simp only [headSpec]); omega
          · (try simp only [headSpec]); omega
          · (try simp only [headSpec]); omega
          · (try simp only [headSpec]); omega
          obtain ⟨-, rfl⟩ := hp
          obtain ⟨par, ps, hal, ⟨hpl, hp16, hps⟩, ⟨l2a, l2b⟩, hcl⟩ := hS.prog hK (g_e0 hE hW)
          obtain ⟨mo9, hat9, -⟩ := id hal
          obtain ⟨a, b, ea, eb, ea2, eb2, hmk⟩ := iOk_m hop hall
          subst ea
          subst eb
          have hrn := hS.2.2.2.2.2.2.2.2.2.2.2.1
          refine lv_aload_n hx hb dX1_add_63 rfl (lv_at hl 1 rfl) ?_
          refine g_get (ci := 0) (v := .ref (rf 2)) (C := RX1) (T := TX1) (N := 11) hx hb hts in_X1 hown hK hW hS.1.1 rfl 0 (by decide) q354 (fun _ h9 => h9) rfl dX1_add_64 ?_
          refine g_callFi (va_runF (cC := D.1 11) (hK.1 11 _ rfl).2 (As := []) (rest := []) ⟨hx, hb, hml, hown, hts⟩ (mtJ2_size l D w H.size (rf 2) par (cp 2) ps hal) (va_cwF 0 hts (lw_app (lw_in _ [438, 441, 443, 37] (by decide +kernel) (by decide +kernel)) (lw_meth q445)) rfl rfl rfl (fw_24 hE) (by decide +kernel) ⟨Nat.le_of_ble_eq_true rfl, Nat.le_of_ble_eq_true rfl⟩) (g_preV hW hK hE hat9 rfl) rfl rfl hl.1 rfl (lv_room (Nat.le_of_ble_eq_true rfl)) dX1_add_67 ⟨?_, ?_⟩) hW (fun r_ u_ H locs hp hW => ?_)
          · (try simp only [headSpec]); omega
          · (try simp only [headSpec]); omega
          obtain ⟨er, rfl⟩ := hp
          subst er
          refine lv_bipush (v := 16) hx hb dX1_add_72 (by decide) ?_
          refine g_icmp_ge (x := ps.length) (y := 16) (tgt := 88) hx hb (by omega) (by omega) dX1_add_74 (by decide) (fun hc1 => ?_) (fun hc1 => ?_)
          · refine lv_iconst (v := 0) hx hb dX1_add_88 (by decide) ?_
            refine g_xcallv (vx_runS (As := [.int (0)]) (rest := []) ⟨hx, hb, hml, hown, hts⟩ (mtX1_requireState l hl9 D w H.size 0) (va_cwS 1 hts (lw_S q644 q645 q34 q646) rfl rfl rfl (by decide +kernel) ⟨Nat.le_of_ble_eq_true rfl, Nat.le_of_ble_eq_true rfl⟩) (g_preS hW hK hE) rfl rfl hl.1 rfl (lv_room (Nat.le_of_ble_eq_true rfl)) dX1_add_89 ⟨?_, ?_⟩) hW (fun E ce q9 u_ H locs hp hW hxc1 hxc2 hxc3 => g_xout (hout _) hlocks hW (⟨hp.2.2, Or.inr ⟨hp.1, hall, fun z => by omega⟩⟩) hxc1 hxc2 hxc3 ?_ ?_) (fun u_ H locs hp hW => ?_)
            · (try simp only [headSpec]); omega
            · (try simp only [headSpec]); omega
            · (try simp only [headSpec]); omega
            · (try simp only [headSpec]); omega
            exact absurd rfl hp.1
          · refine lv_aload_n hx hb dX1_add_77 rfl (lv_at hl 1 rfl) ?_
            refine g_get (ci := 0) (v := .int (nI rn)) (C := RX1) (T := TX1) (N := 11) hx hb hts in_X1 hown hK hW hS.1.1 rfl 8 (by decide) q362 (fun _ h9 => h9) rfl dX1_add_78 ?_
            by_cases hr0 : rn = 0
            · have hrn0 : nI rn = 0 := by rw [hr0]; rfl
              refine lv_if_ne (tgt := 88) hx hb dX1_add_81 (by decide) (fun hz => absurd hrn0 hz) (fun _ => ?_)
              refine lv_iconst (v := 1) hx hb dX1_add_84 (by decide) ?_
              refine lv_goto (tgt := 89) hx hb dX1_add_85 (by decide) ?_
              refine g_xcallv (vx_runS (As := [.int (1)]) (rest := []) ⟨hx, hb, hml, hown, hts⟩ (mtX1_requireState l hl9 D w H.size 1) (va_cwS 1 hts (lw_S q644 q645 q34 q646) rfl rfl rfl (by decide +kernel) ⟨Nat.le_of_ble_eq_true rfl, Nat.le_of_ble_eq_true rfl⟩) (g_preS hW hK hE) rfl rfl hl.1 rfl (lv_room (Nat.le_of_ble_eq_true rfl)) dX1_add_89 ⟨?_, ?_⟩) hW (fun E ce q9 u_ H locs hp hW hxc1 hxc2 hxc3 => g_xout (hout _) hlocks hW (absurd hp.2.1 (by decide)) hxc1 hxc2 hxc3 ?_ ?_) (fun u_ H locs hp hW => ?_)
              · (try simp only [headSpec]); omega
              · (try simp only [headSpec]); omega
              · (try simp only [headSpec]); omega
              · (try simp only [headSpec]); omega
              obtain ⟨-, rfl⟩ := hp
              refine lv_aload_n hx hb dX1_add_92 rfl (lv_at hl 1 rfl) ?_
              refine g_get (ci := 0) (v := .ref (rf 2)) (C := RX1) (T := TX1) (N := 11) hx hb hts in_X1 hown hK hW hS.1.1 rfl 0 (by decide) q354 (fun _ h9 => h9) rfl dX1_add_93 ?_
              refine lv_aload_n hx hb dX1_add_96 rfl (lv_at hl 2 rfl) ?_
              have en : g_ac ps.length (cp 2) = g_ac P.length (cp 2) := by rw [hpl]
              have es : g_as ps.length (cp 2) = g_as P.length (cp 2) := by rw [hpl]
              refine g_callFi (va_runF (cC := D.1 11) (hK.1 11 _ rfl).2 (As := [.ref i9]) (rest := []) ⟨hx, hb, hml, hown, hts⟩ (mtJ2_add l D w H.size (rf 2) par (cp 2) ps hal 7 _ i9 _ _ (fun _ => g_mem_getD (fun j hj => Or.inl ⟨_, (hps j (by omega)).1⟩)) (Or.inl ⟨_, hi⟩) rfl (by decide) (by decide) (by omega)) (va_cwF 1 hts (lw_app (lw_in _ [239, 243, 245, 37] (by decide +kernel) (by decide +kernel)) (lw_meth q247)) rfl rfl rfl (fw_20 hE) (by decide +kernel) ⟨Nat.le_of_ble_eq_true rfl, Nat.le_of_ble_eq_true rfl⟩) (g_preV hW hK hE hat9 rfl) rfl rfl hl.1 rfl (lv_room (Nat.le_of_ble_eq_true rfl)) dX1_add_97 ⟨?_, ?_⟩) hW (fun r_ u1 H locs hp hW => ?_)
              · (try simp only [headSpec]); omega
              · (try simp only [headSpec]); omega
              obtain ⟨er, ar2, hal2, har2, hex⟩ := hp
              subst er
              have hS2 := hcl u1 ar2 _ _ (P ++ [(op, a, vl, b)]) hal2 har2 (hex.mono (fun z _ hz => hz.imp id (fun q => ⟨by omega, q.2⟩))) (by rw [List.length_append, List.length_append, hpl]; rfl) (by rw [List.length_append]; show _ + 1 ≤ 16; omega) (g_app (p := fun t y => g_Ins D w y t) hpl hps ⟨hi, hmk⟩)
              rw [hpl] at hS2
              have hy : yCh w lab u1 (lb lab w 2) := yCh.of hex (fun z _ hz => by unfold yM; rcases hz with hz | hz; rw [hz]; omega; rw [hz.2, l2b (by omega)]; omega) 2
              obtain ⟨mo8, hat8, -⟩ := id hal2
              refine lv_pop hx hb dX1_add_102 rfl ?_
              refine lv_aload_n hx hb dX1_add_103 rfl (lv_at hl 1 rfl) ?_
              refine g_get (ci := 0) (v := .ref (rf 2)) (C := RX1) (T := TX1) (N := 11) hx hb hts in_X1 hown hK hW hS2.1.1 rfl 0 (by decide) q354 (fun _ h9 => h9) rfl dX1_add_104 ?_
              refine g_callFi (va_runF (cC := D.1 11) (hK.1 11 _ rfl).2 (As := []) (rest := []) ⟨hx, hb, hml, hown, hts⟩ (mtJ2_size l D u1 H.size (rf 2) ar2 _ (ps ++ [i9]) hal2) (va_cwF 0 hts (lw_app (lw_in _ [438, 441, 443, 37] (by decide +kernel) (by decide +kernel)) (lw_meth q445)) rfl rfl rfl (fw_24 hE) (by decide +kernel) ⟨Nat.le_of_ble_eq_true rfl, Nat.le_of_ble_eq_true rfl⟩) (g_preV hW hK hE hat8 rfl) rfl rfl hl.1 rfl (lv_room (Nat.le_of_ble_eq_true rfl)) dX1_add_107 ⟨?_, ?_⟩) hW (fun r_ u_ H locs hp hW => ?_)
              · (try simp only [headSpec]); omega
              · (try simp only [headSpec]); omega
              obtain ⟨er, rfl⟩ := hp
              subst er
              refine g_topi (y := nI (P.length + 1)) (by rw [List.length_append, hpl]; rfl) ?_
              exact vx_ret (g_iret (v := nI (P.length + 1)) hx hb hr hlocks hW (⟨⟨hall, by omega, hr0⟩, rfl, _, by rw [ea2, eb2]; exact hS2, hy⟩) (by omega) (by omega) dX1_add_112)
            · have hrn0 : nI rn ≠ 0 := fun z => hr0 (nI_inj (a := rn) (b := 0) (by omega) (by decide) z)
              refine lv_if_ne (tgt := 88) hx hb dX1_add_81 (by decide) (fun _ => ?_) (fun hz => absurd (by first | exact hz | exact Classical.not_not.mp hz) hrn0)
              refine lv_iconst (v := 0) hx hb dX1_add_88 (by decide) ?_
              refine g_xcallv (vx_runS (As := [.int (0)]) (rest := []) ⟨hx, hb, hml, hown, hts⟩ (mtX1_requireState l hl9 D w H.size 0) (va_cwS 1 hts (lw_S q644 q645 q34 q646) rfl rfl rfl (by decide +kernel) ⟨Nat.le_of_ble_eq_true rfl, Nat.le_of_ble_eq_true rfl⟩) (g_preS hW hK hE) rfl rfl hl.1 rfl (lv_room (Nat.le_of_ble_eq_true rfl)) dX1_add_89 ⟨?_, ?_⟩) hW (fun E ce q9 u_ H locs hp hW hxc1 hxc2 hxc3 => g_xout (hout _) hlocks hW (⟨hp.2.2, Or.inr ⟨hp.1, hall, fun z => hr0 z.2⟩⟩) hxc1 hxc2 hxc3 ?_ ?_) (fun u_ H locs hp hW => ?_)
              · (try simp only [headSpec]); omega
              · (try simp only [headSpec]); omega
              · (try simp only [headSpec]); omega
              · (try simp only [headSpec]); omega
              exact absurd rfl hp.1
        · rw [if_neg hq9]
          refine lv_if_eq (tgt := 59) hx hb dX1_add_52 (by decide) (fun _ => ?_) (fun hz => absurd rfl hz)
          have hno := fun z : (0 ≤ rg ∧ rg ≤ 3) ∧ (-99 ≤ vl ∧ vl ≤ 99) ∧ 0 ≤ tg ∧ tg ≤ 31 => hq9 z.2.2
          refine lv_iconst (v := 0) hx hb dX1_add_59 (by decide) ?_
          refine g_xcallv (vx_runS (As := [.int (0)]) (rest := []) ⟨hx, hb, hml, hown, hts⟩ (mtX1_requireArgument l hl9 D w H.size 0) (va_cwS 1 hts (lw_S q573 q574 q34 q575) rfl rfl rfl (by decide +kernel) ⟨Nat.le_of_ble_eq_true rfl, Nat.le_of_ble_eq_true rfl⟩) (g_preS hW hK hE) rfl rfl hl.1 rfl (lv_room (Nat.le_of_ble_eq_true rfl)) dX1_add_60 ⟨?_, ?_⟩) hW (fun E ce q9 u_ H locs hp hW hxc1 hxc2 hxc3 => g_xout (hout _) hlocks hW (⟨hp.2.2, Or.inl ⟨hp.1, fun z => hno (hok.mp z)⟩⟩) hxc1 hxc2 hxc3 ?_ ?_) (fun u_ H locs hp hW => ?_)
          · (try simp only [headSpec]); omega
          · (try simp only [headSpec]); omega
          · (try simp only [headSpec]); omega
          · (try simp only [headSpec]); omega
          exact absurd rfl hp.1
      · rw [if_neg hq9]
        refine lv_if_eq (tgt := 59) hx hb dX1_add_40 (by decide) (fun _ => ?_) (fun hz => absurd rfl hz)
        have hno := fun z : (0 ≤ rg ∧ rg ≤ 3) ∧ (-99 ≤ vl ∧ vl ≤ 99) ∧ 0 ≤ tg ∧ tg ≤ 31 => hq9 z.2.1
        refine lv_iconst (v := 0) hx hb dX1_add_59 (by decide) ?_
        refine g_xcallv (vx_runS (As := [.int (0)]) (rest := []) ⟨hx, hb, hml, hown, hts⟩ (mtX1_requireArgument l hl9 D w H.size 0) (va_cwS 1 hts (lw_S q573 q574 q34 q575) rfl rfl rfl (by decide +kernel) ⟨Nat.le_of_ble_eq_true rfl, Nat.le_of_ble_eq_true rfl⟩) (g_preS hW hK hE) rfl rfl hl.1 rfl (lv_room (Nat.le_of_ble_eq_true rfl)) dX1_add_60 ⟨?_, ?_⟩) hW (fun E ce q9 u_ H locs hp hW hxc1 hxc2 hxc3 => g_xout (hout _) hlocks hW (⟨hp.2.2, Or.inl ⟨hp.1, fun z => hno (hok.mp z)⟩⟩) hxc1 hxc2 hxc3 ?_ ?_) (fun u_ H locs hp hW => ?_)
        · (try simp only [headSpec]); omega
        · (try simp only [headSpec]); omega
        · (try simp only [headSpec]); omega
        · (try simp only [headSpec]); omega
        exact absurd rfl hp.1
    · rw [if_neg hq9]
      refine lv_if_eq (tgt := 59) hx hb dX1_add_26 (by decide) (fun _ => ?_) (fun hz => absurd rfl hz)
      have hno := fun z : (0 ≤ rg ∧ rg ≤ 3) ∧ (-99 ≤ vl ∧ vl ≤ 99) ∧ 0 ≤ tg ∧ tg ≤ 31 => hq9 z.1
      refine lv_iconst (v := 0) hx hb dX1_add_59 (by decide) ?_
      refine g_xcallv (vx_runS (As := [.int (0)]) (rest := []) ⟨hx, hb, hml, hown, hts⟩ (mtX1_requireArgument l hl9 D w H.size 0) (va_cwS 1 hts (lw_S q573 q574 q34 q575) rfl rfl rfl (by decide +kernel) ⟨Nat.le_of_ble_eq_true rfl, Nat.le_of_ble_eq_true rfl⟩) (g_preS hW hK hE) rfl rfl hl.1 rfl (lv_room (Nat.le_of_ble_eq_true rfl)) dX1_add_60 ⟨?_, ?_⟩) hW (fun E ce q9 u_ H locs hp hW hxc1 hxc2 hxc3 => g_xout (hout _) hlocks hW (⟨hp.2.2, Or.inl ⟨hp.1, fun z => hno (hok.mp z)⟩⟩) hxc1 hxc2 hxc3 ?_ ?_) (fun u_ H locs hp hW => ?_)
      · (try simp only [headSpec]); omega
      · (try simp only [headSpec]); omega
      · (try simp only [headSpec]); omega
      · (try simp only [headSpec]); omega
      exact absurd rfl hp.1
  · have h3 : op = 3 := g_opI hE hop (by decide) (Option.some.inj (by first | exact hc | exact Classical.not_not.mp hc))
    have hgr : (if op = 3 then (3 : Int32) else 31) = 3 := if_pos h3
    have hok : iOk op rg vl tg ↔ (0 ≤ rg ∧ rg ≤ 3) ∧ (-99 ≤ vl ∧ vl ≤ 99) ∧ 0 ≤ tg ∧ tg ≤ 3 := by unfold iOk; rw [hgr]
    refine lv_iconst (v := 3) hx hb dX1_add_10 (by decide) ?_
    refine lv_goto (tgt := 16) hx hb dX1_add_11 (by decide) ?_
    refine lv_istore_n (lv' := [(2, .int (3)), (0, .ref x), (1, .ref i9)]) hx hb dX1_add_16 rfl hl (by decide) rfl (fun ls hl => ?_)
    refine lv_aload_n hx hb dX1_add_17 rfl (lv_at hl 2 rfl) ?_
    refine g_calli (va_runV (As := []) (rest := []) ⟨hx, hb, hml, hown, hts⟩ (mtX5_register l D w H.size i9 (D.2 1002 op) rg vl tg hi) (cwV 0 hts (lw_V q558 q559 q560 q49 q561) rfl rfl rfl (by decide +kernel) ⟨Nat.le_of_ble_eq_true rfl, Nat.le_of_ble_eq_true rfl⟩) (g_preV hW hK hE hi rfl) rfl rfl hl.1 rfl (lv_room (Nat.le_of_ble_eq_true rfl)) dX1_add_18 ⟨?_, ?_⟩) hW (fun r_ u_ H locs hp hW => ?_)
    · (try simp only [headSpec]); omega
    · (try simp only [headSpec]); omega
    obtain ⟨er, rfl⟩ := hp
    rw [er]
    refine lv_iconst (v := 0) hx hb dX1_add_21 (by decide) ?_
    refine lv_iconst (v := 3) hx hb dX1_add_22 (by decide) ?_
    refine g_calli (va_runS (As := [.int (rg), .int (0), .int (3)]) (rest := []) ⟨hx, hb, hml, hown, hts⟩ (mtX1_isIn l D w H.size rg 0 3) (va_cwS 3 hts (lw_S q562 q563 q34 q564) rfl rfl rfl (by decide +kernel) ⟨Nat.le_of_ble_eq_true rfl, Nat.le_of_ble_eq_true rfl⟩) (g_preS hW hK hE) rfl rfl hl.1 rfl (lv_room (Nat.le_of_ble_eq_true rfl)) dX1_add_23 ⟨?_, ?_⟩) hW (fun r_ u_ H locs hp hW => ?_)
    · (try simp only [headSpec]); omega
    · (try simp only [headSpec]); omega
    obtain ⟨er, rfl⟩ := hp
    subst er
    by_cases hq9 : 0 ≤ rg ∧ rg ≤ 3
    · rw [if_pos hq9]
      refine lv_if_eq (tgt := 59) hx hb dX1_add_26 (by decide) (fun hz => absurd hz (by decide)) (fun _ => ?_)
      have hi1 := hq9
      refine lv_aload_n hx hb dX1_add_29 rfl (lv_at hl 2 rfl) ?_
      refine g_calli (va_runV (As := []) (rest := []) ⟨hx, hb, hml, hown, hts⟩ (mtX5_value l D w H.size i9 (D.2 1002 op) rg vl tg hi) (cwV 0 hts (lw_V q565 q566 q567 q49 q568) rfl rfl rfl (by decide +kernel) ⟨Nat.le_of_ble_eq_true rfl, Nat.le_of_ble_eq_true rfl⟩) (g_preV hW hK hE hi rfl) rfl rfl hl.1 rfl (lv_room (Nat.le_of_ble_eq_true rfl)) dX1_add_30 ⟨?_, ?_⟩) hW (fun r_ u_ H locs hp hW => ?_)
      · (try simp only [headSpec]); omega
      · (try simp only [headSpec]); omega
      obtain ⟨er, rfl⟩ := hp
      rw [er]
      refine lv_bipush (v := (-99)) hx hb dX1_add_33 (by decide) ?_
      refine lv_bipush (v := 99) hx hb dX1_add_35 (by decide) ?_
      refine g_calli (va_runS (As := [.int (vl), .int ((-99)), .int (99)]) (rest := []) ⟨hx, hb, hml, hown, hts⟩ (mtX1_isIn l D w H.size vl (-99) 99) (va_cwS 3 hts (lw_S q562 q563 q34 q564) rfl rfl rfl (by decide +kernel) ⟨Nat.le_of_ble_eq_true rfl, Nat.le_of_ble_eq_true rfl⟩) (g_preS hW hK hE) rfl rfl hl.1 rfl (lv_room (Nat.le_of_ble_eq_true rfl)) dX1_add_37 ⟨?_, ?_⟩) hW (fun r_ u_ H locs hp hW => ?_)
      · (try simp only [headSpec]); omega
      · (try simp only [headSpec]); omega
      obtain ⟨er, rfl⟩ := hp
      subst er
      by_cases hq9 : -99 ≤ vl ∧ vl ≤ 99
      · rw [if_pos hq9]
        refine lv_if_eq (tgt := 59) hx hb dX1_add_40 (by decide) (fun hz => absurd hz (by decide)) (fun _ => ?_)
        have hi2 := hq9
        refine lv_aload_n hx hb dX1_add_43 rfl (lv_at hl 2 rfl) ?_
        refine g_calli (va_runV (As := []) (rest := []) ⟨hx, hb, hml, hown, hts⟩ (mtX5_target l D w H.size i9 (D.2 1002 op) rg vl tg hi) (cwV 0 hts (lw_V q569 q570 q571 q49 q572) rfl rfl rfl (by decide +kernel) ⟨Nat.le_of_ble_eq_true rfl, Nat.le_of_ble_eq_true rfl⟩) (g_preV hW hK hE hi rfl) rfl rfl hl.1 rfl (lv_room (Nat.le_of_ble_eq_true rfl)) dX1_add_44 ⟨?_, ?_⟩) hW (fun r_ u_ H locs hp hW => ?_)
        · (try simp only [headSpec]); omega
        · (try simp only [headSpec]); omega
        obtain ⟨er, rfl⟩ := hp
        rw [er]
        refine lv_iconst (v := 0) hx hb dX1_add_47 (by decide) ?_
        refine lv_iload_n hx hb dX1_add_48 rfl (lv_at hl 0 rfl) ?_
        refine g_calli (va_runS (As := [.int (tg), .int (0), .int (3)]) (rest := []) ⟨hx, hb, hml, hown, hts⟩ (mtX1_isIn l D w H.size tg 0 3) (va_cwS 3 hts (lw_S q562 q563 q34 q564) rfl rfl rfl (by decide +kernel) ⟨Nat.le_of_ble_eq_true rfl, Nat.le_of_ble_eq_true rfl⟩) (g_preS hW hK hE) rfl rfl hl.1 rfl (lv_room (Nat.le_of_ble_eq_true rfl)) dX1_add_49 ⟨?_, ?_⟩) hW (fun r_ u_ H locs hp hW => ?_)
        · (try simp only [headSpec]); omega
        · (try simp only [headSpec]); omega
        obtain ⟨er, rfl⟩ := hp
        subst er
        by_cases hq9 : 0 ≤ tg ∧ tg ≤ 3
        · rw [if_pos hq9]
          refine lv_if_eq (tgt := 59) hx hb dX1_add_52 (by decide) (fun hz => absurd hz (by decide)) (fun _ => ?_)
          have hall : iOk op rg vl tg := hok.mpr ⟨hi1, hi2, hq9⟩
          refine lv_iconst (v := 1) hx hb dX1_add_55 (by decide) ?_
          refine lv_goto (tgt := 60) hx hb dX1_add_56 (by decide) ?_
          refine g_xcallv (vx_runS (As := [.int (1)]) (rest := []) ⟨hx, hb, hml, hown, hts⟩ (mtX1_requireArgument l hl9 D w H.size 1) (va_cwS 1 hts (lw_S q573 q574 q34 q575) rfl rfl rfl (by decide +kernel) ⟨Nat.le_of_ble_eq_true rfl, Nat.le_of_ble_eq_true rfl⟩) (g_preS hW hK hE) rfl rfl hl.1 rfl (lv_room (Nat.le_of_ble_eq_true rfl)) dX1_add_60 ⟨?_, ?_⟩) hW (fun E ce q9 u_ H locs hp hW hxc1 hxc2 hxc3 => g_xout (hout _) hlocks hW (absurd hp.2.1 (by decide)) hxc1 hxc2 hxc3 ?_ ?_) (fun u_ H locs hp hW => ?_)
          · (try simp only [headSpec]); omega
          · (try simp only [headSpec]); omega
          · (try simp only [headSpec]); omega
          · (try simp only [headSpec]); omega
          obtain ⟨-, rfl⟩ := hp
          obtain ⟨par, ps, hal, ⟨hpl, hp16, hps⟩, ⟨l2a, l2b⟩, hcl⟩ := hS.prog hK (g_e0 hE hW)
          obtain ⟨mo9, hat9, -⟩ := id hal
          obtain ⟨a, b, ea, eb, ea2, eb2, hmk⟩ := iOk_m hop hall
          subst ea
          subst eb
          have hrn := hS.2.2.2.2.2.2.2.2.2.2.2.1
          refine lv_aload_n hx hb dX1_add_63 rfl (lv_at hl 1 rfl) ?_
          refine g_get (ci := 0) (v := .ref (rf 2)) (C := RX1) (T := TX1) (N := 11) hx hb hts in_X1 hown hK hW hS.1.1 rfl 0 (by decide) q354 (fun _ h9 => h9) rfl dX1_add_64 ?_
          refine g_callFi (va_runF (cC := D.1 11) (hK.1 11 _ rfl).2 (As := []) (rest := []) ⟨hx, hb, hml, hown, hts⟩ (mtJ2_size l D w H.size (rf 2) par (cp 2) ps hal) (va_cwF 0 hts (lw_app (lw_in _ [438, 441, 443, 37] (by decide +kernel) (by decide +kernel)) (lw_meth q445)) rfl rfl rfl (fw_24 hE) (by decide +kernel) ⟨Nat.le_of_ble_eq_true rfl, Nat.le_of_ble_eq_true rfl⟩) (g_preV hW hK hE hat9 rfl) rfl rfl hl.1 rfl (lv_room (Nat.le_of_ble_eq_true rfl)) dX1_add_67 ⟨?_, ?_⟩) hW (fun r_ u_ H locs hp hW => ?_)
          · (try simp only [headSpec]); omega
          · (try simp only [headSpec]); omega
          obtain ⟨er, rfl⟩ := hp
          subst er
          refine lv_bipush (v := 16) hx hb dX1_add_72 (by decide) ?_
          refine g_icmp_ge (x := ps.length) (y := 16) (tgt := 88) hx hb (by omega) (by omega) dX1_add_74 (by decide) (fun hc1 => ?_) (fun hc1 => ?_)
          · refine lv_iconst (v := 0) hx hb dX1_add_88 (by decide) ?_
            refine g_xcallv (vx_runS (As := [.int (0)]) (rest := []) ⟨hx, hb, hml, hown, hts⟩ (mtX1_requireState l hl9 D w H.size 0) (va_cwS 1 hts (lw_S q644 q645 q34 q646) rfl rfl rfl (by decide +kernel) ⟨Nat.le_of_ble_eq_true rfl, Nat.le_of_ble_eq_true rfl⟩) (g_preS hW hK hE) rfl rfl hl.1 rfl (lv_room (Nat.le_of_ble_eq_true rfl)) dX1_add_89 ⟨?_, ?_⟩) hW (fun E ce q9 u_ H locs hp hW hxc1 hxc2 hxc3 => g_xout (hout _) hlocks hW (⟨hp.2.2, Or.inr ⟨hp.1, hall, fun z => by omega⟩⟩) hxc1 hxc2 hxc3 ?_ ?_) (fun u_ H locs hp hW => ?_)
            · (try simp only [headSpec]); omega
            · (try simp only [headSpec]); omega
            · (try simp only [headSpec]); omega
            · (try simp only [headSpec]); omega
            exact absurd rfl hp.1
          · refine lv_aload_n hx hb dX1_add_77 rfl (lv_at hl 1 rfl) ?_
            refine g_get (ci := 0) (v := .int (nI rn)) (C := RX1) (T := TX1) (N := 11) hx hb hts in_X1 hown hK hW hS.1.1 rfl 8 (by decide) q362 (fun _ h9 => h9) rfl dX1_add_78 ?_
            by_cases hr0 : rn = 0
            · have hrn0 : nI rn = 0 := by rw [hr0]; rfl
              refine lv_if_ne (tgt := 88) hx hb dX1_add_81 (by decide) (fun hz => absurd hrn0 hz) (fun _ => ?_)
              refine lv_iconst (v := 1) hx hb dX1_add_84 (by decide) ?_
              refine lv_goto (tgt := 89) hx hb dX1_add_85 (by decide) ?_
              refine g_xcallv (vx_runS (As := [.int (1)]) (rest := []) ⟨hx, hb, hml, hown, hts⟩ (mtX1_requireState l hl9 D w H.size 1) (va_cwS 1 hts (lw_S q644 q645 q34 q646) rfl rfl rfl (by decide +kernel) ⟨Nat.le_of_ble_eq_true rfl, Nat.le_of_ble_eq_true rfl⟩) (g_preS hW hK hE) rfl rfl hl.1 rfl (lv_room (Nat.le_of_ble_eq_true rfl)) dX1_add_89 ⟨?_, ?_⟩) hW (fun E ce q9 u_ H locs hp hW hxc1 hxc2 hxc3 => g_xout (hout _) hlocks hW (absurd hp.2.1 (by decide)) hxc1 hxc2 hxc3 ?_ ?_) (fun u_ H locs hp hW => ?_)
              · (try simp only [headSpec]); omega
              · (try simp only [headSpec]); omega
              · (try simp only [headSpec]); omega
              · (try simp only [headSpec]); omega
              obtain ⟨-, rfl⟩ := hp
              refine lv_aload_n hx hb dX1_add_92 rfl (lv_at hl 1 rfl) ?_
              refine g_get (ci := 0) (v := .ref (rf 2)) (C := RX1) (T := TX1) (N := 11) hx hb hts in_X1 hown hK hW hS.1.1 rfl 0 (by decide) q354 (fun _ h9 => h9) rfl dX1_add_93 ?_
              refine lv_aload_n hx hb dX1_add_96 rfl (lv_at hl 2 rfl) ?_
              have en : g_ac ps.length (cp 2) = g_ac P.length (cp 2) := by rw [hpl]
              have es : g_as ps.length (cp 2) = g_as P.length (cp 2) := by rw [hpl]
              refine g_callFi (va_runF (cC := D.1 11) (hK.1 11 _ rfl).2 (As := [.ref i9]) (rest := []) ⟨hx, hb, hml, hown, hts⟩ (mtJ2_add l D w H.size (rf 2) par (cp 2) ps hal 7 _ i9 _ _ (fun _ => g_mem_getD (fun j hj => Or.inl ⟨_, (hps j (by omega)).1⟩)) (Or.inl ⟨_, hi⟩) rfl (by decide) (by decide) (by omega)) (va_cwF 1 hts (lw_app (lw_in _ [239, 243, 245, 37] (by decide +kernel) (by decide +kernel)) (lw_meth q247)) rfl rfl rfl (fw_20 hE) (by decide +kernel) ⟨Nat.le_of_ble_eq_true rfl, Nat.le_of_ble_eq_true rfl⟩) (g_preV hW hK hE hat9 rfl) rfl rfl hl.1 rfl (lv_room (Nat.le_of_ble_eq_true rfl)) dX1_add_97 ⟨?_, ?_⟩) hW (fun r_ u1 H locs hp hW => ?_)
              · (try simp only [headSpec]); omega
              · (try simp only [headSpec]); omega
              obtain ⟨er, ar2, hal2, har2, hex⟩ := hp
              subst er
              have hS2 := hcl u1 ar2 _ _ (P ++ [(op, a, vl, b)]) hal2 har2 (hex.mono (fun z _ hz => hz.imp id (fun q => ⟨by omega, q.2⟩))) (by rw [List.length_append, List.length_append, hpl]; rfl) (by rw [List.length_append]; show _ + 1 ≤ 16; omega) (g_app (p := fun t y => g_Ins D w y t) hpl hps ⟨hi, hmk⟩)
              rw [hpl] at hS2
              have hy : yCh w lab u1 (lb lab w 2) := yCh.of hex (fun z _ hz => by unfold yM; rcases hz with hz | hz; rw [hz]; omega; rw [hz.2, l2b (by omega)]; omega) 2
              obtain ⟨mo8, hat8, -⟩ := id hal2
              refine lv_pop hx hb dX1_add_102 rfl ?_
              refine lv_aload_n hx hb dX1_add_103 rfl (lv_at hl 1 rfl) ?_
              refine g_get (ci := 0) (v := .ref (rf 2)) (C := RX1) (T := TX1) (N := 11) hx hb hts in_X1 hown hK hW hS2.1.1 rfl 0 (by decide) q354 (fun _ h9 => h9) rfl dX1_add_104 ?_
              refine g_callFi (va_runF (cC := D.1 11) (hK.1 11 _ rfl).2 (As := []) (rest := []) ⟨hx, hb, hml, hown, hts⟩ (mtJ2_size l D u1 H.size (rf 2) ar2 _ (ps ++ [i9]) hal2) (va_cwF 0 hts (lw_app (lw_in _ [438, 441, 443, 37] (by decide +kernel) (by decide +kernel)) (lw_meth q445)) rfl rfl rfl (fw_24 hE) (by decide +kernel) ⟨Nat.le_of_ble_eq_true rfl, Nat.le_of_ble_eq_true rfl⟩) (g_preV hW hK hE hat8 rfl) rfl rfl hl.1 rfl (lv_room (Nat.le_of_ble_eq_true rfl)) dX1_add_107 ⟨?_, ?_⟩) hW (fun r_ u_ H locs hp hW => ?_)
              · (try simp only [headSpec]); omega
              · (try simp only [headSpec]); omega
              obtain ⟨er, rfl⟩ := hp
              subst er
              refine g_topi (y := nI (P.length + 1)) (by rw [List.length_append, hpl]; rfl) ?_
              exact vx_ret (g_iret (v := nI (P.length + 1)) hx hb hr hlocks hW (⟨⟨hall, by omega, hr0⟩, rfl, _, by rw [ea2, eb2]; exact hS2, hy⟩) (by omega) (by omega) dX1_add_112)
            · have hrn0 : nI rn ≠ 0 := fun z => hr0 (nI_inj (a := rn) (b := 0) (by omega) (by decide) z)
              refine lv_if_ne (tgt := 88) hx hb dX1_add_81 (by decide) (fun _ => ?_) (fun hz => absurd (by first | exact hz | exact Classical.not_not.mp hz) hrn0)
              refine lv_iconst (v := 0) hx hb dX1_add_88 (by decide) ?_
              refine g_xcallv (vx_runS (As := [.int (0)]) (rest := []) ⟨hx, hb, hml, hown, hts⟩ (mtX1_requireState l hl9 D w H.size 0) (va_cwS 1 hts (lw_S q644 q645 q34 q646) rfl rfl rfl (by decide +kernel) ⟨Nat.le_of_ble_eq_true rfl, Nat.le_of_ble_eq_true rfl⟩) (g_preS hW hK hE) rfl rfl hl.1 rfl (lv_room (Nat.le_of_ble_eq_true rfl)) dX1_add_89 ⟨?_, ?_⟩) hW (fun E ce q9 u_ H locs hp hW hxc1 hxc2 hxc3 => g_xout (hout _) hlocks hW (⟨hp.2.2, Or.inr ⟨hp.1, hall, fun z => hr0 z.2⟩⟩) hxc1 hxc2 hxc3 ?_ ?_) (fun u_ H locs hp hW => ?_)
              · (try simp only [headSpec]); omega
              · (try simp only [headSpec]); omega
              · (try simp only [headSpec]); omega
              · (try simp only [headSpec]); omega
              exact absurd rfl hp.1
        · rw [if_neg hq9]
          refine lv_if_eq (tgt := 59) hx hb dX1_add_52 (by decide) (fun _ => ?_) (fun hz => absurd rfl hz)
          have hno := fun z : (0 ≤ rg ∧ rg ≤ 3) ∧ (-99 ≤ vl ∧ vl ≤ 99) ∧ 0 ≤ tg ∧ tg ≤ 3 => hq9 z.2.2
          refine lv_iconst (v := 0) hx hb dX1_add_59 (by decide) ?_
          refine g_xcallv (vx_runS (As := [.int (0)]) (rest := []) ⟨hx, hb, hml, hown, hts⟩ (mtX1_requireArgument l hl9 D w H.size 0) (va_cwS 1 hts (lw_S q573 q574 q34 q575) rfl rfl rfl (by decide +kernel) ⟨Nat.le_of_ble_eq_true rfl, Nat.le_of_ble_eq_true rfl⟩) (g_preS hW hK hE) rfl rfl hl.1 rfl (lv_room (Nat.le_of_ble_eq_true rfl)) dX1_add_60 ⟨?_, ?_⟩) hW (fun E ce q9 u_ H locs hp hW hxc1 hxc2 hxc3 => g_xout (hout _) hlocks hW (⟨hp.2.2, Or.inl ⟨hp.1, fun z => hno (hok.mp z)⟩⟩) hxc1 hxc2 hxc3 ?_ ?_) (fun u_ H locs hp hW => ?_)
          · (try simp only [headSpec]); omega
          · (try simp only [headSpec]); omega
          · (try simp only [headSpec]); omega
          · (try simp only [headSpec]); omega
          exact absurd rfl hp.1
      · rw [if_neg hq9]
        refine lv_if_eq (tgt := 59) hx hb dX1_add_40 (by decide) (fun _ => ?_) (fun hz => absurd rfl hz)
        have hno := fun z : (0 ≤ rg ∧ rg ≤ 3) ∧ (-99 ≤ vl ∧ vl ≤ 99) ∧ 0 ≤ tg ∧ tg ≤ 3 => hq9 z.2.1
        refine lv_iconst (v := 0) hx hb dX1_add_59 (by decide) ?_
        refine g_xcallv (vx_runS (As := [.int (0)]) (rest := []) ⟨hx, hb, hml, hown, hts⟩ (mtX1_requireArgument l hl9 D w H.size 0) (va_cwS 1 hts (lw_S q573 q574 q34 q575) rfl rfl rfl (by decide +kernel) ⟨Nat.le_of_ble_eq_true rfl, Nat.le_of_ble_eq_true rfl⟩) (g_preS hW hK hE) rfl rfl hl.1 rfl (lv_room (Nat.le_of_ble_eq_true rfl)) dX1_add_60 ⟨?_, ?_⟩) hW (fun E ce q9 u_ H locs hp hW hxc1 hxc2 hxc3 => g_xout (hout _) hlocks hW (⟨hp.2.2, Or.inl ⟨hp.1, fun z => hno (hok.mp z)⟩⟩) hxc1 hxc2 hxc3 ?_ ?_) (fun u_ H locs hp hW => ?_)
        · (try simp only [headSpec]); omega
        · (try simp only [headSpec]); omega
        · (try simp only [headSpec]); omega
        · (try simp only [headSpec]); omega
        exact absurd rfl hp.1
    · rw [if_neg hq9]
      refine lv_if_eq (tgt := 59) hx hb dX1_add_26 (by decide) (fun _ => ?_) (fun hz => absurd rfl hz)
      have hno := fun z : (0 ≤ rg ∧ rg ≤ 3) ∧ (-99 ≤ vl ∧ vl ≤ 99) ∧ 0 ≤ tg ∧ tg ≤ 3 => hq9 z.1
      refine lv_iconst (v := 0) hx hb dX1_add_59 (by decide) ?_
      refine g_xcallv (vx_runS (As := [.int (0)]) (rest := []) ⟨hx, hb, hml, hown, hts⟩ (mtX1_requireArgument l hl9 D w H.size 0) (va_cwS 1 hts (lw_S q573 q574 q34 q575) rfl rfl rfl (by decide +kernel) ⟨Nat.le_of_ble_eq_true rfl, Nat.le_of_ble_eq_true rfl⟩) (g_preS hW hK hE) rfl rfl hl.1 rfl (lv_room (Nat.le_of_ble_eq_true rfl)) dX1_add_60 ⟨?_, ?_⟩) hW (fun E ce q9 u_ H locs hp hW hxc1 hxc2 hxc3 => g_xout (hout _) hlocks hW (⟨hp.2.2, Or.inl ⟨hp.1, fun z => hno (hok.mp z)⟩⟩) hxc1 hxc2 hxc3 ?_ ?_) (fun u_ H locs hp hW => ?_)
      · (try simp only [headSpec]); omega
      · (try simp only [headSpec]); omega
      · (try simp only [headSpec]); omega
      · (try simp only [headSpec]); omega
      exact absurd rfl hp.1
set_option maxHeartbeats 4000000 in
set_option maxRecDepth 100000 in
/-- ShrinkYard.addChange -/
theorem mtX1_addChange (l : Launch) (hl9 : l.stackTraces = false) (D : va_G) (w : g_H) (sz : Nat) (lab : Nat → Nat) (x ac rn tt : Nat) (rf : Nat → Nat) (P : List mI) (C : List yC) (A : Nat → List (List Nat)) (cov : Nat → Bool) (K Q : List (List Nat)) (F : List (List Nat × List Nat × Int32)) (cp : Nat → Nat) (hS : g_SZ D w lab x rf P C A cov K Q ac F rn tt cp) (k9 : Nat) (p9 d9 : Int32) (hk9 : k9 < 4) (hcp : cp 3 = 0 ∨ 8 < cp 3) : vx_Met l yX1_addChange (ws_ yX1_addChange cX1_addChange 5 (some .int)) ({ frames := 12, cells := 3 + g_ac C.length (cp 3), slots := 16 + g_as C.length (cp 3), locals := 304 }) (g_Pc D [.ref x, .ref (D.2 1004 k9), .int (p9), .int (d9)] w sz) (g_Qi D w sz (fun r u => (kEd p9 d9 ∧ C.length < 8) ∧ r = nI (C.length + 1) ∧ ∃ l2, g_SZ D u l2 x rf P (C ++ [(k9, p9.toNatClampNeg, d9.toNatClampNeg)]) A cov K Q ac F rn tt (cpU cp 3 (g_an C.length (cp 3))) ∧ yCh w lab u l2)) (g_XC D w sz (fun E u => g_ex (fun _ => False) w u ∧ ((E = "java/lang/IllegalArgumentException" ∧ ¬ kEd p9 d9) ∨ (E = "java/lang/IllegalStateException" ∧ kEd p9 d9 ∧ ¬ C.length < 8)))) (3 + g_ac C.length (cp 3)) (16 + g_as C.length (cp 3)) (g_A w sz) := by
  refine vx_ofW (cc := cX1_addChange) (maxL := 5) (ret := (some .int)) (by decide) rfl ?_
  intro p e s m args below meth c s₁ B hml hhand hv
  have hout : ∀ pc : Nat, ∀ x ∈ c.exceptionTable.toList, covers x pc = false := fun _ x hx => (hhand x hx).elim
  obtain ⟨rfl, hI⟩ := hv
  have hx := B.exec
  have hb := B.bytes
  have hr := B.returns
  have hts := atoms_spec (ws := ws_ yX1_addChange cX1_addChange 5 (some .int)) B.pre
  have hts : ∀ w ∈ lw_all, w.before _ s = true := fun w h => hts w (List.mem_cons_of_mem _ h)
  have hown : s.vm.findClass RX1 = some m.cls := findClass_of_methodNamed B.named
  have hlocks := B.notSynchronized
  have hsz := hI.1
  subst hsz
  have hW := g_W.start hI
  have hK := g_K hI
  have hE := g_E hI
  have hl := lv_entry ([.ref x, .ref (D.2 1004 k9), .int (p9), .int (d9)]) (n := 5) (by exact Nat.le_of_ble_eq_true rfl)
  rw [lg_entry_eq]
  generalize (lg_sl ([.ref x, .ref (D.2 1004 k9), .int (p9), .int (d9)]) ++ List.replicate (5 - (lg_sl ([.ref x, .ref (D.2 1004 k9), .int (p9), .int (d9)])).length) Slot.unset).toArray = ls at hl ⊢
  have hl : lv_has ls 5 [(0, .ref x), (1, .ref (D.2 1004 k9)), (2, .int (p9)), (3, .int (d9))] := hl
  refine lv_aload_n hx hb dX1_addChange_0 rfl (lv_at hl 1 rfl) ?_
  refine lv_iload_n hx hb dX1_addChange_1 rfl (lv_at hl 2 rfl) ?_
  refine lv_iload_n hx hb dX1_addChange_2 rfl (lv_at hl 3 rfl) ?_
  refine g_xcallq (vx_runS (As := [.ref (D.2 1004 k9), .int (p9), .int (d9)]) (rest := []) ⟨hx, hb, hml, hown, hts⟩ (mtX6_of l hl9 D w s.heap.size k9 p9 d9 hk9) (va_cwS 3 hts (lw_S q669 q670 q58 q671) rfl rfl rfl (by decide +kernel) ⟨Nat.le_of_ble_eq_true rfl, Nat.le_of_ble_eq_true rfl⟩) (g_preS hW hK hE) rfl rfl hl.1 rfl (lv_room (Nat.le_of_ble_eq_true rfl)) dX1_addChange_3 ⟨?_, ?_⟩) hW (fun E ce q9 u_ H locs hp hW hxc1 hxc2 hxc3 => g_xout (hout _) hlocks hW (⟨by rw [← hp.2.2]; exact g_ex.rf, Or.inl ⟨hp.1, hp.2.1⟩⟩) hxc1 hxc2 hxc3 ?_ ?_) (fun r_ u1 H locs hp hW => ?_)
  · (try simp only [headSpec]); omega
  · (try simp only [headSpec]); omega
  · (try simp only [headSpec]); omega
  · (try simp only [headSpec]); omega
  obtain ⟨hke, e9, er, fe, hed, hxa⟩ := hp
  subst er
  have hS1 := hS.new hxa 0
  have hy1 : yCh w lab u1 (lb lab w 0) := yCh.nw hxa 0
  obtain ⟨car, cs, hal, ⟨hcl9, hc8, hcs⟩, ⟨l2a, l2b⟩, hcl⟩ := hS1.chgs hK (g_e0 hE hW)
  obtain ⟨mo9, hat9, -⟩ := id hal
  refine lv_astore (lv' := [(4, .ref e9), (0, .ref x), (1, .ref (D.2 1004 k9)), (2, .int (p9)), (3, .int (d9))]) hx hb dX1_addChange_6 hl (by decide) rfl (fun ls hl => ?_)
  refine lv_aload_n hx hb dX1_addChange_8 rfl (lv_at hl 1 rfl) ?_
  refine g_get (ci := 0) (v := .ref (rf 3)) (C := RX1) (T := TX1) (N := 11) hx hb hts in_X1 hown hK hW hS1.1.1 rfl 1 (by decide) q355 (fun _ h9 => h9) rfl dX1_addChange_9 ?_
  refine g_callFi (va_runF (cC := D.1 11) (hK.1 11 _ rfl).2 (As := []) (rest := []) ⟨hx, hb, hml, hown, hts⟩ (mtJ2_size l D u1 H.size (rf 3) car (cp 3) cs hal) (va_cwF 0 hts (lw_app (lw_in _ [438, 441, 443, 37] (by decide +kernel) (by decide +kernel)) (lw_meth q445)) rfl rfl rfl (fw_24 hE) (by decide +kernel) ⟨Nat.le_of_ble_eq_true rfl, Nat.le_of_ble_eq_true rfl⟩) (g_preV hW hK hE hat9 rfl) rfl rfl hl.1 rfl (lv_room (Nat.le_of_ble_eq_true rfl)) dX1_addChange_12 ⟨?_, ?_⟩) hW (fun r_ u_ H locs hp hW => ?_)
  · (try simp only [headSpec]); omega
  · (try simp only [headSpec]); omega
  obtain ⟨er, rfl⟩ := hp
  subst er
  refine lv_bipush (v := 8) hx hb dX1_addChange_17 (by decide) ?_
  refine g_icmp_ge (x := cs.length) (y := 8) (tgt := 26) hx hb (by omega) (by omega) dX1_addChange_19 (by decide) (fun hc1 => ?_) (fun hc1 => ?_)
  · refine lv_iconst (v := 0) hx hb dX1_addChange_26 (by decide) ?_
    refine g_xcallv (vx_runS (As := [.int (0)]) (rest := []) ⟨hx, hb, hml, hown, hts⟩ (mtX1_requireState l hl9 D u1 H.size 0) (va_cwS 1 hts (lw_S q644 q645 q34 q646) rfl rfl rfl (by decide +kernel) ⟨Nat.le_of_ble_eq_true rfl, Nat.le_of_ble_eq_true rfl⟩) (g_preS hW hK hE) rfl rfl hl.1 rfl (lv_room (Nat.le_of_ble_eq_true rfl)) dX1_addChange_27 ⟨?_, ?_⟩) hW (fun E ce q9 u_ H locs hp hW hxc1 hxc2 hxc3 => g_xout (hout _) hlocks hW (⟨by rw [← hp.2.2]; exact hxa, Or.inr ⟨hp.1, hke, fun z => by omega⟩⟩) hxc1 hxc2 hxc3 ?_ ?_) (fun u_ H locs hp hW => ?_)
    · (try simp only [headSpec]); omega
    · (try simp only [headSpec]); omega
    · (try simp only [headSpec]); omega
    · (try simp only [headSpec]); omega
    exact absurd rfl hp.1
  · refine lv_iconst (v := 1) hx hb dX1_addChange_22 (by decide) ?_
    refine lv_goto (tgt := 27) hx hb dX1_addChange_23 (by decide) ?_
    refine g_xcallv (vx_runS (As := [.int (1)]) (rest := []) ⟨hx, hb, hml, hown, hts⟩ (mtX1_requireState l hl9 D u1 H.size 1) (va_cwS 1 hts (lw_S q644 q645 q34 q646) rfl rfl rfl (by decide +kernel) ⟨Nat.le_of_ble_eq_true rfl, Nat.le_of_ble_eq_true rfl⟩) (g_preS hW hK hE) rfl rfl hl.1 rfl (lv_room (Nat.le_of_ble_eq_true rfl)) dX1_addChange_27 ⟨?_, ?_⟩) hW (fun E ce q9 u_ H locs hp hW hxc1 hxc2 hxc3 => g_xout (hout _) hlocks hW (absurd hp.2.1 (by decide)) hxc1 hxc2 hxc3 ?_ ?_) (fun u_ H locs hp hW => ?_)
    · (try simp only [headSpec]); omega
    · (try simp only [headSpec]); omega
    · (try simp only [headSpec]); omega
    · (try simp only [headSpec]); omega
    obtain ⟨-, rfl⟩ := hp
    refine lv_aload_n hx hb dX1_addChange_30 rfl (lv_at hl 1 rfl) ?_
    refine g_get (ci := 0) (v := .ref (rf 3)) (C := RX1) (T := TX1) (N := 11) hx hb hts in_X1 hown hK hW hS1.1.1 rfl 1 (by decide) q355 (fun _ h9 => h9) rfl dX1_addChange_31 ?_
    refine lv_aload hx hb dX1_addChange_34 (lv_at hl 0 rfl) ?_
    have hnil : cs.length = cp 3 → cs = [] := fun z => List.eq_nil_of_length_eq_zero (by omega)
    obtain ⟨h8a, h8b, hq | hq | hq | hq⟩ := id hed
    all_goals obtain ⟨ek, hq⟩ := hq
    all_goals have en : g_ac cs.length (cp 3) = g_ac C.length (cp 3) := by rw [hcl9]
    all_goals have es : g_as cs.length (cp 3) = g_as C.length (cp 3) := by rw [hcl9]
    · refine g_callFi (va_runF (cC := D.1 11) (hK.1 11 _ rfl).2 (As := [.ref e9]) (rest := []) ⟨hx, hb, hml, hown, hts⟩ (mtJ2_add l D u1 H.size (rf 3) car (cp 3) cs hal 3 _ e9 _ _ (fun z y hy => by rw [hnil z] at hy; cases hy) (Or.inl ⟨_, hq⟩) rfl (by decide) (by decide) (by omega)) (va_cwF 1 hts (lw_app (lw_in _ [239, 243, 245, 37] (by decide +kernel) (by decide +kernel)) (lw_meth q247)) rfl rfl rfl (fw_20 hE) (by decide +kernel) ⟨Nat.le_of_ble_eq_true rfl, Nat.le_of_ble_eq_true rfl⟩) (g_preV hW hK hE hat9 rfl) rfl rfl hl.1 rfl (lv_room (Nat.le_of_ble_eq_true rfl)) dX1_addChange_36 ⟨?_, ?_⟩) hW (fun r_ u2 H locs hp hW => ?_)
      · (try simp only [headSpec]); omega
      · (try simp only [headSpec]); omega
      obtain ⟨er, ar2, hal2, har2, hex⟩ := hp
      subst er
      have hS2 := hcl u2 ar2 _ _ (C ++ [(k9, p9.toNatClampNeg, d9.toNatClampNeg)]) hal2 har2 (hex.mono (fun z _ hz => hz.imp id (fun q => ⟨by omega, q.2⟩))) (by rw [List.length_append, List.length_append, hcl9]; rfl) (by rw [List.length_append]; show _ + 1 ≤ 8; omega) (g_app (p := fun (t : yC) y => g_Ed u1 y t.1 t.2.1 t.2.2) hcl9 hcs hed) (by rw [List.length_append]; have := hS.2.2.2.2.2.2.2.2.2.2.2.2.2; omega)
      rw [hcl9] at hS2
      have hy2 : yCh u1 (lb lab w 0) u2 (lb (lb lab w 0) u1 3) := yCh.of hex (fun z _ hz => by unfold yM; rcases hz with hz | hz; rw [hz]; omega; rw [hz.2, l2b (by omega)]; omega) 3
      obtain ⟨mo8, hat8, -⟩ := id hal2
      refine lv_pop hx hb dX1_addChange_41 rfl ?_
      refine lv_aload_n hx hb dX1_addChange_42 rfl (lv_at hl 1 rfl) ?_
      refine g_get (ci := 0) (v := .ref (rf 3)) (C := RX1) (T := TX1) (N := 11) hx hb hts in_X1 hown hK hW hS2.1.1 rfl 1 (by decide) q355 (fun _ h9 => h9) rfl dX1_addChange_43 ?_
      refine g_callFi (va_runF (cC := D.1 11) (hK.1 11 _ rfl).2 (As := []) (rest := []) ⟨hx, hb, hml, hown, hts⟩ (mtJ2_size l D u2 H.size (rf 3) ar2 _ (cs ++ [e9]) hal2) (va_cwF 0 hts (lw_app (lw_in _ [438, 441, 443, 37] (by decide +kernel) (by decide +kernel)) (lw_meth q445)) rfl rfl rfl (fw_24 hE) (by decide +kernel) ⟨Nat.le_of_ble_eq_true rfl, Nat.le_of_ble_eq_true rfl⟩) (g_preV hW hK hE hat8 rfl) rfl rfl hl.1 rfl (lv_room (Nat.le_of_ble_eq_true rfl)) dX1_addChange_46 ⟨?_, ?_⟩) hW (fun r_ u_ H locs hp hW => ?_)
      · (try simp only [headSpec]); omega
      · (try simp only [headSpec]); omega
      obtain ⟨er, rfl⟩ := hp
      subst er
      refine g_topi (y := nI (C.length + 1)) (by rw [List.length_append, hcl9]; rfl) ?_
      exact vx_ret (g_iret (v := nI (C.length + 1)) hx hb hr hlocks hW (⟨⟨hke, by omega⟩, rfl, _, hS2, hy1.tr hy2⟩) (by omega) (by omega) dX1_addChange_51)
    · refine g_callFi (va_runF (cC := D.1 11) (hK.1 11 _ rfl).2 (As := [.ref e9]) (rest := []) ⟨hx, hb, hml, hown, hts⟩ (mtJ2_add l D u1 H.size (rf 3) car (cp 3) cs hal 4 _ e9 _ _ (fun z y hy => by rw [hnil z] at hy; cases hy) (Or.inl ⟨_, hq⟩) rfl (by decide) (by decide) (by omega)) (va_cwF 1 hts (lw_app (lw_in _ [239, 243, 245, 37] (by decide +kernel) (by decide +kernel)) (lw_meth q247)) rfl rfl rfl (fw_20 hE) (by decide +kernel) ⟨Nat.le_of_ble_eq_true rfl, Nat.le_of_ble_eq_true rfl⟩) (g_preV hW hK hE hat9 rfl) rfl rfl hl.1 rfl (lv_room (Nat.le_of_ble_eq_true rfl)) dX1_addChange_36 ⟨?_, ?_⟩) hW (fun r_ u2 H locs hp hW => ?_)
      · (try simp only [headSpec]); omega
      · (try simp only [headSpec]); omega
      obtain ⟨er, ar2, hal2, har2, hex⟩ := hp
      subst er
      have hS2 := hcl u2 ar2 _ _ (C ++ [(k9, p9.toNatClampNeg, d9.toNatClampNeg)]) hal2 har2 (hex.mono (fun z _ hz => hz.imp id (fun q => ⟨by omega, q.2⟩))) (by rw [List.length_append, List.length_append, hcl9]; rfl) (by rw [List.length_append]; show _ + 1 ≤ 8; omega) (g_app (p := fun (t : yC) y => g_Ed u1 y t.1 t.2.1 t.2.2) hcl9 hcs hed) (by rw [List.length_append]; have := hS.2.2.2.2.2.2.2.2.2.2.2.2.2; omega)
      rw [hcl9] at hS2
      have hy2 : yCh u1 (lb lab w 0) u2 (lb (lb lab w 0) u1 3) := yCh.of hex (fun z _ hz => by unfold yM; rcases hz with hz | hz; rw [hz]; omega; rw [hz.2, l2b (by omega)]; omega) 3
      obtain ⟨mo8, hat8, -⟩ := id hal2
      refine lv_pop hx hb dX1_addChange_41 rfl ?_
      refine lv_aload_n hx hb dX1_addChange_42 rfl (lv_at hl 1 rfl) ?_
      refine g_get (ci := 0) (v := .ref (rf 3)) (C := RX1) (T := TX1) (N := 11) hx hb hts in_X1 hown hK hW hS2.1.1 rfl 1 (by decide) q355 (fun _ h9 => h9) rfl dX1_addChange_43 ?_
      refine g_callFi (va_runF (cC := D.1 11) (hK.1 11 _ rfl).2 (As := []) (rest := []) ⟨hx, hb, hml, hown, hts⟩ (mtJ2_size l D u2 H.size (rf 3) ar2 _ (cs ++ [e9]) hal2) (va_cwF 0 hts (lw_app (lw_in _ [438, 441, 443, 37] (by decide +kernel) (by decide +kernel)) (lw_meth q445)) rfl rfl rfl (fw_24 hE) (by decide +kernel) ⟨Nat.le_of_ble_eq_true rfl, Nat.le_of_ble_eq_true rfl⟩) (g_preV hW hK hE hat8 rfl) rfl rfl hl.1 rfl (lv_room (Nat.le_of_ble_eq_true rfl)) dX1_addChange_46 ⟨?_, ?_⟩) hW (fun r_ u_ H locs hp hW => ?_)
      · (try simp only [headSpec]); omega
      · (try simp only [headSpec]); omega
      obtain ⟨er, rfl⟩ := hp
      subst er
      refine g_topi (y := nI (C.length + 1)) (by rw [List.length_append, hcl9]; rfl) ?_
      exact vx_ret (g_iret (v := nI (C.length + 1)) hx hb hr hlocks hW (⟨⟨hke, by omega⟩, rfl, _, hS2, hy1.tr hy2⟩) (by omega) (by omega) dX1_addChange_51)
    · refine g_callFi (va_runF (cC := D.1 11) (hK.1 11 _ rfl).2 (As := [.ref e9]) (rest := []) ⟨hx, hb, hml, hown, hts⟩ (mtJ2_add l D u1 H.size (rf 3) car (cp 3) cs hal 5 _ e9 _ _ (fun z y hy => by rw [hnil z] at hy; cases hy) (Or.inl ⟨_, hq⟩) rfl (by decide) (by decide) (by omega)) (va_cwF 1 hts (lw_app (lw_in _ [239, 243, 245, 37] (by decide +kernel) (by decide +kernel)) (lw_meth q247)) rfl rfl rfl (fw_20 hE) (by decide +kernel) ⟨Nat.le_of_ble_eq_true rfl, Nat.le_of_ble_eq_true rfl⟩) (g_preV hW hK hE hat9 rfl) rfl rfl hl.1 rfl (lv_room (Nat.le_of_ble_eq_true rfl)) dX1_addChange_36 ⟨?_, ?_⟩) hW (fun r_ u2 H locs hp hW => ?_)
      · (try simp only [headSpec]); omega
      · (try simp only [headSpec]); omega
      obtain ⟨er, ar2, hal2, har2, hex⟩ := hp
      subst er
      have hS2 := hcl u2 ar2 _ _ (C ++ [(k9, p9.toNatClampNeg, d9.toNatClampNeg)]) hal2 har2 (hex.mono (fun z _ hz => hz.imp id (fun q => ⟨by omega, q.2⟩))) (by rw [List.length_append, List.length_append, hcl9]; rfl) (by rw [List.length_append]; show _ + 1 ≤ 8; omega) (g_app (p := fun (t : yC) y => g_Ed u1 y t.1 t.2.1 t.2.2) hcl9 hcs hed) (by rw [List.length_append]; have := hS.2.2.2.2.2.2.2.2.2.2.2.2.2; omega)
      rw [hcl9] at hS2
      have hy2 : yCh u1 (lb lab w 0) u2 (lb (lb lab w 0) u1 3) := yCh.of hex (fun z _ hz => by unfold yM; rcases hz with hz | hz; rw [hz]; omega; rw [hz.2, l2b (by omega)]; omega) 3
      obtain ⟨mo8, hat8, -⟩ := id hal2
      refine lv_pop hx hb dX1_addChange_41 rfl ?_
      refine lv_aload_n hx hb dX1_addChange_42 rfl (lv_at hl 1 rfl) ?_
      refine g_get (ci := 0) (v := .ref (rf 3)) (C := RX1) (T := TX1) (N := 11) hx hb hts in_X1 hown hK hW hS2.1.1 rfl 1 (by decide) q355 (fun _ h9 => h9) rfl dX1_addChange_43 ?_
      refine g_callFi (va_runF (cC := D.1 11) (hK.1 11 _ rfl).2 (As := []) (rest := []) ⟨hx, hb, hml, hown, hts⟩ (mtJ2_size l D u2 H.size (rf 3) ar2 _ (cs ++ [e9]) hal2) (va_cwF 0 hts (lw_app (lw_in _ [438, 441, 443, 37] (by decide +kernel) (by decide +kernel)) (lw_meth q445)) rfl rfl rfl (fw_24 hE) (by decide +kernel) ⟨Nat.le_of_ble_eq_true rfl, Nat.le_of_ble_eq_true rfl⟩) (g_preV hW hK hE hat8 rfl) rfl rfl hl.1 rfl (lv_room (Nat.le_of_ble_eq_true rfl)) dX1_addChange_46 ⟨?_, ?_⟩) hW (fun r_ u_ H locs hp hW => ?_)
      · (try simp only [headSpec]); omega
      · (try simp only [headSpec]); omega
      obtain ⟨er, rfl⟩ := hp
      subst er
      refine g_topi (y := nI (C.length + 1)) (by rw [List.length_append, hcl9]; rfl) ?_
      exact vx_ret (g_iret (v := nI (C.length + 1)) hx hb hr hlocks hW (⟨⟨hke, by omega⟩, rfl, _, hS2, hy1.tr hy2⟩) (by omega) (by omega) dX1_addChange_51)
    · refine g_callFi (va_runF (cC := D.1 11) (hK.1 11 _ rfl).2 (As := [.ref e9]) (rest := []) ⟨hx, hb, hml, hown, hts⟩ (mtJ2_add l D u1 H.size (rf 3) car (cp 3) cs hal 6 _ e9 _ _ (fun z y hy => by rw [hnil z] at hy; cases hy) (Or.inl ⟨_, hq⟩) rfl (by decide) (by decide) (by omega)) (va_cwF 1 hts (lw_app (lw_in _ [239, 243, 245, 37] (by decide +kernel) (by decide +kernel)) (lw_meth q247)) rfl rfl rfl (fw_20 hE) (by decide +kernel) ⟨Nat.le_of_ble_eq_true rfl, Nat.le_of_ble_eq_true rfl⟩) (g_preV hW hK hE hat9 rfl) rfl rfl hl.1 rfl (lv_room (Nat.le_of_ble_eq_true rfl)) dX1_addChange_36 ⟨?_, ?_⟩) hW (fun r_ u2 H locs hp hW => ?_)
      · (try simp only [headSpec]); omega
      · (try simp only [headSpec]); omega
      obtain ⟨er, ar2, hal2, har2, hex⟩ := hp
      subst er
      have hS2 := hcl u2 ar2 _ _ (C ++ [(k9, p9.toNatClampNeg, d9.toNatClampNeg)]) hal2 har2 (hex.mono (fun z _ hz => hz.imp id (fun q => ⟨by omega, q.2⟩))) (by rw [List.length_append, List.length_append, hcl9]; rfl) (by rw [List.length_append]; show _ + 1 ≤ 8; omega) (g_app (p := fun (t : yC) y => g_Ed u1 y t.1 t.2.1 t.2.2) hcl9 hcs hed) (by rw [List.length_append]; have := hS.2.2.2.2.2.2.2.2.2.2.2.2.2; omega)
      rw [hcl9] at hS2
      have hy2 : yCh u1 (lb lab w 0) u2 (lb (lb lab w 0) u1 3) := yCh.of hex (fun z _ hz => by unfold yM; rcases hz with hz | hz; rw [hz]; omega; rw [hz.2, l2b (by omega)]; omega) 3
      obtain ⟨mo8, hat8, -⟩ := id hal2
      refine lv_pop hx hb dX1_addChange_41 rfl ?_
      refine lv_aload_n hx hb dX1_addChange_42 rfl (lv_at hl 1 rfl) ?_
      refine g_get (ci := 0) (v := .ref (rf 3)) (C := RX1) (T := TX1) (N := 11) hx hb hts in_X1 hown hK hW hS2.1.1 rfl 1 (by decide) q355 (fun _ h9 => h9) rfl dX1_addChange_43 ?_
      refine g_callFi (va_runF (cC := D.1 11) (hK.1 11 _ rfl).2 (As := []) (rest := []) ⟨hx, hb, hml, hown, hts⟩ (mtJ2_size l D u2 H.size (rf 3) ar2 _ (cs ++ [e9]) hal2) (va_cwF 0 hts (lw_app (lw_in _ [438, 441, 443, 37] (by decide +kernel) (by decide +kernel)) (lw_meth q445)) rfl rfl rfl (fw_24 hE) (by decide +kernel) ⟨Nat.le_of_ble_eq_true rfl, Nat.le_of_ble_eq_true rfl⟩) (g_preV hW hK hE hat8 rfl) rfl rfl hl.1 rfl (lv_room (Nat.le_of_ble_eq_true rfl)) dX1_addChange_46 ⟨?_, ?_⟩) hW (fun r_ u_ H locs hp hW => ?_)
      · (try simp only [headSpec]); omega
      · (try simp only [headSpec]); omega
      obtain ⟨er, rfl⟩ := hp
      subst er
      refine g_topi (y := nI (C.length + 1)) (by rw [List.length_append, hcl9]; rfl) ?_
      exact vx_ret (g_iret (v := nI (C.length + 1)) hx hb hr hlocks hW (⟨⟨hke, by omega⟩, rfl, _, hS2, hy1.tr hy2⟩) (by omega) (by omega) dX1_addChange_51)
set_option maxHeartbeats 4000000 in
set_option maxRecDepth 100000 in
/-- ShrinkYard.addAlternative -/
theorem mtX1_addAlternative (l : Launch) (hl9 : l.stackTraces = false) (D : va_G) (w : g_H) (sz : Nat) (lab : Nat → Nat) (x ac rn tt : Nat) (rf : Nat → Nat) (P : List mI) (C : List yC) (A : Nat → List (List Nat)) (cov : Nat → Bool) (K Q : List (List Nat)) (F : List (List Nat × List Nat × Int32)) (cp : Nat → Nat) (hS : g_SZ D w lab x rf P C A cov K Q ac F rn tt cp) (c9 st : Nat) (t : List Nat) (hc9 : c9 < 65536) (hst : g_Str D w st t) : vx_Met l yX1_addAlternative (ws_ yX1_addAlternative cX1_addAlternative 4 (some .int)) ({ frames := 12, cells := 2 + g_ac (A (c9 - 65)).length (cp (5 + (c9 - 65))), slots := 12 + g_as (A (c9 - 65)).length (cp (5 + (c9 - 65))), locals := 304 }) (g_Pc D [.ref x, .int (nI c9), .ref st] w sz) (g_Qi D w sz (fun r u => ((kKind c9 = 1 ∧ kHas t 1 = true) ∧ (A (c9 - 65)).length < 3) ∧ r = nI ((A (c9 - 65)).length + 1) ∧ ∃ l2, g_SZ D u l2 x rf P C (fun i => if i = c9 - 65 then A (c9 - 65) ++ [t] else A i) cov K Q ac F rn tt (cpU cp (5 + (c9 - 65)) (g_an (A (c9 - 65)).length (cp (5 + (c9 - 65))))) ∧ yCh w lab u l2)) (g_XC D w sz (fun E u => w = u ∧ ((E = "java/lang/IllegalArgumentException" ∧ ¬ (kKind c9 = 1 ∧ kHas t 1 = true)) ∨ (E = "java/lang/IllegalStateException" ∧ (kKind c9 = 1 ∧ kHas t 1 = true) ∧ ¬ (A (c9 - 65)).length < 3)))) (2 + g_ac (A (c9 - 65)).length (cp (5 + (c9 - 65)))) (12 + g_as (A (c9 - 65)).length (cp (5 + (c9 - 65)))) (g_A w sz) := by
  refine vx_ofW (cc := cX1_addAlternative) (maxL := 4) (ret := (some .int)) (by decide) rfl ?_
  intro p e s m args below meth c s₁ B hml hhand hv
  have hout : ∀ pc : Nat, ∀ x ∈ c.exceptionTable.toList, covers x pc = false := fun _ x hx => (hhand x hx).elim
  obtain ⟨rfl, hI⟩ := hv
  have hx := B.exec
  have hb := B.bytes
  have hr := B.returns
  have hts := atoms_spec (ws := ws_ yX1_addAlternative cX1_addAlternative 4 (some .int)) B.pre
  have hts : ∀ w ∈ lw_all, w.before _ s = true := fun w h => hts w (List.mem_cons_of_mem _ h)
  have hown : s.vm.findClass RX1 = some m.cls := findClass_of_methodNamed B.named
  have hlocks := B.notSynchronized
  have hsz := hI.1
  subst hsz
  have hW := g_W.start hI
  have hK := g_K hI
  have hE := g_E hI
  have hl := lv_entry ([.ref x, .int (nI c9), .ref st]) (n := 4) (by exact Nat.le_of_ble_eq_true rfl)
  rw [lg_entry_eq]
  generalize (lg_sl ([.ref x, .int (nI c9), .ref st]) ++ List.replicate (4 - (lg_sl ([.ref x, .int (nI c9), .ref st])).length) Slot.unset).toArray = ls at hl ⊢
  have hl : lv_has ls 4 [(0, .ref x), (1, .int (nI c9)), (2, .ref st)] := hl
  have hk3 : kKind c9 < 3 := by unfold kKind; split; omega; split <;> omega
  refine lv_iload_n hx hb dX1_addAlternative_0 rfl (lv_at hl 1 rfl) ?_
  refine g_calli (va_runS (As := [.int (nI c9)]) (rest := []) ⟨hx, hb, hml, hown, hts⟩ (mtX1_kind l D w s.heap.size c9 hc9) (va_cwS 1 hts (lw_S q733 q734 q34 q735) rfl rfl rfl (by decide +kernel) ⟨Nat.le_of_ble_eq_true rfl, Nat.le_of_ble_eq_true rfl⟩) (g_preS hW hK hE) rfl rfl hl.1 rfl (lv_room (Nat.le_of_ble_eq_true rfl)) dX1_addAlternative_1 ⟨?_, ?_⟩) hW (fun r_ u_ H locs hp hW => ?_)
  · (try simp only [headSpec]); omega
  · (try simp only [headSpec]); omega
  obtain ⟨er, rfl⟩ := hp
  subst er
  refine lv_iconst (v := 1) hx hb dX1_addAlternative_4 (by decide) ?_
  refine lv_icmp_ne (tgt := 20) hx hb dX1_addAlternative_5 (by decide) (fun hc => ?_) (fun hc => ?_)
  · refine lv_iconst (v := 0) hx hb dX1_addAlternative_20 (by decide) ?_
    refine g_xcallv (vx_runS (As := [.int (0)]) (rest := []) ⟨hx, hb, hml, hown, hts⟩ (mtX1_requireArgument l hl9 D w H.size 0) (va_cwS 1 hts (lw_S q573 q574 q34 q575) rfl rfl rfl (by decide +kernel) ⟨Nat.le_of_ble_eq_true rfl, Nat.le_of_ble_eq_true rfl⟩) (g_preS hW hK hE) rfl rfl hl.1 rfl (lv_room (Nat.le_of_ble_eq_true rfl)) dX1_addAlternative_21 ⟨?_, ?_⟩) hW (fun E ce q9 u_ H locs hp hW hxc1 hxc2 hxc3 => g_xout (hout _) hlocks hW (⟨hp.2.2, Or.inl ⟨hp.1, fun z => hc (by rw [z.1]; rfl)⟩⟩) hxc1 hxc2 hxc3 ?_ ?_) (fun u_ H locs hp hW => ?_)
    · (try simp only [headSpec]); omega
    · (try simp only [headSpec]); omega
    · (try simp only [headSpec]); omega
    · (try simp only [headSpec]); omega
    exact absurd rfl hp.1
  · have hk1 : kKind c9 = 1 := nI_inj (a := kKind c9) (b := 1) (by omega) (by decide) (by first | exact hc | exact Classical.not_not.mp hc)
    refine lv_aload_n hx hb dX1_addAlternative_8 rfl (lv_at hl 2 rfl) ?_
    refine lv_iconst (v := 1) hx hb dX1_addAlternative_9 (by decide) ?_
    refine g_calli (va_runS (As := [.ref st, .int (1)]) (rest := []) ⟨hx, hb, hml, hown, hts⟩ (mtX1_hasKinds l D w H.size st 1 t hst (by decide)) (va_cwS 2 hts (lw_S q736 q737 q34 q738) rfl rfl rfl (by decide +kernel) ⟨Nat.le_of_ble_eq_true rfl, Nat.le_of_ble_eq_true rfl⟩) (g_preS hW hK hE) rfl rfl hl.1 rfl (lv_room (Nat.le_of_ble_eq_true rfl)) dX1_addAlternative_10 ⟨?_, ?_⟩) hW (fun r_ u_ H locs hp hW => ?_)
    · (try simp only [headSpec]); omega
    · (try simp only [headSpec]); omega
    obtain ⟨er, rfl⟩ := hp
    subst er
    by_cases hq9 : kHas t 1 = true
    · rw [if_pos hq9]
      refine lv_if_eq (tgt := 20) hx hb dX1_addAlternative_13 (by decide) (fun hz => absurd hz (by decide)) (fun _ => ?_)
      refine lv_iconst (v := 1) hx hb dX1_addAlternative_16 (by decide) ?_
      refine lv_goto (tgt := 21) hx hb dX1_addAlternative_17 (by decide) ?_
      refine g_xcallv (vx_runS (As := [.int (1)]) (rest := []) ⟨hx, hb, hml, hown, hts⟩ (mtX1_requireArgument l hl9 D w H.size 1) (va_cwS 1 hts (lw_S q573 q574 q34 q575) rfl rfl rfl (by decide +kernel) ⟨Nat.le_of_ble_eq_true rfl, Nat.le_of_ble_eq_true rfl⟩) (g_preS hW hK hE) rfl rfl hl.1 rfl (lv_room (Nat.le_of_ble_eq_true rfl)) dX1_addAlternative_21 ⟨?_, ?_⟩) hW (fun E ce q9 u_ H locs hp hW hxc1 hxc2 hxc3 => g_xout (hout _) hlocks hW (absurd hp.2.1 (by decide)) hxc1 hxc2 hxc3 ?_ ?_) (fun u_ H locs hp hW => ?_)
      · (try simp only [headSpec]); omega
      · (try simp only [headSpec]); omega
      · (try simp only [headSpec]); omega
      · (try simp only [headSpec]); omega
      obtain ⟨-, rfl⟩ := hp
      have hcr : 65 ≤ c9 ∧ c9 ≤ 68 := by unfold kKind at hk1; split at hk1; cases hk1; split at hk1; assumption; cases hk1
      obtain ⟨j, ej, hj4⟩ : ∃ j, c9 = 65 + j ∧ j < 4 := ⟨c9 - 65, by omega, by omega⟩
      have ec : c9 - 65 = j := by omega
      rw [ec]
      obtain ⟨ar4, als, hal4, hl4, hj⟩ := hS.alt hK (g_e0 hE hW)
      obtain ⟨mo4, hat4, -⟩ := id hal4
      obtain ⟨ar, xs, hal, ⟨hxl, hxs, ha3⟩, ⟨l2a, l2b⟩, hcl⟩ := hj j hj4
      obtain ⟨mo9, hat9, -⟩ := id hal
      refine lv_aload_n hx hb dX1_addAlternative_24 rfl (lv_at hl 0 rfl) ?_
      refine g_get (ci := 0) (v := .ref (rf 4)) (C := RX1) (T := TX1) (N := 11) hx hb hts in_X1 hown hK hW hS.1.1 rfl 2 (by decide) q356 (fun _ h9 => h9) rfl dX1_addAlternative_25 ?_
      refine lv_iload_n hx hb dX1_addAlternative_28 rfl (lv_at hl 1 rfl) ?_
      refine lv_bipush (v := 65) hx hb dX1_addAlternative_29 (by decide) ?_
      refine lv_isub hx hb dX1_addAlternative_31 ?_
      refine g_topi (y := nI j) (by rw [ej]; exact (by decide : ∀ j, j < 4 → nI (65 + j) - 65 = nI j) j hj4) ?_
      refine g_callFq (va_runF (cC := D.1 11) (hK.1 11 _ rfl).2 (As := [.int (nI j)]) (rest := []) ⟨hx, hb, hml, hown, hts⟩ (mtJ2_get l D w H.size (rf 4) ar4 (cp 4) als hal4 j (by omega)) (va_cwF 1 hts (lw_app (lw_in _ [788, 791, 793, 37] (by decide +kernel) (by decide +kernel)) (lw_meth q795)) rfl rfl rfl (fw_26 hE) (by decide +kernel) ⟨Nat.le_of_ble_eq_true rfl, Nat.le_of_ble_eq_true rfl⟩) (g_preV hW hK hE hat4 rfl) rfl rfl hl.1 rfl (lv_room (Nat.le_of_ble_eq_true rfl)) dX1_addAlternative_32 ⟨?_, ?_⟩) hW (fun r_ u_ H locs hp hW => ?_)
      · (try simp only [headSpec]); omega
      · (try simp only [headSpec]); omega
      obtain ⟨er, rfl⟩ := hp
      subst er
      refine va_castY (C := "java/util/ArrayList") hx hb hown (hts _ q1059) (nc_q242 hE) (g_Ob.rd (D := D) (w := w) (ci := 11) (Or.inl ⟨_, hat9⟩) rfl hK hE hW) dX1_addAlternative_37 ?_
      refine lv_astore_n (lv' := [(3, .ref (als.getD j 0)), (0, .ref x), (1, .int (nI c9)), (2, .ref st)]) hx hb dX1_addAlternative_40 rfl hl (by decide) rfl (fun ls hl => ?_)
      refine lv_aload_n hx hb dX1_addAlternative_41 rfl (lv_at hl 0 rfl) ?_
      refine g_callFi (va_runF (cC := D.1 11) (hK.1 11 _ rfl).2 (As := []) (rest := []) ⟨hx, hb, hml, hown, hts⟩ (mtJ2_size l D w H.size (als.getD j 0) ar (cp (5 + j)) xs hal) (va_cwF 0 hts (lw_app (lw_in _ [438, 441, 443, 37] (by decide +kernel) (by decide +kernel)) (lw_meth q445)) rfl rfl rfl (fw_24 hE) (by decide +kernel) ⟨Nat.le_of_ble_eq_true rfl, Nat.le_of_ble_eq_true rfl⟩) (g_preV hW hK hE hat9 rfl) rfl rfl hl.1 rfl (lv_room (Nat.le_of_ble_eq_true rfl)) dX1_addAlternative_42 ⟨?_, ?_⟩) hW (fun r_ u_ H locs hp hW => ?_)
      · (try simp only [headSpec]); omega
      · (try simp only [headSpec]); omega
      obtain ⟨er, rfl⟩ := hp
      subst er
      refine lv_iconst (v := 3) hx hb dX1_addAlternative_47 (by decide) ?_
      refine g_icmp_ge (x := xs.length) (y := 3) (tgt := 55) hx hb (by omega) (by omega) dX1_addAlternative_48 (by decide) (fun hc1 => ?_) (fun hc1 => ?_)
      · refine lv_iconst (v := 0) hx hb dX1_addAlternative_55 (by decide) ?_
        refine g_xcallv (vx_runS (As := [.int (0)]) (rest := []) ⟨hx, hb, hml, hown, hts⟩ (mtX1_requireState l hl9 D w H.size 0) (va_cwS 1 hts (lw_S q644 q645 q34 q646) rfl rfl rfl (by decide +kernel) ⟨Nat.le_of_ble_eq_true rfl, Nat.le_of_ble_eq_true rfl⟩) (g_preS hW hK hE) rfl rfl hl.1 rfl (lv_room (Nat.le_of_ble_eq_true rfl)) dX1_addAlternative_56 ⟨?_, ?_⟩) hW (fun E ce q9 u_ H locs hp hW hxc1 hxc2 hxc3 => g_xout (hout _) hlocks hW (⟨hp.2.2, Or.inr ⟨hp.1, ⟨hk1, hq9⟩, fun z => by omega⟩⟩) hxc1 hxc2 hxc3 ?_ ?_) (fun u_ H locs hp hW => ?_)
        · (try simp only [headSpec]); omega
        · (try simp only [headSpec]); omega
        · (try simp only [headSpec]); omega
        · (try simp only [headSpec]); omega
        exact absurd rfl hp.1
      · refine lv_iconst (v := 1) hx hb dX1_addAlternative_51 (by decide) ?_
        refine lv_goto (tgt := 56) hx hb dX1_addAlternative_52 (by decide) ?_
        refine g_xcallv (vx_runS (As := [.int (1)]) (rest := []) ⟨hx, hb, hml, hown, hts⟩ (mtX1_requireState l hl9 D w H.size 1) (va_cwS 1 hts (lw_S q644 q645 q34 q646) rfl rfl rfl (by decide +kernel) ⟨Nat.le_of_ble_eq_true rfl, Nat.le_of_ble_eq_true rfl⟩) (g_preS hW hK hE) rfl rfl hl.1 rfl (lv_room (Nat.le_of_ble_eq_true rfl)) dX1_addAlternative_56 ⟨?_, ?_⟩) hW (fun E ce q9 u_ H locs hp hW hxc1 hxc2 hxc3 => g_xout (hout _) hlocks hW (absurd hp.2.1 (by decide)) hxc1 hxc2 hxc3 ?_ ?_) (fun u_ H locs hp hW => ?_)
        · (try simp only [headSpec]); omega
        · (try simp only [headSpec]); omega
        · (try simp only [headSpec]); omega
        · (try simp only [headSpec]); omega
        obtain ⟨-, rfl⟩ := hp
        refine lv_aload_n hx hb dX1_addAlternative_59 rfl (lv_at hl 0 rfl) ?_
        refine lv_aload_n hx hb dX1_addAlternative_60 rfl (lv_at hl 3 rfl) ?_
        have en : g_ac xs.length (cp (5 + j)) = g_ac (A j).length (cp (5 + j)) := by rw [hxl]
        have es : g_as xs.length (cp (5 + j)) = g_as (A j).length (cp (5 + j)) := by rw [hxl]
        refine g_callFi (va_runF (cC := D.1 11) (hK.1 11 _ rfl).2 (As := [.ref st]) (rest := []) ⟨hx, hb, hml, hown, hts⟩ (mtJ2_add l D w H.size (als.getD j 0) ar (cp (5 + j)) xs hal 16 _ st _ _ (fun _ => g_mem_getD (fun i hi => (hxs.2 i (by omega)).ob)) hst.ob rfl (by decide) (by decide) (by omega)) (va_cwF 1 hts (lw_app (lw_in _ [239, 243, 245, 37] (by decide +kernel) (by decide +kernel)) (lw_meth q247)) rfl rfl rfl (fw_20 hE) (by decide +kernel) ⟨Nat.le_of_ble_eq_true rfl, Nat.le_of_ble_eq_true rfl⟩) (g_preV hW hK hE hat9 rfl) rfl rfl hl.1 rfl (lv_room (Nat.le_of_ble_eq_true rfl)) dX1_addAlternative_61 ⟨?_, ?_⟩) hW (fun r_ u2 H locs hp hW => ?_)
        · (try simp only [headSpec]); omega
        · (try simp only [headSpec]); omega
        obtain ⟨er, ar2, hal2, har2, hex⟩ := hp
        subst er
        have hS2 := hcl u2 ar2 _ _ (A j ++ [t]) hal2 har2 (hex.mono (fun z _ hz => hz.imp id (fun q => ⟨by omega, q.2⟩))) (hxs.app hst) (by rw [List.length_append]; show _ + 1 ≤ 3; omega)
        rw [hxl] at hS2
        have hy2 : yCh w lab u2 (lb lab w (5 + j)) := yCh.of hex (fun z _ hz => by unfold yM; rcases hz with hz | hz; rw [hz]; omega; rw [hz.2, l2b (by omega)]; omega) (5 + j)
        obtain ⟨mo8, hat8, -⟩ := id hal2
        refine lv_pop hx hb dX1_addAlternative_66 rfl ?_
        refine lv_aload_n hx hb dX1_addAlternative_67 rfl (lv_at hl 0 rfl) ?_
        refine g_callFi (va_runF (cC := D.1 11) (hK.1 11 _ rfl).2 (As := []) (rest := []) ⟨hx, hb, hml, hown, hts⟩ (mtJ2_size l D u2 H.size (als.getD j 0) ar2 _ (xs ++ [st]) hal2) (va_cwF 0 hts (lw_app (lw_in _ [438, 441, 443, 37] (by decide +kernel) (by decide +kernel)) (lw_meth q445)) rfl rfl rfl (fw_24 hE) (by decide +kernel) ⟨Nat.le_of_ble_eq_true rfl, Nat.le_of_ble_eq_true rfl⟩) (g_preV hW hK hE hat8 rfl) rfl rfl hl.1 rfl (lv_room (Nat.le_of_ble_eq_true rfl)) dX1_addAlternative_68 ⟨?_, ?_⟩) hW (fun r_ u_ H locs hp hW => ?_)
        · (try simp only [headSpec]); omega
        · (try simp only [headSpec]); omega
        obtain ⟨er, rfl⟩ := hp
        subst er
        refine g_topi (y := nI ((A j).length + 1)) (by rw [List.length_append, hxl]; rfl) ?_
        exact vx_ret (g_iret (v := nI ((A j).length + 1)) hx hb hr hlocks hW (⟨⟨⟨hk1, hq9⟩, by omega⟩, rfl, _, hS2, hy2⟩) (by omega) (by omega) dX1_addAlternative_73)
    · rw [if_neg hq9]
      refine lv_if_eq (tgt := 20) hx hb dX1_addAlternative_13 (by decide) (fun _ => ?_) (fun hz => absurd rfl hz)
      refine lv_iconst (v := 0) hx hb dX1_addAlternative_20 (by decide) ?_
      refine g_xcallv (vx_runS (As := [.int (0)]) (rest := []) ⟨hx, hb, hml, hown, hts⟩ (mtX1_requireArgument l hl9 D w H.size 0) (va_cwS 1 hts (lw_S q573 q574 q34 q575) rfl rfl rfl (by decide +kernel) ⟨Nat.le_of_ble_eq_true rfl, Nat.le_of_ble_eq_true rfl⟩) (g_preS hW hK hE) rfl rfl hl.1 rfl (lv_room (Nat.le_of_ble_eq_true rfl)) dX1_addAlternative_21 ⟨?_, ?_⟩) hW (fun E ce q9 u_ H locs hp hW hxc1 hxc2 hxc3 => g_xout (hout _) hlocks hW (⟨hp.2.2, Or.inl ⟨hp.1, fun z => hq9 z.2⟩⟩) hxc1 hxc2 hxc3 ?_ ?_) (fun u_ H locs hp hW => ?_)
      · (try simp only [headSpec]); omega
      · (try simp only [headSpec]); omega
      · (try simp only [headSpec]); omega
      · (try simp only [headSpec]); omega
      exact absurd rfl hp.1
set_option maxHeartbeats 4000000 in
set_option maxRecDepth 100000 in
/-- ShrinkYard.reset -/
theorem mtX1_reset (l : Launch) (D : va_G) (w : g_H) (sz : Nat) (lab : Nat → Nat) (x ac rn tt : Nat) (rf : Nat → Nat) (P : List mI) (C : List yC) (A : Nat → List (List Nat)) (cov : Nat → Bool) (K Q : List (List Nat)) (F : List (List Nat × List Nat × Int32)) (cp : Nat → Nat) (hS : g_SZ D w lab x rf P C A cov K Q ac F rn tt cp) : Met l yX1_reset (ws_ yX1_reset cX1_reset 2 (some .int)) ({ frames := 2, cells := 0, slots := 0, locals := 35 }) (g_Pc D [.ref x] w sz) (g_Qi D w sz (fun r u => r = nI rn ∧ ∃ l2, g_SZ D u l2 x rf P C A (fun _ => false) [] [] 0 [] 0 0 cp ∧ yCh w lab u l2)) (0) (0) (g_A w sz) := by
  refine Met.ofW (cc := cX1_reset) (maxL := 2) (ret := (some .int)) (by decide) rfl ?_
  intro p e s m args below meth c s₁ B hml hv
  obtain ⟨rfl, hI⟩ := hv
  have hx := B.exec
  have hb := B.bytes
  have hr := B.returns
  have hts := atoms_spec (ws := ws_ yX1_reset cX1_reset 2 (some .int)) B.pre
  have hts : ∀ w ∈ lw_all, w.before _ s = true := fun w h => hts w (List.mem_cons_of_mem _ h)
  have hown : s.vm.findClass RX1 = some m.cls := findClass_of_methodNamed B.named
  have hlocks := B.notSynchronized
  have hsz := hI.1
  subst hsz
  have hW := g_W.start hI
  have hK := g_K hI
  have hE := g_E hI
  have hl := lv_entry ([.ref x]) (n := 2) (by exact Nat.le_of_ble_eq_true rfl)
  rw [lg_entry_eq]
  generalize (lg_sl ([.ref x]) ++ List.replicate (2 - (lg_sl ([.ref x])).length) Slot.unset).toArray = ls at hl ⊢
  have hl : lv_has ls 2 [(0, .ref x)] := hl
  have x_1 : g_ex (fun q => q = x) w w := g_ex.rf
  refine lv_aload_n hx hb dX1_reset_0 rfl (lv_at hl 0 rfl) ?_
  refine g_get (ci := 0) (v := .int (nI rn)) (C := RX1) (T := TX1) (N := 11) hx hb hts in_X1 hown hK hW hS.1.1 rfl 8 (by decide) q362 (fun _ h9 => h9) rfl dX1_reset_1 ?_
  refine lv_istore_n (lv' := [(1, .int (nI rn)), (0, .ref x)]) hx hb dX1_reset_4 rfl hl (by decide) rfl (fun ls hl => ?_)
  refine lv_aload_n hx hb dX1_reset_5 rfl (lv_at hl 1 rfl) ?_
  refine lv_iconst (v := 0) hx hb dX1_reset_6 (by decide) ?_
  refine g_putf (ci := 0) (v := .int (0)) (ty := .int) (C := RX1) (T := TX1) (N := 11) hx hb hts in_X1 tyX1 tyX1_ok nmX1 hown hK hW hS.1.1 rfl 8 (by decide) q362 (fun _ h9 => h9) rfl (by decide +kernel) rfl rfl (Nat.le_of_ble_eq_true rfl) dX1_reset_7 (fun H locs hW => ?_)
  obtain ⟨w_2, ew_2⟩ : ∃ z__, z__ = g_put w x (.inr (0, [.ref (rf 2), .ref (rf 3), .ref (rf 4), .ref (rf 9), .ref (rf 10), .ref (rf 11), .ref (rf 12), .ref (rf 13), .int (0), .long (lN tt), .int (nI ac)])) := ⟨_, rfl⟩
  have hW := g_W.ren hW ew_2 rfl
  have h_3 : g_at w_2 x (.inr (0, [.ref (rf 2), .ref (rf 3), .ref (rf 4), .ref (rf 9), .ref (rf 10), .ref (rf 11), .ref (rf 12), .ref (rf 13), .int (0), .long (lN tt), .int (nI ac)])) := by rw [ew_2]; exact g_at.put_self hS.1.1.1
  have x_4 : g_ex (fun q => q = x) w w_2 := by rw [ew_2]; exact x_1.put (fun hz9 => rfl)
  refine lv_aload_n hx hb dX1_reset_10 rfl (lv_at hl 1 rfl) ?_
  refine lv_lconst (v := 0) hx hb dX1_reset_11 rfl ?_
  refine g_putf (ci := 0) (v := .long (0)) (ty := .long) (C := RX1) (T := TX1) (N := 11) hx hb hts in_X1 tyX1 tyX1_ok nmX1 hown hK hW h_3 rfl 9 (by decide) q363 (fun _ h9 => h9) rfl (by decide +kernel) rfl rfl (Nat.le_of_ble_eq_true rfl) dX1_reset_12 (fun H locs hW => ?_)
  obtain ⟨w_5, ew_5⟩ : ∃ z__, z__ = g_put w_2 x (.inr (0, [.ref (rf 2), .ref (rf 3), .ref (rf 4), .ref (rf 9), .ref (rf 10), .ref (rf 11), .ref (rf 12), .ref (rf 13), .int (0), .long (0), .int (nI ac)])) := ⟨_, rfl⟩
  have hW := g_W.ren hW ew_5 rfl
  have h_6 : g_at w_5 x (.inr (0, [.ref (rf 2), .ref (rf 3), .ref (rf 4), .ref (rf 9), .ref (rf 10), .ref (rf 11), .ref (rf 12), .ref (rf 13), .int (0), .long (0), .int (nI ac)])) := by rw [ew_5]; exact g_at.put_self h_3.1
  have x_7 : g_ex (fun q => q = x) w w_5 := by rw [ew_5]; exact x_4.put (fun hz9 => rfl)
  refine lv_aload_n hx hb dX1_reset_15 rfl (lv_at hl 1 rfl) ?_
  refine lv_iconst (v := 0) hx hb dX1_reset_16 (by decide) ?_
  refine g_putf (ci := 0) (v := .int (0)) (ty := .int) (C := RX1) (T := TX1) (N := 11) hx hb hts in_X1 tyX1 tyX1_ok nmX1 hown hK hW h_6 rfl 10 (by decide) q364 (fun _ h9 => h9) rfl (by decide +kernel) rfl rfl (Nat.le_of_ble_eq_true rfl) dX1_reset_17 (fun H locs hW => ?_)
  obtain ⟨w_8, ew_8⟩ : ∃ z__, z__ = g_put w_5 x (.inr (0, [.ref (rf 2), .ref (rf 3), .ref (rf 4), .ref (rf 9), .ref (rf 10), .ref (rf 11), .ref (rf 12), .ref (rf 13), .int (0), .long (0), .int (0)])) := ⟨_, rfl⟩
  have hW := g_W.ren hW ew_8 rfl
  have h_9 : g_at w_8 x (.inr (0, [.ref (rf 2), .ref (rf 3), .ref (rf 4), .ref (rf 9), .ref (rf 10), .ref (rf 11), .ref (rf 12), .ref (rf 13), .int (0), .long (0), .int (0)])) := by rw [ew_8]; exact g_at.put_self h_6.1
  have x_10 : g_ex (fun q => q = x) w w_8 := by rw [ew_8]; exact x_7.put (fun hz9 => rfl)
  refine lv_aload_n hx hb dX1_reset_20 rfl (lv_at hl 1 rfl) ?_
  refine g_get (ci := 0) (v := .ref (rf 10)) (C := RX1) (T := TX1) (N := 11) hx hb hts in_X1 hown hK hW h_9 rfl 4 (by decide) q358 (fun _ h9 => h9) rfl dX1_reset_21 ?_
  have hS1 := hS.obj (rn2 := 0) (tt2 := 0) (ac2 := 0) h_9 x_10 (by decide) (by decide) (Nat.zero_le _)
  have hy1 : yCh w lab w_8 lab := ⟨fun _ _ => rfl, x_10.mono (fun z _ hz => by unfold yM; rw [hz, hS.1.2]; omega)⟩
  obtain ⟨wa, n9, hbs, ⟨c1, c2⟩, hcl1⟩ := hS1.covd hK
  refine g_callv (va_runV (As := []) (rest := []) ⟨hx, hb, hml, hown, hts⟩ (mtJ3_clear l D w_8 H.size (rf 10) wa n9 (cp 10) cov hbs) (cwV 0 hts (lw_V q392 q393 q394 q39 q395) rfl rfl rfl (by decide +kernel) ⟨Nat.le_of_ble_eq_true rfl, Nat.le_of_ble_eq_true rfl⟩) (g_preV hW hK hE hbs.1 rfl) rfl rfl hl.1 rfl (lv_room (Nat.le_of_ble_eq_true rfl)) dX1_reset_24 ⟨Nat.le_of_ble_eq_true rfl, Nat.le_of_ble_eq_true rfl⟩) hW (fun u1 H locs hp hW => ?_)
  obtain ⟨hbs2, hex1⟩ := hp
  have hS2 := hcl1 u1 wa _ _ _ hbs2 (Or.inl rfl) hex1
  rw [cpU_id] at hS2
  have hy2 : yCh w_8 lab u1 (lb lab w_8 10) := yCh.of hex1 (fun z _ hz => by unfold yM; rcases hz with hz | hz <;> rw [hz] <;> omega) 10
  obtain ⟨kar, ks, hkl, -, ⟨k1, k2⟩, hcl2⟩ := hS2.kept hK (g_e0 hE hW)
  obtain ⟨mo1, hat1, -⟩ := id hkl
  refine lv_aload_n hx hb dX1_reset_27 rfl (lv_at hl 1 rfl) ?_
  refine g_get (ci := 0) (v := .ref (rf 11)) (C := RX1) (T := TX1) (N := 11) hx hb hts in_X1 hown hK hW hS2.1.1 rfl 5 (by decide) q359 (fun _ h9 => h9) rfl dX1_reset_28 ?_
  refine g_callFv (va_runF (cC := D.1 11) (hK.1 11 _ rfl).2 (As := []) (rest := []) ⟨hx, hb, hml, hown, hts⟩ (mtJ2_clear l D u1 H.size (rf 11) kar (cp 11) ks hkl) (va_cwF 0 hts (lw_app (lw_in _ [397, 400, 402, 37] (by decide +kernel) (by decide +kernel)) (lw_meth q404)) rfl rfl rfl (fw_22 hE) (by decide +kernel) ⟨Nat.le_of_ble_eq_true rfl, Nat.le_of_ble_eq_true rfl⟩) (g_preV hW hK hE hat1 rfl) rfl rfl hl.1 rfl (lv_room (Nat.le_of_ble_eq_true rfl)) dX1_reset_31 ⟨Nat.le_of_ble_eq_true rfl, Nat.le_of_ble_eq_true rfl⟩) hW (fun u2 H locs hp hW => ?_)
  obtain ⟨hkl2, hex2⟩ := hp
  have hS3 := hcl2 u2 kar _ [] [] hkl2 (Or.inl rfl) hex2 ⟨rfl, fun _ z => absurd z (Nat.not_lt_zero _)⟩ (fun _ z => by cases z) (by decide)
  rw [cpU_id] at hS3
  have hy3 : yCh u1 (lb lab w_8 10) u2 (lb (lb lab w_8 10) u1 11) := yCh.of hex2 (fun z _ hz => by unfold yM; rcases hz with hz | hz; rw [hz]; omega; rw [hz.2, k2 hz.1]; omega) 11
  obtain ⟨ns, qs, hll, -, ⟨q1, q2⟩, hcl3⟩ := hS3.que
  obtain ⟨⟨mo2, hat2⟩, -⟩ := id hll
  refine lv_aload_n hx hb dX1_reset_36 rfl (lv_at hl 1 rfl) ?_
  refine g_get (ci := 0) (v := .ref (rf 12)) (C := RX1) (T := TX1) (N := 11) hx hb hts in_X1 hown hK hW hS3.1.1 rfl 6 (by decide) q360 (fun _ h9 => h9) rfl dX1_reset_37 ?_
  refine g_callv (va_runV (As := []) (rest := []) ⟨hx, hb, hml, hown, hts⟩ (mtJ5_clear l D u2 H.size (rf 12) ns qs hll) (cwV 0 hts (lw_V q410 q407 q2221 q41 q409) rfl rfl rfl (by decide +kernel) ⟨Nat.le_of_ble_eq_true rfl, Nat.le_of_ble_eq_true rfl⟩) (g_preV hW hK hE hat2 rfl) rfl rfl hl.1 rfl (lv_room (Nat.le_of_ble_eq_true rfl)) dX1_reset_40 ⟨Nat.le_of_ble_eq_true rfl, Nat.le_of_ble_eq_true rfl⟩) hW (fun u3 H locs hp hW => ?_)
  obtain ⟨hll2, hex3⟩ := hp
  have hS4 := hcl3 u3 [] [] [] hll2 (fun _ z => by cases z) hex3 ⟨rfl, fun _ z => absurd z (Nat.not_lt_zero _)⟩
  have hy4 := yCh.of (lab := lb (lb lab w_8 10) u1 11) hex3 (fun z _ hz => by unfold yM; rcases hz with hz | hz; rw [hz]; omega; rw [q2 z hz]; omega) 12
  obtain ⟨far, fs, hfl, -, ⟨f1, f2⟩, hcl4⟩ := hS4.fnd hK (g_e0 hE hW)
  obtain ⟨mo3, hat3, -⟩ := id hfl
  refine lv_aload_n hx hb dX1_reset_43 rfl (lv_at hl 1 rfl) ?_
  refine g_get (ci := 0) (v := .ref (rf 13)) (C := RX1) (T := TX1) (N := 11) hx hb hts in_X1 hown hK hW hS4.1.1 rfl 7 (by decide) q361 (fun _ h9 => h9) rfl dX1_reset_44 ?_
  refine g_callFv (va_runF (cC := D.1 11) (hK.1 11 _ rfl).2 (As := []) (rest := []) ⟨hx, hb, hml, hown, hts⟩ (mtJ2_clear l D u3 H.size (rf 13) far (cp 13) fs hfl) (va_cwF 0 hts (lw_app (lw_in _ [397, 400, 402, 37] (by decide +kernel) (by decide +kernel)) (lw_meth q404)) rfl rfl rfl (fw_22 hE) (by decide +kernel) ⟨Nat.le_of_ble_eq_true rfl, Nat.le_of_ble_eq_true rfl⟩) (g_preV hW hK hE hat3 rfl) rfl rfl hl.1 rfl (lv_room (Nat.le_of_ble_eq_true rfl)) dX1_reset_47 ⟨Nat.le_of_ble_eq_true rfl, Nat.le_of_ble_eq_true rfl⟩) hW (fun u4 H locs hp hW => ?_)
  obtain ⟨hfl2, hex4⟩ := hp
  have hS5 := hcl4 u4 far _ [] [] hfl2 (Or.inl rfl) hex4 ⟨rfl, fun _ z => absurd z (Nat.not_lt_zero _)⟩ (by decide)
  rw [cpU_id] at hS5
  have hy5 := yCh.of (lab := lb (lb (lb lab w_8 10) u1 11) u2 12) hex4 (fun z _ hz => by unfold yM; rcases hz with hz | hz; rw [hz]; omega; rw [hz.2, f2 hz.1]; omega) 13
  refine lv_iload_n hx hb dX1_reset_52 rfl (lv_at hl 0 rfl) ?_
  exact g_iret (v := nI rn) hx hb hr hlocks hW (⟨rfl, _, hS5, (((hy1.tr hy2).tr hy3).tr hy4).tr hy5⟩) (by omega) (by omega) dX1_reset_53
