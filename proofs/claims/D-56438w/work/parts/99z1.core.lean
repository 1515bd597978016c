/-! the law, from its entry to its last two instructions *
-/
set_option maxRecDepth 100000
theorem law_core {p : Program} {l : Launch} {e : Env} {R : Room} {s : State} {m : MethodId} {below : List Frame} {meth : Method} {c : Code} {Q : State → Prop} {b L : Nat} {xs : Nat → Int32} (hl9 : l.stackTraces = false) (hL : L ≤ 320) (hx : p.tables.exec = Jvm.exec) (hb : c.code = cL_law) (hml : c.maxLocals = 8) (hown : s.vm.findClass RX0 = some m.cls) (hok : e_ok s b) (hX : va_X b L xs s s.heap) (hbl : b < s.heap.size) (hRf : 16 ≤ R.frames) (hRl : 595 ≤ R.locals) (c9 s9 : Nat) (hc : 37 + lTc xs L (L + 1) 0 z00 ≤ c9) (hs : 830 + lTs xs L (L + 1) 0 z00 ≤ s9) (hRc : c9 ≤ R.cells) (hRs : s9 ≤ R.slots) {ls : Array Slot} (hl : lv_has ls 8 [(0, .ref b)])
    (kk : ∀ (cells slots : Nat) (H : Heap) (locs : List Loc) (ls : Array Slot), cells ≤ c9 → slots ≤ s9 → va_S (fun q => s.heap.size ≤ q) s.heap H locs → W p l e R s m #[Value.ref b] below meth c H locs cells slots Q (F0 m 1841 ls [])) :
    W p l e R s m #[Value.ref b] below meth c s.heap [] 0 0 Q (F0 m 0 ls []) := by
  obtain ⟨D, hK, hE⟩ := e_env hok
  have hts : ∀ w ∈ lw_all, w.before #[Value.ref b] s = true := fun w hw => hok.1 w (lw_all_tbl hw)
  have hbA : ¬ (fun q : Nat => s.heap.size ≤ q) b := Nat.not_le.mpr hbl
  obtain ⟨w0, hw0⟩ : ∃ w : g_H, w.1 = [] := ⟨([], fun _ => .inr (0, [])), rfl⟩
  have hpl : va_pl w0.1 w0.2 = [] := by rw [hw0]; rfl
  have hW : g_W D (fun q => s.heap.size ≤ q) s.heap s.heap [] w0 := by
    unfold g_W
    rw [hpl]
    exact ⟨fun k q h => by simp at h, ⟨fun i j p q h => by simp at h, fun k q h => by simp at h⟩, va_S.rf, fun _ h => h⟩
  refine lw_start (D := D) hx hb hts hown hK hE hml (Nat.le_trans (Nat.le_of_ble_eq_true rfl) hRf) (Nat.le_trans (Nat.le_of_ble_eq_true rfl) hRl) b (by omega) (by omega) (fun x y o w2 l2 th2 cells slots H locs ls hR hcl hsl hW hl => ?_) 1 w0 0 0 s.heap [] ls (by decide) (Nat.le_refl _) (Nat.le_refl _) hW hl
  exact lp_law (D := D) hx hb hts hown hK hE hml (Nat.le_trans (Nat.le_of_ble_eq_true rfl) hRf) (Nat.le_trans (Nat.le_of_ble_eq_true rfl) hRl) hl9 b L xs hX hbl hbA x y o hL c9 s9 hRc hRs (fun w3 cells slots H locs ls hcl hsl hW => kk cells slots H locs ls hcl hsl hW.2.2.1) (L + 1) 0 z00 w2 l2 th2 37 830 cells slots H locs ls (by omega) (Nat.zero_le _) v_00 (Nat.zero_le _) hc hs hR hcl hsl hW hl

