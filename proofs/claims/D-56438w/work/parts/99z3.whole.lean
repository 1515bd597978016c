/-! the law's walk, whole: what is left is the room *
-/
/-- the room that a script of L ints xs takes -/
def whole_room : Prop := ∀ (L : Nat) (xs : Nat → Int32), L ≤ 320 → 37 + lTc xs L (L + 1) 0 z00 ≤ 600384 ∧ 830 + lTs xs L (L + 1) 0 z00 ≤ 7287786
theorem whole_walk (hroom : whole_room) {p : Program} {e : Env} {s : State} {m : MethodId} {below : List Frame} {meth : Method} {c : Code} (l : Launch) (hflags : l.flags = flags0) {b L : Nat} {xs : Nat → Int32} (hL : L ≤ 320) (C0 : lw_At p s m meth c b L xs) : W p l e room_1 s m #[Value.ref b] below meth c s.heap [] 0 0 (lw_Z below #[Value.ref b] s) (entryFrame m ([Value.ref b] : List Value).toArray 8) := by
  obtain ⟨hx, hb, hr, hml, hown, hts, hX, hbl, hlocks, hgv⟩ := id C0
  have hl := lv_entry ([.ref b]) (n := 8) (Nat.le_of_ble_eq_true rfl)
  rw [lg_entry_eq]
  generalize (lg_sl ([.ref b]) ++ List.replicate (8 - (lg_sl ([.ref b])).length) Slot.unset).toArray = ls at hl ⊢
  have hl : lv_has ls 8 [(0, .ref b)] := hl
  have hl9 : l.stackTraces = false := by unfold Launch.stackTraces; rw [hflags]; decide
  obtain ⟨h1, h2⟩ := hroom L xs hL
  refine law_core (R := room_1) hl9 hL hx hb hml hown ⟨hts, hgv⟩ hX hbl (Nat.le_of_ble_eq_true rfl) (Nat.le_of_ble_eq_true rfl) 600384 7287786 h1 h2 (Nat.le_refl _) (Nat.le_refl _) hl (fun cells slots H locs ls hcl hsl hS => ?_)
  refine va_forget (fun q hq => hS.2.2 q hq) ?_
  refine W.widen (k := 600384) (n := 7287786) hcl hsl ?_
  refine lv_iconst (v := 1) hx hb dL_law_1841 (by decide) ?_
  exact lw_ret hx hb hr hlocks dL_law_1842
