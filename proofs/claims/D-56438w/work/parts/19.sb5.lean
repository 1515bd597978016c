/-! the JDK: StringBuilder.toString -/
set_option maxRecDepth 100000
set_option maxHeartbeats 4000000 in
set_option maxRecDepth 100000 in
/-- StringBuilder.toString -/
theorem mtJ23_toString (l : Launch) (D : va_G) (w : g_H) (sz : Nat) (b ba cap : Nat) (ml : Int32) (t : List Nat) (hs : g_SB D w b ba ml t cap) (ht : t.length < 1000) : Met l yJ23_toString (ws_ yJ23_toString cJ23_toString 1 (some (.object "java/lang/String"))) ({ frames := 6, cells := 2, slots := 4 + t.length, locals := 171 }) (g_Pc D [.ref b] w sz) (g_Qq D w sz (fun r u => ∃ a, r = some a ∧ a ∉ w.1 ∧ g_Str D u a t ∧ g_ex (fun _ => False) w u)) (2) (4 + t.length) (g_A w sz) := by
  refine Met.ofW (cc := cJ23_toString) (maxL := 1) (ret := (some (.object "java/lang/String"))) (by decide) rfl ?_
  intro p e s m args below meth c s₁ B hml hv
  obtain ⟨rfl, hI⟩ := hv
  have hx := B.exec
  have hb := B.bytes
  have hr := B.returns
  have hts := atoms_spec (ws := ws_ yJ23_toString cJ23_toString 1 (some (.object "java/lang/String"))) B.pre
  have hts : ∀ w ∈ lw_all, w.before _ s = true := fun w h => hts w (List.mem_cons_of_mem _ h)
  have hown : s.vm.findClass RJ23 = some m.cls := findClass_of_methodNamed B.named
  have hlocks := B.notSynchronized
  have hsz := hI.1
  subst hsz
  have hW := g_W.start hI
  have hK := g_K hI
  have hE := g_E hI
  have hl := lv_entry ([.ref b]) (n := 1) (by exact Nat.le_of_ble_eq_true rfl)
  rw [lg_entry_eq]
  generalize (lg_sl ([.ref b]) ++ List.replicate (1 - (lg_sl ([.ref b])).length) Slot.unset).toArray = ls at hl ⊢
  have hl : lv_has ls 1 [(0, .ref b)] := hl
  have hs0 := hs
  obtain ⟨hs1, ⟨f, hs2, hs3, hs4⟩, hs5, hs6, hs7⟩ := hs0
  have x_1 : g_ex (fun _ => False) w w := g_ex.rf
  refine g_newo (ci := 16) (C := RJ16) (T := TJ16) (N := 4) hx hb hts in_J16 tyJ16 tyJ16_ok hown q977 q978 q63 hK hW rfl [.null, .int (0), .int (0), .int (0)] (by decide +kernel) ?_ ?_ dJ23_toString_0 (fun o_2 H hq hW => ?_)
  · show _ ≤ 2; omega
  · show _ ≤ 4 + t.length; omega
  have ho_2 := hq
  obtain ⟨w_3, ew_3⟩ : ∃ z__, z__ = g_push w o_2 (.inr (16, [.null, .int (0), .int (0), .int (0)])) := ⟨_, rfl⟩
  have hW := g_W.ren hW ew_3 rfl
  have h_4 : g_at w_3 b (.inr (15, [.ref ba, .int (0), .int (ml), .int (nI t.length)])) := by rw [ew_3]; exact hs1.push hq
  have h_5 : g_at w_3 ba (.inl (D.1 101, cap, .inl (f))) := by rw [ew_3]; exact hs2.push hq
  have h_6 : g_at w_3 o_2 (.inr (16, [.null, .int (0), .int (0), .int (0)])) := by rw [ew_3]; exact g_at.push_self
  have x_7 : g_ex (fun _ => False) w w_3 := by rw [ew_3]; exact x_1.push hq
  refine lv_dup hx hb dJ23_toString_3 rfl ?_
  refine lv_aload_n hx hb dJ23_toString_4 rfl (lv_at hl 0 rfl) ?_
  have hsb : g_SB D w_3 b ba ml t cap := ⟨h_4, ⟨f, h_5, hs3, hs4⟩, hs5, hs6, hs7⟩
  refine g_callv (va_runI (As := [.ref b]) (rest := [.ref o_2]) ⟨hx, hb, hml, hown, hts⟩ (mtJ16_init l D w_3 H.size o_2 h_6 b ba cap ml t hsb ht) (cwI 1 hts (lw_meth q981) rfl rfl rfl (hts _ q63) (hts _ q979) (hts _ q980) rfl (by decide +kernel) ⟨Nat.le_of_ble_eq_true rfl, Nat.le_of_ble_eq_true rfl⟩) (g_preS hW hK hE) rfl rfl hl.1 rfl (lv_room (Nat.le_of_ble_eq_true rfl)) dJ23_toString_5 ⟨?_, ?_⟩) hW (fun u1 H locs hp hW => ?_)
  · show _ ≤ 2; omega
  · show _ ≤ 4 + t.length; omega
  obtain ⟨hst, hex⟩ := hp
  have hx0 : g_ex (fun _ => False) w u1 := x_7.trM hex (fun z hz1 hz2 => ho_2 (by rw [← hz2]; exact hz1))
  exact g_qret (v := some o_2) hx hb hr (Or.inl ⟨_, rfl⟩) hlocks hW ⟨o_2, rfl, ho_2, hst, hx0⟩ (by omega) (by omega) dJ23_toString_8
