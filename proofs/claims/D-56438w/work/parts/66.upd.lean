/-! what a change of one part of the yard leaves: lists, queue, object -/
set_option maxRecDepth 100000
theorem g_e0 {D : va_G} {A : Nat → Prop} {s : State} {H : Heap} {locs : List Loc} {w : g_H} (hE : g_Env D A s) (hW : g_W D A s.heap H locs w) : D.2 1005 0 ∉ w.1 := fun h => by
  obtain ⟨cell, -, -, -, -, -, -, hn⟩ := hE.2.2.2.1
  exact hn (hW.inA h)
section UP
variable {D : va_G} {w w' : g_H} {M : Nat → Prop} {lab lab' : Nat → Nat} {a x fq ac rn tt cap : Nat} {rf : Nat → Nat} {P : List mI} {C : List yC} {A : Nat → List (List Nat)} {cov : Nat → Bool} {K Q : List (List Nat)} {F : List (List Nat × List Nat × Int32)} {cp : Nat → Nat}
theorem cAL.new {ar ar2 k cap2 : Nat} {xs xs2 : List Nat} (hal : g_AL D w a ar xs cap) (la : lab a = k) (lar : 0 < cap → lab ar = k) (e0 : D.2 1005 0 ∉ w.1) (hal2 : g_AL D w' a ar2 xs2 cap2) (h2 : ar2 = ar ∨ ar2 ∉ w.1) : cAL D w' (lb lab w k) k a xs2 cap2 := by
  obtain ⟨mo, h1, -, -, h4⟩ := id hal
  refine ⟨ar2, hal2, (lb_in _ h1.1).trans la, fun _ => ?_⟩
  by_cases hc : ar2 ∈ w.1
  · rcases h2 with h2 | h2
    · rw [lb_in _ hc, h2]
      refine lar ?_
      rcases h4 with ⟨-, h4⟩ | ⟨h4, -⟩
      · exact absurd (by rw [← h4, ← h2]; exact hc) e0
      · exact h4
    · exact absurd hc h2
  · exact lb_out hc
theorem g_ALM {ar k : Nat} (la : lab a = k) (lar : 0 < cap → lab ar = k) : ∀ z, z ∈ w.1 → (z = a ∨ (0 < cap ∧ z = ar)) → lab z = k := fun z _ hz => by
  rcases hz with hz | ⟨h0, hz⟩
  · rw [hz]; exact la
  · rw [hz]; exact lar h0
/-- the yard's own fields -/
theorem g_SZ.obj {ac2 rn2 tt2 : Nat} (h : g_SZ D w lab x rf P C A cov K Q ac F rn tt cp) (hx : g_at w' x (.inr (0, [.ref (rf 2), .ref (rf 3), .ref (rf 4), .ref (rf 9), .ref (rf 10), .ref (rf 11), .ref (rf 12), .ref (rf 13), .int (nI rn2), .long (lN tt2), .int (nI ac2)]))) (q : g_ex (fun q => q = x) w w') (b1 : rn2 < 100000) (b2 : tt2 < 100000000) (b3 : ac2 ≤ C.length) : g_SZ D w' lab x rf P C A cov K Q ac2 F rn2 tt2 cp := by
  obtain ⟨-, g2, g3, g4, g5, g6, g7, g8, g9, k1, k2, -⟩ := h.parts q (g_mut.obj h.1.1) (fun _ _ => rfl) 1 (fun z _ hz => by rw [hz]; exact h.1.2)
  exact ⟨⟨hx, h.1.2⟩, g2 (by decide), g3 (by decide), g4 (Or.inl (by decide)), g5 (by decide), g6 (by decide), g7 (by decide), g8 (by decide), g9 (by decide), k1, k2, b1, b2, b3⟩
/-- covered -/
theorem g_SZ.covd {s : State} (hK : va_K D gCl (gT D) s) (h : g_SZ D w lab x rf P C A cov K Q ac F rn tt cp) : ∃ wa n, g_BS D w (rf 10) wa cov n (cp 10) ∧ (lab (rf 10) = 10 ∧ lab wa = 10) ∧ ∀ (w' : g_H) (wa2 n2 cap : Nat) (cov2 : Nat → Bool), g_BS D w' (rf 10) wa2 cov2 n2 cap → (wa2 = wa ∨ wa2 ∉ w.1) → g_ex (fun q => q = rf 10 ∨ q = wa) w w' → g_SZ D w' (lb lab w 10) x rf P C A cov2 K Q ac F rn tt (cpU cp 10 cap) := by
  obtain ⟨-, -, -, -, -, ⟨wa, n, h1, h2, h3⟩, -⟩ := id h
  refine ⟨wa, n, h1, ⟨h2, h3⟩, fun w' wa2 n2 cap cov2 k1 k2 k3 => ?_⟩
  obtain ⟨g1, g2, g3, g4, g5, -, g7, g8, g9, gb⟩ := h.parts (lab' := lb lab w 10) k3 (h1.mut hK) lb_in 10 (fun z _ hz => by
    rcases hz with hz | hz <;> rw [hz] <;> assumption)
  exact ⟨g1 (by decide), g2 (by decide), g3 (by decide), (g4 (by decide)).cps (fun k _ _ => cpU_ne (by omega)), g5 (by decide), ⟨wa2, n2, by rw [cpU_self]; exact k1, (lb_in _ h1.1.1).trans h2, lb_or k2 h3⟩, g7 (by decide), g8 (by decide), g9 (by decide), gb⟩
/-- the queue -/
theorem g_SZ.que (h : g_SZ D w lab x rf P C A cov K Q ac F rn tt cp) : ∃ ns qs, g_LL D w (rf 12) ns qs ∧ g_Strs D w qs (Q.map txt) ∧ (lab (rf 12) = 12 ∧ ∀ n ∈ ns, lab n = 12) ∧ ∀ (w' : g_H) (ns2 qs2 : List Nat) (Q2 : List (List Nat)), g_LL D w' (rf 12) ns2 qs2 → (∀ n ∈ ns2, n ∈ ns ∨ n ∉ w.1) → g_ex (fun q => q = rf 12 ∨ q ∈ ns) w w' → g_Strs D w qs2 (Q2.map txt) → g_SZ D w' (lb lab w 12) x rf P C A cov K Q2 ac F rn tt cp := by
  obtain ⟨-, -, -, -, -, -, -, ⟨qs, ⟨ns, h1, h2, h3⟩, h4⟩, -⟩ := id h
  refine ⟨ns, qs, h1, h4, ⟨h2, h3⟩, fun w' ns2 qs2 Q2 k1 k2 k3 k4 => ?_⟩
  obtain ⟨g1, g2, g3, g4, g5, g6, g7, -, g9, gb⟩ := h.parts (lab' := lb lab w 12) k3 h1.mut lb_in 12 (fun z _ hz => by
    rcases hz with hz | hz
    · rw [hz]; exact h2
    · exact h3 _ hz)
  have ha : rf 12 ∈ w.1 := by obtain ⟨⟨mo, h⟩, -⟩ := h1; exact h.1
  exact ⟨g1 (by decide), g2 (by decide), g3 (by decide), g4 (by decide), g5 (by decide), g6 (by decide), g7 (by decide), ⟨qs2, ⟨ns2, k1, (lb_in _ ha).trans h2, fun n hn => (k2 n hn).elim (fun z => (by unfold lb; split; exact h3 n z; rfl)) lb_out⟩, h1.mut.strs k4 k3⟩, g9 (by decide), gb⟩
/-- kept -/
theorem g_SZ.kept {s : State} (hK : va_K D gCl (gT D) s) (h : g_SZ D w lab x rf P C A cov K Q ac F rn tt cp) (e0 : D.2 1005 0 ∉ w.1) : ∃ ar xs, g_AL D w (rf 11) ar xs (cp 11) ∧ (xs.length = K.length ∧ g_Strs D w xs (K.map txt) ∧ ∀ ys ∈ K, sDg ys) ∧ (lab (rf 11) = 11 ∧ (0 < cp 11 → lab ar = 11)) ∧ ∀ (w' : g_H) (ar2 cap : Nat) (xs2 : List Nat) (K2 : List (List Nat)), g_AL D w' (rf 11) ar2 xs2 cap → (ar2 = ar ∨ ar2 ∉ w.1) → g_ex (fun q => q = rf 11 ∨ (0 < cp 11 ∧ q = ar)) w w' → g_Strs D w xs2 (K2.map txt) → (∀ ys ∈ K2, sDg ys) → K2.length < 500 → g_SZ D w' (lb lab w 11) x rf P C A cov K2 Q ac F rn tt (cpU cp 11 cap) := by
  obtain ⟨-, -, -, -, -, -, ⟨xs, ⟨ar, h1, h2, h3⟩, h4, h5⟩, -, -, -⟩ := id h
  refine ⟨ar, xs, h1, ⟨h4.1.trans (List.length_map ..), h4, h5⟩, ⟨h2, h3⟩, fun w' ar2 cap xs2 K2 k1 k2 k3 k4 k5 k6 => ?_⟩
  obtain ⟨g1, g2, g3, g4, g5, g6, -, g8, g9, gb⟩ := h.parts (lab' := lb lab w 11) k3 (h1.mut hK) lb_in 11 (g_ALM h2 h3)
  exact ⟨g1 (by decide), g2 (by decide), g3 (by decide), (g4 (by decide)).cps (fun k _ _ => cpU_ne (by omega)), g5 (by decide), g6 (by decide), ⟨xs2, by rw [cpU_self]; exact cAL.new h1 h2 h3 e0 k1 k2, (h1.mut hK).strs k4 k3, k5⟩, g8 (by decide), g9 (by decide), ⟨k6, gb.2⟩⟩
/-- the program -/
theorem g_SZ.prog {s : State} (hK : va_K D gCl (gT D) s) (h : g_SZ D w lab x rf P C A cov K Q ac F rn tt cp) (e0 : D.2 1005 0 ∉ w.1) : ∃ ar xs, g_AL D w (rf 2) ar xs (cp 2) ∧ (xs.length = P.length ∧ P.length ≤ 16 ∧ ∀ j, j < P.length → g_Ins D w (xs.getD j 0) (P.getD j mI0)) ∧ (lab (rf 2) = 2 ∧ (0 < cp 2 → lab ar = 2)) ∧ ∀ (w' : g_H) (ar2 cap : Nat) (xs2 : List Nat) (P2 : List mI), g_AL D w' (rf 2) ar2 xs2 cap → (ar2 = ar ∨ ar2 ∉ w.1) → g_ex (fun q => q = rf 2 ∨ (0 < cp 2 ∧ q = ar)) w w' → xs2.length = P2.length → P2.length ≤ 16 → (∀ j, j < P2.length → g_Ins D w (xs2.getD j 0) (P2.getD j mI0)) → g_SZ D w' (lb lab w 2) x rf P2 C A cov K Q ac F rn tt (cpU cp 2 cap) := by
  obtain ⟨-, ⟨xs, ⟨ar, h1, h2, h3⟩, h4, h5, h6⟩, -, -, -, -, -, -, -, -⟩ := id h
  refine ⟨ar, xs, h1, ⟨h4, h5, h6⟩, ⟨h2, h3⟩, fun w' ar2 cap xs2 P2 k1 k2 k3 k4 k5 k6 => ?_⟩
  obtain ⟨g1, -, g3, g4, g5, g6, g7, g8, g9, gb⟩ := h.parts (lab' := lb lab w 2) k3 (h1.mut hK) lb_in 2 (g_ALM h2 h3)
  exact ⟨g1 (by decide), ⟨xs2, by rw [cpU_self]; exact cAL.new h1 h2 h3 e0 k1 k2, k4, k5, fun j hj => (h1.mut hK).ins (k6 j hj) k3⟩, g3 (by decide), (g4 (by decide)).cps (fun k _ _ => cpU_ne (by omega)), g5 (by decide), g6 (by decide), g7 (by decide), g8 (by decide), g9 (by decide), gb⟩
/-- the changes -/
theorem g_SZ.chgs {s : State} (hK : va_K D gCl (gT D) s) (h : g_SZ D w lab x rf P C A cov K Q ac F rn tt cp) (e0 : D.2 1005 0 ∉ w.1) : ∃ ar xs, g_AL D w (rf 3) ar xs (cp 3) ∧ (xs.length = C.length ∧ C.length ≤ 8 ∧ ∀ j, j < C.length → g_Ed w (xs.getD j 0) (C.getD j (0, 0, 0)).1 (C.getD j (0, 0, 0)).2.1 (C.getD j (0, 0, 0)).2.2) ∧ (lab (rf 3) = 3 ∧ (0 < cp 3 → lab ar = 3)) ∧ ∀ (w' : g_H) (ar2 cap : Nat) (xs2 : List Nat) (C2 : List yC), g_AL D w' (rf 3) ar2 xs2 cap → (ar2 = ar ∨ ar2 ∉ w.1) → g_ex (fun q => q = rf 3 ∨ (0 < cp 3 ∧ q = ar)) w w' → xs2.length = C2.length → C2.length ≤ 8 → (∀ j, j < C2.length → g_Ed w (xs2.getD j 0) (C2.getD j (0, 0, 0)).1 (C2.getD j (0, 0, 0)).2.1 (C2.getD j (0, 0, 0)).2.2) → ac ≤ C2.length → g_SZ D w' (lb lab w 3) x rf P C2 A cov K Q ac F rn tt (cpU cp 3 cap) := by
  obtain ⟨-, -, ⟨xs, ⟨ar, h1, h2, h3⟩, h4, h5, h6⟩, -, -, -, -, -, -, -⟩ := id h
  refine ⟨ar, xs, h1, ⟨h4, h5, h6⟩, ⟨h2, h3⟩, fun w' ar2 cap xs2 C2 k1 k2 k3 k4 k5 k6 k7 => ?_⟩
  obtain ⟨g1, g2, -, g4, g5, g6, g7, g8, g9, gb⟩ := h.parts (lab' := lb lab w 3) k3 (h1.mut hK) lb_in 3 (g_ALM h2 h3)
  exact ⟨g1 (by decide), g2 (by decide), ⟨xs2, by rw [cpU_self]; exact cAL.new h1 h2 h3 e0 k1 k2, k4, k5, fun j hj => (h1.mut hK).ed (k6 j hj) k3⟩, (g4 (by decide)).cps (fun k _ _ => cpU_ne (by omega)), g5 (by decide), g6 (by decide), g7 (by decide), g8 (by decide), g9 (by decide), ⟨gb.1, gb.2.1, gb.2.2.1, gb.2.2.2.1, k7⟩⟩
/-- the findings -/
theorem g_SZ.fnd {s : State} (hK : va_K D gCl (gT D) s) (h : g_SZ D w lab x rf P C A cov K Q ac F rn tt cp) (e0 : D.2 1005 0 ∉ w.1) : ∃ ar xs, g_AL D w (rf 13) ar xs (cp 13) ∧ (xs.length = F.length ∧ g_Fins D w xs F) ∧ (lab (rf 13) = 13 ∧ (0 < cp 13 → lab ar = 13)) ∧ ∀ (w' : g_H) (ar2 cap : Nat) (xs2 : List Nat) (F2 : List (List Nat × List Nat × Int32)), g_AL D w' (rf 13) ar2 xs2 cap → (ar2 = ar ∨ ar2 ∉ w.1) → g_ex (fun q => q = rf 13 ∨ (0 < cp 13 ∧ q = ar)) w w' → g_Fins D w xs2 F2 → F2.length < 500 → g_SZ D w' (lb lab w 13) x rf P C A cov K Q ac F2 rn tt (cpU cp 13 cap) := by
  obtain ⟨-, -, -, -, -, -, -, -, ⟨xs, ⟨ar, h1, h2, h3⟩, h4⟩, -⟩ := id h
  refine ⟨ar, xs, h1, ⟨h4.1, h4⟩, ⟨h2, h3⟩, fun w' ar2 cap xs2 F2 k1 k2 k3 k4 k5 => ?_⟩
  obtain ⟨g1, g2, g3, g4, g5, g6, g7, g8, -, gb⟩ := h.parts (lab' := lb lab w 13) k3 (h1.mut hK) lb_in 13 (g_ALM h2 h3)
  exact ⟨g1 (by decide), g2 (by decide), g3 (by decide), (g4 (by decide)).cps (fun k _ _ => cpU_ne (by omega)), g5 (by decide), g6 (by decide), g7 (by decide), g8 (by decide), ⟨xs2, by rw [cpU_self]; exact cAL.new h1 h2 h3 e0 k1 k2, (h1.mut hK).fins k4 k3⟩, ⟨gb.1, k5, gb.2.2⟩⟩
/-- one symbol's texts -/
theorem g_SZ.alt {s : State} (hK : va_K D gCl (gT D) s) (h : g_SZ D w lab x rf P C A cov K Q ac F rn tt cp) (e0 : D.2 1005 0 ∉ w.1) : ∃ ar4 als, g_AL D w (rf 4) ar4 als (cp 4) ∧ als.length = 4 ∧ ∀ j, j < 4 → ∃ ar xs, g_AL D w (als.getD j 0) ar xs (cp (5 + j)) ∧ (xs.length = (A j).length ∧ g_Strs D w xs (A j) ∧ (A j).length ≤ 3) ∧ (lab (als.getD j 0) = 5 + j ∧ (0 < cp (5 + j) → lab ar = 5 + j)) ∧ ∀ (w' : g_H) (ar2 cap : Nat) (xs2 : List Nat) (A2 : List (List Nat)), g_AL D w' (als.getD j 0) ar2 xs2 cap → (ar2 = ar ∨ ar2 ∉ w.1) → g_ex (fun q => q = als.getD j 0 ∨ (0 < cp (5 + j) ∧ q = ar)) w w' → g_Strs D w xs2 A2 → A2.length ≤ 3 → g_SZ D w' (lb lab w (5 + j)) x rf P C (fun i => if i = j then A2 else A i) cov K Q ac F rn tt (cpU cp (5 + j) cap) := by
  obtain ⟨-, -, -, ⟨als, ys, ⟨ar4, a1, a2, a3⟩, a4, a5⟩, -⟩ := id h
  refine ⟨ar4, als, a1, a4, fun j hj => ?_⟩
  obtain ⟨⟨ar, h1, h2, h3⟩, h4, h5⟩ := a5 j hj
  refine ⟨ar, ys j, h1, ⟨h4.1, h4, h5⟩, ⟨h2, h3⟩, fun w' ar2 cap xs2 A2 k1 k2 k3 k4 k5 => ?_⟩
  have hM := g_ALM (w := w) h2 h3
  have hm := h1.mut hK
  obtain ⟨g1, g2, g3, -, g5, g6, g7, g8, g9, gb⟩ := h.parts (lab' := lb lab w (5 + j)) k3 hm lb_in (5 + j) hM
  have c2 : ∀ i, i ≠ 5 + j → cpU cp (5 + j) cap i = cp i := fun i hi => cpU_ne hi
  refine ⟨g1 (by omega), by rw [c2 2 (by omega)]; exact g2 (by omega), by rw [c2 3 (by omega)]; exact g3 (by omega), ⟨als, fun i => if i = j then xs2 else ys i, by rw [c2 4 (by omega)]; exact cAL.keep ⟨ar4, a1, a2, a3⟩ k3 lb_in (fun z hz hq => by rw [hM z hz hq]; omega), a4, fun i hi => ?_⟩, by rw [c2 9 (by omega)]; exact g5 (by omega), by rw [c2 10 (by omega)]; exact g6 (by omega), by rw [c2 11 (by omega)]; exact g7 (by omega), g8 (by omega), by rw [c2 13 (by omega)]; exact g9 (by omega), gb⟩
  show cAL D w' (lb lab w (5 + j)) (5 + i) (als.getD i 0) (if i = j then xs2 else ys i) (cpU cp (5 + j) cap (5 + i)) ∧ g_Strs D w' (if i = j then xs2 else ys i) (if i = j then A2 else A i) ∧ (if i = j then A2 else A i).length ≤ 3
  by_cases hij : i = j
  · subst hij
    rw [if_pos rfl, if_pos rfl, cpU_self]
    exact ⟨cAL.new h1 h2 h3 e0 k1 k2, hm.strs k4 k3, k5⟩
  · rw [if_neg hij, if_neg hij, c2 _ (by omega)]
    obtain ⟨b1, b2, b3⟩ := a5 i hi
    exact ⟨b1.keep k3 lb_in (fun z hz hq => by rw [hM z hz hq]; omega), hm.strs b2 k3, b3⟩
end UP
