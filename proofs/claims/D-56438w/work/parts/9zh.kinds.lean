/-! ROOM 34: cheap codes along alive edges; the kinds of programs *
-/
set_option maxRecDepth 100000
theorem aw_cheap {P : List mI} {c : Int32} (h : awB P c = 0) : ∀ xs, sDg xs → mFails P xs c = true → ∃ n t, n ≤ 63 ∧ rI P xs n rZ = some t ∧ rF P c t ∧ t.2.2 ≤ gR P := by
  intro xs hd hf
  obtain ⟨n, hx⟩ := awT_of hd hf
  obtain ⟨t, ht⟩ := awT_time hx (Nat.le_refl n)
  rw [Nat.sub_self] at ht
  refine ⟨n, t, by have := ht.2.2.2; omega, ht.2.1, rT_zero ht.2.2.1, ?_⟩
  obtain ⟨l, l1, l2, l3⟩ := rd_le n t ht.2.1 (fun i j s s2 h1 h2 h3 h4 e => by
    obtain ⟨k, u, -, -, -, k4⟩ := tour_one (⟨hx, h1, by omega, s.1, ⟨s, h3, rfl⟩, ⟨s2, h4, e.symm⟩⟩ : aTour P c xs n i j)
    exact awK_none h u k4)
  rw [← l1]
  exact sm_nodup l2 (fun u hu => (l3 u hu).1)
theorem gR_le (P : List mI) : gR P ≤ gQ P := by
  unfold gR gQ
  refine sm_le (fun u _ => ?_)
  by_cases q : (P.getD u mI0).1 = 0
  · rw [b1_t q, b1_t ⟨by omega, by omega, by omega⟩]
    exact Nat.le_refl _
  · rw [b1_f q]; exact Nat.zero_le _
/-- nodes that read or sum are counted -/
theorem gQ_nodes {P : List mI} {l : List Nat} (hd : l.Nodup) (h : ∀ u ∈ l, u < P.length ∧ (P.getD u mI0).1 < 4) : l.length ≤ gQ P :=
  sm_nodup (p := fun u => (P.getD u mI0).1 ≠ 4 ∧ (P.getD u mI0).1 ≠ 5 ∧ (P.getD u mI0).1 ≠ 7) hd (fun u hu => ⟨(h u hu).1, by have := (h u hu).2; omega, by have := (h u hu).2; omega, by have := (h u hu).2; omega⟩)
theorem nodup3 {a b c : Nat} (h1 : a ≠ b) (h2 : a ≠ c) (h3 : b ≠ c) : [a, b, c].Nodup :=
  List.nodup_cons.mpr ⟨fun z => (List.mem_cons.mp z).elim h1 (fun z => h2 (List.mem_singleton.mp z)), List.nodup_cons.mpr ⟨fun z => h3 (List.mem_singleton.mp z), List.nodup_cons.mpr ⟨List.not_mem_nil, List.nodup_nil⟩⟩⟩
/-- one sum at most -/
def pUni (P : List mI) : Prop := ∀ u v, u < P.length → v < P.length → (P.getD u mI0).1 = 3 → (P.getD v mI0).1 = 3 → u = v
/-- T1, T2, T3 or one of three special kinds -/
theorem kinds {P : List mI} {c : Int32} (hB : awB P c ≤ 1) : (uOnce P c ∨ ∃ md rk, uRk P c 3 md rk) ∨ (pOne P ∧ ¬ pUni P ∧ ∃ r, r < P.length ∧ (P.getD r mI0).1 = 0) ∨ (¬ pOne P ∧ ¬ pPure P) ∨ ¬ pTwoR P := by
  by_cases h1 : pOne P
  · by_cases hr : ∃ r, r < P.length ∧ (P.getD r mI0).1 = 0
    · by_cases h2 : pUni P
      · left
        obtain ⟨r, r1, r2⟩ := hr
        have hra : ∀ u, u < P.length → (P.getD u mI0).1 = 0 → (P.getD u mI0).2.1 = (P.getD r mI0).2.1 := fun u hu h0 => by rw [h1 u r hu r1 h0 r2]
        by_cases h3 : ∃ u, u < P.length ∧ (P.getD u mI0).1 = 3 ∧ (P.getD u mI0).2.2.2 = (P.getD r mI0).2.1 ∧ (P.getD u mI0).2.1 ≠ (P.getD r mI0).2.1
        · obtain ⟨u, u1, u2, u3, u4⟩ := h3
          right
          refine T2 (ra := (P.getD r mI0).2.1) (rb := (P.getD u mI0).2.1) hB h1 ⟨Ne.symm u4, fun v hv => ⟨hra v hv, fun h => ?_⟩, h2⟩
          rw [h2 v u hv u1 h u2]
          exact ⟨rfl, u3⟩
        · left
          refine T1 (ra := (P.getD r mI0).2.1) hB h1 (fun v hv => ⟨hra v hv, fun h => ?_⟩)
          by_cases z : (P.getD v mI0).2.1 = (P.getD r mI0).2.1
          · exact .inl z
          · exact .inr (fun z2 => h3 ⟨v, hv, h, z2, z⟩)
      · exact .inr (.inl ⟨h1, h2, hr⟩)
    · left; left
      -- nothing is read: a deletion is accepted
      intro A B p e dA dB hl hp he fA nA _ _ _
      obtain ⟨n, hx⟩ := awT_of dA fA
      obtain ⟨t, ht⟩ := awT_time hx (Nat.le_refl n)
      rw [Nat.sub_self] at ht
      have h3 := nDel_full nA (by have := ht.2.2.2; omega) ht.2.1 (rT_zero ht.2.2.1)
      have h4 := no_read (fun u hu z => hr ⟨u, hu, z⟩) n t ht.2.1
      omega
  · by_cases h2 : pPure P
    · by_cases h3 : pTwoR P
      · exact .inl (.inr (T3 hB h3 h2))
      · exact .inr (.inr (.inr h3))
    · exact .inr (.inr (.inl ⟨h1, h2⟩))
/-- with two instructions that neither fork nor fail there is no special kind -/
theorem kinds2 {P : List mI} {c : Int32} (hQ : gQ P ≤ 2) (hB : awB P c ≤ 1) : uOnce P c ∨ ∃ md rk, uRk P c 3 md rk := by
  rcases kinds hB with h | ⟨h1, h2, r, r1, r2⟩ | ⟨h1, h2⟩ | h
  · exact h
  · exfalso
    refine h2 (fun u v hu hv h3 h4 => ?_)
    by_cases e : u = v
    · exact e
    · have := gQ_nodes (l := [u, v, r]) (nodup3 e (fun z => by rw [z, r2] at h3; cases h3) (fun z => by rw [z, r2] at h4; cases h4)) (fun w hw => by
        rcases List.mem_cons.mp hw with rfl | hw
        · exact ⟨hu, by omega⟩
        · rcases List.mem_cons.mp hw with rfl | hw
          · exact ⟨hv, by omega⟩
          · rw [List.mem_singleton.mp hw]; exact ⟨r1, by omega⟩)
      simp only [List.length_cons, List.length_nil] at this
      omega
  · exfalso
    refine h1 (fun u v hu hv h3 h4 => ?_)
    by_cases e : u = v
    · exact e
    · exfalso
      refine h2 (fun w hw h5 => ?_)
      have := gQ_nodes (l := [u, v, w]) (nodup3 e (fun z => by rw [z, h5] at h3; cases h3) (fun z => by rw [z, h5] at h4; cases h4)) (fun x hx => by
        rcases List.mem_cons.mp hx with rfl | hx
        · exact ⟨hu, by omega⟩
        · rcases List.mem_cons.mp hx with rfl | hx
          · exact ⟨hv, by omega⟩
          · rw [List.mem_singleton.mp hx]; exact ⟨hw, by omega⟩)
      simp only [List.length_cons, List.length_nil] at this
      omega
  · exfalso
    refine h (fun u v w hu hv hw h3 h4 h5 => ?_)
    by_cases e : u = v
    · exact .inl e
    · by_cases e2 : u = w
      · exact .inr (.inl e2)
      · by_cases e3 : v = w
        · exact .inr (.inr e3)
        · have := gQ_nodes (l := [u, v, w]) (nodup3 e e2 e3) (fun x hx => by
            rcases List.mem_cons.mp hx with rfl | hx
            · exact ⟨hu, by omega⟩
            · rcases List.mem_cons.mp hx with rfl | hx
              · exact ⟨hv, by omega⟩
              · rw [List.mem_singleton.mp hx]; exact ⟨hw, by omega⟩)
          simp only [List.length_cons, List.length_nil] at this
          omega
/-- three instructions that neither fork nor fail: special kinds have nothing else -/
theorem special3 {P : List mI} (hQ : gQ P ≤ 3) (h : (pOne P ∧ ¬ pUni P ∧ ∃ r, r < P.length ∧ (P.getD r mI0).1 = 0) ∨ (¬ pOne P ∧ ¬ pPure P) ∨ ¬ pTwoR P) : ∀ u, u < P.length → (P.getD u mI0).1 = 0 ∨ (P.getD u mI0).1 = 3 ∨ (P.getD u mI0).1 = 4 ∨ (P.getD u mI0).1 = 5 ∨ (P.getD u mI0).1 = 7 := by
  have three : ∃ a b c, a ≠ b ∧ a ≠ c ∧ b ≠ c ∧ ∀ x, x ∈ [a, b, c] → x < P.length ∧ ((P.getD x mI0).1 = 0 ∨ (P.getD x mI0).1 = 3) := by
    have mk : ∀ a b c : Nat, a < P.length → b < P.length → c < P.length → ((P.getD a mI0).1 = 0 ∨ (P.getD a mI0).1 = 3) → ((P.getD b mI0).1 = 0 ∨ (P.getD b mI0).1 = 3) → ((P.getD c mI0).1 = 0 ∨ (P.getD c mI0).1 = 3) → ∀ x, x ∈ [a, b, c] → x < P.length ∧ ((P.getD x mI0).1 = 0 ∨ (P.getD x mI0).1 = 3) := by
      intro a b c ha hb hc h1 h2 h3 x hx
      rcases List.mem_cons.mp hx with rfl | hx
      · exact ⟨ha, h1⟩
      · rcases List.mem_cons.mp hx with rfl | hx
        · exact ⟨hb, h2⟩
        · rw [List.mem_singleton.mp hx]; exact ⟨hc, h3⟩
    rcases h with ⟨-, h2, r, r1, r2⟩ | ⟨h1, h2⟩ | h1
    · obtain ⟨u, hu⟩ := Classical.not_forall.mp h2
      obtain ⟨v, hv⟩ := Classical.not_forall.mp hu
      have : u < P.length ∧ v < P.length ∧ (P.getD u mI0).1 = 3 ∧ (P.getD v mI0).1 = 3 ∧ u ≠ v := by
        refine ⟨?_, ?_, ?_, ?_, ?_⟩
        · exact Classical.byContradiction (fun z => hv (fun a => absurd a z))
        · exact Classical.byContradiction (fun z => hv (fun _ a => absurd a z))
        · exact Classical.byContradiction (fun z => hv (fun _ _ a => absurd a z))
        · exact Classical.byContradiction (fun z => hv (fun _ _ _ a => absurd a z))
        · exact fun z => hv (fun _ _ _ _ => z)
      obtain ⟨a1, a2, a3, a4, a5⟩ := this
      exact ⟨u, v, r, a5, (fun z => by rw [z, r2] at a3; cases a3), (fun z => by rw [z, r2] at a4; cases a4), mk u v r a1 a2 r1 (.inr a3) (.inr a4) (.inl r2)⟩
    · obtain ⟨u, hu⟩ := Classical.not_forall.mp h1
      obtain ⟨v, hv⟩ := Classical.not_forall.mp hu
      obtain ⟨w, hw⟩ := Classical.not_forall.mp h2
      have : u < P.length ∧ v < P.length ∧ (P.getD u mI0).1 = 0 ∧ (P.getD v mI0).1 = 0 ∧ u ≠ v := by
        refine ⟨?_, ?_, ?_, ?_, ?_⟩
        · exact Classical.byContradiction (fun z => hv (fun a => absurd a z))
        · exact Classical.byContradiction (fun z => hv (fun _ a => absurd a z))
        · exact Classical.byContradiction (fun z => hv (fun _ _ a => absurd a z))
        · exact Classical.byContradiction (fun z => hv (fun _ _ _ a => absurd a z))
        · exact fun z => hv (fun _ _ _ _ => z)
      obtain ⟨a1, a2, a3, a4, a5⟩ := this
      have hw2 : w < P.length ∧ (P.getD w mI0).1 = 3 := ⟨Classical.byContradiction (fun z => hw (fun a => absurd a z)), Classical.byContradiction (fun z => hw (fun _ => z))⟩
      exact ⟨u, v, w, a5, (fun z => by rw [z, hw2.2] at a3; cases a3), (fun z => by rw [z, hw2.2] at a4; cases a4), mk u v w a1 a2 hw2.1 (.inl a3) (.inl a4) (.inr hw2.2)⟩
    · obtain ⟨u, hu⟩ := Classical.not_forall.mp h1
      obtain ⟨v, hv⟩ := Classical.not_forall.mp hu
      obtain ⟨w, hw⟩ := Classical.not_forall.mp hv
      have : u < P.length ∧ v < P.length ∧ w < P.length ∧ (P.getD u mI0).1 = 0 ∧ (P.getD v mI0).1 = 0 ∧ (P.getD w mI0).1 = 0 ∧ ¬ (u = v ∨ u = w ∨ v = w) := by
        refine ⟨?_, ?_, ?_, ?_, ?_, ?_, ?_⟩
        · exact Classical.byContradiction (fun z => hw (fun a => absurd a z))
        · exact Classical.byContradiction (fun z => hw (fun _ a => absurd a z))
        · exact Classical.byContradiction (fun z => hw (fun _ _ a => absurd a z))
        · exact Classical.byContradiction (fun z => hw (fun _ _ _ a => absurd a z))
        · exact Classical.byContradiction (fun z => hw (fun _ _ _ _ a => absurd a z))
        · exact Classical.byContradiction (fun z => hw (fun _ _ _ _ _ a => absurd a z))
        · exact fun z => hw (fun _ _ _ _ _ _ => z)
      obtain ⟨a1, a2, a3, a4, a5, a6, a7⟩ := this
      exact ⟨u, v, w, fun z => a7 (.inl z), fun z => a7 (.inr (.inl z)), fun z => a7 (.inr (.inr z)), mk u v w a1 a2 a3 (.inl a4) (.inl a5) (.inl a6)⟩
  obtain ⟨a, b, c, h1, h2, h3, h4⟩ := three
  intro u hu
  apply Classical.byContradiction
  intro hno
  have hne : ∀ x, x ∈ [a, b, c] → u ≠ x := by
    intro x hx e
    rw [← e] at hx
    rcases (h4 u hx).2 with z | z
    · exact hno (.inl z)
    · exact hno (.inr (.inl z))
  have hd : [u, a, b, c].Nodup := List.nodup_cons.mpr ⟨fun z => hne u z rfl, nodup3 h1 h2 h3⟩
  have := sm_nodup (p := fun u => (P.getD u mI0).1 ≠ 4 ∧ (P.getD u mI0).1 ≠ 5 ∧ (P.getD u mI0).1 ≠ 7) hd (fun x hx => by
    rcases List.mem_cons.mp hx with rfl | hx
    · exact ⟨hu, fun z => hno (.inr (.inr (.inl z))), fun z => hno (.inr (.inr (.inr (.inl z)))), fun z => hno (.inr (.inr (.inr (.inr z))))⟩
    · have := h4 x hx
      exact ⟨this.1, by omega, by omega, by omega⟩)
  have h9 : sm (fun u => b1 ((P.getD u mI0).1 ≠ 4 ∧ (P.getD u mI0).1 ≠ 5 ∧ (P.getD u mI0).1 ≠ 7)) P.length ≤ 3 := hQ
  simp only [List.length_cons, List.length_nil] at this
  omega
