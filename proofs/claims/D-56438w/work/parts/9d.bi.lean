/-! ROOM 4: a program's graph; forks from which a code can be reached both ways *
-/
set_option maxRecDepth 100000
/-- the nodes behind a node (a program's length: the end) -/
def gS (P : List mI) (u : Nat) : List Nat :=
  if u < P.length then
    (if (P.getD u mI0).1 = 4 ∨ (P.getD u mI0).1 = 5 then [min (P.getD u mI0).2.2.2 P.length, min (u + 1) P.length]
    else if (P.getD u mI0).1 = 6 then [min (P.getD u mI0).2.2.2 P.length]
    else if (P.getD u mI0).1 = 7 ∨ (P.getD u mI0).1 = 8 then [] else [min (u + 1) P.length])
  else []
theorem gS_lt {P : List mI} {u v : Nat} (h : v ∈ gS P u) : v < P.length + 1 := by
  unfold gS at h
  split at h
  · split at h
    · rcases List.mem_cons.mp h with h | h
      · omega
      · have := List.mem_singleton.mp h; omega
    · split at h
      · have := List.mem_singleton.mp h; omega
      · split at h
        · cases h
        · have := List.mem_singleton.mp h; omega
  · cases h
theorem gS_len {P : List mI} {u : Nat} : (gS P u).length ≤ 2 := by
  unfold gS
  split
  · split
    · exact Nat.le_refl _
    · split
      · exact Nat.le_succ _
      · split
        · exact Nat.zero_le _
        · exact Nat.le_succ _
  · exact Nat.zero_le _
theorem gS_step {P : List mI} {xs : List Nat} {s t : rC} (h : rS P xs s = some t) : min t.1 P.length ∈ gS P s.1 := by
  obtain ⟨h1, h2, -, -⟩ := rS_some h
  unfold rIn at h2
  unfold gS
  rw [if_pos h1]
  unfold mNext at h2
  split at h2
  · rename_i q
    rw [if_pos (.inl q)]
    have h2 := (Option.some.inj h2).symm
    split at h2
    · rw [h2]; exact List.mem_cons_self
    · rw [h2]; exact List.mem_cons_of_mem _ List.mem_cons_self
  · split at h2
    · rename_i q
      rw [if_pos (.inr q)]
      have h2 := (Option.some.inj h2).symm
      split at h2
      · rw [h2]; exact List.mem_cons_self
      · rw [h2]; exact List.mem_cons_of_mem _ List.mem_cons_self
    · rename_i q4 q5
      rw [if_neg (fun z => z.elim q4 q5)]
      split at h2
      · rename_i q
        rw [if_pos q, ← Option.some.inj h2]
        exact List.mem_cons_self
      · rename_i q
        rw [if_neg q]
        split at h2
        · cases h2
        · rename_i q
          rw [if_neg q, ← Option.some.inj h2]
          exact List.mem_cons_self
/-- a way of k steps -/
def gP (P : List mI) : Nat → Nat → Nat → Prop
  | 0, u, v => u = v
  | k + 1, u, v => ∃ w, w ∈ gS P u ∧ gP P k w v
theorem gP_snoc {P : List mI} : ∀ {k u v w : Nat}, gP P k u v → w ∈ gS P v → gP P (k + 1) u w
  | 0, u, v, w, h, hw => by cases h; exact ⟨w, hw, rfl⟩
  | k + 1, u, v, w, ⟨x, hx, h⟩, hw => ⟨x, hx, gP_snoc h hw⟩
theorem gP_last {P : List mI} : ∀ {k u v : Nat}, gP P (k + 1) u v → ∃ w, gP P k u w ∧ v ∈ gS P w
  | 0, u, v, ⟨x, hx, h⟩ => by cases h; exact ⟨u, rfl, hx⟩
  | k + 1, u, v, ⟨x, hx, h⟩ => by
    obtain ⟨w, h1, h2⟩ := gP_last h
    exact ⟨w, ⟨x, hx, h1⟩, h2⟩
theorem gP_run {P : List mI} {xs : List Nat} : ∀ {n : Nat} {t : rC}, rI P xs n rZ = some t → gP P n 0 (min t.1 P.length)
  | 0, t, h => by cases h; show 0 = min 0 P.length; omega
  | n + 1, t, h => by
    rw [rI_succ] at h
    cases e : rI P xs n rZ with
    | none => rw [e] at h; cases h
    | some s =>
      rw [e] at h
      have h : rS P xs s = some t := h
      have h1 := gP_run e
      rw [Nat.min_eq_left (Nat.le_of_lt (rS_some h).1)] at h1
      exact gP_snoc h1 (gS_step h)
/-- the code c can be reached -/
def gZ (P : List mI) (c : Int32) (u : Nat) : Prop := ∃ k f, gP P k u f ∧ f < P.length ∧ (P.getD f mI0).1 = 7 ∧ (P.getD f mI0).2.2.1 = c
noncomputable def zB (P : List mI) (c : Int32) (u : Nat) : Bool := by classical exact decide (gZ P c u)
noncomputable def rB (P : List mI) (u : Nat) : Bool := by classical exact decide (∃ k, gP P k 0 u)
theorem zB_t {P : List mI} {c : Int32} {u : Nat} : zB P c u = true ↔ gZ P c u := by classical
  unfold zB; exact decide_eq_true_iff
theorem rB_t {P : List mI} {u : Nat} : rB P u = true ↔ ∃ k, gP P k 0 u := by classical
  unfold rB; exact decide_eq_true_iff
/-- the forks; the forks with both ways open to c -/
def gC (P : List mI) : Nat := sm (fun u => b1 ((gS P u).length = 2)) (P.length + 1)
noncomputable def gB (P : List mI) (c : Int32) : Nat := sm (fun u => b1 ((gS P u).length = 2 ∧ ∀ v ∈ gS P u, zB P c v = true)) (P.length + 1)
theorem sm_nodup {p : Nat → Prop} [DecidablePred p] {n : Nat} {l : List Nat} (hd : l.Nodup) (h : ∀ v ∈ l, v < n ∧ p v) : l.length ≤ sm (fun u => b1 (p u)) n := by
  have h1 : l.countP (fun u => decide (p u)) = l.length := List.countP_eq_length.mpr (fun v hv => decide_eq_true (h v hv).2)
  rw [← h1, ← sm_count l (fun v hv => (h v hv).1)]
  refine sm_le (fun u _ => ?_)
  by_cases q : p u
  · rw [if_pos (decide_eq_true q), b1_t q]
    exact List.nodup_iff_count.mp hd u
  · rw [if_neg (fun z => q (of_decide_eq_true z))]
    exact Nat.zero_le _
/-- ends that are reached and are not c, and forks open to c both ways, are no more than the forks -/
theorem gB_le {P : List mI} {c : Int32} {T : List Nat} (h0 : gZ P c 0) (hd : T.Nodup) (hT : ∀ t ∈ T, t < P.length + 1 ∧ (∃ k, gP P k 0 t) ∧ gS P t = [] ∧ ¬ (t < P.length ∧ (P.getD t mI0).1 = 7 ∧ (P.getD t mI0).2.2.1 = c)) : T.length + gB P c ≤ gC P := by
  have h1 := g_cnt (n := P.length + 1) (suc := gS P) (rc := rB P) (Z := zB P c) (fun u _ v hv => gS_lt hv) (fun u _ => gS_len)
    (fun v hv hr hz => by
      obtain ⟨k, hk⟩ := rB_t.mp hr
      cases k with
      | zero =>
        cases hk
        rw [zB_t.mpr h0] at hz
        cases hz
      | succ k =>
        obtain ⟨w, h1, h2⟩ := gP_last hk
        refine ⟨w, ?_, rB_t.mpr ⟨k, h1⟩, h2⟩
        rcases Nat.lt_or_ge w (P.length + 1) with q | q
        · exact q
        · unfold gS at h2; rw [if_neg (by omega)] at h2; cases h2)
    (fun u _ hr v hv => by
      obtain ⟨k, hk⟩ := rB_t.mp hr
      exact rB_t.mpr ⟨k + 1, gP_snoc hk hv⟩)
    (fun u _ v hv hz => by
      obtain ⟨k, f, hk, hf⟩ := zB_t.mp hz
      exact zB_t.mpr ⟨k + 1, f, ⟨v, hv, hk⟩, hf⟩)
    (fun u _ hz hne => by
      obtain ⟨k, f, hk, hf⟩ := zB_t.mp hz
      cases k with
      | zero =>
        cases hk
        refine absurd ?_ hne
        unfold gS
        rw [if_pos hf.1, if_neg (by rw [hf.2.1]; decide), if_neg (by rw [hf.2.1]; decide), if_pos (.inl hf.2.1)]
      | succ k =>
        obtain ⟨w, hw, h2⟩ := hk
        exact ⟨w, hw, zB_t.mpr ⟨k, f, h2, hf⟩⟩)
  refine Nat.le_trans (Nat.add_le_add_right (sm_nodup hd (fun t ht => ?_)) _) h1
  obtain ⟨t1, t2, t3, t4⟩ := hT t ht
  refine ⟨t1, rB_t.mpr t2, Bool.eq_false_iff.mpr (fun z => ?_), t3⟩
  obtain ⟨k, f, hk, hf⟩ := zB_t.mp z
  cases k with
  | zero => cases hk; exact t4 hf
  | succ k =>
    obtain ⟨w, hw, -⟩ := hk
    rw [t3] at hw
    cases hw
/-- the codes of a campaign with a pass: forks open to c both ways are few -/
theorem gB_camp {P : List mI} {c : Int32} {cs : List Int32} (hc : ∃ xs, mFails P xs c = true) (hd : (c :: cs).Nodup) (hcs : ∀ d ∈ cs, ∃ xs, mFails P xs d = true) (hp : ∃ xs, (mOut P xs).1 = 0) : cs.length + 1 + gB P c ≤ gC P := by
  have hz : ∀ d, (∃ xs, mFails P xs d = true) → ∃ f k, gP P k 0 f ∧ f < P.length ∧ (P.getD f mI0).1 = 7 ∧ (P.getD f mI0).2.2.1 = d := by
    rintro d ⟨xs, h⟩
    obtain ⟨n, t, -, h2, h3⟩ := rF_iff.mp h
    have := gP_run h2
    rw [Nat.min_eq_left (Nat.le_of_lt h3.1)] at this
    exact ⟨t.1, n, this, h3⟩
  have h0 : gZ P c 0 := by
    obtain ⟨f, k, h1, h2⟩ := hz c hc
    exact ⟨k, f, h1, h2⟩
  have hcd : c ∉ cs := (List.nodup_cons.mp hd).1
  have hdd : cs.Nodup := (List.nodup_cons.mp hd).2
  have hs7 : ∀ f, f < P.length → (P.getD f mI0).1 = 7 → gS P f = [] := by
    intro f h1 h2
    unfold gS
    rw [if_pos h1, if_neg (by rw [h2]; decide), if_neg (by rw [h2]; decide), if_pos (.inl h2)]
  -- a row of the other codes' nodes
  have hL : ∀ ds : List Int32, ds.Nodup → (∀ d ∈ ds, ∃ xs, mFails P xs d = true) → ∃ T : List Nat, T.length = ds.length ∧ T.Nodup ∧ ∀ t ∈ T, t < P.length ∧ (∃ k, gP P k 0 t) ∧ (P.getD t mI0).1 = 7 ∧ (P.getD t mI0).2.2.1 ∈ ds := by
    intro ds
    induction ds with
    | nil => intro _ _; exact ⟨[], rfl, List.nodup_nil, fun t ht => by cases ht⟩
    | cons d ds ih =>
      intro h1 h2
      obtain ⟨T, t1, t2, t3⟩ := ih (List.nodup_cons.mp h1).2 (fun e he => h2 e (List.mem_cons_of_mem _ he))
      obtain ⟨f, k, f1, f2, f3, f4⟩ := hz d (h2 d List.mem_cons_self)
      refine ⟨f :: T, by rw [List.length_cons, List.length_cons, t1], List.nodup_cons.mpr ⟨fun z => ?_, t2⟩, fun t ht => ?_⟩
      · have := (t3 f z).2.2.2
        rw [f4] at this
        exact (List.nodup_cons.mp h1).1 this
      · rcases List.mem_cons.mp ht with rfl | ht
        · exact ⟨f2, ⟨k, f1⟩, f3, by rw [f4]; exact List.mem_cons_self⟩
        · obtain ⟨a1, a2, a3, a4⟩ := t3 t ht
          exact ⟨a1, a2, a3, List.mem_cons_of_mem _ a4⟩
  obtain ⟨T, t1, t2, t3⟩ := hL cs hdd hcs
  obtain ⟨xs, hx⟩ := hp
  obtain ⟨n, s, -, p2, p3, p4, -⟩ := rP_some hx
  have hpe : gS P (min s.1 P.length) = [] := by
    rcases Nat.lt_or_ge s.1 P.length with q | q
    · rw [Nat.min_eq_left (Nat.le_of_lt q)]
      unfold rS at p3
      rw [if_pos q] at p3
      have p3 : mNext (rIn P s) (mRegs (rIn P s) xs s.2.2 s.2.1) s.1 = none := Option.map_eq_none_iff.mp p3
      unfold rIn at p3
      unfold mNext at p3
      unfold gS
      rw [if_pos q]
      split at p3
      · cases p3
      · split at p3
        · cases p3
        · rename_i q4 q5
          split at p3
          · cases p3
          · rename_i q6
            split at p3
            · rename_i q7
              rw [if_neg (fun z => z.elim q4 q5), if_neg q6, if_pos q7]
            · cases p3
    · unfold gS
      rw [if_neg (by omega)]
  have hpn : ¬ (min s.1 P.length < P.length ∧ (P.getD (min s.1 P.length) mI0).1 = 7) := by
    rintro ⟨a1, a2⟩
    have : min s.1 P.length = s.1 := by omega
    rw [this] at a1 a2
    exact p4 ⟨a1, a2⟩
  have := gB_le (T := min s.1 P.length :: T) h0 (List.nodup_cons.mpr ⟨fun z => hpn ⟨(t3 _ z).1, (t3 _ z).2.2.1⟩, t2⟩) (fun t ht => by
    rcases List.mem_cons.mp ht with rfl | ht
    · exact ⟨by omega, ⟨n, gP_run p2⟩, hpe, fun z => hpn ⟨z.1, z.2.1⟩⟩
    · obtain ⟨a1, a2, a3, a4⟩ := t3 t ht
      exact ⟨by omega, a2, hs7 t a1 a3, fun z => hcd (by rw [← z.2.2]; exact a4)⟩)
  rw [List.length_cons, t1] at this
  omega
