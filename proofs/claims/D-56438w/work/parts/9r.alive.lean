/-! ROOM 18: the edges that some run takes *
-/
set_option maxRecDepth 100000
/-- an edge that some run of an input takes -/
def awE (P : List mI) (u v : Nat) : Prop := ∃ xs n t t2, sDg xs ∧ n ≤ 63 ∧ rI P xs n rZ = some t ∧ rS P xs t = some t2 ∧ t.1 = u ∧ min t2.1 P.length = v
noncomputable def awS (P : List mI) (u : Nat) : List Nat := by classical exact (List.range (P.length + 1)).filter (fun v => decide (awE P u v))
theorem awE_gS {P : List mI} {u v : Nat} (h : awE P u v) : v ∈ gS P u := by
  obtain ⟨xs, n, t, t2, -, -, -, h4, h5, h6⟩ := h
  rw [← h5, ← h6]
  exact gS_step h4
theorem awS_mem {P : List mI} {u v : Nat} : v ∈ awS P u ↔ awE P u v := by
  classical
  unfold awS
  rw [List.mem_filter, List.mem_range, decide_eq_true_iff]
  exact ⟨fun h => h.2, fun h => ⟨gS_lt (awE_gS h), h⟩⟩
theorem awS_nodup {P : List mI} {u : Nat} : (awS P u).Nodup := by
  classical
  unfold awS
  exact List.Pairwise.filter _ List.nodup_range
theorem nodup_two {l l2 : List Nat} (hd : l.Nodup) (h : ∀ v ∈ l, v ∈ l2) : l.length ≤ l2.length := by
  have h1 := sm_count (p := fun _ => true) (n := (l ++ l2).sum + 1) l (fun v hv => by
    have : ∀ (l : List Nat) (v : Nat), v ∈ l → v ≤ l.sum := by
      intro l
      induction l with
      | nil => intro v hv; cases hv
      | cons a l ih =>
        intro v hv
        rw [List.sum_cons]
        rcases List.mem_cons.mp hv with rfl | hv
        · omega
        · have := ih v hv; omega
    have := this (l ++ l2) v (List.mem_append_left _ hv)
    omega)
  have h2 := sm_count (p := fun _ => true) (n := (l ++ l2).sum + 1) l2 (fun v hv => by
    have : ∀ (l : List Nat) (v : Nat), v ∈ l → v ≤ l.sum := by
      intro l
      induction l with
      | nil => intro v hv; cases hv
      | cons a l ih =>
        intro v hv
        rw [List.sum_cons]
        rcases List.mem_cons.mp hv with rfl | hv
        · omega
        · have := ih v hv; omega
    have := this (l ++ l2) v (List.mem_append_right _ hv)
    omega)
  rw [show l.countP (fun _ => true) = l.length from List.countP_eq_length.mpr (fun _ _ => rfl)] at h1
  rw [show l2.countP (fun _ => true) = l2.length from List.countP_eq_length.mpr (fun _ _ => rfl)] at h2
  rw [← h1, ← h2]
  refine sm_le (fun v _ => ?_)
  rw [if_pos rfl, if_pos rfl]
  rcases Nat.eq_zero_or_pos (l.count v) with z | z
  · rw [z]; exact Nat.zero_le _
  · have a := List.nodup_iff_count.mp hd v
    have b := List.count_pos_iff.mpr (h v (List.count_pos_iff.mp z))
    omega
theorem awS_len {P : List mI} {u : Nat} : (awS P u).length ≤ 2 := Nat.le_trans (nodup_two awS_nodup (fun _ hv => awE_gS (awS_mem.mp hv))) gS_len
theorem awS_two {P : List mI} {u : Nat} (h : (awS P u).length = 2) : (gS P u).length = 2 := by
  have h1 := nodup_two (awS_nodup (P := P) (u := u)) (l2 := gS P u) (fun _ hv => awE_gS (awS_mem.mp hv))
  have := gS_len (P := P) (u := u)
  omega
theorem awS_nil {P : List mI} {u : Nat} (h : gS P u = []) : awS P u = [] := by
  have h1 := nodup_two (awS_nodup (P := P) (u := u)) (l2 := gS P u) (fun _ hv => awE_gS (awS_mem.mp hv))
  rw [h] at h1
  exact List.length_eq_zero_iff.mp (Nat.le_zero.mp h1)
/-- a way of k steps along such edges -/
def awP (P : List mI) : Nat → Nat → Nat → Prop
  | 0, u, v => u = v
  | k + 1, u, v => ∃ w, w ∈ awS P u ∧ awP P k w v
theorem awP_snoc {P : List mI} : ∀ {k u v w : Nat}, awP P k u v → w ∈ awS P v → awP P (k + 1) u w
  | 0, u, v, w, h, hw => by cases h; exact ⟨w, hw, rfl⟩
  | k + 1, u, v, w, ⟨x, hx, h⟩, hw => ⟨x, hx, awP_snoc h hw⟩
theorem awP_last {P : List mI} : ∀ {k u v : Nat}, awP P (k + 1) u v → ∃ w, awP P k u w ∧ v ∈ awS P w
  | 0, u, v, ⟨w, hw, h⟩ => by cases h; exact ⟨u, rfl, hw⟩
  | k + 1, u, v, ⟨w, hw, h⟩ => by
    obtain ⟨x, h1, h2⟩ := awP_last h
    exact ⟨x, ⟨w, hw, h1⟩, h2⟩
theorem awP_run {P : List mI} {xs : List Nat} (hd : sDg xs) : ∀ {n : Nat} {t : rC}, n ≤ 64 → rI P xs n rZ = some t → awP P n 0 (min t.1 P.length) := by
  intro n
  induction n with
  | zero => intro t _ h; cases h; show 0 = min 0 P.length; omega
  | succ n ih =>
    intro t hn h
    rw [rI_succ] at h
    cases e : rI P xs n rZ with
    | none => rw [e] at h; cases h
    | some s =>
      rw [e] at h
      have h : rS P xs s = some t := h
      have h1 := ih (by omega) e
      rw [Nat.min_eq_left (Nat.le_of_lt (rS_some h).1)] at h1
      exact awP_snoc h1 (awS_mem.mpr ⟨xs, n, s, t, hd, by omega, e, h, rfl, rfl⟩)
def awZ (P : List mI) (c : Int32) (u : Nat) : Prop := ∃ k f, awP P k u f ∧ f < P.length ∧ (P.getD f mI0).1 = 7 ∧ (P.getD f mI0).2.2.1 = c
noncomputable def awzB (P : List mI) (c : Int32) (u : Nat) : Bool := by classical exact decide (awZ P c u)
noncomputable def awrB (P : List mI) (u : Nat) : Bool := by classical exact decide (∃ k, awP P k 0 u)
theorem awzB_t {P : List mI} {c : Int32} {u : Nat} : awzB P c u = true ↔ awZ P c u := by classical
  unfold awzB; exact decide_eq_true_iff
theorem awrB_t {P : List mI} {u : Nat} : awrB P u = true ↔ ∃ k, awP P k 0 u := by classical
  unfold awrB; exact decide_eq_true_iff
/-- the forks that runs leave both ways; those of them with both ways open to c -/
noncomputable def awC (P : List mI) : Nat := sm (fun u => b1 ((awS P u).length = 2)) (P.length + 1)
noncomputable def awB (P : List mI) (c : Int32) : Nat := sm (fun u => b1 ((awS P u).length = 2 ∧ ∀ v ∈ awS P u, awzB P c v = true)) (P.length + 1)
theorem fail_nil {P : List mI} {f : Nat} (h1 : f < P.length) (h2 : (P.getD f mI0).1 = 7) : gS P f = [] := by
  unfold gS
  rw [if_pos h1, if_neg (by rw [h2]; decide), if_neg (by rw [h2]; decide), if_pos (.inl h2)]
theorem awB_le {P : List mI} {c : Int32} {T : List Nat} (h0 : awZ P c 0) (hd : T.Nodup) (hT : ∀ t ∈ T, t < P.length + 1 ∧ (∃ k, awP P k 0 t) ∧ gS P t = [] ∧ ¬ (t < P.length ∧ (P.getD t mI0).1 = 7 ∧ (P.getD t mI0).2.2.1 = c)) : T.length + awB P c ≤ awC P := by
  have h1 := g_cnt (n := P.length + 1) (suc := awS P) (rc := awrB P) (Z := awzB P c) (fun u _ v hv => gS_lt (awE_gS (awS_mem.mp hv))) (fun u _ => awS_len)
    (fun v hv hr hz => by
      obtain ⟨k, hk⟩ := awrB_t.mp hr
      cases k with
      | zero =>
        cases hk
        rw [awzB_t.mpr h0] at hz
        cases hz
      | succ k =>
        obtain ⟨w, h1, h2⟩ := awP_last hk
        refine ⟨w, ?_, awrB_t.mpr ⟨k, h1⟩, h2⟩
        rcases Nat.lt_or_ge w (P.length + 1) with q | q
        · exact q
        · have h2 := awE_gS (awS_mem.mp h2)
          unfold gS at h2; rw [if_neg (by omega)] at h2; cases h2)
    (fun u _ hr v hv => by
      obtain ⟨k, hk⟩ := awrB_t.mp hr
      exact awrB_t.mpr ⟨k + 1, awP_snoc hk hv⟩)
    (fun u _ v hv hz => by
      obtain ⟨k, f, hk, hf⟩ := awzB_t.mp hz
      exact awzB_t.mpr ⟨k + 1, f, ⟨v, hv, hk⟩, hf⟩)
    (fun u _ hz hne => by
      obtain ⟨k, f, hk, hf⟩ := awzB_t.mp hz
      cases k with
      | zero =>
        cases hk
        exact absurd (awS_nil (fail_nil hf.1 hf.2.1)) hne
      | succ k =>
        obtain ⟨w, hw, h2⟩ := hk
        exact ⟨w, hw, awzB_t.mpr ⟨k, f, h2, hf⟩⟩)
  refine Nat.le_trans (Nat.add_le_add_right (sm_nodup hd (fun t ht => ?_)) _) h1
  obtain ⟨t1, t2, t3, t4⟩ := hT t ht
  refine ⟨t1, awrB_t.mpr t2, Bool.eq_false_iff.mpr (fun z => ?_), awS_nil t3⟩
  obtain ⟨k, f, hk, hf⟩ := awzB_t.mp z
  cases k with
  | zero => cases hk; exact t4 hf
  | succ k =>
    obtain ⟨w, hw, -⟩ := hk
    rw [awS_nil t3] at hw
    cases hw
/-- an end of a run that passes -/
theorem pass_nil {P : List mI} {xs : List Nat} {s : rC} (p3 : rS P xs s = none) (p4 : ¬ (s.1 < P.length ∧ (rIn P s).1 = 7)) : gS P (min s.1 P.length) = [] ∧ ¬ (min s.1 P.length < P.length ∧ (P.getD (min s.1 P.length) mI0).1 = 7) := by
  refine ⟨?_, ?_⟩
  · rcases Nat.lt_or_ge s.1 P.length with q | q
    · rw [Nat.min_eq_left (Nat.le_of_lt q)]
      unfold rS at p3
      rw [if_pos q] at p3
      have p3 : mNext (rIn P s) (mRegs (rIn P s) xs s.2.2 s.2.1) s.1 = none := Option.map_eq_none_iff.mp p3
      unfold rIn at p3
      unfold mNext at p3
      unfold gS
      rw [if_pos q]
      split at p3
      · cases p3
      · split at p3
        · cases p3
        · rename_i q4 q5
          split at p3
          · cases p3
          · rename_i q6
            split at p3
            · rename_i q7
              rw [if_neg (fun z => z.elim q4 q5), if_neg q6, if_pos q7]
            · cases p3
    · unfold gS
      rw [if_neg (by omega)]
  · rintro ⟨a1, a2⟩
    have : min s.1 P.length = s.1 := by omega
    rw [this] at a1 a2
    exact p4 ⟨a1, a2⟩
/-- the codes of a campaign with a pass: alive forks open to c both ways are few -/
theorem awB_camp {P : List mI} {c : Int32} {cs : List Int32} (hc : ∃ xs, sDg xs ∧ mFails P xs c = true) (hd : (c :: cs).Nodup) (hcs : ∀ d ∈ cs, ∃ xs, sDg xs ∧ mFails P xs d = true) (hp : ∃ xs, sDg xs ∧ (mOut P xs).1 = 0) : cs.length + 1 + awB P c ≤ awC P := by
  have hz : ∀ d, (∃ xs, sDg xs ∧ mFails P xs d = true) → ∃ f k, awP P k 0 f ∧ f < P.length ∧ (P.getD f mI0).1 = 7 ∧ (P.getD f mI0).2.2.1 = d := by
    rintro d ⟨xs, hx, h⟩
    obtain ⟨n, t, h1, h2, h3⟩ := rF_iff.mp h
    have := awP_run hx (by omega) h2
    rw [Nat.min_eq_left (Nat.le_of_lt h3.1)] at this
    exact ⟨t.1, n, this, h3⟩
  have h0 : awZ P c 0 := by
    obtain ⟨f, k, h1, h2⟩ := hz c hc
    exact ⟨k, f, h1, h2⟩
  have hcd : c ∉ cs := (List.nodup_cons.mp hd).1
  have hdd : cs.Nodup := (List.nodup_cons.mp hd).2
  have hL : ∀ ds : List Int32, ds.Nodup → (∀ d ∈ ds, ∃ xs, sDg xs ∧ mFails P xs d = true) → ∃ T : List Nat, T.length = ds.length ∧ T.Nodup ∧ ∀ t ∈ T, t < P.length ∧ (∃ k, awP P k 0 t) ∧ (P.getD t mI0).1 = 7 ∧ (P.getD t mI0).2.2.1 ∈ ds := by
    intro ds
    induction ds with
    | nil => intro _ _; exact ⟨[], rfl, List.nodup_nil, fun t ht => by cases ht⟩
    | cons d ds ih =>
      intro h1 h2
      obtain ⟨T, t1, t2, t3⟩ := ih (List.nodup_cons.mp h1).2 (fun e he => h2 e (List.mem_cons_of_mem _ he))
      obtain ⟨f, k, f1, f2, f3, f4⟩ := hz d (h2 d List.mem_cons_self)
      refine ⟨f :: T, by rw [List.length_cons, List.length_cons, t1], List.nodup_cons.mpr ⟨fun z => ?_, t2⟩, fun t ht => ?_⟩
      · have := (t3 f z).2.2.2
        rw [f4] at this
        exact (List.nodup_cons.mp h1).1 this
      · rcases List.mem_cons.mp ht with rfl | ht
        · exact ⟨f2, ⟨k, f1⟩, f3, by rw [f4]; exact List.mem_cons_self⟩
        · obtain ⟨a1, a2, a3, a4⟩ := t3 t ht
          exact ⟨a1, a2, a3, List.mem_cons_of_mem _ a4⟩
  obtain ⟨T, t1, t2, t3⟩ := hL cs hdd hcs
  obtain ⟨xs, hxd, hx⟩ := hp
  obtain ⟨n, s, p1, p2, p3, p4, -⟩ := rP_some hx
  obtain ⟨hpe, hpn⟩ := pass_nil p3 p4
  have := awB_le (T := min s.1 P.length :: T) h0 (List.nodup_cons.mpr ⟨fun z => hpn ⟨(t3 _ z).1, (t3 _ z).2.2.1⟩, t2⟩) (fun t ht => by
    rcases List.mem_cons.mp ht with rfl | ht
    · exact ⟨by omega, ⟨n, awP_run hxd p1 p2⟩, hpe, fun z => hpn ⟨z.1, z.2.1⟩⟩
    · obtain ⟨a1, a2, a3, a4⟩ := t3 t ht
      exact ⟨by omega, a2, fail_nil a1 a3, fun z => hcd (by rw [← z.2.2]; exact a4)⟩)
  rw [List.length_cons, t1] at this
  omega
/-- alive forks and dead ones are forks -/
theorem awC_le {P : List mI} {D : List Nat} (hd : D.Nodup) (h : ∀ u ∈ D, (gS P u).length = 2 ∧ (awS P u).length ≠ 2) : D.length + awC P ≤ gC P := by
  have h1 := sm_nodup (p := fun u => (gS P u).length = 2 ∧ (awS P u).length ≠ 2) (n := P.length + 1) hd (fun u hu => ⟨by have := (gS_two (h u hu).1).1; omega, h u hu⟩)
  have h2 : sm (fun u => b1 ((gS P u).length = 2 ∧ (awS P u).length ≠ 2) + b1 ((awS P u).length = 2)) (P.length + 1) ≤ gC P := by
    refine sm_le (fun u _ => ?_)
    by_cases q : (awS P u).length = 2
    · rw [b1_f (fun z => z.2 q), b1_t q, b1_t (awS_two q)]
      exact Nat.le_refl _
    · rw [b1_f q]
      by_cases q2 : (gS P u).length = 2
      · rw [b1_t q2, b1_t ⟨q2, q⟩]; exact Nat.le_refl _
      · rw [b1_f (fun z => q2 z.1)]; exact Nat.zero_le _
  rw [sm_add] at h2
  have : awC P = sm (fun u => b1 ((awS P u).length = 2)) (P.length + 1) := rfl
  omega
/-- covered edges are such edges -/
def kA (P : List mI) (cov : Nat → Bool) : Prop := ∀ u v, v < 17 → cov (17 * u + v) = true → v ∈ awS P u
theorem kA_run {P : List mI} {cov : Nat → Bool} {xs : List Nat} (hP : P.length ≤ 16) (hd : sDg xs) (h : kA P cov) : kA P (cvO cov (mOut P xs).2.2.2) := by
  intro u v hv hc
  rcases cvO_iff.mp hc with z | z
  · exact h u v hv z
  · obtain ⟨n, t, t2, h1, h2, h3, -, h5⟩ := rE_iff.mp z
    have : min t2.1 P.length < 17 := by omega
    exact awS_mem.mpr ⟨xs, n, t, t2, hd, h1, h2, h3, by omega, by omega⟩
theorem kA_le {P : List mI} {cov : Nat → Bool} {k : Nat} {F : List yF} (hP : P.length ≤ 16) (h : kI P cov k F) (hA : kA P cov) : k + F.length ≤ awC P + 1 := by
  obtain ⟨hJ, hG, hI⟩ := h
  have h1 : sm (oN cov) P.length ≤ sm (fun u => vN P cov u + b1 ((awS P u).length = 2)) P.length := by
    refine sm_le (fun u hu => ?_)
    by_cases q : gV cov u
    · have h1 : oN cov u ≤ (awS P u).length := by
        unfold oN
        exact fb_row (fun v hv => by have := gS_lt (awE_gS (awS_mem.mp hv)); omega) (fun v hv z => hA u v hv z)
      have h2 := awS_len (P := P) (u := u)
      by_cases q0 : gS P u = []
      · rw [awS_nil q0] at h1; simp at h1; omega
      · rw [vN_t ⟨q0, q⟩]
        by_cases q2 : (awS P u).length = 2
        · rw [b1_t q2]; omega
        · rw [b1_f q2]; omega
    · have : oN cov u = 0 := fb_ct_zero.mpr (fun v hv => Bool.eq_false_iff.mpr (fun z => q (hJ u v hv z).2.2))
      omega
  rw [sm_add] at h1
  have h2 : sm (fun u => b1 ((awS P u).length = 2)) P.length ≤ awC P := Nat.le_add_right _ _
  omega
