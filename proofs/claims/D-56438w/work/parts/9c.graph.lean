/-! ROOM 3: counting in a graph *
-/
set_option maxRecDepth 100000
/-- a sum over the first n numbers -/
def sm (f : Nat → Nat) : Nat → Nat
  | 0 => 0
  | n + 1 => sm f n + f n
theorem sm_le {f g : Nat → Nat} : ∀ {n : Nat}, (∀ i, i < n → f i ≤ g i) → sm f n ≤ sm g n
  | 0, _ => Nat.le_refl _
  | n + 1, h => Nat.add_le_add (sm_le (fun i hi => h i (by omega))) (h n (by omega))
theorem sm_eq {f g : Nat → Nat} : ∀ {n : Nat}, (∀ i, i < n → f i = g i) → sm f n = sm g n
  | 0, _ => rfl
  | n + 1, h => by
    show sm f n + f n = sm g n + g n
    rw [sm_eq (fun i hi => h i (by omega)), h n (by omega)]
theorem sm_add {f g : Nat → Nat} : ∀ {n : Nat}, sm (fun i => f i + g i) n = sm f n + sm g n
  | 0 => rfl
  | n + 1 => by
    show sm (fun i => f i + g i) n + (f n + g n) = sm f n + f n + (sm g n + g n)
    rw [sm_add]; omega
theorem sm_zero {f : Nat → Nat} {n : Nat} (h : ∀ i, i < n → f i = 0) : sm f n = 0 := by
  rw [sm_eq h]
  clear h
  induction n with
  | zero => rfl
  | succ n ih => show sm (fun _ => 0) n + 0 = 0; rw [ih]
theorem sm_swap {f : Nat → Nat → Nat} {m : Nat} : ∀ {n : Nat}, sm (fun i => sm (fun j => f i j) m) n = sm (fun j => sm (fun i => f i j) n) m
  | 0 => (sm_zero (fun _ _ => rfl)).symm
  | n + 1 => by
    show sm (fun i => sm (fun j => f i j) m) n + sm (fun j => f n j) m = sm (fun j => sm (fun i => f i j) n + f n j) m
    rw [sm_swap, sm_add]
theorem sm_one {f : Nat → Nat} : ∀ {n i : Nat}, i < n → f i ≤ sm f n
  | 0, _, h => absurd h (by omega)
  | n + 1, i, h => by
    show f i ≤ sm f n + f n
    by_cases e : i = n
    · subst e; omega
    · have := sm_one (f := f) (n := n) (i := i) (by omega); omega
theorem sm_if {p : Nat → Prop} [DecidablePred p] {a n : Nat} (h : a < n) : sm (fun y => if p y ∧ y = a then 1 else 0) n = if p a then 1 else 0 := by
  induction n with
  | zero => omega
  | succ n ih =>
    show sm (fun y => if p y ∧ y = a then 1 else 0) n + (if p n ∧ n = a then 1 else 0) = _
    by_cases e : a = n
    · subst e
      rw [sm_zero (fun i hi => if_neg (fun z => by omega))]
      by_cases q : p a
      · rw [if_pos q, if_pos ⟨q, rfl⟩]
      · rw [if_neg q, if_neg (fun z => q z.1)]
    · rw [ih (by omega), if_neg (show ¬ (p n ∧ n = a) from fun z => e z.2.symm), Nat.add_zero]
/-- how often y stands in a row -/
theorem sm_count {p : Nat → Bool} {n : Nat} : ∀ (l : List Nat), (∀ v ∈ l, v < n) → sm (fun y => if p y = true then l.count y else 0) n = l.countP p
  | [], _ => sm_zero (fun i _ => by split <;> rfl)
  | v :: l, h => by
    have hv := h v List.mem_cons_self
    rw [List.countP_cons, ← sm_count l (fun w hw => h w (List.mem_cons_of_mem _ hw)), ← sm_if (p := fun y => p y = true) hv, ← sm_add]
    refine sm_eq (fun y _ => ?_)
    rw [List.count_cons]
    by_cases q : p y = true
    · by_cases e : y = v
      · subst e
        rw [if_pos q, if_pos q, if_pos (beq_self_eq_true _), if_pos (show p y = true ∧ y = y from ⟨q, rfl⟩)]
      · rw [if_pos q, if_pos q, if_neg (show ¬ (v == y) = true from fun z => e (beq_iff_eq.mp z).symm), if_neg (show ¬ (p y = true ∧ y = v) from fun z => e z.2)]
    · rw [if_neg q, if_neg q, if_neg (show ¬ (p y = true ∧ y = v) from fun z => q z.1)]
/-- of a number of true things -/
def b1 (p : Prop) [Decidable p] : Nat := if p then 1 else 0
theorem b1_t {p : Prop} [Decidable p] (h : p) : b1 p = 1 := if_pos h
theorem b1_f {p : Prop} [Decidable p] (h : ¬ p) : b1 p = 0 := if_neg h
theorem b1_le {p : Prop} [Decidable p] : b1 p ≤ 1 := by unfold b1; split <;> omega
/-- reached ends outside of Z, and forks with both ways in Z, are no more than the forks -/
theorem g_cnt {n : Nat} {suc : Nat → List Nat} {rc Z : Nat → Bool} (hs : ∀ u, u < n → ∀ v ∈ suc u, v < n) (hl : ∀ u, u < n → (suc u).length ≤ 2)
    (hp : ∀ v, v < n → rc v = true → Z v = false → ∃ u, u < n ∧ rc u = true ∧ v ∈ suc u)
    (hr : ∀ u, u < n → rc u = true → ∀ v ∈ suc u, rc v = true)
    (hZ : ∀ u, u < n → ∀ v ∈ suc u, Z v = true → Z u = true) (hZp : ∀ u, u < n → Z u = true → suc u ≠ [] → ∃ v ∈ suc u, Z v = true) :
    sm (fun u => b1 (rc u = true ∧ Z u = false ∧ suc u = [])) n + sm (fun u => b1 ((suc u).length = 2 ∧ ∀ v ∈ suc u, Z v = true)) n ≤ sm (fun u => b1 ((suc u).length = 2)) n := by
  have h1 : sm (fun y => b1 (rc y = true ∧ Z y = false)) n ≤ sm (fun u => if rc u = true then (suc u).countP (fun y => rc y && !Z y) else 0) n := by
    have e : sm (fun u => if rc u = true then (suc u).countP (fun y => rc y && !Z y) else 0) n = sm (fun u => sm (fun y => if rc u = true then (if (rc y && !Z y) = true then (suc u).count y else 0) else 0) n) n := by
      refine sm_eq (fun u hu => ?_)
      by_cases q : rc u = true
      · rw [if_pos q, ← sm_count _ (hs u hu)]
        exact sm_eq (fun y _ => (if_pos q).symm)
      · rw [if_neg q]
        exact (sm_zero (fun y _ => if_neg q)).symm
    rw [e, sm_swap]
    refine sm_le (fun y hy => ?_)
    by_cases q : rc y = true ∧ Z y = false
    · rw [b1_t q]
      obtain ⟨u, hu, hu1, hu2⟩ := hp y hy q.1 q.2
      refine Nat.le_trans ?_ (sm_one (f := fun u => if rc u = true then (if (rc y && !Z y) = true then (suc u).count y else 0) else 0) hu)
      show 1 ≤ if rc u = true then (if (rc y && !Z y) = true then (suc u).count y else 0) else 0
      rw [if_pos hu1, if_pos (by rw [q.1, q.2]; rfl)]
      exact List.count_pos_iff.mpr hu2
    · rw [b1_f q]; exact Nat.zero_le _
  have h2 : sm (fun u => (if rc u = true then (suc u).countP (fun y => rc y && !Z y) else 0) + b1 ((suc u).length = 2 ∧ ∀ v ∈ suc u, Z v = true)) n ≤ sm (fun u => b1 (rc u = true ∧ Z u = false ∧ suc u ≠ []) + b1 ((suc u).length = 2)) n := by
    refine sm_le (fun u hu => ?_)
    have hlu := hl u hu
    by_cases qr : rc u = true
    · rw [if_pos qr]
      have hc : (suc u).countP (fun y => rc y && !Z y) ≤ (suc u).length := List.countP_le_length
      by_cases qz : Z u = true
      · rw [b1_f (p := rc u = true ∧ Z u = false ∧ suc u ≠ []) (fun z => by rw [qz] at z; cases z.2.1), Nat.zero_add]
        by_cases q2 : (suc u).length = 2
        · rw [b1_t q2]
          by_cases q3 : ∀ v ∈ suc u, Z v = true
          · rw [b1_t ⟨q2, q3⟩]
            have : (suc u).countP (fun y => rc y && !Z y) = 0 := by
              rw [List.countP_eq_zero]
              intro v hv z
              rw [q3 v hv] at z
              cases hz : rc v <;> rw [hz] at z <;> cases z
            omega
          · rw [b1_f (fun z => q3 z.2)]
            obtain ⟨v, hv, hzv⟩ := hZp u hu qz (fun z => by rw [z] at q2; cases q2)
            have : (suc u).countP (fun y => rc y && !Z y) < (suc u).length := by
              refine Nat.lt_of_le_of_ne hc (fun z => ?_)
              have := List.countP_eq_length.mp z v hv
              rw [hzv] at this
              cases hz : rc v <;> rw [hz] at this <;> cases this
            omega
        · rw [b1_f q2, b1_f (fun z => q2 z.1)]
          have : (suc u).countP (fun y => rc y && !Z y) = 0 := by
            rw [List.countP_eq_zero]
            intro v hv z
            obtain ⟨w, hw, hzw⟩ := hZp u hu qz (fun z => by rw [z] at hv; cases hv)
            have hl1 : (suc u).length = 1 := by
              have := List.length_pos_of_mem hv
              omega
            obtain ⟨a, ha⟩ := List.length_eq_one_iff.mp hl1
            rw [ha] at hv hw
            rw [List.mem_singleton.mp hv] at z
            rw [List.mem_singleton.mp hw] at hzw
            rw [hzw] at z
            cases hz : rc a <;> rw [hz] at z <;> cases z
          omega
      · have qz : Z u = false := Bool.eq_false_iff.mpr qz
        by_cases q0 : suc u = []
        · rw [q0]
          simp [b1]
        · rw [b1_t (p := rc u = true ∧ Z u = false ∧ suc u ≠ []) ⟨qr, qz, q0⟩]
          have q3 : ¬ ((suc u).length = 2 ∧ ∀ v ∈ suc u, Z v = true) := by
            rintro ⟨q2, q3⟩
            obtain ⟨v, hv⟩ := List.exists_mem_of_ne_nil _ q0
            have := hZ u hu v hv (q3 v hv)
            rw [qz] at this
            cases this
          rw [b1_f q3]
          by_cases q2 : (suc u).length = 2
          · rw [b1_t q2]; omega
          · rw [b1_f q2]; omega
    · rw [if_neg qr, Nat.zero_add]
      by_cases q2 : (suc u).length = 2
      · rw [b1_t q2]
        have := b1_le (p := (suc u).length = 2 ∧ ∀ v ∈ suc u, Z v = true)
        omega
      · rw [b1_f (p := (suc u).length = 2 ∧ ∀ v ∈ suc u, Z v = true) (fun z => q2 z.1)]
        exact Nat.zero_le _
  have h3 : sm (fun y => b1 (rc y = true ∧ Z y = false)) n = sm (fun u => b1 (rc u = true ∧ Z u = false ∧ suc u = [])) n + sm (fun u => b1 (rc u = true ∧ Z u = false ∧ suc u ≠ [])) n := by
    rw [← sm_add]
    refine sm_eq (fun u _ => ?_)
    by_cases q : rc u = true ∧ Z u = false
    · by_cases q0 : suc u = []
      · rw [b1_t q, b1_t ⟨q.1, q.2, q0⟩, b1_f (fun z => z.2.2 q0)]
      · rw [b1_t q, b1_f (fun z => q0 z.2.2), b1_t ⟨q.1, q.2, q0⟩]
    · rw [b1_f q, b1_f (fun z => q ⟨z.1, z.2.1⟩), b1_f (fun z => q ⟨z.1, z.2.1⟩)]
  rw [sm_add, sm_add] at h2
  omega
