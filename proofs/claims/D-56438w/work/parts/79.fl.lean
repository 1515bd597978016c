/-! floats: quotients of small whole numbers are no NaN *
-/
set_option maxRecDepth 100000
theorem fl_rr (f : Jvm.FP.Core.Fmt) (s : Bool) (A B : Nat) (e : Int) : Jvm.FP.Core.roundRatio f s A B e ≠ .nan := by
  unfold Jvm.FP.Core.roundRatio Jvm.FP.Core.roundAt Jvm.FP.Core.settle Jvm.FP.Core.bound
  intro h
  split at h
  · cases h
  · split at h
    · split at h <;> cases h
    · split at h <;> cases h
/-- a number is equal to itself -/
theorem fl_order {d : Jvm.FP.Core.Datum} (h : d ≠ .nan) : Jvm.FP.Core.order d d = some .eq := by
  have hc : ∀ x : Int, compare x x = .eq := fun x => by show (if x < x then Ordering.lt else if x = x then Ordering.eq else Ordering.gt) = _; rw [if_neg (Int.lt_irrefl x), if_pos rfl]
  cases d with
  | nan => exact absurd rfl h
  | inf s => show some (compare _ _) = _; rw [hc]
  | fin s c q => show some (compare _ _) = _; rw [hc]
/-- what is no NaN, in bits of 32 -/
theorem fl_enc32 {d : Jvm.FP.Core.Datum} (h : ∀ s c q, d = .fin s c q → c < 2 ^ 24 ∧ q ≤ 104) (hn : d ≠ .nan) : Jvm.FP.Core.encode Jvm.FP.Core.b32 d < 2 ^ 32 ∧ Jvm.FP.Core.encode Jvm.FP.Core.b32 d % 2 ^ 31 ≤ 2139095040 ∧ (∀ s c q, d = .fin s c q → Jvm.FP.Core.encode Jvm.FP.Core.b32 d % 2 ^ 31 < 2139095040 ∧ (c ≠ 0 → Jvm.FP.Core.encode Jvm.FP.Core.b32 d % 2 ^ 31 ≠ 0)) := by
  have hA : ∀ (s : Bool) (e t : Nat), Jvm.FP.Core.assemble Jvm.FP.Core.b32 s e t = ((if s then 256 else 0) + e) * 8388608 + t := fun s e t => by cases s <;> rfl
  cases d with
  | nan => exact absurd rfl hn
  | inf s =>
    have e1 : Jvm.FP.Core.encode Jvm.FP.Core.b32 (.inf s) = ((if s then 256 else 0) + 255) * 8388608 + 0 := hA s 255 0
    rw [e1]
    refine ⟨by cases s <;> decide, by cases s <;> decide, fun _ _ _ z => by cases z⟩
  | fin s c q =>
    obtain ⟨h1, h2⟩ := h s c q rfl
    have e1 : Jvm.FP.Core.encode Jvm.FP.Core.b32 (.fin s c q) = if c < 8388608 then ((if s then 256 else 0) + 0) * 8388608 + c else ((if s then 256 else 0) + ((q - (-149)).toNat + 1)) * 8388608 + (c - 8388608) := by
      show (if c < 8388608 then Jvm.FP.Core.assemble Jvm.FP.Core.b32 s 0 c else Jvm.FP.Core.assemble Jvm.FP.Core.b32 s ((q - (-149)).toNat + 1) (c - 8388608)) = _
      rw [hA, hA]
    rw [e1]
    have h3 : (q - (-149)).toNat ≤ 255 - 2 := by omega
    generalize (q - (-149)).toNat = k at h3
    have h1 : c < 16777216 := h1
    refine ⟨?_, ?_, fun s2 c2 q2 hz => ?_⟩
    · split <;> cases s <;> simp only [if_true, if_false, Bool.false_eq_true] <;> omega
    · split <;> cases s <;> simp only [if_true, if_false, Bool.false_eq_true] <;> omega
    · cases hz
      refine ⟨?_, fun hc => ?_⟩
      · split <;> cases s <;> simp only [if_true, if_false, Bool.false_eq_true] <;> omega
      · split <;> cases s <;> simp only [if_true, if_false, Bool.false_eq_true] <;> omega
theorem fl_dec32 {n : Nat} : (n % 2 ^ 31 ≤ 2139095040 → Jvm.FP.Core.decode Jvm.FP.Core.b32 n ≠ .nan) ∧ (n % 2 ^ 31 < 2139095040 → ∃ s c q, Jvm.FP.Core.decode Jvm.FP.Core.b32 n = .fin s c q ∧ (n % 2 ^ 31 ≠ 0 → c ≠ 0)) := by
  have e1 : Jvm.FP.Core.decode Jvm.FP.Core.b32 n = if n / 8388608 % 256 = 255 then (if n % 8388608 = 0 then .inf (Jvm.FP.Core.fieldS Jvm.FP.Core.b32 n) else .nan) else if n / 8388608 % 256 = 0 then .fin (Jvm.FP.Core.fieldS Jvm.FP.Core.b32 n) (n % 8388608) Jvm.FP.Core.b32.qmin else .fin (Jvm.FP.Core.fieldS Jvm.FP.Core.b32 n) (8388608 + n % 8388608) (Jvm.FP.Core.b32.qmin + (((n / 8388608 % 256 : Nat) : Int) - 1)) := rfl
  rw [e1]
  refine ⟨fun h z => ?_, fun h => ?_⟩
  · split at z
    · split at z
      · cases z
      · omega
    · split at z <;> cases z
  · rw [if_neg (by omega)]
    split
    · exact ⟨_, _, _, rfl, fun z => by omega⟩
    · exact ⟨_, _, _, rfl, fun _ => by omega⟩
theorem fl_rb32 (s : Bool) (A B : Nat) (e : Int) : ∀ s2 c q, Jvm.FP.Core.roundRatio Jvm.FP.Core.b32 s A B e = .fin s2 c q → c < 2 ^ 24 ∧ q ≤ 104 := by
  intro s2 c q h
  unfold Jvm.FP.Core.roundRatio Jvm.FP.Core.roundAt Jvm.FP.Core.settle Jvm.FP.Core.bound at h
  split at h
  · cases h
    exact ⟨by decide, by decide⟩
  · split at h
    · rename_i h1
      split at h
      · rename_i h2
        cases h
        exact ⟨h1, h2⟩
      · cases h
    · split at h
      · rename_i h2
        cases h
        exact ⟨by decide, h2⟩
      · cases h
theorem fl_vf32 {d : Jvm.FP.Core.Datum} (h : ∀ s c q, d = .fin s c q → c < 2 ^ 24 ∧ q ≤ 104) (hn : d ≠ .nan) : vf_n32 (UInt32.ofNat (Jvm.FP.Core.encode Jvm.FP.Core.b32 d)) ∧ (UInt32.ofNat (Jvm.FP.Core.encode Jvm.FP.Core.b32 d)).toNat = Jvm.FP.Core.encode Jvm.FP.Core.b32 d := by
  obtain ⟨h1, h2, -⟩ := fl_enc32 h hn
  have e0 : (UInt32.ofNat (Jvm.FP.Core.encode Jvm.FP.Core.b32 d)).toNat = Jvm.FP.Core.encode Jvm.FP.Core.b32 d := UInt32.toNat_ofNat_of_lt' h1
  refine ⟨?_, e0⟩
  unfold vf_n32
  rw [UInt32.le_iff_toNat_le, UInt32.toNat_and, e0]
  have e1 : (0x7fffffff : UInt32).toNat = 2 ^ 31 - 1 := by decide
  have e2 : (0x7f800000 : UInt32).toNat = 2139095040 := by decide
  rw [e1, e2, Nat.and_two_pow_sub_one_eq_mod]
  exact h2
theorem fl_vn32 {x : UInt32} (h : vf_n32 x) : Jvm.FP.Core.decode Jvm.FP.Core.b32 x.toNat ≠ .nan := by
  unfold vf_n32 at h
  rw [UInt32.le_iff_toNat_le, UInt32.toNat_and] at h
  have e1 : (0x7fffffff : UInt32).toNat = 2 ^ 31 - 1 := by decide
  have e2 : (0x7f800000 : UInt32).toNat = 2139095040 := by decide
  rw [e1, e2, Nat.and_two_pow_sub_one_eq_mod] at h
  exact fl_dec32.1 h
/-- a small whole number -/
theorem fl_int32 {a : Nat} (ha : a < 2 ^ 24) : ∃ s c q, Jvm.FP.Core.decode Jvm.FP.Core.b32 (Jvm.FP.Core.i2f (nI a)).toNat = .fin s c q ∧ (a ≠ 0 → c ≠ 0) := by
  have e0 : Jvm.FP.Core.i2f (nI a) = UInt32.ofNat (Jvm.FP.Core.encode Jvm.FP.Core.b32 (Jvm.FP.Core.roundRatio Jvm.FP.Core.b32 false a 1 0)) := by
    show UInt32.ofNat (Jvm.FP.Core.encode Jvm.FP.Core.b32 (Jvm.FP.Core.roundRatio Jvm.FP.Core.b32 (decide ((nI a).toInt < 0)) (nI a).toInt.natAbs 1 0)) = _
    rw [nI_toInt (Nat.lt_of_lt_of_le ha (by decide)), decide_eq_false (by omega), Int.natAbs_natCast]
  obtain ⟨c, q, e1, hc⟩ : ∃ c q, Jvm.FP.Core.roundRatio Jvm.FP.Core.b32 false a 1 0 = .fin false c q ∧ (a ≠ 0 → c ≠ 0) := by
    by_cases h0 : a = 0
    · subst h0; exact ⟨_, _, rfl, fun z => absurd rfl z⟩
    · have hk : Jvm.FP.Core.leading a 1 = (a.log2 : Int) := by
        have h1 := Nat.log2_self_le h0
        unfold Jvm.FP.Core.leading
        have e9 : Nat.log2 1 = 0 := by decide
        simp only [e9]
        rw [if_pos (by rw [show ((a.log2 : Int) - ((0 : Nat) : Int)).toNat = a.log2 by omega, show (-((a.log2 : Int) - ((0 : Nat) : Int))).toNat = 0 by omega]; omega)]
        omega
      have hl : a.log2 < 24 := (Nat.log2_lt h0).mpr ha
      have hq : Jvm.FP.Core.quantum Jvm.FP.Core.b32 a 1 0 ≤ 0 := by
        unfold Jvm.FP.Core.quantum
        rw [hk]
        have e8 : Jvm.FP.Core.Fmt.qmin Jvm.FP.Core.b32 = (-149) := by decide
        have e7 : Jvm.FP.Core.Fmt.p Jvm.FP.Core.b32 = 24 := rfl
        rw [e8, e7]
        omega
      have hc : 1 ≤ Jvm.FP.Core.nearest (Jvm.FP.Core.unitsNum a 0 (Jvm.FP.Core.quantum Jvm.FP.Core.b32 a 1 0)) (Jvm.FP.Core.unitsDen 1 0 (Jvm.FP.Core.quantum Jvm.FP.Core.b32 a 1 0)) := by
        generalize Jvm.FP.Core.quantum Jvm.FP.Core.b32 a 1 0 = k at hq
        have e6 : Jvm.FP.Core.unitsDen 1 0 k = 1 := by unfold Jvm.FP.Core.unitsDen; rw [show (k - 0).toNat = 0 by omega]
        have e5 : 1 ≤ Jvm.FP.Core.unitsNum a 0 k := by
          unfold Jvm.FP.Core.unitsNum
          exact Nat.mul_pos (by omega) (Nat.two_pow_pos _)
        rw [e6]
        unfold Jvm.FP.Core.nearest
        rw [Nat.mod_one, Nat.div_one]
        split
        · exact e5
        · split
          · omega
          · omega
      have e4 : Jvm.FP.Core.Fmt.qmax Jvm.FP.Core.b32 = 104 := by decide
      unfold Jvm.FP.Core.roundRatio Jvm.FP.Core.roundAt Jvm.FP.Core.settle Jvm.FP.Core.bound
      rw [if_neg h0, e4]
      split
      · rw [if_pos (by omega)]; exact ⟨_, _, rfl, fun _ => by omega⟩
      · rw [if_pos (by omega)]; exact ⟨_, _, rfl, fun _ => by decide⟩
  have hb := fl_rb32 false a 1 0
  rw [e1] at hb e0
  obtain ⟨g1, -, g3⟩ := fl_enc32 hb (by intro z; cases z)
  obtain ⟨g4, g5⟩ := g3 _ _ _ rfl
  obtain ⟨s2, c2, q2, e2, hc2⟩ := fl_dec32.2 g4
  rw [e0, UInt32.toNat_ofNat_of_lt' g1]
  exact ⟨s2, c2, q2, e2, fun z => hc2 (g5 (hc z))⟩
theorem fl_div32 {a b : Nat} (ha : a < 2 ^ 24) (hb : 0 < b) (hb2 : b < 2 ^ 24) : vf_n32 (FP.fdiv (FP.i2f (nI a)) (FP.i2f (nI b))) := by
  obtain ⟨s1, c1, q1, e1, -⟩ := fl_int32 ha
  obtain ⟨s2, c2, q2, e2, h2⟩ := fl_int32 hb2
  have e : FP.fdiv (FP.i2f (nI a)) (FP.i2f (nI b)) = UInt32.ofNat (Jvm.FP.Core.encode Jvm.FP.Core.b32 (Jvm.FP.Core.roundRatio Jvm.FP.Core.b32 (s1 != s2) c1 c2 (q1 - q2))) := by
    show UInt32.ofNat (Jvm.FP.Core.encode Jvm.FP.Core.b32 (Jvm.FP.Core.quotient Jvm.FP.Core.b32 (Jvm.FP.Core.decode Jvm.FP.Core.b32 (Jvm.FP.Core.i2f (nI a)).toNat) (Jvm.FP.Core.decode Jvm.FP.Core.b32 (Jvm.FP.Core.i2f (nI b)).toNat))) = _
    rw [e1, e2]
    show UInt32.ofNat (Jvm.FP.Core.encode Jvm.FP.Core.b32 (if c2 = 0 then _ else _)) = _
    rw [if_neg (h2 (by omega))]
  rw [e]
  exact (fl_vf32 (fl_rb32 _ _ _ _) (fl_rr _ _ _ _ _)).1
theorem fl_cmp32 {x : UInt32} (h : vf_n32 x) : FP.fcmp x x = some .eq := fl_order (fl_vn32 h)
/-- what is no NaN, in bits of 64 -/
theorem fl_enc64 {d : Jvm.FP.Core.Datum} (h : ∀ s c q, d = .fin s c q → c < 2 ^ 53 ∧ q ≤ 971) (hn : d ≠ .nan) : Jvm.FP.Core.encode Jvm.FP.Core.b64 d < 2 ^ 64 ∧ Jvm.FP.Core.encode Jvm.FP.Core.b64 d % 2 ^ 63 ≤ 9218868437227405312 ∧ (∀ s c q, d = .fin s c q → Jvm.FP.Core.encode Jvm.FP.Core.b64 d % 2 ^ 63 < 9218868437227405312 ∧ (c ≠ 0 → Jvm.FP.Core.encode Jvm.FP.Core.b64 d % 2 ^ 63 ≠ 0)) := by
  have hA : ∀ (s : Bool) (e t : Nat), Jvm.FP.Core.assemble Jvm.FP.Core.b64 s e t = ((if s then 2048 else 0) + e) * 4503599627370496 + t := fun s e t => by cases s <;> rfl
  cases d with
  | nan => exact absurd rfl hn
  | inf s =>
    have e1 : Jvm.FP.Core.encode Jvm.FP.Core.b64 (.inf s) = ((if s then 2048 else 0) + 2047) * 4503599627370496 + 0 := hA s 2047 0
    rw [e1]
    refine ⟨by cases s <;> decide, by cases s <;> decide, fun _ _ _ z => by cases z⟩
  | fin s c q =>
    obtain ⟨h1, h2⟩ := h s c q rfl
    have e1 : Jvm.FP.Core.encode Jvm.FP.Core.b64 (.fin s c q) = if c < 4503599627370496 then ((if s then 2048 else 0) + 0) * 4503599627370496 + c else ((if s then 2048 else 0) + ((q - (-1074)).toNat + 1)) * 4503599627370496 + (c - 4503599627370496) := by
      show (if c < 4503599627370496 then Jvm.FP.Core.assemble Jvm.FP.Core.b64 s 0 c else Jvm.FP.Core.assemble Jvm.FP.Core.b64 s ((q - (-1074)).toNat + 1) (c - 4503599627370496)) = _
      rw [hA, hA]
    rw [e1]
    have h3 : (q - (-1074)).toNat ≤ 2047 - 2 := by omega
    generalize (q - (-1074)).toNat = k at h3
    have h1 : c < 9007199254740992 := h1
    refine ⟨?_, ?_, fun s2 c2 q2 hz => ?_⟩
    · split <;> cases s <;> simp only [if_true, if_false, Bool.false_eq_true] <;> omega
    · split <;> cases s <;> simp only [if_true, if_false, Bool.false_eq_true] <;> omega
    · cases hz
      refine ⟨?_, fun hc => ?_⟩
      · split <;> cases s <;> simp only [if_true, if_false, Bool.false_eq_true] <;> omega
      · split <;> cases s <;> simp only [if_true, if_false, Bool.false_eq_true] <;> omega
theorem fl_dec64 {n : Nat} : (n % 2 ^ 63 ≤ 9218868437227405312 → Jvm.FP.Core.decode Jvm.FP.Core.b64 n ≠ .nan) ∧ (n % 2 ^ 63 < 9218868437227405312 → ∃ s c q, Jvm.FP.Core.decode Jvm.FP.Core.b64 n = .fin s c q ∧ (n % 2 ^ 63 ≠ 0 → c ≠ 0)) := by
  have e1 : Jvm.FP.Core.decode Jvm.FP.Core.b64 n = if n / 4503599627370496 % 2048 = 2047 then (if n % 4503599627370496 = 0 then .inf (Jvm.FP.Core.fieldS Jvm.FP.Core.b64 n) else .nan) else if n / 4503599627370496 % 2048 = 0 then .fin (Jvm.FP.Core.fieldS Jvm.FP.Core.b64 n) (n % 4503599627370496) Jvm.FP.Core.b64.qmin else .fin (Jvm.FP.Core.fieldS Jvm.FP.Core.b64 n) (4503599627370496 + n % 4503599627370496) (Jvm.FP.Core.b64.qmin + (((n / 4503599627370496 % 2048 : Nat) : Int) - 1)) := rfl
  rw [e1]
  refine ⟨fun h z => ?_, fun h => ?_⟩
  · split at z
    · split at z
      · cases z
      · omega
    · split at z <;> cases z
  · rw [if_neg (by omega)]
    split
    · exact ⟨_, _, _, rfl, fun z => by omega⟩
    · exact ⟨_, _, _, rfl, fun _ => by omega⟩
theorem fl_rb64 (s : Bool) (A B : Nat) (e : Int) : ∀ s2 c q, Jvm.FP.Core.roundRatio Jvm.FP.Core.b64 s A B e = .fin s2 c q → c < 2 ^ 53 ∧ q ≤ 971 := by
  intro s2 c q h
  unfold Jvm.FP.Core.roundRatio Jvm.FP.Core.roundAt Jvm.FP.Core.settle Jvm.FP.Core.bound at h
  split at h
  · cases h
    exact ⟨by decide, by decide⟩
  · split at h
    · rename_i h1
      split at h
      · rename_i h2
        cases h
        exact ⟨h1, h2⟩
      · cases h
    · split at h
      · rename_i h2
        cases h
        exact ⟨by decide, h2⟩
      · cases h
theorem fl_vf64 {d : Jvm.FP.Core.Datum} (h : ∀ s c q, d = .fin s c q → c < 2 ^ 53 ∧ q ≤ 971) (hn : d ≠ .nan) : vf_n64 (UInt64.ofNat (Jvm.FP.Core.encode Jvm.FP.Core.b64 d)) ∧ (UInt64.ofNat (Jvm.FP.Core.encode Jvm.FP.Core.b64 d)).toNat = Jvm.FP.Core.encode Jvm.FP.Core.b64 d := by
  obtain ⟨h1, h2, -⟩ := fl_enc64 h hn
  have e0 : (UInt64.ofNat (Jvm.FP.Core.encode Jvm.FP.Core.b64 d)).toNat = Jvm.FP.Core.encode Jvm.FP.Core.b64 d := UInt64.toNat_ofNat_of_lt' h1
  refine ⟨?_, e0⟩
  unfold vf_n64
  rw [UInt64.le_iff_toNat_le, UInt64.toNat_and, e0]
  have e1 : (0x7fffffffffffffff : UInt64).toNat = 2 ^ 63 - 1 := by decide
  have e2 : (0x7ff0000000000000 : UInt64).toNat = 9218868437227405312 := by decide
  rw [e1, e2, Nat.and_two_pow_sub_one_eq_mod]
  exact h2
theorem fl_vn64 {x : UInt64} (h : vf_n64 x) : Jvm.FP.Core.decode Jvm.FP.Core.b64 x.toNat ≠ .nan := by
  unfold vf_n64 at h
  rw [UInt64.le_iff_toNat_le, UInt64.toNat_and] at h
  have e1 : (0x7fffffffffffffff : UInt64).toNat = 2 ^ 63 - 1 := by decide
  have e2 : (0x7ff0000000000000 : UInt64).toNat = 9218868437227405312 := by decide
  rw [e1, e2, Nat.and_two_pow_sub_one_eq_mod] at h
  exact fl_dec64.1 h
/-- a small whole number -/
theorem fl_int64 {a : Nat} (ha : a < 2 ^ 31) : ∃ s c q, Jvm.FP.Core.decode Jvm.FP.Core.b64 (Jvm.FP.Core.i2d (nI a)).toNat = .fin s c q ∧ (a ≠ 0 → c ≠ 0) := by
  have e0 : Jvm.FP.Core.i2d (nI a) = UInt64.ofNat (Jvm.FP.Core.encode Jvm.FP.Core.b64 (Jvm.FP.Core.roundRatio Jvm.FP.Core.b64 false a 1 0)) := by
    show UInt64.ofNat (Jvm.FP.Core.encode Jvm.FP.Core.b64 (Jvm.FP.Core.roundRatio Jvm.FP.Core.b64 (decide ((nI a).toInt < 0)) (nI a).toInt.natAbs 1 0)) = _
    rw [nI_toInt (Nat.lt_of_lt_of_le ha (by decide)), decide_eq_false (by omega), Int.natAbs_natCast]
  obtain ⟨c, q, e1, hc⟩ : ∃ c q, Jvm.FP.Core.roundRatio Jvm.FP.Core.b64 false a 1 0 = .fin false c q ∧ (a ≠ 0 → c ≠ 0) := by
    by_cases h0 : a = 0
    · subst h0; exact ⟨_, _, rfl, fun z => absurd rfl z⟩
    · have hk : Jvm.FP.Core.leading a 1 = (a.log2 : Int) := by
        have h1 := Nat.log2_self_le h0
        unfold Jvm.FP.Core.leading
        have e9 : Nat.log2 1 = 0 := by decide
        simp only [e9]
        rw [if_pos (by rw [show ((a.log2 : Int) - ((0 : Nat) : Int)).toNat = a.log2 by omega, show (-((a.log2 : Int) - ((0 : Nat) : Int))).toNat = 0 by omega]; omega)]
        omega
      have hl : a.log2 < 31 := (Nat.log2_lt h0).mpr ha
      have hq : Jvm.FP.Core.quantum Jvm.FP.Core.b64 a 1 0 ≤ 0 := by
        unfold Jvm.FP.Core.quantum
        rw [hk]
        have e8 : Jvm.FP.Core.Fmt.qmin Jvm.FP.Core.b64 = (-1074) := by decide
        have e7 : Jvm.FP.Core.Fmt.p Jvm.FP.Core.b64 = 53 := rfl
        rw [e8, e7]
        omega
      have hc : 1 ≤ Jvm.FP.Core.nearest (Jvm.FP.Core.unitsNum a 0 (Jvm.FP.Core.quantum Jvm.FP.Core.b64 a 1 0)) (Jvm.FP.Core.unitsDen 1 0 (Jvm.FP.Core.quantum Jvm.FP.Core.b64 a 1 0)) := by
        generalize Jvm.FP.Core.quantum Jvm.FP.Core.b64 a 1 0 = k at hq
        have e6 : Jvm.FP.Core.unitsDen 1 0 k = 1 := by unfold Jvm.FP.Core.unitsDen; rw [show (k - 0).toNat = 0 by omega]
        have e5 : 1 ≤ Jvm.FP.Core.unitsNum a 0 k := by
          unfold Jvm.FP.Core.unitsNum
          exact Nat.mul_pos (by omega) (Nat.two_pow_pos _)
        rw [e6]
        unfold Jvm.FP.Core.nearest
        rw [Nat.mod_one, Nat.div_one]
        split
        · exact e5
        · split
          · omega
          · omega
      have e4 : Jvm.FP.Core.Fmt.qmax Jvm.FP.Core.b64 = 971 := by decide
      unfold Jvm.FP.Core.roundRatio Jvm.FP.Core.roundAt Jvm.FP.Core.settle Jvm.FP.Core.bound
      rw [if_neg h0, e4]
      split
      · rw [if_pos (by omega)]; exact ⟨_, _, rfl, fun _ => by omega⟩
      · rw [if_pos (by omega)]; exact ⟨_, _, rfl, fun _ => by decide⟩
  have hb := fl_rb64 false a 1 0
  rw [e1] at hb e0
  obtain ⟨g1, -, g3⟩ := fl_enc64 hb (by intro z; cases z)
  obtain ⟨g4, g5⟩ := g3 _ _ _ rfl
  obtain ⟨s2, c2, q2, e2, hc2⟩ := fl_dec64.2 g4
  rw [e0, UInt64.toNat_ofNat_of_lt' g1]
  exact ⟨s2, c2, q2, e2, fun z => hc2 (g5 (hc z))⟩
theorem fl_div64 {a b : Nat} (ha : a < 2 ^ 31) (hb : 0 < b) (hb2 : b < 2 ^ 31) : vf_n64 (FP.ddiv (FP.i2d (nI a)) (FP.i2d (nI b))) := by
  obtain ⟨s1, c1, q1, e1, -⟩ := fl_int64 ha
  obtain ⟨s2, c2, q2, e2, h2⟩ := fl_int64 hb2
  have e : FP.ddiv (FP.i2d (nI a)) (FP.i2d (nI b)) = UInt64.ofNat (Jvm.FP.Core.encode Jvm.FP.Core.b64 (Jvm.FP.Core.roundRatio Jvm.FP.Core.b64 (s1 != s2) c1 c2 (q1 - q2))) := by
    show UInt64.ofNat (Jvm.FP.Core.encode Jvm.FP.Core.b64 (Jvm.FP.Core.quotient Jvm.FP.Core.b64 (Jvm.FP.Core.decode Jvm.FP.Core.b64 (Jvm.FP.Core.i2d (nI a)).toNat) (Jvm.FP.Core.decode Jvm.FP.Core.b64 (Jvm.FP.Core.i2d (nI b)).toNat))) = _
    rw [e1, e2]
    show UInt64.ofNat (Jvm.FP.Core.encode Jvm.FP.Core.b64 (if c2 = 0 then _ else _)) = _
    rw [if_neg (h2 (by omega))]
  rw [e]
  exact (fl_vf64 (fl_rb64 _ _ _ _) (fl_rr _ _ _ _ _)).1
theorem fl_cmp64 {x : UInt64} (h : vf_n64 x) : FP.dcmp x x = some .eq := fl_order (fl_vn64 h)
theorem fl_f2d {x : UInt32} (h : vf_n32 x) : vf_n64 (FP.f2d x) := by
  have h0 := fl_vn32 h
  have h1 : Jvm.FP.Core.fIsNaN x = false := decide_eq_false h0
  have e : FP.f2d x = UInt64.ofNat (Jvm.FP.Core.encode Jvm.FP.Core.b64 (Jvm.FP.Core.round Jvm.FP.Core.b64 (Jvm.FP.Core.decode Jvm.FP.Core.b32 x.toNat))) := if_neg (by rw [h1]; decide)
  rw [e]
  generalize Jvm.FP.Core.decode Jvm.FP.Core.b32 x.toNat = d at h0
  cases d with
  | nan => exact absurd rfl h0
  | inf s => exact (fl_vf64 (d := .inf s) (fun _ _ _ z => by cases z) (by intro z; cases z)).1
  | fin s c q => exact (fl_vf64 (fl_rb64 _ _ _ _) (fl_rr _ _ _ _ _)).1
section FL
variable {p : Program} {l : Launch} {e : Env} {R : Room} {s : State} {m : MethodId} {args : Array Value} {below : List Frame} {meth : Method} {c : Code} {H : Heap} {locs : List Loc} {cells slots : Nat} {Q : State → Prop}
variable {cc : ByteArray} {pc : Nat} {ls : Array Slot} {rest : List Value} {D : va_G} {A : Nat → Prop} {a : Nat} {w : g_H} {H0 : Heap}
theorem g_fret (hx : p.tables.exec = Jvm.exec) (hb : c.code = cc) (hr : meth.sig.returnType = some .float) (hlocks : meth.locks = false) {v : UInt32} {w0 : g_H} {mc ms : Nat} {post : UInt32 → g_H → Prop} (hW : g_W D (g_A w0 s.heap.size) s.heap H locs w) (hp : post v w) (hc : cells ≤ mc) (hs : slots ≤ ms) (hdg : decode cc pc = .ok (.freturn, 1)) : W p l e R s m args below meth c H locs cells slots (MQ below (g_Qf D w0 s.heap.size post) args s mc ms (g_A w0 s.heap.size)) (F0 m pc ls [.float v]) :=
  W.widen hc hs (W.fret hx hb hr (fun t ht _ => ⟨⟨v, w, rfl, hp, hW.bo ht⟩, hW.2.2.1.F ht⟩) hW.2.2.1.2.2 hdg)
theorem g_dret (hx : p.tables.exec = Jvm.exec) (hb : c.code = cc) (hr : meth.sig.returnType = some .double) (hlocks : meth.locks = false) {v : UInt64} {w0 : g_H} {mc ms : Nat} {post : UInt64 → g_H → Prop} (hW : g_W D (g_A w0 s.heap.size) s.heap H locs w) (hp : post v w) (hc : cells ≤ mc) (hs : slots ≤ ms) (hdg : decode cc pc = .ok (.dreturn, 1)) : W p l e R s m args below meth c H locs cells slots (MQ below (g_Qd D w0 s.heap.size post) args s mc ms (g_A w0 s.heap.size)) (F0 m pc ls [.double v]) :=
  W.widen hc hs (W.dret hx hb hr (fun t ht _ => ⟨⟨v, w, rfl, hp, hW.bo ht⟩, hW.2.2.1.F ht⟩) hW.2.2.1.2.2 hdg)
end FL
