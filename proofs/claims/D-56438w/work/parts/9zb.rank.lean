/-! ROOM 28: the rank: values of the tested register that are still to be crossed *
-/
set_option maxRecDepth 100000
noncomputable def hit (y F : Int32) (s : Nat) : Nat := by classical exact b1 (∃ k, k ≤ s ∧ F = y + nI k)
theorem hit_t {y F : Int32} {s : Nat} (h : ∃ k, k ≤ s ∧ F = y + nI k) : hit y F s = 1 := by classical
  unfold hit; exact b1_t h
theorem hit_f {y F : Int32} {s : Nat} (h : ¬ ∃ k, k ≤ s ∧ F = y + nI k) : hit y F s = 0 := by classical
  unfold hit; exact b1_f h
theorem hit_le {y F : Int32} {s : Nat} : hit y F s ≤ 1 := by classical
  unfold hit; exact b1_le
theorem hit_mono {y F F2 w : Int32} {s s2 m : Nat} (h : F2 = F - w * nI m) (hw : w = 0 ∨ w = 1) (hs : s2 + m ≤ s) : hit y F2 s2 ≤ hit y F s := by
  by_cases q : ∃ k, k ≤ s2 ∧ F2 = y + nI k
  · obtain ⟨k, k1, k2⟩ := q
    rw [hit_t ⟨k, k1, k2⟩]
    rw [hit_t]
    · exact Nat.le_refl _
    · rcases hw with z | z
      · refine ⟨k, by omega, ?_⟩
        rw [← k2, h, z]; grind
      · refine ⟨k + m, by omega, ?_⟩
        rw [← nI_add, ← Int32.add_assoc, ← k2, h, z]; grind
  · rw [hit_f q]; exact Nat.zero_le _
theorem hit_at {y : Int32} {s : Nat} : hit y y s = 1 := hit_t ⟨0, Nat.zero_le _, by rw [show nI 0 = 0 from rfl, Int32.add_zero]⟩
theorem hit_past {y : Int32} {s : Nat} (hs : s < 1000) : hit y (y - 1) s = 0 := hit_f (by
  rintro ⟨k, k1, k2⟩
  have h1 : nI (k + 1) = 0 := by
    rw [← nI_add, show nI 1 = 1 from rfl]
    grind
  have h2 := nI_toInt (n := k + 1) (by omega)
  rw [h1] at h2
  have : (0 : Int32).toInt = 0 := rfl
  omega)
theorem i32_succ {a : Int32} (h : a.toInt < 2 ^ 31 - 1) : (a + 1).toInt = a.toInt + 1 := by
  rw [Int32.toInt_add]
  have := Int32.le_toInt a
  simp [Int.bmod] at *
  omega
/-- the values at which a test changes -/
def xV (i : mI) : Int32 := if i.1 = 4 then Int32.minValue else i.2.2.1 + 1
theorem lt_cross {F v : Int32} (h : ¬ (F < v ↔ F - 1 < v)) : F = v ∨ F = Int32.minValue := by
  obtain ⟨G, hG⟩ : ∃ G, G = F - 1 := ⟨_, rfl⟩
  have hF : F = G + 1 := by rw [hG]; grind
  rw [← hG] at h
  have b1 := Int32.toInt_lt G
  by_cases q : G.toInt < 2 ^ 31 - 1
  · left
    have h1 := i32_succ q
    rw [← hF] at h1
    rw [Int32.lt_iff_toInt_lt, Int32.lt_iff_toInt_lt] at h
    have : F.toInt = v.toInt := by omega
    exact Int32.toInt_inj.mp this
  · right
    have h1 : G = Int32.maxValue := Int32.toInt_inj.mp (by have : Int32.maxValue.toInt = 2 ^ 31 - 1 := rfl; omega)
    rw [hF, h1]
    rfl
theorem fork_cross {i : mI} {g g2 : Nat → Int32} {a : Nat} (hf : i.1 = 4 ∨ i.1 = 5) (h : g2 i.2.1 = g i.2.1 - 1) (hne : mNext i g a ≠ mNext i g2 a) : g i.2.1 = i.2.2.1 ∨ g i.2.1 = xV i := by
  unfold xV
  rcases hf with q | q
  · rw [if_pos q]
    refine lt_cross (fun z => hne ?_)
    unfold mNext
    rw [if_pos q, if_pos q, h]
    by_cases z2 : g i.2.1 < i.2.2.1
    · rw [if_pos z2, if_pos (z.mp z2)]
    · rw [if_neg z2, if_neg (fun z3 => z2 (z.mpr z3))]
  · rw [if_neg (by omega)]
    by_cases z1 : g i.2.1 = i.2.2.1
    · exact .inl z1
    · right
      by_cases z2 : g2 i.2.1 = i.2.2.1
      · rw [h] at z2; rw [← z2]; grind
      · refine absurd ?_ hne
        unfold mNext
        have q4 : ¬ i.1 = 4 := by omega
        rw [if_neg q4, if_pos q, if_neg z1, if_neg q4, if_pos q, if_neg z2]
/-- how many values are still to be crossed -/
noncomputable def toCross (i : mI) (F : Int32) (s : Nat) : Nat := hit i.2.2.1 F s + hit (xV i) F s
theorem toCross_mono {i : mI} {F F2 w : Int32} {s s2 m : Nat} (h : F2 = F - w * nI m) (hw : w = 0 ∨ w = 1) (hs : s2 + m ≤ s) : toCross i F2 s2 ≤ toCross i F s :=
  Nat.add_le_add (hit_mono h hw hs) (hit_mono h hw hs)
theorem toCross_drop {i : mI} {g g2 : Nat → Int32} {a s s2 : Nat} (hf : i.1 = 4 ∨ i.1 = 5) (h : g2 i.2.1 = g i.2.1 - 1) (hne : mNext i g a ≠ mNext i g2 a) (hs : s2 + 1 ≤ s) (hs2 : s < 1000) : toCross i (g2 i.2.1) s2 + 1 ≤ toCross i (g i.2.1) s := by
  have hm : g2 i.2.1 = g i.2.1 - 1 * nI 1 := by rw [h, show nI 1 = 1 from rfl]; grind
  have a1 := hit_mono (y := i.2.2.1) hm (.inr rfl) hs
  have a2 := hit_mono (y := xV i) hm (.inr rfl) hs
  unfold toCross
  rcases fork_cross hf h hne with z | z
  · have b1 : hit i.2.2.1 (g i.2.1) s = 1 := by rw [z]; exact hit_at
    have b2 : hit i.2.2.1 (g2 i.2.1) s2 = 0 := by rw [h, z]; exact hit_past (by omega)
    omega
  · have b1 : hit (xV i) (g i.2.1) s = 1 := by rw [z]; exact hit_at
    have b2 : hit (xV i) (g2 i.2.1) s2 = 0 := by rw [h, z]; exact hit_past (by omega)
    omega
theorem toCross_le {i : mI} {F : Int32} {s : Nat} : toCross i F s ≤ 2 := by
  have := hit_le (y := i.2.2.1) (F := F) (s := s)
  have := hit_le (y := xV i) (F := F) (s := s)
  unfold toCross
  omega
