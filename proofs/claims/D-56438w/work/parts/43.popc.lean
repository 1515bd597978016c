/-! Long.bitCount's sum: the bits of a long, byte by byte -/
set_option maxRecDepth 100000
theorem sw_and {a b c d : Nat} (ha : a < 256) (hc : c < 256) : (a + 256 * b) &&& (c + 256 * d) = (a &&& c) + 256 * (b &&& d) := by
  have h1 := Nat.and_mod_two_pow (a := a + 256 * b) (b := c + 256 * d) (n := 8)
  have h2 := Nat.and_div_two_pow (a := a + 256 * b) (b := c + 256 * d) (n := 8)
  have e1 : (a + 256 * b) % 2 ^ 8 = a := by omega
  have e2 : (c + 256 * d) % 2 ^ 8 = c := by omega
  have e3 : (a + 256 * b) / 2 ^ 8 = b := by omega
  have e4 : (c + 256 * d) / 2 ^ 8 = d := by omega
  rw [e1, e2] at h1
  rw [e3, e4] at h2
  omega
def sM (m : Nat) : Nat → Nat
  | 0 => 0
  | k + 1 => m + 256 * sM m k
def s1 (k n : Nat) : Nat := n - ((n / 2) &&& sM 85 k)
def s2 (k n : Nat) : Nat := (n &&& sM 51 k) + ((n / 4) &&& sM 51 k)
def s3 (k n : Nat) : Nat := (n + n / 16) &&& sM 15 k
def c1 (b : Nat) : Nat := b - ((b / 2) &&& 85)
def c2 (b : Nat) : Nat := (b &&& 51) + ((b / 4) &&& 51)
def c3 (b : Nat) : Nat := (b + b / 16) &&& 15
theorem sw_1 : ∀ b, b < 256 → ∀ t, t < 2 → (b / 2 + 128 * t) &&& 85 = (b / 2) &&& 85 := by decide +kernel
theorem sw_2 : ∀ b, b < 256 → ∀ t, t < 4 → (b / 4 + 64 * t) &&& 51 = (b / 4) &&& 51 := by decide +kernel
theorem sw_3 : ∀ b, b < 69 → ∀ t, t < 5 → (b + b / 16 + 16 * t) &&& 15 = c3 b := by decide +kernel
theorem s1_step {k b y : Nat} (hb : b < 256) : s1 (k + 1) (b + 256 * y) = c1 b + 256 * s1 k y := by
  unfold s1 c1
  rw [show (b + 256 * y) / 2 = (b / 2 + 128 * (y % 2)) + 256 * (y / 2) by omega]
  rw [show sM 85 (k + 1) = 85 + 256 * sM 85 k from rfl, sw_and (by omega) (by decide), sw_1 b hb _ (Nat.mod_lt _ (by decide))]
  have h1 : (b / 2) &&& 85 ≤ b / 2 := Nat.and_le_left
  have h2 : (y / 2) &&& sM 85 k ≤ y / 2 := Nat.and_le_left
  omega
theorem s2_step {k b y : Nat} (hb : b < 256) : s2 (k + 1) (b + 256 * y) = c2 b + 256 * s2 k y := by
  unfold s2 c2
  rw [show (b + 256 * y) / 4 = (b / 4 + 64 * (y % 4)) + 256 * (y / 4) by omega]
  rw [show sM 51 (k + 1) = 51 + 256 * sM 51 k from rfl, sw_and hb (by decide), sw_and (by omega) (by decide), sw_2 b hb _ (Nat.mod_lt _ (by decide))]
  omega
theorem s3_step {k b y : Nat} (hb : b < 69) (hy : y % 16 < 5) : s3 (k + 1) (b + 256 * y) = c3 b + 256 * s3 k y := by
  unfold s3
  rw [show b + 256 * y + (b + 256 * y) / 16 = (b + b / 16 + 16 * (y % 16)) + 256 * (y + y / 16) by omega]
  rw [show sM 15 (k + 1) = 15 + 256 * sM 15 k from rfl, sw_and (by omega) (by decide), sw_3 b hb _ hy]
theorem sw_c : ∀ b, b < 256 → c1 b < 256 ∧ c2 (c1 b) < 69 ∧ c2 (c1 b) % 16 < 5 ∧ c3 (c2 (c1 b)) ≤ 8 ∧ c3 (c2 (c1 b)) = fb_ct (fun i => b.testBit i) 8 := by decide +kernel
theorem s2_low (k n : Nat) : s2 k (s1 k n) % 16 < 5 := by
  cases k with
  | zero => simp [s2, sM]
  | succ k =>
    have e : n = n % 256 + 256 * (n / 256) := by omega
    have h := sw_c (n % 256) (Nat.mod_lt _ (by decide))
    rw [e, s1_step (Nat.mod_lt _ (by decide)), s2_step h.1]
    omega
def sD : List Nat → Nat
  | [] => 0
  | p :: ps => p + 256 * sD ps
theorem sw_bits {b y : Nat} (hb : b < 256) (m : Nat) : fb_ct (fun i => (b + 256 * y).testBit i) (8 + m) = fb_ct (fun i => b.testBit i) 8 + fb_ct (fun i => y.testBit i) m := by
  rw [fb_ct_split]
  have e1 : fb_ct (fun i => (b + 256 * y).testBit i) 8 = fb_ct (fun i => b.testBit i) 8 := by
    refine fb_ct_cong fun k hk => ?_
    have h := Nat.testBit_mod_two_pow (b + 256 * y) 8 k
    rw [show (b + 256 * y) % 2 ^ 8 = b by omega] at h
    rw [h]
    simp [hk]
  have e2 : fb_ct (fun k => (b + 256 * y).testBit (8 + k)) m = fb_ct (fun i => y.testBit i) m := by
    refine fb_ct_cong fun k hk => ?_
    show (b + 256 * y).testBit (8 + k) = y.testBit k
    have h := Nat.testBit_div_two_pow (x := b + 256 * y) (n := 8) k
    rw [show (b + 256 * y) / 2 ^ 8 = y by omega] at h
    rw [h, Nat.add_comm 8 k]
  rw [e1, e2]
theorem sw_all : ∀ k n, n < 256 ^ k → ∃ ps : List Nat, ps.length = k ∧ (∀ p ∈ ps, p ≤ 8) ∧ s3 k (s2 k (s1 k n)) = sD ps ∧ ps.sum = fb_ct (fun i => n.testBit i) (8 * k) := by
  intro k
  induction k with
  | zero => intro n _; exact ⟨[], rfl, by simp, by simp [s3, sM, sD], rfl⟩
  | succ k ih =>
    intro n hn
    obtain ⟨ps, h1, h2, h3, h4⟩ := ih (n / 256) (by rw [Nat.pow_succ] at hn; omega)
    have e : n = n % 256 + 256 * (n / 256) := by omega
    have hb : n % 256 < 256 := Nat.mod_lt _ (by decide)
    have h := sw_c (n % 256) hb
    refine ⟨c3 (c2 (c1 (n % 256))) :: ps, by simp [h1], fun p hp => ?_, ?_, ?_⟩
    · rcases List.mem_cons.mp hp with q | q
      · rw [q]; exact h.2.2.2.1
      · exact h2 p q
    · conv => lhs; rw [e]
      rw [s1_step hb, s2_step h.1, s3_step h.2.1 (s2_low _ _), h3]
      rfl
    · rw [List.sum_cons, h4, h.2.2.2.2, show 8 * (k + 1) = 8 + 8 * k by omega]
      conv => rhs; rw [e]
      exact (sw_bits hb _).symm
/-- the end of the sum -/
theorem sw_end {n : Nat} (hn : n < 2 ^ 64) : ∃ a, s3 8 (s2 8 (s1 8 n)) = a ∧ a < 2 ^ 60 ∧ (a + a / 256 + (a + a / 256) / 65536 + (a + a / 256 + (a + a / 256) / 65536) / 4294967296) % 128 = fb_ct (fun i => n.testBit i) 64 := by
  obtain ⟨ps, h1, h2, h3, h4⟩ := sw_all 8 n hn
  match ps, h1, h2, h3, h4 with
  | [p0, p1, p2, p3, p4, p5, p6, p7], _, h2, h3, h4 =>
    simp only [List.mem_cons, List.not_mem_nil, or_false, forall_eq_or_imp, forall_eq] at h2
    simp only [sD] at h3
    simp only [List.sum_cons, List.sum_nil] at h4
    obtain ⟨a, ha⟩ : ∃ a, a = p0 + 256 * (p1 + 256 * (p2 + 256 * (p3 + 256 * (p4 + 256 * (p5 + 256 * (p6 + 256 * (p7 + 256 * 0))))))) := ⟨_, rfl⟩
    rw [← ha] at h3
    refine ⟨a, h3, by omega, ?_⟩
    have d1 : a / 256 = p1 + 256 * (p2 + 256 * (p3 + 256 * (p4 + 256 * (p5 + 256 * (p6 + 256 * p7))))) := by omega
    obtain ⟨x, hx⟩ : ∃ x, x = a + a / 256 := ⟨_, rfl⟩
    have hx1 : x = (p0 + p1) + 256 * ((p1 + p2) + 256 * ((p2 + p3) + 256 * ((p3 + p4) + 256 * ((p4 + p5) + 256 * ((p5 + p6) + 256 * ((p6 + p7) + 256 * p7)))))) := by omega
    have d2 : x / 65536 = (p2 + p3) + 256 * ((p3 + p4) + 256 * ((p4 + p5) + 256 * ((p5 + p6) + 256 * ((p6 + p7) + 256 * p7)))) := by
      clear hx d1 ha h3 h4
      omega
    obtain ⟨y, hy⟩ : ∃ y, y = x + x / 65536 := ⟨_, rfl⟩
    have hy1 : y = (p0 + p1 + p2 + p3) + 256 * ((p1 + p2 + p3 + p4) + 256 * ((p2 + p3 + p4 + p5) + 256 * ((p3 + p4 + p5 + p6) + 256 * ((p4 + p5 + p6 + p7) + 256 * ((p5 + p6 + p7) + 256 * ((p6 + p7) + 256 * p7)))))) := by
      clear hx d1 ha h3 h4
      omega
    have d3 : y / 4294967296 = (p4 + p5 + p6 + p7) + 256 * ((p5 + p6 + p7) + 256 * ((p6 + p7) + 256 * p7)) := by
      clear hx d1 ha h3 h4 hx1 d2 hy
      omega
    rw [← hx, ← hy, ← h4, d3]
    clear hx d1 ha h3 h4 hx1 d2 hy d3
    omega
