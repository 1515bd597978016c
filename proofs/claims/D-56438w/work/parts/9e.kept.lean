/-! ROOM 5: kept inputs and codes are few: a campaign's covered edges *
-/
set_option maxRecDepth 100000
/-- a node that a run has come to -/
def gV (cov : Nat → Bool) (u : Nat) : Prop := u = 0 ∨ ∃ w, cov (17 * w + u) = true
def oN (cov : Nat → Bool) (u : Nat) : Nat := fb_ct (fun v => cov (17 * u + v)) 17
noncomputable def vN (P : List mI) (cov : Nat → Bool) (u : Nat) : Nat := by classical exact b1 (gS P u ≠ [] ∧ gV cov u)
theorem vN_t {P : List mI} {cov : Nat → Bool} {u : Nat} (h : gS P u ≠ [] ∧ gV cov u) : vN P cov u = 1 := by classical exact b1_t h
theorem vN_f {P : List mI} {cov : Nat → Bool} {u : Nat} (h : ¬ (gS P u ≠ [] ∧ gV cov u)) : vN P cov u = 0 := by classical exact b1_f h
theorem vN_le {P : List mI} {cov : Nat → Bool} {u : Nat} : vN P cov u ≤ 1 := by classical exact b1_le
/-- what holds in a campaign -/
def kI (P : List mI) (cov : Nat → Bool) (k : Nat) (F : List yF) : Prop :=
  (∀ u v, v < 17 → cov (17 * u + v) = true → u < P.length ∧ v ∈ gS P u ∧ gV cov u) ∧
  (∀ f w, f < P.length → (P.getD f mI0).1 = 7 → cov (17 * w + f) = true → fnd F (P.getD f mI0).2.2.1 = true) ∧
  k + F.length + sm (vN P cov) P.length ≤ sm (oN cov) P.length + 1
theorem sm_iso {a n : Nat} (h : a < n) : sm (fun u => b1 (u = a)) n = 1 := by
  have := sm_if (p := fun _ => True) h
  rw [if_pos trivial] at this
  rw [← this]
  refine sm_eq (fun i _ => ?_)
  by_cases e : i = a
  · rw [b1_t e, if_pos ⟨trivial, e⟩]
  · rw [b1_f e, if_neg (fun z => e z.2)]
theorem kI_zero {P : List mI} (h0 : gS P 0 ≠ []) : kI P (fun _ => false) 0 [] := by
  have hl : 0 < P.length := by
    rcases Nat.eq_zero_or_pos P.length with q | q
    · refine absurd ?_ h0
      unfold gS
      rw [if_neg (by omega)]
    · exact q
  refine ⟨fun u v _ h => (by cases h), fun f w _ _ h => (by cases h), ?_⟩
  have h1 : sm (vN P (fun _ => false)) P.length ≤ sm (fun u => b1 (u = 0)) P.length := by
    refine sm_le (fun u _ => ?_)
    by_cases e : u = 0
    · rw [b1_t e]; exact vN_le
    · rw [vN_f (fun z => z.2.elim e (fun ⟨_, q⟩ => by cases q))]; exact Nat.zero_le _
  rw [sm_iso hl] at h1
  show 0 + 0 + _ ≤ _
  omega
theorem fnd_zF {P : List mI} {xs : List Nat} {F : List yF} {c d : Int32} : fnd (zF P xs F c) d = true ↔ fnd F d = true ∨ d = c := by
  unfold zF
  by_cases q : fnd F c = true
  · rw [if_pos q]
    exact ⟨.inl, fun h => h.elim id (fun z => by rw [z]; exact q)⟩
  · rw [if_neg q]
    unfold fnd
    rw [List.any_append, Bool.or_eq_true]
    simp only [List.any_cons, List.any_nil, Bool.or_false, beq_iff_eq]
    exact ⟨fun h => h.imp id Eq.symm, fun h => h.imp id Eq.symm⟩
theorem rS_of {P : List mI} {xs : List Nat} {s : rC} (h : gS P s.1 ≠ []) : ∃ t, rS P xs s = some t := by
  cases e : rS P xs s with
  | some t => exact ⟨t, rfl⟩
  | none =>
    refine absurd ?_ h
    unfold rS at e
    unfold gS
    split at e
    · rename_i q
      rw [if_pos q]
      have e : mNext (rIn P s) (mRegs (rIn P s) xs s.2.2 s.2.1) s.1 = none := Option.map_eq_none_iff.mp e
      unfold rIn mNext at e
      split at e
      · cases e
      · split at e
        · cases e
        · rename_i q4 q5
          split at e
          · cases e
          · rename_i q6
            split at e
            · rename_i q7
              rw [if_neg (fun z => z.elim q4 q5), if_neg q6, if_pos q7]
            · cases e
    · rename_i q; rw [if_neg q]
theorem rI_stop {P : List mI} {xs : List Nat} {n m : Nat} {s t : rC} (h : rI P xs n rZ = some s) (hs : rS P xs s = none) (h2 : rI P xs m rZ = some t) : m ≤ n := by
  rcases Nat.lt_or_ge n m with q | q
  · exfalso
    obtain ⟨k, rfl⟩ : ∃ k, m = n + (k + 1) := ⟨m - n - 1, by omega⟩
    rw [rI_add, h] at h2
    have h2 : (rS P xs s).bind (rI P xs k) = some t := h2
    rw [hs] at h2
    cases h2
  · exact q
theorem min_first {p : Nat → Prop} : ∀ {n : Nat}, p n → ∃ m, p m ∧ ∀ k, k < m → ¬ p k := by
  intro n
  induction n using Nat.strongRecOn with
  | _ n ih =>
    intro h
    by_cases q : ∃ k, k < n ∧ p k
    · obtain ⟨k, h1, h2⟩ := q
      exact ih k h1 h2
    · exact ⟨n, h, fun k hk hp => q ⟨k, hk, hp⟩⟩
theorem cvO_iff {cov : Nat → Bool} {es : List Nat} {e : Nat} : cvO cov es e = true ↔ cov e = true ∨ e ∈ es := by
  unfold cvO
  rw [Bool.or_eq_true, bsE_mem (E := fun _ => false) es]
  exact ⟨fun h => h.imp id (fun z => z.elim (fun q => by cases q) id), fun h => h.imp id .inr⟩
/-- a run keeps it -/
theorem kI_run {P : List mI} {cov : Nat → Bool} {k : Nat} {F : List yF} {xs : List Nat} (hP : P.length ≤ 16) (h0 : gS P 0 ≠ []) (h : kI P cov k F) :
    kI P (cvO cov (mOut P xs).2.2.2) (k + b1 (tkB P xs cov = true)) (zFk P xs F) := by
  obtain ⟨hJ, hG, hI⟩ := h
  -- the edges of the run
  have hE : ∀ {n : Nat} {t u : rC}, n ≤ 63 → rI P xs n rZ = some t → rS P xs t = some u → ¬ (u.1 < P.length ∧ n = 63) → 17 * t.1 + min u.1 P.length ∈ (mOut P xs).2.2.2 := fun h1 h2 h3 h4 => rE_iff.mpr ⟨_, _, _, h1, h2, h3, h4, rfl⟩
  have hpre : ∀ {n : Nat} {t : rC}, rI P xs n rZ = some t → n ≤ 63 → t.1 < P.length → t.1 = 0 ∨ ∃ m s, n = m + 1 ∧ rI P xs m rZ = some s ∧ rS P xs s = some t ∧ 17 * s.1 + t.1 ∈ (mOut P xs).2.2.2 := by
    intro n t h1 h2 h3
    cases n with
    | zero => cases h1; exact .inl rfl
    | succ n =>
      rw [rI_succ] at h1
      cases e : rI P xs n rZ with
      | none => rw [e] at h1; cases h1
      | some s =>
        rw [e] at h1
        have h1 : rS P xs s = some t := h1
        have := hE (n := n) (by omega) e h1 (fun z => by omega)
        rw [Nat.min_eq_left (Nat.le_of_lt h3)] at this
        exact .inr ⟨n, s, rfl, e, h1, this⟩
  have hmono : ∀ {u : Nat}, gV cov u → gV (cvO cov (mOut P xs).2.2.2) u := fun h => h.imp id (fun ⟨w, hw⟩ => ⟨w, cvO_iff.mpr (.inl hw)⟩)
  have hvis : ∀ {n : Nat} {t : rC}, rI P xs n rZ = some t → n ≤ 63 → t.1 < P.length → gV (cvO cov (mOut P xs).2.2.2) t.1 := by
    intro n t h1 h2 h3
    rcases hpre h1 h2 h3 with z | ⟨m, s, -, -, -, z⟩
    · exact .inl z
    · exact .inr ⟨s.1, cvO_iff.mpr (.inr z)⟩
  have hdec : ∀ {u v : Nat}, v < 17 → 17 * u + v ∈ (mOut P xs).2.2.2 → ∃ n t w, n ≤ 63 ∧ rI P xs n rZ = some t ∧ rS P xs t = some w ∧ ¬ (w.1 < P.length ∧ n = 63) ∧ t.1 = u ∧ min w.1 P.length = v := by
    intro u v hv h
    obtain ⟨n, t, w, h1, h2, h3, h4, h5⟩ := rE_iff.mp h
    exact ⟨n, t, w, h1, h2, h3, h4, by omega, by omega⟩
  have hfail : ∀ {f : Nat}, f < P.length → (P.getD f mI0).1 = 7 → (∃ n t, n ≤ 63 ∧ rI P xs n rZ = some t ∧ t.1 = f) → (mOut P xs).1 = 1 ∧ mCode P xs = (P.getD f mI0).2.2.1 := by
    rintro f h1 h2 ⟨n, t, h3, h4, rfl⟩
    have := rF_iff.mpr ⟨n, t, h3, h4, ⟨h1, h2, rfl⟩⟩
    unfold mFails at this
    have := of_decide_eq_true this
    refine ⟨this.1, ?_⟩
    unfold mCode
    rw [this.2]
    rfl
  have hFm : ∀ {c : Int32}, fnd F c = true → fnd (zFk P xs F) c = true := by
    intro c h
    unfold zFk
    split
    · exact fnd_zF.mpr (.inl h)
    · exact h
  refine ⟨?_, ?_, ?_⟩
  · intro u v hv h
    rcases cvO_iff.mp h with h | h
    · obtain ⟨a, b, c⟩ := hJ u v hv h
      exact ⟨a, b, hmono c⟩
    · obtain ⟨n, t, w, h1, h2, h3, h4, rfl, rfl⟩ := hdec hv h
      exact ⟨(rS_some h3).1, gS_step h3, hvis h2 h1 (rS_some h3).1⟩
  · intro f w hf h7 h
    rcases cvO_iff.mp h with h | h
    · exact hFm (hG f w hf h7 h)
    · obtain ⟨n, t, u, h1, h2, h3, h4, rfl, h6⟩ := hdec (by omega) h
      have hu : u.1 = f := by omega
      have hn : n ≠ 63 := fun z => h4 ⟨by omega, z⟩
      obtain ⟨q1, q2⟩ := hfail hf h7 ⟨n + 1, u, by omega, by rw [rI_succ, h2]; exact h3, hu⟩
      unfold zFk
      rw [if_pos q1]
      exact fnd_zF.mpr (.inr q2.symm)
  · -- the count
    by_cases hnew : ∃ n t u, n ≤ 63 ∧ rI P xs n rZ = some t ∧ rS P xs t = some u ∧ ¬ (u.1 < P.length ∧ n = 63) ∧ cov (17 * t.1 + min u.1 P.length) = false
    · -- the first new edge
      obtain ⟨n, hn⟩ := hnew
      obtain ⟨n, ⟨t, u, n1, n2, n3, n4, n5⟩, nf⟩ := min_first (p := fun n => ∃ t u, n ≤ 63 ∧ rI P xs n rZ = some t ∧ rS P xs t = some u ∧ ¬ (u.1 < P.length ∧ n = 63) ∧ cov (17 * t.1 + min u.1 P.length) = false) hn
      have ht := (rS_some n3).1
      have hgt : gS P t.1 ≠ [] := fun z => by have := gS_step n3; rw [z] at this; cases this
      have hvt : gV cov t.1 := by
        rcases hpre n2 n1 ht with z | ⟨m, s, rfl, z2, z3, z4⟩
        · exact .inl z
        · refine .inr ⟨s.1, ?_⟩
          cases e : cov (17 * s.1 + t.1) with
          | true => rfl
          | false => exact absurd ⟨s, t, by omega, z2, z3, fun z => by omega, by rw [Nat.min_eq_left (Nat.le_of_lt ht)]; exact e⟩ (nf m (by omega))
      classical
      have hpn : ∀ u, u < P.length → oN cov u + vN P (cvO cov (mOut P xs).2.2.2) u + b1 (u = t.1) ≤ vN P cov u + oN (cvO cov (mOut P xs).2.2.2) u + b1 (∃ s w, rI P xs 63 rZ = some s ∧ s.1 = u ∧ rS P xs s = some w ∧ w.1 < P.length) := by
        intro a ha
        have ho : oN cov a ≤ oN (cvO cov (mOut P xs).2.2.2) a := fb_ct_sub (fun k _ hk => cvO_iff.mpr (.inl hk))
        have hop : ∀ v, v < 17 → cov (17 * a + v) = false → 17 * a + v ∈ (mOut P xs).2.2.2 → oN cov a + 1 ≤ oN (cvO cov (mOut P xs).2.2.2) a := by
          intro v hv h1 h2
          have e := fb_ct_upd (fun v => cov (17 * a + v)) true (i := v) (n := 17) hv
          rw [if_neg (show ¬ (cov (17 * a + v) = true) by rw [h1]; decide), if_pos rfl] at e
          have h3 : fb_ct (fun k => if k = v then true else cov (17 * a + k)) 17 ≤ oN (cvO cov (mOut P xs).2.2.2) a := by
            refine fb_ct_sub (fun k _ hk => ?_)
            by_cases q : k = v
            · subst q; exact cvO_iff.mpr (.inr h2)
            · have hk : (if k = v then true else cov (17 * a + k)) = true := hk
              rw [if_neg q] at hk
              exact cvO_iff.mpr (.inl hk)
          show fb_ct _ 17 + 1 ≤ _
          omega
        by_cases et : a = t.1
        · rw [b1_t et, vN_t (cov := cov) ⟨by rw [et]; exact hgt, by rw [et]; exact hvt⟩]
          have h1 := vN_le (P := P) (cov := cvO cov (mOut P xs).2.2.2) (u := a)
          have h2 := hop (min u.1 P.length) (by omega) (by rw [et]; exact n5) (by rw [et]; exact hE n1 n2 n3 n4)
          omega
        · rw [b1_f et]
          by_cases q : gS P a ≠ [] ∧ gV (cvO cov (mOut P xs).2.2.2) a
          · rw [vN_t q]
            by_cases q2 : gV cov a
            · rw [vN_t ⟨q.1, q2⟩]; omega
            · rw [vN_f (fun z => q2 z.2)]
              rcases q.2 with z | ⟨w, hw⟩
              · exact absurd (.inl z) q2
              · rcases cvO_iff.mp hw with hw | hw
                · exact absurd (.inr ⟨w, hw⟩) q2
                · obtain ⟨m, s, v, m1, m2, m3, m4, rfl, m6⟩ := hdec (by omega) hw
                  have hv : v.1 = a := by omega
                  obtain ⟨x, hx⟩ := rS_of (xs := xs) (s := v) (by rw [hv]; exact q.1)
                  have hm : rI P xs (m + 1) rZ = some v := by rw [rI_succ, m2]; exact m3
                  have hm63 : m ≠ 63 := fun z => m4 ⟨by omega, z⟩
                  by_cases qh : x.1 < P.length ∧ m + 1 = 63
                  · rw [b1_t ⟨v, x, by rw [← qh.2]; exact hm, hv, hx, qh.1⟩]
                    omega
                  · have h1 := hE (by omega) hm hx qh
                    rw [hv] at h1
                    have h2 := hop (min x.1 P.length) (by omega) (by
                      cases e : cov (17 * a + min x.1 P.length) with
                      | false => rfl
                      | true => exact absurd (hJ a _ (by omega) e).2.2 q2) h1
                    omega
          · rw [vN_f q]; omega
      have hsum := sm_le hpn
      have e1 : sm (fun u => oN cov u + vN P (cvO cov (mOut P xs).2.2.2) u + b1 (u = t.1)) P.length = sm (oN cov) P.length + sm (vN P (cvO cov (mOut P xs).2.2.2)) P.length + 1 := by rw [sm_add, sm_add, sm_iso ht]
      have e2 : sm (fun u => vN P cov u + oN (cvO cov (mOut P xs).2.2.2) u + b1 (∃ s w, rI P xs 63 rZ = some s ∧ s.1 = u ∧ rS P xs s = some w ∧ w.1 < P.length)) P.length = sm (vN P cov) P.length + sm (oN (cvO cov (mOut P xs).2.2.2)) P.length + sm (fun u => b1 (∃ s w, rI P xs 63 rZ = some s ∧ s.1 = u ∧ rS P xs s = some w ∧ w.1 < P.length)) P.length := by rw [sm_add, sm_add]
      rw [e1, e2] at hsum
      by_cases hh : ∃ s w, rI P xs 63 rZ = some s ∧ rS P xs s = some w ∧ w.1 < P.length
      · obtain ⟨s, w, w1, w2, w3⟩ := hh
        have h64 : rI P xs 64 rZ = some w := by rw [rI_succ, w1]; exact w2
        have e3 : sm (fun u => b1 (∃ s w, rI P xs 63 rZ = some s ∧ s.1 = u ∧ rS P xs s = some w ∧ w.1 < P.length)) P.length ≤ 1 := by
          rw [← sm_iso (rS_some w2).1]
          refine sm_le (fun u _ => ?_)
          by_cases q : u = s.1
          · rw [b1_t q]; exact b1_le
          · rw [b1_f (fun ⟨s2, _, z1, z2, _⟩ => q (by rw [w1] at z1; cases z1; exact z2.symm))]; exact Nat.zero_le _
        have hv0 : (mOut P xs).1 ≠ 0 := fun z => by
          obtain ⟨m, x, x1, x2, x3, -, x5⟩ := rP_some z
          have h1 := rI_stop x2 x3 h64
          have : m = 64 := by omega
          subst this
          rw [h64] at x2
          cases x2
          have := x5 w3
          omega
        have hv1 : (mOut P xs).1 ≠ 1 := fun z => by
          obtain ⟨m, x, x1, x2, x3⟩ := rF_iff.mp (rF_code z)
          have h1 := rI_stop x2 (rF_stop x3) h64
          omega
        have hk : ¬ tkB P xs cov = true := by
          unfold tkB
          rw [Bool.and_eq_true]
          exact fun z => hv0 (of_decide_eq_true z.2)
        rw [b1_f hk]
        unfold zFk
        rw [if_neg hv1]
        omega
      · have e3 : sm (fun u => b1 (∃ s w, rI P xs 63 rZ = some s ∧ s.1 = u ∧ rS P xs s = some w ∧ w.1 < P.length)) P.length = 0 := sm_zero (fun u _ => b1_f (fun ⟨s, w, z1, _, z3, z4⟩ => hh ⟨s, w, z1, z3, z4⟩))
        have hev : b1 (tkB P xs cov = true) + (zFk P xs F).length ≤ F.length + 1 := by
          unfold zFk
          by_cases q : (mOut P xs).1 = 1
          · rw [if_pos q, b1_f (fun z => by
              unfold tkB at z
              rw [Bool.and_eq_true] at z
              have := of_decide_eq_true z.2
              omega)]
            unfold zF
            split
            · omega
            · rw [List.length_append, List.length_singleton]; omega
          · rw [if_neg q]
            have := b1_le (p := tkB P xs cov = true)
            omega
        omega
    · -- nothing new
      have hno : ∀ e, e ∈ (mOut P xs).2.2.2 → cov e = true := by
        intro e he
        obtain ⟨n, t, u, h1, h2, h3, h4, h5⟩ := rE_iff.mp he
        cases q : cov e with
        | true => rfl
        | false => exact absurd ⟨n, t, u, h1, h2, h3, h4, by rw [← h5]; exact q⟩ hnew
      have hc : cvO cov (mOut P xs).2.2.2 = cov := by
        funext e
        cases q : cov e with
        | true => exact cvO_iff.mpr (.inl q)
        | false =>
          refine Bool.eq_false_iff.mpr (fun z => ?_)
          rcases cvO_iff.mp z with z | z
          · rw [q] at z; cases z
          · rw [hno e z] at q; cases q
      have hk : ¬ tkB P xs cov = true := by
        unfold tkB cvM
        rw [hc, Bool.and_eq_true]
        exact fun z => absurd (of_decide_eq_true z.1) (Nat.lt_irrefl _)
      have hF : zFk P xs F = F := by
        unfold zFk
        by_cases q : (mOut P xs).1 = 1
        · rw [if_pos q]
          unfold zF
          obtain ⟨m, x, x1, x2, x3⟩ := rF_iff.mp (rF_code q)
          have hx0 : x.1 ≠ 0 := fun z => by
            refine absurd ?_ h0
            have a1 := x3.1
            have a2 : (P.getD x.1 mI0).1 = 7 := x3.2.1
            rw [z] at a1 a2
            unfold gS
            rw [if_pos a1, if_neg (by rw [a2]; decide), if_neg (by rw [a2]; decide), if_pos (.inl a2)]
          rcases hpre x2 x1 x3.1 with z | ⟨_, s, -, -, -, z⟩
          · exact absurd z hx0
          · have := hG x.1 s.1 x3.1 x3.2.1 (hno _ z)
            rw [show (P.getD x.1 mI0).2.2.1 = mCode P xs from x3.2.2] at this
            rw [if_pos this]
        · rw [if_neg q]
      rw [b1_f hk, hF, hc]
      omega
theorem fb_sm1 (p : Nat → Bool) : ∀ n, fb_ct p n = sm (fun v => b1 (p v = true)) n
  | 0 => rfl
  | n + 1 => by rw [fb_ct_succ, fb_sm1 p n]; rfl
theorem fb_row {p : Nat → Bool} {n : Nat} {l : List Nat} (hl : ∀ v ∈ l, v < n) (h : ∀ v, v < n → p v = true → v ∈ l) : fb_ct p n ≤ l.length := by
  have e := sm_count (p := fun _ => true) l hl
  rw [show l.countP (fun _ => true) = l.length from List.countP_eq_length.mpr (fun _ _ => rfl)] at e
  rw [← e, fb_sm1]
  refine sm_le (fun v hv => ?_)
  by_cases q : p v = true
  · rw [b1_t q]
    exact List.count_pos_iff.mpr (h v hv q)
  · rw [b1_f q]; exact Nat.zero_le _
/-- kept inputs and codes -/
theorem kI_le {P : List mI} {cov : Nat → Bool} {k : Nat} {F : List yF} (hP : P.length ≤ 16) (h : kI P cov k F) : k + F.length ≤ gC P + 1 := by
  obtain ⟨hJ, hG, hI⟩ := h
  have h1 : sm (oN cov) P.length ≤ sm (fun u => vN P cov u + b1 ((gS P u).length = 2)) P.length := by
    refine sm_le (fun u hu => ?_)
    by_cases q : gV cov u
    · have h1 : oN cov u ≤ (gS P u).length := by
        unfold oN
        exact fb_row (fun v hv => by have := gS_lt hv; omega) (fun v hv z => (hJ u v hv z).2.1)
      have h2 := gS_len (P := P) (u := u)
      by_cases q0 : gS P u = []
      · rw [q0] at h1; simp at h1; omega
      · rw [vN_t ⟨q0, q⟩]
        by_cases q2 : (gS P u).length = 2
        · rw [b1_t q2]; omega
        · rw [b1_f q2]; omega
    · have : oN cov u = 0 := fb_ct_zero.mpr (fun v hv => Bool.eq_false_iff.mpr (fun z => q (hJ u v hv z).2.2))
      omega
  rw [sm_add] at h1
  have h2 : sm (fun u => b1 ((gS P u).length = 2)) P.length ≤ gC P := Nat.le_add_right _ _
  omega
