/-! ROOM 20: one reading instruction, one fork open both ways: the readings come at the same times *
-/
set_option maxRecDepth 100000
/-- inputs that agree where the run reads take the same run -/
theorem rI_agree {P : List mI} {xs ys : List Nat} {j : Nat} : ∀ {k : Nat} {s t : rC}, (∀ i, s.2.2 ≤ i → i < j → mDig xs i = mDig ys i) → rI P xs k s = some t → t.2.2 ≤ j → rI P ys k s = some t
  | 0, s, t, _, h, _ => by cases h; rfl
  | k + 1, s, t, ha, h, ht => by
    have h : (rS P xs s).bind (rI P xs k) = some t := h
    cases e : rS P xs s with
    | none => rw [e] at h; cases h
    | some s2 =>
      rw [e] at h
      have h : rI P xs k s2 = some t := h
      have h1 := rd_step e
      have h2 := rd_mono h
      have hr : mRegs (rIn P s) ys s.2.2 s.2.1 = mRegs (rIn P s) xs s.2.2 s.2.1 := by
        unfold mRegs
        by_cases q : (rIn P s).1 = 0
        · rw [if_pos q, if_pos q]
          rw [if_pos q] at h1
          rw [ha s.2.2 (Nat.le_refl _) (by omega)]
        · rw [if_neg q, if_neg q]
      have e2 : rS P ys s = some s2 := by
        have : rS P ys s = rS P xs s := by unfold rS; rw [hr]
        rw [this]; exact e
      show (rS P ys s).bind (rI P ys k) = some t
      rw [e2]
      exact rI_agree (fun i h3 h4 => ha i (by split at h1 <;> omega) h4) h ht
def pOne (P : List mI) : Prop := ∀ u v, u < P.length → v < P.length → (P.getD u mI0).1 = 0 → (P.getD v mI0).1 = 0 → u = v
theorem rd_pre {P : List mI} {xs : List Nat} {m i : Nat} {s w : rC} (h : rI P xs m rZ = some s) (hw : rI P xs i rZ = some w) (hop : (rIn P w).1 = 0) (hi : i < m) : w.2.2 < s.2.2 := by
  obtain ⟨k, rfl⟩ : ∃ k, m = i + (k + 1) := ⟨m - i - 1, by omega⟩
  rw [rI_add, hw] at h
  have h : (rS P xs w).bind (rI P xs k) = some s := h
  cases e : rS P xs w with
  | none => rw [e] at h; cases h
  | some w2 =>
    rw [e] at h
    have h1 := rd_step e
    rw [if_pos hop] at h1
    have := rd_mono (show rI P xs k w2 = some s from h)
    omega
/-- with one reading instruction the j-th reading comes at the same time -/
theorem seg_same {P : List mI} {c : Int32} (hB : awB P c ≤ 1) (hR : pOne P) {xs ys : List Nat} {n n2 : Nat} (hx : awT P c xs 0 rZ n) (hy : awT P c ys 0 rZ n2) :
    ∀ j m m2 s t, m ≤ n → m2 ≤ n2 → rI P xs m rZ = some s → rI P ys m2 rZ = some t → s.1 < P.length → t.1 < P.length → (rIn P s).1 = 0 → (rIn P t).1 = 0 → s.2.2 = j → t.2.2 = j → m = m2 ∧ sPath P xs ys m := by
  intro j
  induction j with
  | zero =>
    intro m m2 s t hm hm2 h1 h2 l1 l2 o1 o2 r1 r2
    have a1 : rI P ys m rZ = some s := rI_agree (j := 0) (fun i h3 h4 => absurd h4 (by omega)) h1 (by omega)
    have a2 : rI P xs m2 rZ = some t := rI_agree (j := 0) (fun i h3 h4 => absurd h4 (by omega)) h2 (by omega)
    have hmm : m = m2 := by
      rcases Nat.lt_trichotomy m m2 with q | q | q
      · have := rd_pre h2 a1 o1 q; omega
      · exact q
      · have := rd_pre h1 a2 o2 q; omega
    refine ⟨hmm, fun i hi => ?_⟩
    obtain ⟨u, hu⟩ := awT_time hx (show i ≤ n by omega)
    have hu0 : u.2.2 ≤ 0 := by
      obtain ⟨k, rfl⟩ : ∃ k, m = i + k := ⟨m - i, by omega⟩
      have h1 := h1
      rw [rI_add, hu.2.1] at h1
      have := rd_mono (show rI P xs k u = some s from h1)
      omega
    exact ⟨u, u, hu.2.1, rI_agree (j := 0) (fun i h3 h4 => absurd h4 (by omega)) hu.2.1 hu0, rfl⟩
  | succ j ih =>
    intro m m2 s t hm hm2 h1 h2 l1 l2 o1 o2 r1 r2
    obtain ⟨a, w, w1, w2, w3, w4, w5⟩ := rd_at (j := j) h1 (Nat.zero_le _) (by omega)
    obtain ⟨a2, v, v1, v2, v3, v4, v5⟩ := rd_at (j := j) h2 (Nat.zero_le _) (by omega)
    obtain ⟨e1, e2⟩ := ih a a2 w v (by omega) (by omega) w2 v2 w3 v3 w4 v4 w5 v5
    subst e1
    have hb := aw_back hB hx hy hm hm2 e2 w1 v1 (fun p q hp hq => by rw [w2] at hp; rw [h1] at hq; cases hp; cases hq; exact hR _ _ w3 l1 w4 o1) (fun p q hp hq => by rw [v2] at hp; rw [h2] at hq; cases hp; cases hq; exact hR _ _ v3 l2 v4 o2)
    have hmm : m = m2 := by
      rcases Nat.lt_trichotomy m m2 with q | q | q
      · exfalso
        obtain ⟨z, hz⟩ := awT_time hy (show m ≤ n2 by omega)
        have e3 := hb (m - a) (by omega) (by omega) s z (by rw [show a + (m - a) = m by omega]; exact h1) (by rw [show a + (m - a) = m by omega]; exact hz.2.1)
        exact (rd_between v2 h2 hz.2.1 v4 (by omega) (by omega) (by omega)).2 q (by unfold rIn; rw [← e3]; exact o1)
      · exact q
      · exfalso
        obtain ⟨z, hz⟩ := awT_time hx (show m2 ≤ n by omega)
        have e3 := hb (m2 - a) (by omega) (by omega) z t (by rw [show a + (m2 - a) = m2 by omega]; exact hz.2.1) (by rw [show a + (m2 - a) = m2 by omega]; exact h2)
        exact (rd_between w2 h1 hz.2.1 w4 (by omega) (by omega) (by omega)).2 q (by unfold rIn; rw [e3]; exact o2)
    subst hmm
    refine ⟨rfl, fun i hi => ?_⟩
    rcases Nat.lt_or_ge a i with q | q
    · obtain ⟨u, hu⟩ := awT_time hx (show i ≤ n by omega)
      obtain ⟨z, hz⟩ := awT_time hy (show i ≤ n2 by omega)
      exact ⟨u, z, hu.2.1, hz.2.1, hb (i - a) (by omega) (by omega) u z (by rw [show a + (i - a) = i by omega]; exact hu.2.1) (by rw [show a + (i - a) = i by omega]; exact hz.2.1)⟩
    · exact e2 i q
/-- no register but ra ever holds what was read -/
def pInd (P : List mI) (ra : Nat) : Prop := ∀ u, u < P.length → ((P.getD u mI0).1 = 0 → (P.getD u mI0).2.1 = ra) ∧ ((P.getD u mI0).1 = 3 → (P.getD u mI0).2.1 = ra ∨ (P.getD u mI0).2.2.2 ≠ ra)
theorem ind_regs {P : List mI} {ra : Nat} (hI : pInd P ra) {xs ys : List Nat} : ∀ {m : Nat} {s t : rC}, sPath P xs ys m → rI P xs m rZ = some s → rI P ys m rZ = some t → ∀ r, r ≠ ra → s.2.1 r = t.2.1 r := by
  intro m
  induction m with
  | zero => intro s t _ h1 h2 r _; cases h1; cases h2; rfl
  | succ m ih =>
    intro s t hp h1 h2 r hr
    obtain ⟨u, v, e1, e2, e3⟩ := hp m (by omega)
    rw [rI_succ, e1] at h1
    rw [rI_succ, e2] at h2
    obtain ⟨a1, -, a3, -⟩ := rS_some (show rS P xs u = some s from h1)
    obtain ⟨b1, -, b3, -⟩ := rS_some (show rS P ys v = some t from h2)
    have i0 := fun r hr => ih (sPath_mono hp (by omega)) e1 e2 r hr
    have ev : rIn P v = rIn P u := by unfold rIn; rw [e3]
    obtain ⟨c1, c2⟩ := hI u.1 a1
    rw [a3, b3, ev]
    unfold mRegs
    by_cases q0 : (rIn P u).1 = 0
    · rw [if_pos q0, if_pos q0]
      have : (rIn P u).2.1 = ra := c1 q0
      unfold upd
      rw [this, if_neg hr, if_neg hr]
      exact i0 r hr
    · rw [if_neg q0, if_neg q0]
      by_cases q1 : (rIn P u).1 = 1
      · rw [if_pos q1, if_pos q1]
        unfold upd
        by_cases q : r = (rIn P u).2.1
        · rw [if_pos q, if_pos q]
        · rw [if_neg q, if_neg q]; exact i0 r hr
      · rw [if_neg q1, if_neg q1]
        by_cases q2 : (rIn P u).1 = 2
        · rw [if_pos q2, if_pos q2]
          unfold upd
          by_cases q : r = (rIn P u).2.1
          · rw [if_pos q, if_pos q, ← q, i0 r hr]
          · rw [if_neg q, if_neg q]; exact i0 r hr
        · rw [if_neg q2, if_neg q2]
          by_cases q3 : (rIn P u).1 = 3
          · rw [if_pos q3, if_pos q3]
            unfold upd
            by_cases q : r = (rIn P u).2.1
            · have : (rIn P u).2.2.2 ≠ ra := (c2 q3).resolve_left (fun z => hr (q.trans z))
              rw [if_pos q, if_pos q, ← q, i0 r hr, i0 _ this]
            · rw [if_neg q, if_neg q]; exact i0 r hr
          · rw [if_neg q3, if_neg q3]; exact i0 r hr
/-- all digits of a string that no deletion of which fails are read -/
theorem nDel_full {P : List mI} {c : Int32} {xs : List Nat} {n : Nat} {t : rC} (hD : nDel P c xs) (hn : n ≤ 63) (h : rI P xs n rZ = some t) (hF : rF P c t) : xs.length ≤ t.2.2 := by
  rcases Nat.lt_or_ge t.2.2 xs.length with q | q
  · exfalso
    have := rF_iff.mpr ⟨n, t, hn, (rI_unread q h (Nat.le_refl _)).1, hF⟩
    rw [hD _ q] at this
    cases this
  · exact q
theorem mDig_set {xs : List Nat} {p e i : Nat} (h : i ≠ p) : mDig (xs.set p e) i = mDig xs i := by
  unfold mDig
  rw [List.length_set, getD_set_ne h]
theorem mDig_setp {xs ys : List Nat} {p e : Nat} (hl : xs.length = ys.length) : mDig (xs.set p e) p = mDig (ys.set p e) p := by
  unfold mDig
  rw [List.length_set, List.length_set, hl]
  by_cases q : p < ys.length
  · rw [if_pos q, if_pos q, getD_set_eq q, getD_set_eq (by omega)]
  · rw [if_neg q, if_neg q]
/-- the state behind a reading does not hang on what ra held -/
theorem rS_read {P : List mI} {xs ys : List Nat} {s t s2 : rC} (h : rS P xs s = some s2) (e : s.1 = t.1) (hop : (rIn P s).1 = 0) (hrd : s.2.2 = t.2.2) (hd : mDig xs s.2.2 = mDig ys s.2.2) (hg : ∀ r, r ≠ (rIn P s).2.1 → s.2.1 r = t.2.1 r) : rS P ys t = some s2 := by
  have ei : rIn P t = rIn P s := by unfold rIn; rw [e]
  have hr : mRegs (rIn P t) ys t.2.2 t.2.1 = mRegs (rIn P s) xs s.2.2 s.2.1 := by
    rw [ei]
    unfold mRegs
    rw [if_pos hop, if_pos hop, ← hrd, hd]
    funext r
    unfold upd
    by_cases q : r = (rIn P s).2.1
    · rw [if_pos q, if_pos q]
    · rw [if_neg q, if_neg q, hg r q]
  rw [← h]
  unfold rS
  rw [hr, ei, ← e, ← hrd]
/-- what B can be lowered to, A can: one place -/
theorem t1_key {P : List mI} {c : Int32} {ra : Nat} (hB : awB P c ≤ 1) (hR : pOne P) (hI : pInd P ra) {A B : List Nat} {p e : Nat} (dA : sDg A) (dB : sDg B) (he : e < 8) (hl : A.length = B.length) (hp : p < A.length) (fA : mFails P A c = true) (nA : nDel P c A) (fB : mFails P B c = true) (nB : nDel P c B) (fD : mFails P (B.set p e) c = true) : mFails P (A.set p e) c = true := by
  have dD : sDg (B.set p e) := ⟨by rw [List.length_set]; exact dB.1, fun y hy => by
    rcases List.mem_or_eq_of_mem_set hy with z | z
    · exact dB.2 y z
    · omega⟩
  obtain ⟨n, tA⟩ := awT_of dA fA
  obtain ⟨nB2, tB⟩ := awT_of dB fB
  obtain ⟨nD, tD⟩ := awT_of dD fD
  obtain ⟨zA, xA⟩ := awT_time tA (Nat.le_refl _)
  obtain ⟨zD, xD⟩ := awT_time tD (Nat.le_refl _)
  obtain ⟨zB, xB⟩ := awT_time tB (Nat.le_refl _)
  rw [Nat.sub_self] at xA xD xB
  have lA := nDel_full nA (by have := xA.2.2.2; omega) xA.2.1 (rT_zero xA.2.2.1)
  have lB := nDel_full nB (by have := xB.2.2.2; omega) xB.2.1 (rT_zero xB.2.2.1)
  have lD : p < zD.2.2 := by
    rcases Nat.lt_or_ge p zD.2.2 with q | q
    · exact q
    · exfalso
      have h1 : rI P B nD rZ = some zD := rI_agree (j := p) (fun i _ h4 => mDig_set (by omega)) xD.2.1 q
      have h2 : rS P B zD = none := rF_stop (rT_zero xD.2.2.1)
      have h3 := rI_stop h1 h2 xB.2.1
      obtain ⟨k, hk⟩ : ∃ k, nD = nB2 + k := ⟨nD - nB2, by omega⟩
      rw [hk, rI_add, xB.2.1] at h1
      have h4 := rd_mono (show rI P B k zB = some zD from h1)
      omega
  obtain ⟨mA, sA, a1, a2, a3, a4, a5⟩ := rd_at (j := p) xA.2.1 (Nat.zero_le _) (by omega)
  obtain ⟨mD, sD, d1, d2, d3, d4, d5⟩ := rd_at (j := p) xD.2.1 (Nat.zero_le _) lD
  obtain ⟨e1, e2⟩ := seg_same hB hR tA tD p mA mD sA sD (by omega) (by omega) a2 d2 a3 d3 a4 d4 a5 d5
  subst e1
  have hreg := ind_regs hI e2 a2 d2
  have hra : (rIn P sD).2.1 = ra := (hI _ d3).1 d4
  have hpc : sD.1 = sA.1 := hR _ _ d3 a3 d4 a4
  -- E comes to sA, and behind the reading to what D comes to
  have hE : rI P (A.set p e) mA rZ = some sA := rI_agree (j := p) (fun i _ h4 => (mDig_set (by omega)).symm) a2 (by omega)
  have hmD : mA < nD := by
    rcases Nat.lt_or_ge mA nD with q | q
    · exact q
    · have : mA = nD := by omega
      subst this
      have := xD.2.1
      rw [d2] at this
      cases this
      omega
  obtain ⟨wD, x1⟩ := awT_time tD (show mA + 1 ≤ nD by omega)
  have hstep : rS P (B.set p e) sD = some wD := by
    have := x1.2.1
    rw [rI_succ, d2] at this
    exact this
  have hstepE : rS P (A.set p e) sA = some wD := rS_read hstep hpc d4 (by omega) (by rw [d5]; exact (mDig_setp hl).symm) (fun r hr => by rw [hra] at hr; exact (hreg r hr).symm)
  have hE1 : rI P (A.set p e) (mA + 1) rZ = some wD := by rw [rI_succ, hE]; exact hstepE
  have hw : wD.2.2 = p + 1 := by have := rd_step hstep; rw [if_pos d4] at this; omega
  -- E goes on as D as long as D reads no more, or for ever if p is the last place
  have hgo : ∀ (m : Nat) (z : rC), mA + 1 ≤ m → rI P (B.set p e) m rZ = some z → (z.2.2 ≤ p + 1 ∨ p + 1 = A.length) → rI P (A.set p e) m rZ = some z := by
    intro m z hm hz hor
    obtain ⟨k, rfl⟩ : ∃ k, m = mA + 1 + k := ⟨m - (mA + 1), by omega⟩
    rw [rI_add, hE1]
    rw [rI_add, x1.2.1] at hz
    refine rI_agree (j := z.2.2) (xs := B.set p e) (fun i h3 h4 => ?_) hz (Nat.le_refl _)
    rcases hor with q | q
    · omega
    · unfold mDig
      rw [List.length_set, List.length_set, if_neg (by omega), if_neg (by omega)]
  by_cases q : zD.2.2 ≤ p + 1 ∨ p + 1 = A.length
  · have := hgo nD zD (by omega) xD.2.1 q
    exact rF_iff.mpr ⟨nD, zD, by have := xD.2.2.2; omega, this, rT_zero xD.2.2.1⟩
  · obtain ⟨q1, q2⟩ := not_or.mp q
    obtain ⟨mA2, sA2, f1, f2, f3, f4, f5⟩ := rd_at (j := p + 1) xA.2.1 (Nat.zero_le _) (by omega)
    obtain ⟨mD2, sD2, g1, g2, g3, g4, g5⟩ := rd_at (j := p + 1) xD.2.1 (Nat.zero_le _) (by omega)
    obtain ⟨i1, i2⟩ := seg_same hB hR tA tD (p + 1) mA2 mD2 sA2 sD2 (by omega) (by omega) f2 g2 f3 g3 f4 g4 f5 g5
    subst i1
    have hreg2 := ind_regs hI i2 f2 g2
    have hlt := rI_lt d2 g2 (by omega)
    have hE2 := hgo mA2 sD2 (by omega) g2 (.inl (by omega))
    have hra2 : (rIn P sA2).2.1 = ra := (hI _ f3).1 f4
    have hmA : mA2 < n := f1
    obtain ⟨wA, y1⟩ := awT_time tA (show mA2 + 1 ≤ n by omega)
    have hsA : rS P A sA2 = some wA := by
      have := y1.2.1
      rw [rI_succ, f2] at this
      exact this
    have hsE : rS P (A.set p e) sD2 = some wA := rS_read hsA (hR _ _ f3 g3 f4 g4) f4 (by omega) (by rw [f5]; exact (mDig_set (by omega)).symm) (fun r hr => by rw [hra2] at hr; exact hreg2 r hr)
    have hE3 : rI P (A.set p e) (mA2 + 1) rZ = some wA := by rw [rI_succ, hE2]; exact hsE
    have hwA : wA.2.2 = p + 1 + 1 := by have := rd_step hsA; rw [if_pos f4] at this; omega
    obtain ⟨k, hk⟩ : ∃ k, n = mA2 + 1 + k := ⟨n - (mA2 + 1), by omega⟩
    refine rF_iff.mpr ⟨n, zA, by have := xA.2.2.2; omega, ?_, rT_zero xA.2.2.1⟩
    have hz := xA.2.1
    rw [hk, rI_add, y1.2.1] at hz
    rw [hk, rI_add, hE3]
    exact rI_agree (j := zA.2.2) (xs := A) (fun i h3 h4 => (mDig_set (by omega)).symm) hz (Nat.le_refl _)
