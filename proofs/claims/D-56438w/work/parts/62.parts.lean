/-! the yard's parts, one by one; what a change of one part leaves -/
set_option maxRecDepth 100000
def cpU (cp : Nat → Nat) (k v : Nat) : Nat → Nat := fun j => if j = k then v else cp j
theorem cpU_self {cp : Nat → Nat} {k v : Nat} : cpU cp k v k = v := if_pos rfl
theorem cpU_ne {cp : Nat → Nat} {k v j : Nat} (h : j ≠ k) : cpU cp k v j = cp j := if_neg h
/-- the labels, what is new with label k -/
def lb (lab : Nat → Nat) (w : g_H) (k : Nat) : Nat → Nat := fun q => if q ∈ w.1 then lab q else k
theorem lb_in {lab : Nat → Nat} {w : g_H} {k : Nat} : ∀ z, z ∈ w.1 → lb lab w k z = lab z := fun _ h => if_pos h
theorem lb_out {lab : Nat → Nat} {w : g_H} {k z : Nat} (h : z ∉ w.1) : lb lab w k z = k := if_neg h
theorem lb_or {lab : Nat → Nat} {w : g_H} {k z y : Nat} (h : z = y ∨ z ∉ w.1) (hy : lab y = k) : lb lab w k z = k := by
  unfold lb
  rcases h with h | h
  · subst h; split
    · exact hy
    · rfl
  · exact if_neg h
def pPg (D : va_G) (w : g_H) (lab : Nat → Nat) (a : Nat) (P : List mI) (cap : Nat) : Prop := ∃ ps, cAL D w lab 2 a ps cap ∧ ps.length = P.length ∧ P.length ≤ 16 ∧ ∀ j, j < P.length → g_Ins D w (ps.getD j 0) (P.getD j mI0)
def pCh (D : va_G) (w : g_H) (lab : Nat → Nat) (a : Nat) (C : List yC) (cap : Nat) : Prop := ∃ chs, cAL D w lab 3 a chs cap ∧ chs.length = C.length ∧ C.length ≤ 8 ∧ ∀ j, j < C.length → g_Ed w (chs.getD j 0) (C.getD j (0, 0, 0)).1 (C.getD j (0, 0, 0)).2.1 (C.getD j (0, 0, 0)).2.2
def pAl (D : va_G) (w : g_H) (lab : Nat → Nat) (a : Nat) (A : Nat → List (List Nat)) (cp : Nat → Nat) : Prop := ∃ (als : List Nat) (ys : Nat → List Nat), cAL D w lab 4 a als (cp 4) ∧ als.length = 4 ∧ ∀ j, j < 4 → cAL D w lab (5 + j) (als.getD j 0) (ys j) (cp (5 + j)) ∧ g_Strs D w (ys j) (A j) ∧ (A j).length ≤ 3
def pKp (D : va_G) (w : g_H) (lab : Nat → Nat) (a : Nat) (K : List (List Nat)) (cap : Nat) : Prop := ∃ ks, cAL D w lab 11 a ks cap ∧ g_Strs D w ks (K.map txt) ∧ ∀ xs ∈ K, sDg xs
def pQu (D : va_G) (w : g_H) (lab : Nat → Nat) (a : Nat) (Q : List (List Nat)) : Prop := ∃ qs, cLL D w lab 12 a qs ∧ g_Strs D w qs (Q.map txt)
def pFi (D : va_G) (w : g_H) (lab : Nat → Nat) (a : Nat) (F : List (List Nat × List Nat × Int32)) (cap : Nat) : Prop := ∃ fs, cAL D w lab 13 a fs cap ∧ g_Fins D w fs F
def g_SZ (D : va_G) (w : g_H) (lab : Nat → Nat) (x : Nat) (rf : Nat → Nat) (P : List mI) (C : List yC) (A : Nat → List (List Nat)) (cov : Nat → Bool) (K Q : List (List Nat)) (ac : Nat) (F : List (List Nat × List Nat × Int32)) (rn tt : Nat) (cp : Nat → Nat) : Prop :=
  (g_at w x (.inr (0, [.ref (rf 2), .ref (rf 3), .ref (rf 4), .ref (rf 9), .ref (rf 10), .ref (rf 11), .ref (rf 12), .ref (rf 13), .int (nI rn), .long (lN tt), .int (nI ac)])) ∧ lab x = 1) ∧
  pPg D w lab (rf 2) P (cp 2) ∧ pCh D w lab (rf 3) C (cp 3) ∧ pAl D w lab (rf 4) A cp ∧ cMa D w lab 9 (rf 9) x (cp 9) ∧ cBS D w lab 10 (rf 10) cov (cp 10) ∧ pKp D w lab (rf 11) K (cp 11) ∧ pQu D w lab (rf 12) Q ∧ pFi D w lab (rf 13) F (cp 13) ∧
  (K.length < 500 ∧ F.length < 500 ∧ rn < 100000 ∧ tt < 100000000 ∧ ac ≤ C.length)
section SZ
variable {D : va_G} {w w' : g_H} {M : Nat → Prop} {lab lab' : Nat → Nat} {a x fq ac rn tt cap : Nat} {rf : Nat → Nat} {P : List mI} {C : List yC} {A : Nat → List (List Nat)} {cov : Nat → Bool} {K Q : List (List Nat)} {F : List (List Nat × List Nat × Int32)} {cp : Nat → Nat}
theorem g_SZ.sy (h : g_SZ D w lab x rf P C A cov K (K.drop fq) ac F rn tt cp) (hf : fq ≤ K.length) : g_SY D w lab x P C A cov K fq ac F rn tt cp := by
  obtain ⟨h1, ⟨ps, h2⟩, ⟨chs, h3⟩, ⟨als, ys, h4⟩, h5, h6, ⟨ks, h7⟩, ⟨qs, h8a, h8b⟩, ⟨fs, h9⟩, hb⟩ := h
  exact ⟨_, _, _, _, _, _, _, _, ps, chs, als, ks, qs, fs, ys, h1, h2, h3, h4, h5, h6, h7, ⟨h8a, h8b, hf⟩, h9, hb⟩
theorem g_SY.sz (h : g_SY D w lab x P C A cov K fq ac F rn tt cp) : (∃ rf, g_SZ D w lab x rf P C A cov K (K.drop fq) ac F rn tt cp) ∧ fq ≤ K.length := by
  obtain ⟨pg, ch, al, m9, cv, kp, qu, fi, ps, chs, als, ks, qs, fs, ys, h1, h2, h3, h4, h5, h6, h7, ⟨h8a, h8b, hf⟩, h9, hb⟩ := h
  exact ⟨⟨fun k => match k with | 2 => pg | 3 => ch | 4 => al | 9 => m9 | 10 => cv | 11 => kp | 12 => qu | _ => fi, h1, ⟨ps, h2⟩, ⟨chs, h3⟩, ⟨als, ys, h4⟩, h5, h6, ⟨ks, h7⟩, ⟨qs, h8a, h8b⟩, ⟨fs, h9⟩, hb⟩, hf⟩
theorem pPg.keep (h : pPg D w lab a P cap) (q : g_ex M w w') (hm : g_mut D w M) (hl : ∀ z, z ∈ w.1 → lab' z = lab z) (hM : ∀ z, z ∈ w.1 → M z → lab z ≠ 2) : pPg D w' lab' a P cap := by
  obtain ⟨ps, h1, h2, h3, h4⟩ := h
  exact ⟨ps, h1.keep q hl hM, h2, h3, fun j hj => hm.ins (h4 j hj) q⟩
theorem pCh.keep (h : pCh D w lab a C cap) (q : g_ex M w w') (hm : g_mut D w M) (hl : ∀ z, z ∈ w.1 → lab' z = lab z) (hM : ∀ z, z ∈ w.1 → M z → lab z ≠ 3) : pCh D w' lab' a C cap := by
  obtain ⟨ps, h1, h2, h3, h4⟩ := h
  exact ⟨ps, h1.keep q hl hM, h2, h3, fun j hj => hm.ed (h4 j hj) q⟩
theorem pAl.keep (h : pAl D w lab a A cp) (q : g_ex M w w') (hm : g_mut D w M) (hl : ∀ z, z ∈ w.1 → lab' z = lab z) (hM : ∀ z, z ∈ w.1 → M z → lab z < 4 ∨ 8 < lab z) : pAl D w' lab' a A cp := by
  obtain ⟨als, ys, h1, h2, h3⟩ := h
  have hk : ∀ k : Nat, 4 ≤ k → k ≤ 8 → ∀ z, z ∈ w.1 → M z → lab z ≠ k := fun k k1 k2 z hz hMz e => by have := hM z hz hMz; omega
  exact ⟨als, ys, h1.keep q hl (hk 4 (by decide) (by decide)), h2, fun j hj => ⟨(h3 j hj).1.keep q hl (hk (5 + j) (by omega) (by omega)), hm.strs (h3 j hj).2.1 q, (h3 j hj).2.2⟩⟩
theorem pKp.keep (h : pKp D w lab a K cap) (q : g_ex M w w') (hm : g_mut D w M) (hl : ∀ z, z ∈ w.1 → lab' z = lab z) (hM : ∀ z, z ∈ w.1 → M z → lab z ≠ 11) : pKp D w' lab' a K cap := by
  obtain ⟨ks, h1, h2, h3⟩ := h
  exact ⟨ks, h1.keep q hl hM, hm.strs h2 q, h3⟩
theorem pQu.keep (h : pQu D w lab a Q) (q : g_ex M w w') (hm : g_mut D w M) (hl : ∀ z, z ∈ w.1 → lab' z = lab z) (hM : ∀ z, z ∈ w.1 → M z → lab z ≠ 12) : pQu D w' lab' a Q := by
  obtain ⟨qs, h1, h2⟩ := h
  exact ⟨qs, h1.keep q hl hM, hm.strs h2 q⟩
theorem pFi.keep (h : pFi D w lab a F cap) (q : g_ex M w w') (hm : g_mut D w M) (hl : ∀ z, z ∈ w.1 → lab' z = lab z) (hM : ∀ z, z ∈ w.1 → M z → lab z ≠ 13) : pFi D w' lab' a F cap := by
  obtain ⟨fs, h1, h2⟩ := h
  exact ⟨fs, h1.keep q hl hM, hm.fins h2 q⟩
theorem pAl.cps {cp' : Nat → Nat} (h : pAl D w lab a A cp) (e : ∀ k, 4 ≤ k → k ≤ 8 → cp' k = cp k) : pAl D w lab a A cp' := by
  obtain ⟨als, ys, h1, h2, h3⟩ := h
  exact ⟨als, ys, by rw [e 4 (by decide) (by decide)]; exact h1, h2, fun j hj => by rw [e (5 + j) (by omega) (by omega)]; exact h3 j hj⟩
/-- what a change of part k leaves -/
theorem g_SZ.parts (h : g_SZ D w lab x rf P C A cov K Q ac F rn tt cp) (q : g_ex M w w') (hm : g_mut D w M) (hl : ∀ z, z ∈ w.1 → lab' z = lab z) (k : Nat) (hM : ∀ z, z ∈ w.1 → M z → lab z = k) :
    (k ≠ 1 → g_at w' x (.inr (0, [.ref (rf 2), .ref (rf 3), .ref (rf 4), .ref (rf 9), .ref (rf 10), .ref (rf 11), .ref (rf 12), .ref (rf 13), .int (nI rn), .long (lN tt), .int (nI ac)])) ∧ lab' x = 1) ∧
    (k ≠ 2 → pPg D w' lab' (rf 2) P (cp 2)) ∧ (k ≠ 3 → pCh D w' lab' (rf 3) C (cp 3)) ∧ (k < 4 ∨ 8 < k → pAl D w' lab' (rf 4) A cp) ∧ (k ≠ 9 → cMa D w' lab' 9 (rf 9) x (cp 9)) ∧ (k ≠ 10 → cBS D w' lab' 10 (rf 10) cov (cp 10)) ∧ (k ≠ 11 → pKp D w' lab' (rf 11) K (cp 11)) ∧ (k ≠ 12 → pQu D w' lab' (rf 12) Q) ∧ (k ≠ 13 → pFi D w' lab' (rf 13) F (cp 13)) ∧ (K.length < 500 ∧ F.length < 500 ∧ rn < 100000 ∧ tt < 100000000 ∧ ac ≤ C.length) := by
  obtain ⟨⟨h1, h1l⟩, h2, h3, h4, h5, h6, h7, h8, h9, hb⟩ := h
  have hk : ∀ j : Nat, k ≠ j → ∀ z, z ∈ w.1 → M z → lab z ≠ j := fun j hj z hz hMz e => hj ((hM z hz hMz).symm.trans e)
  exact ⟨fun n => ⟨q.at h1 (fun z => hk 1 n x h1.1 z h1l), (hl x h1.1).trans h1l⟩, fun n => h2.keep q hm hl (hk 2 n), fun n => h3.keep q hm hl (hk 3 n), fun n => h4.keep q hm hl (fun z hz hMz => by rw [hM z hz hMz]; exact n), fun n => h5.keep q hl (hk 9 n), fun n => h6.keep q hl (hk 10 n), fun n => h7.keep q hm hl (hk 11 n), fun n => h8.keep q hm hl (hk 12 n), fun n => h9.keep q hm hl (hk 13 n), hb⟩
/-- the yard behind a change of other places -/
theorem g_SZ.keep (h : g_SZ D w lab x rf P C A cov K Q ac F rn tt cp) (q : g_ex M w w') (hm : g_mut D w M) (hl : ∀ z, z ∈ w.1 → lab' z = lab z) (hM : ∀ z, z ∈ w.1 → M z → lab z = 0 ∨ 13 < lab z) : g_SZ D w' lab' x rf P C A cov K Q ac F rn tt cp := by
  obtain ⟨⟨h1, h1l⟩, h2, h3, h4, h5, h6, h7, h8, h9, hb⟩ := h
  have hk : ∀ k : Nat, 1 ≤ k → k ≤ 13 → ∀ z, z ∈ w.1 → M z → lab z ≠ k := fun k k1 k2 z hz hMz e => by have := hM z hz hMz; omega
  exact ⟨⟨q.at h1 (fun z => hk 1 (by decide) (by decide) x h1.1 z h1l), (hl x h1.1).trans h1l⟩, h2.keep q hm hl (hk 2 (by decide) (by decide)), h3.keep q hm hl (hk 3 (by decide) (by decide)), h4.keep q hm hl (fun z hz hMz => by have := hM z hz hMz; omega), h5.keep q hl (hk 9 (by decide) (by decide)), h6.keep q hl (hk 10 (by decide) (by decide)), h7.keep q hm hl (hk 11 (by decide) (by decide)), h8.keep q hm hl (hk 12 (by decide) (by decide)), h9.keep q hm hl (hk 13 (by decide) (by decide)), hb⟩
theorem g_SZ.new (h : g_SZ D w lab x rf P C A cov K Q ac F rn tt cp) (q : g_ex (fun _ => False) w w') (j : Nat) : g_SZ D w' (lb lab w j) x rf P C A cov K Q ac F rn tt cp := h.keep q g_mut.non lb_in (fun _ _ z => z.elim)
/-- an ArrayList's own places -/
theorem g_AL.mut {s : State} (hK : va_K D gCl (gT D) s) {ar : Nat} {xs : List Nat} (h : g_AL D w a ar xs cap) : g_mut D w (fun q => q = a ∨ (0 < cap ∧ q = ar)) := by
  obtain ⟨mo, h1, h2, h3, h4 | ⟨h5, f, h6, -⟩⟩ := h
  · exact (g_mut.obj h1).mono (fun q _ z => z.elim id (fun z => absurd z.1 (by omega)))
  · exact ((g_mut.obj h1).or (g_mut.arr h6 (g_neA hK (i := 4) (j := 1) rfl rfl (fun z => by cases z)))).mono (fun q _ z => z.elim Or.inl (fun z => Or.inr z.2))
theorem g_BS.mut {s : State} (hK : va_K D gCl (gT D) s) {wa n : Nat} {E : Nat → Bool} (h : g_BS D w a wa E n cap) : g_mut D w (fun q => q = a ∨ q = wa) := by
  obtain ⟨h1, ⟨f, h2, -⟩, -⟩ := h
  exact (g_mut.obj h1).or (g_mut.arr h2 (g_neA hK (i := 3) (j := 1) rfl rfl (fun z => by cases z)))
theorem g_Ma.mut {s : State} (hK : va_K D gCl (gT D) s) {ra eb wb st n : Nat} {vv : Value} {cd : Int32} {E : Nat → Bool} (h : g_Ma D w a ra eb wb x vv cd st E n cap) : g_mut D w (fun q => q = a ∨ q = ra ∨ q = eb ∨ q = wb) := by
  obtain ⟨⟨rd, h1⟩, ⟨f, h2⟩, h3⟩ := h
  exact (g_mut.obj h1).or ((g_mut.arr h2 (g_neA hK (i := 0) (j := 1) rfl rfl (fun z => by cases z))).or (h3.mut hK))
theorem g_LL.mut {ns xs : List Nat} (h : g_LL D w a ns xs) : g_mut D w (fun q => q = a ∨ q ∈ ns) := by
  obtain ⟨⟨mo, h1⟩, ⟨-, h2, -⟩, -⟩ := h
  refine (g_mut.obj h1).or (fun q hq hz => ?_)
  obtain ⟨i, hi, e⟩ := g_of_mem hz
  obtain ⟨pv, hp⟩ := h2 i hi
  exact (g_mut.obj (e ▸ hp)) q hq rfl
/-- the machine of the yard, and the yard behind a change of it -/
theorem g_SZ.mach {s : State} (hK : va_K D gCl (gT D) s) (h : g_SZ D w lab x rf P C A cov K Q ac F rn tt cp) : ∃ (ra eb wb : Nat) (vv : Value) (cd : Int32) (st : Nat) (E : Nat → Bool) (n par : Nat) (ps : List Nat), g_Ma D w (rf 9) ra eb wb x vv cd st E n (cp 9) ∧ g_Pg D w (rf 2) par ps (cp 2) P ∧ (lab (rf 9) = 9 ∧ lab ra = 9 ∧ lab eb = 9 ∧ lab wb = 9) ∧ (lab (rf 2) = 2 ∧ (0 < cp 2 → lab par = 2)) ∧ ∀ (w' : g_H) (wb2 : Nat) (vv2 : Value) (cd2 : Int32) (st2 : Nat) (E2 : Nat → Bool) (n2 cap : Nat), g_Ma D w' (rf 9) ra eb wb2 x vv2 cd2 st2 E2 n2 cap → (wb2 = wb ∨ wb2 ∉ w.1) → g_ex (fun q => q = rf 9 ∨ q = ra ∨ q = eb ∨ q = wb) w w' → g_SZ D w' (lb lab w 9) x rf P C A cov K Q ac F rn tt (cpU cp 9 cap) := by
  obtain ⟨-, ⟨ps, ⟨par, p1, p2, p3⟩, p4, p5, p6⟩, -, -, ⟨ra, eb, wb, vv, cd, st, E, n, h1, h2, h3, h4, h5⟩, -⟩ := id h
  refine ⟨ra, eb, wb, vv, cd, st, E, n, par, ps, h1, ⟨p1, p4, p5, p6⟩, ⟨h2, h3, h4, h5⟩, ⟨p2, p3⟩, fun w' wb2 vv2 cd2 st2 E2 n2 cap k1 k2 k3 => ?_⟩
  obtain ⟨g1, g2, g3, g4, -, g6, g7, g8, g9, gb⟩ := h.parts (lab' := lb lab w 9) k3 (h1.mut hK) lb_in 9 (fun z _ hz => by
    rcases hz with hz | hz | hz | hz <;> rw [hz] <;> assumption)
  obtain ⟨⟨rd, e1⟩, ⟨f, e2⟩, e3⟩ := id h1
  exact ⟨g1 (by decide), g2 (by decide), g3 (by decide), (g4 (by decide)).cps (fun k _ _ => cpU_ne (by omega)), ⟨ra, eb, wb2, vv2, cd2, st2, E2, n2, by rw [cpU_self]; exact k1, (lb_in _ e1.1).trans h2, (lb_in _ e2.1).trans h3, (lb_in _ e3.1.1).trans h4, lb_or k2 h5⟩, g6 (by decide), g7 (by decide), g8 (by decide), g9 (by decide), gb⟩
end SZ
/-- the places of the yard -/
def yM (lab : Nat → Nat) (q : Nat) : Prop := 1 ≤ lab q ∧ lab q ≤ 13
/-- a yard behind a call: with other labels of what is new -/
def yAf (w u : g_H) (lab : Nat → Nat) (S : (Nat → Nat) → Prop) : Prop := ∃ lab2, S lab2 ∧ (∀ z, z ∈ w.1 → lab2 z = lab z) ∧ g_ex (yM lab) w u
theorem yAf.tr {w u v : g_H} {lab : Nat → Nat} {S T : (Nat → Nat) → Prop} (h : yAf w u lab S) (k : ∀ lab2, S lab2 → yAf u v lab2 T) : yAf w v lab T := by
  obtain ⟨l2, h1, h2, h3⟩ := h
  obtain ⟨l3, k1, k2, k3⟩ := k l2 h1
  exact ⟨l3, k1, fun z hz => (k2 z (h3.1 z hz)).trans (h2 z hz), h3.trM k3 (fun z hz hM => by unfold yM at *; rw [h2 z hz] at hM; exact hM)⟩
theorem yAf.nw {w u : g_H} {lab : Nat → Nat} {S : (Nat → Nat) → Prop} (q : g_ex (fun _ => False) w u) (j : Nat) (h : S (lb lab w j)) : yAf w u lab S := ⟨_, h, lb_in, q.mono (fun _ _ z => z.elim)⟩
