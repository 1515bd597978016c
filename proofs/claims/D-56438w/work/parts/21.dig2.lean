/-! array classes differ by what they hold; Strings are kept by changes elsewhere -/
set_option maxRecDepth 100000
theorem g_neA {D : va_G} {s : State} (hK : va_K D gCl (gT D) s) {i j : Nat} {ci cj : ClassId} {ti tj : FieldType} (hi : (gT D)[i]? = some (ci, ti)) (hj : (gT D)[j]? = some (cj, tj)) (h : ti ≠ tj) : ci ≠ cj := by
  intro z
  subst z
  obtain ⟨-, k0, h0, c0, e0⟩ := (hK.2 i _ hi).1 0 (fun _ => .null)
  obtain ⟨-, k1, h1, c1, e1⟩ := (hK.2 j _ hj).1 0 (fun _ => .null)
  have e2 : k0 = k1 := Option.some.inj (h0.symm.trans h1)
  rw [e2, e1] at e0
  cases e0
  exact h rfl
/-- a String stays where neither a String nor bytes are changed -/
theorem g_Str.ex {D : va_G} {M : Nat → Prop} {w w' : g_H} {a : Nat} {t : List Nat} (h : g_Str D w a t) (k : g_ex M w w') (n : ∀ q, q ∈ w.1 → M q → (∀ vs, w.2 q ≠ .inr (16, vs)) ∧ ∀ x, w.2 q ≠ .inl (D.1 101, x)) : g_Str D w' a t := by
  obtain ⟨ht, ⟨v, hh, z, f, h1, h2, h3⟩ | h1⟩ := h
  · exact ⟨ht, Or.inl ⟨v, hh, z, f, k.at h1 (fun q => (n a h1.1 q).1 _ h1.2), k.at h2 (fun q => (n v h2.1 q).2 _ h2.2), h3⟩⟩
  · exact ⟨ht, Or.inr h1⟩
theorem g_Str.push {D : va_G} {w : g_H} {a b : Nat} {e : va_E} {t : List Nat} (h : g_Str D w a t) (hb : b ∉ w.1) : g_Str D (g_push w b e) a t :=
  h.ex (M := fun _ => False) (g_ex.rf.push hb) (fun _ _ z => z.elim)
theorem g_Str.put {D : va_G} {w : g_H} {a b : Nat} {e e0 : va_E} {t : List Nat} (h : g_Str D w a t) (hb : g_at w b e0) (n1 : ∀ vs, e0 ≠ .inr (16, vs)) (n2 : ∀ x, e0 ≠ .inl (D.1 101, x)) : g_Str D (g_put w b e) a t :=
  h.ex (M := fun q => q = b) (g_ex.rf.put (fun _ => rfl)) (fun q _ z => by
    subst z
    rw [hb.2]
    exact ⟨n1, n2⟩)
