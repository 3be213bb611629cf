/-! LS3: lists beside one another -/
theorem kLe_tr {kd an kd' an' kd'' an'' : Nat → Nat} (h1 : kLe kd an kd' an') (h2 : kLe kd' an' kd'' an'') : kLe kd an kd'' an'' := fun a h => by
  obtain ⟨x, y⟩ := h1 a h
  obtain ⟨z, w⟩ := h2 a (by rw [x]; exact h)
  exact ⟨z.trans x, w.trans y⟩
theorem lsOK.own {kd an : Nat → Nat} {ar : Nat → Int → Option Nat} {ed : Nat → Option Nat} {sz : Nat → Int} {KA s0 l e : Nat} {n : Int} {f : Int → Nat} (H : lsOK kd an ar ed sz KA s0 l e n f) : kd e = KA ∨ e = s0 := by
  obtain ⟨a, b, c, d | d, g⟩ := H
  · exact Or.inl d.1
  · exact Or.inr d.1
theorem lsDj.symm {kd : Nat → Nat} {KA s0 e e' : Nat} (h : lsDj kd KA s0 e e') : lsDj kd KA s0 e' e := fun a b c => (h a c b).symm
/-- another row e1 in the place of e -/
theorem lsDj.up {kd an kd' an' : Nat → Nat} {KA s0 e e' e1 : Nat} (h : lsDj kd KA s0 e e') (hK : KA ≠ 0) (le : kLe kd an kd' an') (o' : kd e' = KA ∨ e' = s0) (he : (e1 = e ∧ kd e = KA) ∨ kd e1 = 0) : lsDj kd' KA s0 e1 e' := by
  intro hs h1 h2 eq
  have k0 : kd s0 = 0 := Classical.byContradiction (fun w => w ((le s0 w).1 ▸ hs))
  rcases o' with o' | o'
  · rcases he with ⟨he, ke⟩ | he
    · exact h k0 ke o' (he.symm.trans eq)
    · rw [eq, o'] at he; exact hK he
  · rw [o', hs] at h2; exact hK h2.symm
theorem lsDj.le {kd an kd' an' : Nat → Nat} {KA s0 e e' : Nat} (h : lsDj kd KA s0 e e') (hK : KA ≠ 0) (le : kLe kd an kd' an') (o : kd e = KA ∨ e = s0) (o' : kd e' = KA ∨ e' = s0) : lsDj kd' KA s0 e e' := by
  intro hs h1 h2
  have k0 : kd s0 = 0 := Classical.byContradiction (fun w => w ((le s0 w).1 ▸ hs))
  rcases o with o | o
  · rcases o' with o' | o'
    · exact h k0 o o'
    · rw [o', hs] at h2; exact absurd h2.symm hK
  · rw [o, hs] at h1; exact absurd h1.symm hK
/-- a row that is written is none of another list that holds something -/
theorem lsOK.ne {kd an : Nat → Nat} {ar : Nat → Int → Option Nat} {ed : Nat → Option Nat} {sz : Nat → Int} {KA s0 l e e0 e1 : Nat} {n : Int} {f : Int → Nat} (H : lsOK kd an ar ed sz KA s0 l e n f) (hK : KA ≠ 0) (h : lsDj kd KA s0 e0 e) (hs : kd s0 = 0) (he : (e1 = e0 ∧ kd e0 = KA) ∨ kd e1 = 0) : 0 < n → e ≠ e1 := by
  intro hn eq
  obtain ⟨k, _, _⟩ := H.at (i := 0) (Int.le_refl 0) hn
  rcases he with ⟨he, ke⟩ | he
  · exact h hs ke k (by rw [← he, eq])
  · rw [← eq, k] at he; exact hK he
theorem lsOK.fr {kd an kd' an' : Nat → Nat} {ar ar' : Nat → Int → Option Nat} {ed ed' : Nat → Option Nat} {sz sz' : Nat → Int} {KA s0 l e e1 : Nat} {n : Int} {f : Int → Nat} (H : lsOK kd an ar ed sz KA s0 l e n f) (hK : KA ≠ 0) (le : kLe kd an kd' an') (har : ∀ a, a ≠ e1 → ar' a = ar a) (he : 0 < n → e ≠ e1) (hed : ed' l = ed l) (hsz : sz' l = sz l) : lsOK kd' an' ar' ed' sz' KA s0 l e n f := by
  obtain ⟨a, b, c, d, g⟩ := H.mono hK le
  exact ⟨hed.trans a, hsz.trans b, c, d, fun i i0 i1 => by rw [har e (he (by omega))]; exact g i i0 i1⟩
