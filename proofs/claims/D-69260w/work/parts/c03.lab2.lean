/-! LABELS 2: cells of a room by (class, number), any set of labels in use -/
def LabU (K : Nat → Int → Nat) (L : Nat → Nat) (U : Nat → Int → Prop) (kd an : Nat → Nat) (A : Nat → Int → Nat) (g : Nat → Nat × Int) : Prop := ∀ i j, U i j → g (A i j) = (i, j) ∧ (kd (A i j) = K i j ∧ K i j ≠ 0) ∧ (L i ≠ 0 → an (A i j) = L i)
section
variable {K K' : Nat → Int → Nat} {L : Nat → Nat} {U U' : Nat → Int → Prop} {kd an : Nat → Nat} {A : Nat → Int → Nat} {g : Nat → Nat × Int}
theorem LabU.mono (H : LabU K L U kd an A g) (h : ∀ i j, U' i j → U i j ∧ K' i j = K i j) : LabU K' L U' kd an A g := fun i j u => by
  rw [(h i j u).2]; exact H i j (h i j u).1
theorem LabU.ne (H : LabU K L U kd an A g) {i i' : Nat} {j j' : Int} (h0 : U i j) (h1 : U i' j') (hn : i ≠ i' ∨ j ≠ j') : A i j ≠ A i' j' := by
  intro e
  have a := (H i j h0).1
  have b := (H i' j' h1).1
  rw [e, b] at a
  rcases hn with hn | hn
  · exact hn (congrArg Prod.fst a).symm
  · exact hn (congrArg Prod.snd a).symm
theorem LabU.inj (H : LabU K L U kd an A g) {i : Nat} {j j' : Int} (h0 : U i j) (h1 : U i j') (e : A i j = A i j') : j = j' := by
  by_cases h : j = j'
  · exact h
  · exact absurd e (H.ne h0 h1 (Or.inr h))
theorem LabU.fresh (H : LabU K L U kd an A g) {q : Nat} (hq : kd q = 0) {i : Nat} {j : Int} (u : U i j) : A i j ≠ q := by
  intro e
  have a := (H i j u).2.1
  rw [e, hq] at a
  exact a.2 a.1.symm
theorem LabU.k (H : LabU K L U kd an A g) (i : Nat) (j : Int) (u : U i j) : kd (A i j) = K i j := (H i j u).2.1.1
theorem LabU.l (H : LabU K L U kd an A g) (i : Nat) (j : Int) (u : U i j) (hl : L i ≠ 0) : an (A i j) = L i := (H i j u).2.2 hl
/-- a new cell takes a label (a new one, or one that it takes over) -/
theorem LabU.new (H : LabU K L U kd an A g) {q : Nat} (hq : kd q = 0) (i0 : Nat) (j0 : Int) {an' : Nat → Nat} (hU : ∀ i j, U' i j → ¬ (i = i0 ∧ j = j0) → U i j ∧ K' i j = K i j) (hK : K' i0 j0 ≠ 0) (ha : ∀ b, b ≠ q → an' b = an b) (hL : L i0 ≠ 0 → an' q = L i0) : LabU K' L U' (va_up kd q (K' i0 j0)) an' (aUp A i0 j0 q) (gUp g q i0 j0) := by
  intro i j u
  by_cases hi : i = i0 ∧ j = j0
  · obtain ⟨rfl, rfl⟩ := hi
    rw [aUp_s]
    exact ⟨if_pos rfl, ⟨va_up_self _ _ _, hK⟩, hL⟩
  · have e : aUp A i0 j0 q i j = A i j := if_neg hi
    obtain ⟨u0, ek⟩ := hU i j u hi
    have hne := H.fresh hq u0
    obtain ⟨a, b, c⟩ := H i j u0
    rw [e, ek]
    refine ⟨?_, ⟨?_, b.2⟩, fun hl => ?_⟩
    · unfold gUp; rw [if_neg hne]; exact a
    · rw [va_up_ne _ _ hne]; exact b.1
    · rw [ha _ hne]; exact c hl
theorem aUp_n {q : Nat} {i0 i : Nat} {j0 j : Int} (h : ¬ (i = i0 ∧ j = j0)) : aUp A i0 j0 q i j = A i j := if_neg h
end
