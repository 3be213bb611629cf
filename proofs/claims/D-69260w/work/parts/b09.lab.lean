/-! LABELS: cells of a room by (class, number); for every room -/
theorem z01 : (0 : Int) < 1 := by decide
theorem va_up_up {α : Type} {f : Nat → α} {a : Nat} {v w : α} : va_up (va_up f a v) a w = va_up f a w := by
  funext j
  unfold va_up
  by_cases h : j = a
  · rw [if_pos h, if_pos h]
  · rw [if_neg h, if_neg h, if_neg h]
theorem va_up_id {α : Type} {f : Nat → α} {a : Nat} {v : α} (e : v = f a) : va_up f a v = f := by
  funext j
  unfold va_up
  by_cases h : j = a
  · rw [if_pos h, e, h]
  · rw [if_neg h]
/-- K: kinds; L: lengths (0: none); N: how many -/
def Lab (K L : Nat → Nat) (kd an : Nat → Nat) (A : Nat → Int → Nat) (g : Nat → Nat × Int) (N : Nat → Int) : Prop := ∀ i j, 0 ≤ j → j < N i → g (A i j) = (i, j) ∧ (kd (A i j) = K i ∧ K i ≠ 0) ∧ (L i ≠ 0 → an (A i j) = L i)
def aUp (A : Nat → Int → Nat) (i0 : Nat) (j0 : Int) (q : Nat) : Nat → Int → Nat := fun i j => if i = i0 ∧ j = j0 then q else A i j
def gUp (g : Nat → Nat × Int) (q : Nat) (i0 : Nat) (j0 : Int) : Nat → Nat × Int := fun a => if a = q then (i0, j0) else g a
def nUp (N : Nat → Int) (i0 : Nat) : Nat → Int := fun i => if i = i0 then N i + 1 else N i
theorem aUp_s {A : Nat → Int → Nat} {i0 q : Nat} {j0 : Int} : aUp A i0 j0 q i0 j0 = q := if_pos ⟨rfl, rfl⟩
theorem aUp_i {A : Nat → Int → Nat} {i0 q i : Nat} {j0 j : Int} (h : i ≠ i0) : aUp A i0 j0 q i j = A i j := if_neg (fun e => h e.1)
theorem aUp_j {A : Nat → Int → Nat} {i0 q i : Nat} {j0 j : Int} (h : j ≠ j0) : aUp A i0 j0 q i j = A i j := if_neg (fun e => h e.2)
section
variable {K L : Nat → Nat} {kd an : Nat → Nat} {A : Nat → Int → Nat} {g : Nat → Nat × Int} {N : Nat → Int}
theorem Lab.mono {N' : Nat → Int} (H : Lab K L kd an A g N) (h : ∀ i, N' i ≤ N i) : Lab K L kd an A g N' := fun i j a b => H i j a (by have := h i; omega)
theorem Lab.ne (H : Lab K L kd an A g N) {i i' : Nat} {j j' : Int} (h0 : 0 ≤ j ∧ j < N i) (h1 : 0 ≤ j' ∧ j' < N i') (hn : i ≠ i' ∨ j ≠ j') : A i j ≠ A i' j' := by
  intro e
  have a := (H i j h0.1 h0.2).1
  have b := (H i' j' h1.1 h1.2).1
  rw [e, b] at a
  rcases hn with hn | hn
  · exact hn (congrArg Prod.fst a).symm
  · exact hn (congrArg Prod.snd a).symm
theorem Lab.fresh (H : Lab K L kd an A g N) {q : Nat} (hq : kd q = 0) {i : Nat} {j : Int} (h0 : 0 ≤ j) (h1 : j < N i) : A i j ≠ q := by
  intro e
  have a := (H i j h0 h1).2.1
  rw [e, hq] at a
  exact a.2 a.1.symm
/-- one more cell -/
theorem Lab.new (H : Lab K L kd an A g N) {q : Nat} (hq : kd q = 0) (i0 : Nat) {an' : Nat → Nat} (hN : 0 ≤ N i0) (hK : K i0 ≠ 0) (ha : ∀ b, b ≠ q → an' b = an b) (hL : L i0 ≠ 0 → an' q = L i0) : Lab K L (va_up kd q (K i0)) an' (aUp A i0 (N i0) q) (gUp g q i0 (N i0)) (nUp N i0) := by
  intro i j h0 h1
  by_cases hi : i = i0 ∧ j = N i0
  · obtain ⟨rfl, rfl⟩ := hi
    rw [aUp_s]
    exact ⟨if_pos rfl, ⟨va_up_self _ _ _, hK⟩, hL⟩
  · have e : aUp A i0 (N i0) q i j = A i j := if_neg hi
    have hj : j < N i := by
      unfold nUp at h1
      by_cases hii : i = i0
      · rw [if_pos hii] at h1
        have : j ≠ N i0 := fun e => hi ⟨hii, e⟩
        subst hii; omega
      · rw [if_neg hii] at h1; exact h1
    have hne := H.fresh hq h0 hj
    obtain ⟨a, b, c⟩ := H i j h0 hj
    rw [e]
    refine ⟨?_, ⟨?_, b.2⟩, fun hl => ?_⟩
    · unfold gUp; rw [if_neg hne]; exact a
    · rw [va_up_ne _ _ hne]; exact b.1
    · rw [ha _ hne]; exact c hl
theorem aUp_o {q : Nat} {i0 i : Nat} {j : Int} (h1 : j < N i) : aUp A i0 (N i0) q i j = A i j := if_neg (fun e => by obtain ⟨rfl, e⟩ := e; omega)
end
