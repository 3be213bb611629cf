/-! LS1: an ArrayList's cells, plain -/
/-- list l with its row e: n elements, f -/
def lsOK (kd an : Nat → Nat) (ar : Nat → Int → Option Nat) (ed : Nat → Option Nat) (sz : Nat → Int) (KA s0 : Nat) (l e : Nat) (n : Int) (f : Int → Nat) : Prop :=
  ed l = some e ∧ sz l = n ∧ 0 ≤ n ∧ ((kd e = KA ∧ (0 < an e ∧ an e ≤ 100000) ∧ n ≤ an e) ∨ (e = s0 ∧ n = 0)) ∧ ∀ i, 0 ≤ i → i < n → ar e i = some (f i)
theorem lsOK.at {kd an : Nat → Nat} {ar : Nat → Int → Option Nat} {ed : Nat → Option Nat} {sz : Nat → Int} {KA s0 l e : Nat} {n : Int} {f : Int → Nat} (H : lsOK kd an ar ed sz KA s0 l e n f) {i : Int} (h0 : 0 ≤ i) (h1 : i < n) : kd e = KA ∧ n ≤ an e ∧ ar e i = some (f i) := by
  obtain ⟨a, b, c, d | d, g⟩ := H
  · exact ⟨d.1, d.2.2, g i h0 h1⟩
  · omega
theorem lsOK.mono {kd an kd' an' : Nat → Nat} {ar : Nat → Int → Option Nat} {ed : Nat → Option Nat} {sz : Nat → Int} {KA s0 l e : Nat} {n : Int} {f : Int → Nat} (H : lsOK kd an ar ed sz KA s0 l e n f) (hK : KA ≠ 0) (h : kLe kd an kd' an') : lsOK kd' an' ar ed sz KA s0 l e n f := by
  obtain ⟨a, b, c, d | d, g⟩ := H
  · have := h e (by rw [d.1]; exact hK)
    exact ⟨a, b, c, Or.inl ⟨by rw [this.1]; exact d.1, by rw [this.2]; exact d.2.1, by rw [this.2]; exact d.2.2⟩, g⟩
  · exact ⟨a, b, c, Or.inr d, g⟩
/-- rows of different lists -/
def lsDj (kd : Nat → Nat) (KA s0 e e' : Nat) : Prop := kd s0 = 0 → kd e = KA → kd e' = KA → e ≠ e'
theorem kLe_new {kd an : Nat → Nat} {q K : Nat} {an' : Nat → Nat} (hq : kd q = 0) (ha : ∀ a, a ≠ q → an' a = an a) : kLe kd an (va_up kd q K) an' := fun a h => by
  have : a ≠ q := fun e => h (by rw [e]; exact hq)
  exact ⟨va_up_ne _ _ this, ha a this⟩
theorem Lab.kLe {K L : Nat → Nat} {kd an kd' an' : Nat → Nat} {A : Nat → Int → Nat} {g : Nat → Nat × Int} {N : Nat → Int} (H : Lab K L kd an A g N) (h : kLe kd an kd' an') : Lab K L kd' an' A g N := fun i j a b => by
  obtain ⟨x, y, z⟩ := H i j a b
  have := h _ (by rw [y.1]; exact y.2)
  exact ⟨x, ⟨by rw [this.1]; exact y.1, y.2⟩, fun w => by rw [this.2]; exact z w⟩
