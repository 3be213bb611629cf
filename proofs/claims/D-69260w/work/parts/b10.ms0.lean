/-! masks: sets of numbers below 32 (plain) -/
def mS (x : Int) (P : Int → Prop) : Prop := zR x ∧ ∀ k, 0 ≤ k → k < 32 → (zb x k.toNat = 1 ↔ P k)
section
variable {x y i j : Int} {P Q : Int → Prop}
theorem mS_c (h : mS x P) (e : ∀ k, 0 ≤ k → k < 32 → (P k ↔ Q k)) : mS x Q := ⟨h.1, fun k a b => (h.2 k a b).trans (e k a b)⟩
theorem mS_or (h : mS x P) (g : mS y Q) : mS (zor x y) (fun k => P k ∨ Q k) := ⟨zr_or32 _ _, fun k a b => by rw [zb_or32 h.1 g.1 (by omega), h.2 k a b, g.2 k a b]⟩
theorem mS_and (h : mS x P) (g : mS y Q) : mS (zand x y) (fun k => P k ∧ Q k) := ⟨zr_and32 _ _, fun k a b => by rw [zb_and32 h.1 g.1 (by omega), h.2 k a b, g.2 k a b]⟩
theorem mS_not (h : mS x P) : mS (-x - 1) (fun k => ¬ P k) := ⟨by have := h.1; omega, fun k a b => by rw [zb_not, h.2 k a b]⟩
theorem mS_0 : mS 0 (fun _ => False) := ⟨by decide, fun k _ _ => by rw [zb_zero]; simp⟩
theorem pw31 {j : Int} (h : 0 ≤ j ∧ j < 31) : 0 < (2 : Int) ^ j.toNat ∧ (2 : Int) ^ j.toNat < 2147483648 := by
  have p : ∀ t : Nat, t < 31 → 0 < (2 : Int) ^ t ∧ (2 : Int) ^ t < 2147483648 := by decide
  exact p j.toNat (by omega)
theorem mS_one (h : 0 ≤ j ∧ j < 31) : mS (2 ^ j.toNat) (fun k => k = j) := by
  have p := pw31 h
  refine ⟨⟨by omega, p.2⟩, fun k a b => ?_⟩
  rw [zb_pow]
  show k.toNat = j.toNat ↔ k = j
  omega
theorem mS_low (h : 0 ≤ j ∧ j < 31) : mS (2 ^ j.toNat - 1) (fun k => k < j) := by
  have p := pw31 h
  refine ⟨⟨by omega, by omega⟩, fun k a b => ?_⟩
  rw [zb_ones]
  show k.toNat < j.toNat ↔ k < j
  omega
theorem mS_z (h : mS x P) : x = 0 ↔ ∀ k, 0 ≤ k → k < 32 → ¬ P k := by
  constructor
  · intro e k a b p
    have := (h.2 k a b).mpr p
    rw [e, zb_zero] at this
    exact absurd this (by decide)
  · intro H
    refine zb_032 h.1 (fun k hk => zb_n0 (fun w => H k (by omega) (by omega) ((h.2 k (by omega) (by omega)).mp ?_)))
    rw [Int.toNat_natCast]; exact w
theorem mS_u (h : mS x P) (g : mS y P) : x = y := zb_ext32 h.1 g.1 (fun k hk => by
  have a := h.2 k (by omega) (by omega)
  have b := g.2 k (by omega) (by omega)
  rw [Int.toNat_natCast] at a b
  exact a.trans b.symm)
/-- a set without what another holds -/
theorem mS_sub (h : mS x P) (g : mS y Q) : zand x (-y - 1) = 0 ↔ ∀ k, 0 ≤ k → k < 32 → P k → Q k :=
  (mS_z (mS_and h (mS_not g))).trans ⟨fun H k a b p => Classical.byContradiction (fun q => H k a b ⟨p, q⟩), fun H k a b w => w.2 (H k a b w.1)⟩
theorem mS_dj (h : mS x P) (g : mS y Q) : zand x y = 0 ↔ ∀ k, 0 ≤ k → k < 32 → ¬ (P k ∧ Q k) := mS_z (mS_and h g)
theorem mS_pos (h : mS x P) (n : ¬ P 31) : 0 ≤ x := by
  have a := h.1
  have b : ¬ zb x 31 = 1 := fun w => n ((h.2 31 (by decide) (by decide)).mp w)
  have c := zb_n0 b
  have d : x / 2147483648 % 2 = 0 := c
  omega
theorem mS_bit (h : mS x P) {k : Int} (a : 0 ≤ k) (b : k < 32) : x / 2 ^ k.toNat % 2 = 1 ↔ P k := h.2 k a b
/-- the least one goes -/
theorem mS_rest (h : mS x P) (n : ¬ P 31) (hx : ¬ x = 0) : ∃ t : Int, (0 ≤ t ∧ t < 32) ∧ P t ∧ (∀ j, 0 ≤ j → j < t → ¬ P j) ∧ mS (zand x (x - 1)) (fun k => P k ∧ k ≠ t) := by
  have p := mS_pos h n
  have hr := h.1
  have hz : ∃ k, k < 32 ∧ zb x k = 1 := Classical.byContradiction (fun q => hx (zb_032 h.1 (fun k hk => zb_n0 (fun w => q ⟨k, hk, w⟩))))
  obtain ⟨t, ht, h1, h2, q, e⟩ := zb_low hz
  have lo : ∀ j : Int, 0 ≤ j → j < t → ¬ P j := fun j a b w => by
    have w1 := (h.2 j a (by omega)).mpr w
    have w2 := h2 j.toNat (by omega)
    omega
  refine ⟨t, by omega, (h.2 t (by omega) (by omega)).mp (by rw [Int.toNat_natCast]; exact h1), lo, zr_and32 _ _, fun k a b => ?_⟩
  rw [zb_and32 h.1 ⟨by omega, by omega⟩ (by omega), zb_dec e, h.2 k a b]
  constructor
  · rintro ⟨w, v | v⟩
    · exact absurd w (lo k a (by omega))
    · exact ⟨w, by omega⟩
  · rintro ⟨w, v⟩
    refine ⟨w, Or.inr ⟨?_, w⟩⟩
    by_cases c : k < t
    · exact absurd w (lo k a c)
    · omega
end
