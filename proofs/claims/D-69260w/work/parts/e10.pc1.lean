/-! ProofChecker (room PC): what a rule gives -/
theorem kOn_iff {a : Nat} {P : Nat → Prop} : kOn (some a) P ↔ P a := ⟨fun ⟨b, e, h⟩ => by rw [Option.some.inj e]; exact h, kOn_some⟩
/-- the statement o is f -/
def pcO (mX9_kind mX9_a mX9_b mX9_c : Nat → Int) (o : Nat) (f : Int → Int) : Prop := mX9_kind o = f 0 ∧ mX9_a o = f 1 ∧ mX9_b o = f 2 ∧ mX9_c o = f 3
/-- the row of premises' statements Fm: the first m of them are told by s; none of them is t -/
def pcFr (kd an : Nat → Nat) (ar : Nat → Int → Option Nat) (mX9_kind mX9_a mX9_b mX9_c : Nat → Int) (Fm t : Nat) (m : Int) (q : Int → Nat) (s : Int → Int → Int) : Prop :=
  (kd Fm = 22 ∧ an Fm = 3 ∧ kd t = 2) ∧ ∀ i, 0 ≤ i → i < m → ar Fm i = some (q i) ∧ (kd (q i) = 2 ∧ q i ≠ t) ∧ pcO mX9_kind mX9_a mX9_b mX9_c (q i) (s i)
/-- rule z and its object -/
def pcRu (kd : Nat → Nat) (mX10_takes mX12_any mX14_kind mX16_kind mX18_first mX19_either : Nat → Int) (z : Int) (o : Nat) : Prop :=
  mX10_takes o = pcT z ∧ ((z = 0 ∧ kd o = 4) ∨ (z = 1 ∧ kd o = 5 ∧ mX12_any o = 0) ∨ (z = 2 ∧ kd o = 6) ∨ (z = 3 ∧ kd o = 7 ∧ mX14_kind o = 1) ∨ (z = 4 ∧ kd o = 7 ∧ mX14_kind o = 2) ∨ (z = 5 ∧ kd o = 8) ∨ (z = 6 ∧ kd o = 9 ∧ mX16_kind o = 2) ∨ (z = 7 ∧ kd o = 10 ∧ mX16_kind o = 3 ∧ mX18_first o = 1) ∨ (z = 8 ∧ kd o = 10 ∧ mX16_kind o = 4 ∧ mX18_first o = 0) ∨
  (z = 9 ∧ kd o = 11 ∧ mX16_kind o = 7 ∧ mX19_either o = 1) ∨ (z = 10 ∧ kd o = 12 ∧ mX16_kind o = 6) ∨ (z = 11 ∧ kd o = 11 ∧ mX16_kind o = 8 ∧ mX19_either o = 0) ∨ (z = 12 ∧ kd o = 13) ∨ (z = 13 ∧ kd o = 14) ∨ (z = 14 ∧ kd o = 15 ∧ mX16_kind o = 9) ∨ (z = 15 ∧ kd o = 16) ∨ (z = 16 ∧ kd o = 17) ∨ (z = 17 ∧ kd o = 5 ∧ mX12_any o = 1))
section
variable {kd : Nat → Nat} {an : Nat → Nat} {ai : Nat → Int → Int} {al : Nat → Int → Int} {ar : Nat → Int → Option Nat} {mX8_rules : Nat → Option Nat} {mX8_axioms : Nat → Option Nat} {mX8_axiomCount : Nat → Int} {mX8_givens : Nat → Option Nat} {mX8_givenCount : Nat → Int} {mX8_wanted : Nat → Option Nat} {mX8_rows : Nat → Option Nat} {mX8_rowCount : Nat → Int} {mX8_looked : Nat → Int} {mX8_from : Nat → Option Nat} {mX8_needed : Nat → Option Nat} {mX8_broken : Nat → Int} {mX8_places : Nat → Option Nat} {mX8_text : Nat → Option Nat} {mX8_size : Nat → Int} {mX9_kind : Nat → Int} {mX9_a : Nat → Int} {mX9_b : Nat → Int} {mX9_c : Nat → Int} {mX26_rule : Nat → Int} {mX26_instance : Nat → Int} {mX26_premises : Nat → Option Nat} {mX26_count : Nat → Int} {mX26_states : Nat → Option Nat} {mX26_right : Nat → Int} {mX26_size : Nat → Int} {mX10_takes : Nat → Int} {mX10_name : Nat → Option Nat} {mX12_any : Nat → Int} {mX14_kind : Nat → Int} {mX16_kind : Nat → Int} {mX18_first : Nat → Int} {mX19_either : Nat → Int} {z x2 : Int} {o x1 Fm t : Nat} {q : Int → Nat} {s : Int → Int → Int} {ax tr : Int → Int} {aA aG : Nat} {G : Int → Int}
theorem CPC_g15 {post : Int → (Nat → Int) → (Nat → Int) → (Nat → Int) → (Nat → Int) → Prop} (F : pcFr kd an ar mX9_kind mX9_a mX9_b mX9_c Fm t 2 q s) (h1 : ∀ v0 v1 v2 v3, pcG 5 x2 ax tr (s 0) (s 1) (s 2) = pcM v0 v1 v2 v3 → post 1 (va_up mX9_kind t v0) (va_up mX9_a t v1) (va_up mX9_b t v2) (va_up mX9_c t v3)) (h0 : pcG 5 x2 ax tr (s 0) (s 1) (s 2) = pcZ → ∀ v0 v1 v2 v3, post 0 (va_up mX9_kind t v0) (va_up mX9_a t v1) (va_up mX9_b t v2) (va_up mX9_c t v3)) : wpPC_X15_give post kd an ar mX9_kind mX9_a mX9_b mX9_c (some x1) x2 (some Fm) (some t) := by
  obtain ⟨⟨k1, k2, k3⟩, hf⟩ := F
  obtain ⟨a0, ⟨b0, c0⟩, d0, d1, d2, d3⟩ := hf 0 (by decide) (by decide)
  obtain ⟨a1, ⟨b1, c1⟩, f0, f1, f2, f3⟩ := hf 1 (by decide) (by decide)
  have u0 : ∀ {f : Nat → Int} {v : Int}, va_up f t v (q 0) = f (q 0) := fun {f v} => va_up_ne f v c0
  have u1 : ∀ {f : Nat → Int} {v : Int}, va_up f t v (q 1) = f (q 1) := fun {f v} => va_up_ne f v c1
  have g : pcG 5 x2 ax tr (s 0) (s 1) (s 2) = if s 0 0 = 1 ∧ s 1 0 = 11 ∧ s 1 2 = 0 ∧ s 1 3 = s 0 1 then pcM 11 (s 1 1) 0 (s 0 2) else pcZ := rfl
  rw [g] at h1 h0
  unfold wpPC_X15_give wpPC_X9_set wpPC_X8_isOf
  simp only [kOn_iff, forall_eq, k1, k2, k3, a0, a1, b0, b1, u0, u1, d0, d1, d2, d3, f0, f1, f2, f3]
  grind
end
