/-! ZPLIB: plain rows for what is asked over Int -/
noncomputable def pif {α : Type} (P : Prop) (a b : α) : α := @ite α P (Classical.propDecidable P) a b
theorem pif_t {α : Type} {P : Prop} {a b : α} (h : P) : pif P a b = a := by unfold pif; exact @if_pos P (Classical.propDecidable P) h α a b
theorem pif_f {α : Type} {P : Prop} {a b : α} (h : ¬ P) : pif P a b = b := by unfold pif; exact @if_neg P (Classical.propDecidable P) h α a b
theorem pif_c {α : Type} {P Q : Prop} {a b : α} (h : P ↔ Q) : pif P a b = pif Q a b := by
  by_cases hp : P
  · rw [pif_t hp, pif_t (h.mp hp)]
  · rw [pif_f hp, pif_f (fun q => hp (h.mpr q))]
theorem updI_s {α : Type} {f : Int → α} {i : Int} {v : α} : updI f i v i = v := if_pos rfl
theorem updI_n {α : Type} {f : Int → α} {i j : Int} {v : α} (h : j ≠ i) : updI f i v j = f j := if_neg h
theorem updI_e {α : Type} {f : Int → α} {i j : Int} {v : α} : updI f i v j = if j = i then v else f j := rfl
/-- a loop with a measure -/
theorem wloop {σ : Type} (W : Nat → σ → Prop) (I : σ → Prop) (m : σ → Nat) (h : ∀ s, I s → ∀ n, (∀ s', I s' → m s' < m s → W n s') → W (n + 1) s) (s : σ) (hI : I s) : ∃ n, W n s := by
  have key : ∀ n s, I s → m s < n → W n s := by
    intro n
    induction n with
    | zero => intro s _ h; omega
    | succ n ih => intro s hI hm; exact h s hI n (fun s' hI' hlt => ih s' hI' (by omega))
  exact ⟨m s + 1, key _ s hI (by omega)⟩
/-- an index that runs up to N -/
theorem zl1 (W : Nat → Int → Prop) (I : Int → Prop) (N : Int) (h : ∀ n i, I i → i ≤ N → (i < N → I (i + 1) → W n (i + 1)) → W (n + 1) i) {i0 : Int} (h0 : I i0) (hN : i0 ≤ N) : ∃ n, W n i0 := by
  refine wloop W (fun i => I i ∧ i ≤ N) (fun i => (N - i).toNat) ?_ i0 ⟨h0, hN⟩
  intro i hi n ih
  exact h n i hi.1 hi.2 (fun hlt hI => ih (i + 1) ⟨hI, by omega⟩ (by omega))
theorem zl2 {σ : Type} (W : Nat → Int → σ → Prop) (I : Int → σ → Prop) (N : Int) (h : ∀ n i s, I i s → i ≤ N → (∀ s', i < N → I (i + 1) s' → W n (i + 1) s') → W (n + 1) i s) {i0 : Int} {s0 : σ} (h0 : I i0 s0) (hN : i0 ≤ N) : ∃ n, W n i0 s0 := by
  refine wloop (fun n (q : Int × σ) => W n q.1 q.2) (fun q => I q.1 q.2 ∧ q.1 ≤ N) (fun q => (N - q.1).toNat) ?_ (i0, s0) ⟨h0, hN⟩
  rintro ⟨i, s⟩ hi n ih
  exact h n i s hi.1 hi.2 (fun s' hlt hI => ih (i + 1, s') ⟨hI, by dsimp only; omega⟩ (by dsimp only; omega))
/-- an index that runs down to below M -/
theorem zd1 (W : Nat → Int → Prop) (I : Int → Prop) (M : Int) (h : ∀ n i, I i → M ≤ i → (M < i → I (i - 1) → W n (i - 1)) → W (n + 1) i) {i0 : Int} (h0 : I i0) (hN : M ≤ i0) : ∃ n, W n i0 := by
  refine wloop W (fun i => I i ∧ M ≤ i) (fun i => (i - M).toNat) ?_ i0 ⟨h0, hN⟩
  intro i hi n ih
  exact h n i hi.1 hi.2 (fun hlt hI => ih (i - 1) ⟨hI, by omega⟩ (by omega))
theorem zd2 {σ : Type} (W : Nat → Int → σ → Prop) (I : Int → σ → Prop) (M : Int) (h : ∀ n i s, I i s → M ≤ i → (∀ s', M < i → I (i - 1) s' → W n (i - 1) s') → W (n + 1) i s) {i0 : Int} {s0 : σ} (h0 : I i0 s0) (hN : M ≤ i0) : ∃ n, W n i0 s0 := by
  refine wloop (fun n (q : Int × σ) => W n q.1 q.2) (fun q => I q.1 q.2 ∧ M ≤ q.1) (fun q => (q.1 - M).toNat) ?_ (i0, s0) ⟨h0, hN⟩
  rintro ⟨i, s⟩ hi n ih
  exact h n i s hi.1 hi.2 (fun s' hlt hI => ih (i - 1, s') ⟨hI, by dsimp only; omega⟩ (by dsimp only; omega))
/-- counting over Int -/
noncomputable def cntI (p : Int → Prop) : Nat → Int
  | 0 => 0
  | n + 1 => cntI p n + pif (p n) 1 0
theorem cntI_b (p : Int → Prop) : ∀ n, 0 ≤ cntI p n ∧ cntI p n ≤ n
  | 0 => ⟨Int.le_refl 0, Int.le_refl 0⟩
  | n + 1 => by
    have := cntI_b p n
    unfold cntI
    by_cases h : p n
    · rw [pif_t h]; omega
    · rw [pif_f h]; omega
theorem cntI_c {p q : Int → Prop} : ∀ {n : Nat}, (∀ i : Int, 0 ≤ i → i < n → (p i ↔ q i)) → cntI p n = cntI q n
  | 0, _ => rfl
  | n + 1, h => by unfold cntI; rw [cntI_c (n := n) (fun i a b => h i a (by omega)), pif_c (h n (by omega) (by omega))]
theorem wl2 {σ τ : Type} (W : Nat → σ → τ → Prop) (I : σ → τ → Prop) (m : σ → τ → Nat) (h : ∀ s t, I s t → ∀ n, (∀ s' t', I s' t' → m s' t' < m s t → W n s' t') → W (n + 1) s t) (s : σ) (t : τ) (hI : I s t) : ∃ n, W n s t :=
  wloop (fun n (q : σ × τ) => W n q.1 q.2) (fun q => I q.1 q.2) (fun q => m q.1 q.2) (fun q hq n ih => h q.1 q.2 hq n (fun s' t' => ih (s', t'))) (s, t) hI
theorem wl3 {σ τ υ : Type} (W : Nat → σ → τ → υ → Prop) (I : σ → τ → υ → Prop) (m : σ → τ → υ → Nat) (h : ∀ s t u, I s t u → ∀ n, (∀ s' t' u', I s' t' u' → m s' t' u' < m s t u → W n s' t' u') → W (n + 1) s t u) (s : σ) (t : τ) (u : υ) (hI : I s t u) : ∃ n, W n s t u :=
  wloop (fun n (q : σ × τ × υ) => W n q.1 q.2.1 q.2.2) (fun q => I q.1 q.2.1 q.2.2) (fun q => m q.1 q.2.1 q.2.2) (fun q hq n ih => h q.1 q.2.1 q.2.2 hq n (fun s' t' u' => ih (s', t', u'))) (s, t, u) hI
theorem wl4 {σ τ υ ρ : Type} (W : Nat → σ → τ → υ → ρ → Prop) (I : σ → τ → υ → ρ → Prop) (m : σ → τ → υ → ρ → Nat) (h : ∀ s t u r, I s t u r → ∀ n, (∀ s' t' u' r', I s' t' u' r' → m s' t' u' r' < m s t u r → W n s' t' u' r') → W (n + 1) s t u r) (s : σ) (t : τ) (u : υ) (r : ρ) (hI : I s t u r) : ∃ n, W n s t u r :=
  wloop (fun n (q : σ × τ × υ × ρ) => W n q.1 q.2.1 q.2.2.1 q.2.2.2) (fun q => I q.1 q.2.1 q.2.2.1 q.2.2.2) (fun q => m q.1 q.2.1 q.2.2.1 q.2.2.2) (fun q hq n ih => h q.1 q.2.1 q.2.2.1 q.2.2.2 hq n (fun s' t' u' r' => ih (s', t', u', r'))) (s, t, u, r) hI
/-- the first below n with p; n for none -/
noncomputable def fstI (p : Int → Prop) : Nat → Int
  | 0 => 0
  | n + 1 => if fstI p n < n then fstI p n else pif (p n) n (n + 1)
theorem fstI_s (p : Int → Prop) : ∀ n : Nat, (0 ≤ fstI p n ∧ fstI p n ≤ n) ∧ (fstI p n < n → p (fstI p n)) ∧ ∀ j, 0 ≤ j → j < fstI p n → ¬ p j
  | 0 => ⟨⟨Int.le_refl 0, Int.le_refl 0⟩, fun h => by simp [fstI] at h, fun j a b => by simp only [fstI] at b; omega⟩
  | n + 1 => by
    obtain ⟨h1, h2, h3⟩ := fstI_s p n
    unfold fstI
    by_cases h : fstI p n < n
    · rw [if_pos h]; exact ⟨by omega, fun _ => h2 h, h3⟩
    · rw [if_neg h]
      have e : fstI p n = n := by omega
      rw [e] at h3
      by_cases hp : p n
      · rw [pif_t hp]; exact ⟨by omega, fun _ => hp, h3⟩
      · rw [pif_f hp]
        refine ⟨by omega, fun q => by omega, fun j a b => ?_⟩
        by_cases hj : j = n
        · subst hj; exact hp
        · exact h3 j a (by omega)
theorem fstI_u {p : Int → Prop} {n : Nat} {k : Int} (h0 : 0 ≤ k) (hn : k ≤ n) (h1 : k < n → p k) (h2 : ∀ j, 0 ≤ j → j < k → ¬ p j) : fstI p n = k := by
  obtain ⟨a, b, c⟩ := fstI_s p n
  rcases Int.lt_trichotomy (fstI p n) k with q | q | q
  · exact absurd (b (by omega)) (h2 _ a.1 q)
  · exact q
  · exact absurd (h1 (by omega)) (c k h0 q)
theorem wl5 {σ τ υ ρ π : Type} (W : Nat → σ → τ → υ → ρ → π → Prop) (I : σ → τ → υ → ρ → π → Prop) (m : σ → τ → υ → ρ → π → Nat) (h : ∀ s t u r p, I s t u r p → ∀ n, (∀ s' t' u' r' p', I s' t' u' r' p' → m s' t' u' r' p' < m s t u r p → W n s' t' u' r' p') → W (n + 1) s t u r p) (s : σ) (t : τ) (u : υ) (r : ρ) (p : π) (hI : I s t u r p) : ∃ n, W n s t u r p :=
  wloop (fun n (q : σ × τ × υ × ρ × π) => W n q.1 q.2.1 q.2.2.1 q.2.2.2.1 q.2.2.2.2) (fun q => I q.1 q.2.1 q.2.2.1 q.2.2.2.1 q.2.2.2.2) (fun q => m q.1 q.2.1 q.2.2.1 q.2.2.2.1 q.2.2.2.2) (fun q hq n ih => h q.1 q.2.1 q.2.2.1 q.2.2.2.1 q.2.2.2.2 hq n (fun s' t' u' r' p' => ih (s', t', u', r', p'))) (s, t, u, r, p) hI
theorem cntI_t {p : Int → Prop} {n : Int} (h0 : 0 ≤ n) (h : p n) : cntI p (n + 1).toNat = cntI p n.toNat + 1 := by
  rw [show (n + 1).toNat = n.toNat + 1 by omega, cntI, show ((n.toNat : Nat) : Int) = n by omega, pif_t h]
theorem cntI_f {p : Int → Prop} {n : Int} (h0 : 0 ≤ n) (h : ¬ p n) : cntI p (n + 1).toNat = cntI p n.toNat := by
  rw [show (n + 1).toNat = n.toNat + 1 by omega, cntI, show ((n.toNat : Nat) : Int) = n by omega, pif_f h]; omega
