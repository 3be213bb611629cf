/-! ProofChecker: what rows state when axioms, triples, rows change -/
theorem pcG_c {z n : Int} {ax ax' tr tr' s0 s0' s1 s1' s2 s2' : Int → Int} (hz : 0 ≤ z ∧ z ≤ 17) (ha : z = 0 → ∀ j, 0 ≤ j → j < 4 → ax (4 * n + j) = ax' (4 * n + j)) (ht : (z = 1 ∨ z = 17) → ∀ j, 0 ≤ j → j < 4 → tr (4 * n + j) = tr' (4 * n + j)) (h0 : 0 < pcT z → s0 = s0') (h1 : 1 < pcT z → s1 = s1') (h2 : 2 < pcT z → s2 = s2') : pcG z n ax tr s0 s1 s2 = pcG z n ax' tr' s0' s1' s2' := by
  have : z = 0 ∨ z = 1 ∨ z = 2 ∨ z = 3 ∨ z = 4 ∨ z = 5 ∨ z = 6 ∨ z = 7 ∨ z = 8 ∨ z = 9 ∨ z = 10 ∨ z = 11 ∨ z = 12 ∨ z = 13 ∨ z = 14 ∨ z = 15 ∨ z = 16 ∨ z = 17 := by omega
  rcases this with rfl | rfl | rfl | rfl | rfl | rfl | rfl | rfl | rfl | rfl | rfl | rfl | rfl | rfl | rfl | rfl | rfl | rfl
  · have a0 := ha rfl 0 (by decide) (by decide)
    have a1 := ha rfl 1 (by decide) (by decide)
    have a2 := ha rfl 2 (by decide) (by decide)
    have a3 := ha rfl 3 (by decide) (by decide)
    rw [Int.add_zero] at a0
    show pcM (ax (4 * n)) (ax (4 * n + 1)) (ax (4 * n + 2)) (ax (4 * n + 3)) = pcM (ax' (4 * n)) (ax' (4 * n + 1)) (ax' (4 * n + 2)) (ax' (4 * n + 3))
    rw [a0, a1, a2, a3]
  · have a0 := ht (Or.inl rfl) 0 (by decide) (by decide)
    have a1 := ht (Or.inl rfl) 1 (by decide) (by decide)
    have a2 := ht (Or.inl rfl) 2 (by decide) (by decide)
    have a3 := ht (Or.inl rfl) 3 (by decide) (by decide)
    rw [Int.add_zero] at a0
    show pcM (tr (4 * n)) (tr (4 * n + 1)) (tr (4 * n + 2)) (tr (4 * n + 3)) = pcM (tr' (4 * n)) (tr' (4 * n + 1)) (tr' (4 * n + 2)) (tr' (4 * n + 3))
    rw [a0, a1, a2, a3]
  · rfl
  · rw [h0 (by decide), h1 (by decide)]; rfl
  · rw [h0 (by decide), h1 (by decide)]; rfl
  · rw [h0 (by decide), h1 (by decide)]; rfl
  · rw [h0 (by decide), h1 (by decide)]; rfl
  · rw [h0 (by decide), h1 (by decide)]; rfl
  · rw [h0 (by decide), h1 (by decide)]; rfl
  · rw [h0 (by decide), h1 (by decide)]; rfl
  · rw [h0 (by decide), h1 (by decide), h2 (by decide)]; rfl
  · rw [h0 (by decide), h1 (by decide)]; rfl
  · rw [h0 (by decide)]; rfl
  · rw [h0 (by decide), h1 (by decide)]; rfl
  · rw [h0 (by decide), h1 (by decide), h2 (by decide)]; rfl
  · rw [h0 (by decide), h1 (by decide), h2 (by decide)]; rfl
  · rw [h0 (by decide), h1 (by decide)]; rfl
  · have a0 := ht (Or.inr rfl) 0 (by decide) (by decide)
    have a1 := ht (Or.inr rfl) 1 (by decide) (by decide)
    have a2 := ht (Or.inr rfl) 2 (by decide) (by decide)
    have a3 := ht (Or.inr rfl) 3 (by decide) (by decide)
    rw [Int.add_zero] at a0
    show (if s0 0 = 12 then pcM (tr (4 * n)) (tr (4 * n + 1)) (tr (4 * n + 2)) (tr (4 * n + 3)) else pcZ) = (if s0' 0 = 12 then pcM (tr' (4 * n)) (tr' (4 * n + 1)) (tr' (4 * n + 2)) (tr' (4 * n + 3)) else pcZ)
    rw [a0, a1, a2, a3, h0 (by decide)]
/-- axioms and triples in use are the same -/
def pcE (ax ax' : Int → Int) (na : Int) (tr tr' : Int → Int) (nt : Int) : Prop := (∀ k, 1 ≤ k → k ≤ na → ∀ j, 0 ≤ j → j < 4 → ax (4 * k + j) = ax' (4 * k + j)) ∧ ∀ k, 1 ≤ k → k ≤ nt → ∀ j, 0 ≤ j → j < 4 → tr (4 * k + j) = tr' (4 * k + j)
/-- rows up to k are the same -/
def pcEr (ru ins ct pr ru' ins' ct' pr' : Int → Int) (k : Int) : Prop := ∀ r, 1 ≤ r → r ≤ k → (ru' r = ru r ∧ ins' r = ins r ∧ ct' r = ct r) ∧ ∀ i, 0 ≤ i → i < ct r → pr' (3 * r + i) = pr (3 * r + i)
section
variable {ax ax' tr tr' ru ins ct pr ru' ins' ct' pr' : Int → Int} {na nt na' nt' k r : Int}
theorem pcRw_c (R : pcRw ru ins ct pr na nt r) (E : pcEr ru ins ct pr ru' ins' ct' pr' k) (h0 : 1 ≤ r) (h1 : r ≤ k) (ha : na ≤ na') (ht : nt ≤ nt') : pcRw ru' ins' ct' pr' na' nt' r := by
  obtain ⟨⟨e1, e2, e3⟩, e4⟩ := E r h0 h1
  obtain ⟨r1, r2, r3, r4, r5, r6⟩ := R
  unfold pcRw
  rw [e1, e2, e3]
  exact ⟨r1, r2, fun i a b => by rw [e4 i a b]; exact r3 i a b, fun h => by have := r4 h; omega, fun h => by have := r5 h; omega, r6⟩
theorem pcS_c (hI : ∀ r, 1 ≤ r → r ≤ k → pcRw ru ins ct pr na nt r) (E : pcE ax ax' na tr tr' nt) (Er : pcEr ru ins ct pr ru' ins' ct' pr' k) : ∀ (m : Nat) {r : Int}, 1 ≤ r → r ≤ m → r ≤ k → pcS ax tr ru ins ct pr r = pcS ax' tr' ru' ins' ct' pr' r
  | 0, r, h0, h, _ => by omega
  | m + 1, r, h0, h, hk => by
    have R := hI r h0 hk
    have R' := pcRw_c R Er h0 hk (Int.le_refl _) (Int.le_refl _)
    obtain ⟨⟨e1, e2, e3⟩, e4⟩ := Er r h0 hk
    have ih : ∀ i, 0 ≤ i → i < ct r → pcS ax tr ru ins ct pr (pr (3 * r + i)) = pcS ax' tr' ru' ins' ct' pr' (pr' (3 * r + i)) := fun i a b => by
      have := R.2.2.1 i a b
      rw [e4 i a b]
      exact pcS_c hI E Er m this.1 (by omega) (by omega)
    have ih2 : ∀ i, 0 ≤ i → i < ct r → pcR ax tr ru ins ct pr (r.toNat - 1) (pr (3 * r + i)) = pcR ax' tr' ru' ins' ct' pr' (r.toNat - 1) (pr' (3 * r + i)) := fun i a b => by
      have p1 := R.2.2.1 i a b
      have p2 := R'.2.2.1 i a (by omega)
      rw [pcR_S p1.1 (by omega), pcR_S p2.1 (by omega)]
      exact ih i a b
    rw [pcS_eq h0 R, pcS_eq h0 R']
    by_cases g : pcGd ru ct pr (pcS ax tr ru ins ct pr) r
    · have g' : pcGd ru' ct' pr' (pcS ax' tr' ru' ins' ct' pr') r := by
        unfold pcGd
        rw [e1, e3]
        exact ⟨g.1, fun i a b => by rw [← ih i a b]; exact g.2 i a b⟩
      rw [pif_t g, pif_t g', e1, e2]
      have gc := g.1
      exact pcG_c R.1 (fun z j a b => by have := R.2.2.2.1 z; exact E.1 _ this.1 this.2 j a b) (fun z j a b => by have := R.2.2.2.2.1 z; exact E.2 _ this.1 this.2 j a b) (fun z => ih2 0 (by decide) (by omega)) (fun z => ih2 1 (by decide) (by omega)) (fun z => ih2 2 (by decide) (by omega))
    · have g' : ¬ pcGd ru' ct' pr' (pcS ax' tr' ru' ins' ct' pr') r := by
        intro h
        refine g ?_
        unfold pcGd at h ⊢
        rw [e1, e3] at h
        exact ⟨h.1, fun i a b => by rw [ih i a b]; exact h.2 i a b⟩
      rw [pif_f g, pif_f g']
theorem pcSz_c (hI : ∀ r, 1 ≤ r → r ≤ k → pcRw ru ins ct pr na nt r) (Er : pcEr ru ins ct pr ru' ins' ct' pr' k) : ∀ (m : Nat) {r : Int}, 1 ≤ r → r ≤ m → r ≤ k → pcSz ct pr r = pcSz ct' pr' r
  | 0, r, h0, h, _ => by omega
  | m + 1, r, h0, h, hk => by
    have R := hI r h0 hk
    have R' := pcRw_c R Er h0 hk (Int.le_refl _) (Int.le_refl _)
    obtain ⟨⟨e1, e2, e3⟩, e4⟩ := Er r h0 hk
    have sm : ∀ i : Nat, i ≤ (ct r).toNat → pcSm (pcSz ct pr) pr r i = pcSm (pcSz ct' pr') pr' r i := by
      intro i
      induction i with
      | zero => intro _; rfl
      | succ i ih =>
        intro hi
        have p := R.2.2.1 i (by omega) (by omega)
        rw [pcSm, pcSm, ih (by omega), e4 i (by omega) (by omega), pcSz_c hI Er m p.1 (by omega) (by omega)]
    rw [pcSz_eq h0 R.2.2.1, pcSz_eq h0 R'.2.2.1, e3, sm _ (Nat.le_refl _)]
end
