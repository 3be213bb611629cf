/-! ProofChecker, the reference (X50): statements in words, sentences -/
def pcStm (k a b c : Int) : List Int :=
  if k = 0 then pcPh 18 else if k = 1 then pcPh 20 ++ (pcNu a ++ (pcPh 22 ++ pcNu b)) else if k = 2 then pcNu a ++ (pcPh 23 ++ pcNu b) else if k = 3 then pcPh 21 ++ (pcNu a ++ (pcPh 24 ++ pcNu b)) else if k = 4 then pcPh 21 ++ (pcNu a ++ (pcPh 25 ++ pcNu b)) else
  if k = 5 then pcPh 20 ++ (pcNu a ++ (pcPh 26 ++ (pcNu b ++ pcPh 34))) else if k = 6 then pcNu a ++ pcPh 27 else if k = 7 then pcNu a ++ pcPh 28 else if k = 8 then pcNu a ++ (pcPh 29 ++ (pcNu b ++ pcPh 35)) else if k = 9 then pcNu a ++ pcPh 30 else if k = 10 then pcNu a ++ (pcPh 31 ++ pcNu b) else
  if k = 11 then (if b = 0 then pcNu a ++ (pcPh 32 ++ pcNu c) else if b = 1 then pcNu a ++ (pcPh 29 ++ pcNu c) else pcNu a ++ (pcPh 33 ++ (pcNu b ++ (pcPh 33 ++ pcNu c)))) else pcPh 19
section
variable {ax tr ru ins ct pr st ph t : Int → Int} {na nt n root s k a b c : Int} {L : List Int}
theorem T50_statement {post : (Int → Int) → Int → Prop} (hph : ∀ i, 0 ≤ i → i < 98 → ph i = pcTab i) (hk : 0 ≤ k ∧ k ≤ 12) (ha : 0 ≤ a ∧ a < 1000) (hb : 0 ≤ b ∧ b < 1000) (hc : 0 ≤ c ∧ c < 1000) (B : txB t s L) (hl : L.length ≤ 100) (hp : ∀ t' s', txB t' s' (L ++ pcStm k a b c) → post t' s') : wpX50_statement post ph t s k a b c := by
  have la := pcNu_l a
  have lb := pcNu_l b
  have lc := pcNu_l c
  have lp := pcPh_l
  have put : ∀ {post : (Int → Int) → Int → Prop} {t : Int → Int} {s : Int} {L : List Int} {p : Nat}, p < 41 → txB t s L → L.length ≤ 360 → (∀ t' s', txB t' s' (L ++ pcPh p) → post t' s') → wpX50_put post ph t s p := fun h1 h2 h3 h4 => T50_put hph h1 h2 h3 h4
  have l18 := lp 18; have l19 := lp 19; have l20 := lp 20; have l21 := lp 21; have l22 := lp 22; have l23 := lp 23; have l24 := lp 24; have l25 := lp 25; have l26 := lp 26; have l27 := lp 27; have l28 := lp 28; have l29 := lp 29; have l30 := lp 30; have l31 := lp 31; have l32 := lp 32; have l33 := lp 33; have l34 := lp 34; have l35 := lp 35
  have hk' : k = 0 ∨ k = 1 ∨ k = 2 ∨ k = 3 ∨ k = 4 ∨ k = 5 ∨ k = 6 ∨ k = 7 ∨ k = 8 ∨ k = 9 ∨ k = 10 ∨ k = 11 ∨ k = 12 := by omega
  rcases hk' with rfl | rfl | rfl | rfl | rfl | rfl | rfl | rfl | rfl | rfl | rfl | rfl | rfl
  · simp [wpX50_statement]
    exact put (p := 18) (by decide) B (by omega) (fun t' s' B' => hp t' s' B')
  · simp [wpX50_statement, wX50_statement_42, wX50_statement_58, wX50_statement_251, wX50_statement_283]
    refine put (p := 20) (by decide) B (by omega) (fun _ _ B => T50_num ha B (by simp; omega) (fun _ _ B => put (p := 22) (by decide) B (by simp; omega) (fun _ _ B => T50_num hb B (by simp; omega) (fun _ _ B => hp _ _ ?_))))
    simpa [pcStm, List.append_assoc] using B
  · simp [wpX50_statement, wX50_statement_42, wX50_statement_58, wX50_statement_251, wX50_statement_283]
    refine T50_num ha B (by omega) (fun _ _ B => put (p := 23) (by decide) B (by simp; omega) (fun _ _ B => T50_num hb B (by simp; omega) (fun _ _ B => hp _ _ ?_)))
    simpa [pcStm, List.append_assoc] using B
  · simp [wpX50_statement, wX50_statement_42, wX50_statement_58, wX50_statement_251, wX50_statement_283]
    refine put (p := 21) (by decide) B (by omega) (fun _ _ B => T50_num ha B (by simp; omega) (fun _ _ B => put (p := 24) (by decide) B (by simp; omega) (fun _ _ B => T50_num hb B (by simp; omega) (fun _ _ B => hp _ _ ?_))))
    simpa [pcStm, List.append_assoc] using B
  · simp [wpX50_statement, wX50_statement_42, wX50_statement_58, wX50_statement_251, wX50_statement_283]
    refine put (p := 21) (by decide) B (by omega) (fun _ _ B => T50_num ha B (by simp; omega) (fun _ _ B => put (p := 25) (by decide) B (by simp; omega) (fun _ _ B => T50_num hb B (by simp; omega) (fun _ _ B => hp _ _ ?_))))
    simpa [pcStm, List.append_assoc] using B
  · simp [wpX50_statement, wX50_statement_42, wX50_statement_58, wX50_statement_251, wX50_statement_283]
    refine put (p := 20) (by decide) B (by omega) (fun _ _ B => T50_num ha B (by simp; omega) (fun _ _ B => put (p := 26) (by decide) B (by simp; omega) (fun _ _ B => T50_num hb B (by simp; omega) (fun _ _ B => put (p := 34) (by decide) B (by simp; omega) (fun _ _ B => hp _ _ ?_)))))
    simpa [pcStm, List.append_assoc] using B
  · simp [wpX50_statement, wX50_statement_42, wX50_statement_58, wX50_statement_251, wX50_statement_283]
    refine T50_num ha B (by omega) (fun _ _ B => put (p := 27) (by decide) B (by simp; omega) (fun _ _ B => hp _ _ ?_))
    simpa [pcStm, List.append_assoc] using B
  · simp [wpX50_statement, wX50_statement_42, wX50_statement_58, wX50_statement_251, wX50_statement_283]
    refine T50_num ha B (by omega) (fun _ _ B => put (p := 28) (by decide) B (by simp; omega) (fun _ _ B => hp _ _ ?_))
    simpa [pcStm, List.append_assoc] using B
  · simp [wpX50_statement, wX50_statement_42, wX50_statement_58, wX50_statement_251, wX50_statement_283]
    refine T50_num ha B (by omega) (fun _ _ B => put (p := 29) (by decide) B (by simp; omega) (fun _ _ B => T50_num hb B (by simp; omega) (fun _ _ B => put (p := 35) (by decide) B (by simp; omega) (fun _ _ B => hp _ _ ?_))))
    simpa [pcStm, List.append_assoc] using B
  · simp [wpX50_statement, wX50_statement_42, wX50_statement_58, wX50_statement_251, wX50_statement_283]
    refine T50_num ha B (by omega) (fun _ _ B => put (p := 30) (by decide) B (by simp; omega) (fun _ _ B => hp _ _ ?_))
    simpa [pcStm, List.append_assoc] using B
  · simp [wpX50_statement, wX50_statement_42, wX50_statement_58, wX50_statement_251, wX50_statement_283]
    refine T50_num ha B (by omega) (fun _ _ B => put (p := 31) (by decide) B (by simp; omega) (fun _ _ B => T50_num hb B (by simp; omega) (fun _ _ B => hp _ _ ?_)))
    simpa [pcStm, List.append_assoc] using B
  · by_cases b0 : b = 0
    · subst b0
      simp [wpX50_statement, wX50_statement_42, wX50_statement_58, wX50_statement_251, wX50_statement_283]
      refine T50_num ha B (by omega) (fun _ _ B => put (p := 32) (by decide) B (by simp; omega) (fun _ _ B => T50_num hc B (by simp; omega) (fun _ _ B => hp _ _ ?_)))
      simpa [pcStm, List.append_assoc] using B
    · by_cases b1 : b = 1
      · subst b1
        simp [wpX50_statement, wX50_statement_42, wX50_statement_58, wX50_statement_251, wX50_statement_283]
        refine T50_num ha B (by omega) (fun _ _ B => put (p := 29) (by decide) B (by simp; omega) (fun _ _ B => T50_num hc B (by simp; omega) (fun _ _ B => hp _ _ ?_)))
        simpa [pcStm, List.append_assoc] using B
      · have b2 : ¬ b ≤ 1 := by omega
        simp [wpX50_statement, wX50_statement_42, wX50_statement_58, wX50_statement_251, wX50_statement_283, b0, b1, b2]
        refine T50_num ha B (by omega) (fun _ _ B => put (p := 33) (by decide) B (by simp; omega) (fun _ _ B => T50_num hb B (by simp; omega) (fun _ _ B => put (p := 33) (by decide) B (by simp; omega) (fun _ _ B => T50_num hc B (by simp; omega) (fun _ _ B => hp _ _ ?_)))))
        simpa [pcStm, b0, b1, List.append_assoc] using B
  · simp [wpX50_statement]
    exact put (p := 19) (by decide) B (by omega) (fun t' s' B' => hp t' s' B')
/-- what axioms and triples hold -/
def pcAx (ax : Int → Int) (na : Int) : Prop := ∀ k, 1 ≤ k → k ≤ na → (1 ≤ ax (4 * k) ∧ ax (4 * k) ≤ 10) ∧ (0 ≤ ax (4 * k + 1) ∧ ax (4 * k + 1) < 1000) ∧ (0 ≤ ax (4 * k + 2) ∧ ax (4 * k + 2) < 1000) ∧ ax (4 * k + 3) = 0
def pcTr (tr : Int → Int) (nt : Int) : Prop := ∀ k, 1 ≤ k → k ≤ nt → tr (4 * k) = 11 ∧ (0 ≤ tr (4 * k + 1) ∧ tr (4 * k + 1) < 1000) ∧ (0 ≤ tr (4 * k + 2) ∧ tr (4 * k + 2) < 1000) ∧ (0 ≤ tr (4 * k + 3) ∧ tr (4 * k + 3) < 1000)
def pcSr (f : Int → Int) : Prop := (0 ≤ f 0 ∧ f 0 ≤ 12) ∧ ∀ j, 1 ≤ j → j < 4 → 0 ≤ f j ∧ f j < 1000
theorem pcSr_Z : pcSr pcZ := ⟨by unfold pcZ; omega, fun j _ _ => by unfold pcZ; omega⟩
theorem pcSr_M {k a b c : Int} (hk : 0 ≤ k ∧ k ≤ 12) (ha : 0 ≤ a ∧ a < 1000) (hb : 0 ≤ b ∧ b < 1000) (hc : 0 ≤ c ∧ c < 1000) : pcSr (pcM k a b c) := by
  refine ⟨hk, fun j j0 j1 => ?_⟩
  have : j = 1 ∨ j = 2 ∨ j = 3 := by omega
  rcases this with rfl | rfl | rfl
  · exact ha
  · exact hb
  · exact hc
theorem pcSr_G {r n : Int} {s0 s1 s2 : Int → Int} (hA : pcAx ax na) (hT : pcTr tr nt) (h0 : r = 0 → 1 ≤ n ∧ n ≤ na) (h1 : (r = 1 ∨ r = 17) → 1 ≤ n ∧ n ≤ nt) (h2 : r = 2 → 0 ≤ n ∧ n < 1000) (e0 : 3 ≤ r → pcSr s0) (e1 : 3 ≤ r → r ≠ 12 → r ≠ 17 → pcSr s1) (e2 : (r = 10 ∨ r = 14 ∨ r = 15) → pcSr s2) : pcSr (pcG r n ax tr s0 s1 s2) := by
  have ite : ∀ {c : Prop} {_ : Decidable c} {f g : Int → Int}, (c → pcSr f) → (¬ c → pcSr g) → pcSr (if c then f else g) := by
    intro c _ f g hf hg
    by_cases h : c
    · rw [if_pos h]; exact hf h
    · rw [if_neg h]; exact hg h
  have n01 : (0 : Int) ≤ 0 ∧ (0 : Int) < 1000 := by decide
  have n11 : (0 : Int) ≤ 1 ∧ (1 : Int) < 1000 := by decide
  have k11 : (0 : Int) ≤ 11 ∧ (11 : Int) ≤ 12 := by decide
  unfold pcG
  refine ite (fun h => ?_) (fun z0 => ite (fun h => ?_) (fun z1 => ite (fun h => pcSr_M (by decide) (h2 h) (h2 h) n01) (fun z2 => ?_)))
  · have := hA n (h0 h).1 (h0 h).2
    exact pcSr_M (by omega) this.2.1 this.2.2.1 (by omega)
  · have := hT n (h1 (Or.inl h)).1 (h1 (Or.inl h)).2
    exact pcSr_M (by omega) this.2.1 this.2.2.1 this.2.2.2
  by_cases hr : 3 ≤ r
  · have s0' := (e0 hr).2
    have a1 := s0' 1 (by decide) (by decide)
    have a2 := s0' 2 (by decide) (by decide)
    have a3 := s0' 3 (by decide) (by decide)
    have q : r ≠ 12 → r ≠ 17 → (0 ≤ s1 1 ∧ s1 1 < 1000) ∧ (0 ≤ s1 2 ∧ s1 2 < 1000) ∧ (0 ≤ s1 3 ∧ s1 3 < 1000) := fun x y => ⟨(e1 hr x y).2 1 (by decide) (by decide), (e1 hr x y).2 2 (by decide) (by decide), (e1 hr x y).2 3 (by decide) (by decide)⟩
    refine ite (fun h => ite (fun _ => pcSr_M (by decide) a1 (q (by omega) (by omega)).2.1 n01) (fun _ => pcSr_Z)) (fun z3 => ?_)
    refine ite (fun h => ite (fun _ => pcSr_M (by decide) a1 (q (by omega) (by omega)).2.1 n01) (fun _ => pcSr_Z)) (fun z4 => ?_)
    refine ite (fun h => ite (fun _ => pcSr_M (by decide) (q (by omega) (by omega)).1 n01 a2) (fun _ => pcSr_Z)) (fun z5 => ?_)
    refine ite (fun h => ite (fun _ => pcSr_M (by decide) (q (by omega) (by omega)).1 a2 (q (by omega) (by omega)).2.2) (fun _ => pcSr_Z)) (fun z6 => ?_)
    refine ite (fun h => ite (fun _ => pcSr_M (by decide) (q (by omega) (by omega)).1 n01 a2) (fun _ => pcSr_Z)) (fun z7 => ?_)
    refine ite (fun h => ite (fun _ => pcSr_M (by decide) (q (by omega) (by omega)).2.2 n01 a2) (fun _ => pcSr_Z)) (fun z8 => ?_)
    refine ite (fun h => ite (fun _ => pcSr_M (by decide) (q (by omega) (by omega)).2.2 (q (by omega) (by omega)).2.1 (q (by omega) (by omega)).1) (fun _ => pcSr_Z)) (fun z9 => ?_)
    refine ite (fun h => ite (fun _ => pcSr_M (by decide) (q (by omega) (by omega)).1 (q (by omega) (by omega)).2.1 ((e2 (by omega)).2 3 (by decide) (by decide))) (fun _ => pcSr_Z)) (fun z10 => ?_)
    refine ite (fun h => ite (fun _ => pcSr_M (by decide) (q (by omega) (by omega)).2.2 a2 (q (by omega) (by omega)).1) (fun _ => pcSr_Z)) (fun z11 => ?_)
    refine ite (fun h => ite (fun _ => pcSr_M (by decide) a3 n11 a1) (fun _ => pcSr_Z)) (fun z12 => ?_)
    refine ite (fun h => ite (fun _ => pcSr_M (by decide) a3 (q (by omega) (by omega)).2.1 (q (by omega) (by omega)).2.2) (fun _ => pcSr_Z)) (fun z13 => ?_)
    refine ite (fun h => ite (fun _ => pcSr_M (by decide) (q (by omega) (by omega)).2.2 n11 ((e2 (by omega)).2 3 (by decide) (by decide))) (fun _ => pcSr_Z)) (fun z14 => ?_)
    refine ite (fun h => ite (fun _ => pcSr_M (by decide) n01 n01 n01) (fun _ => pcSr_Z)) (fun z15 => ?_)
    refine ite (fun h => ite (fun _ => pcSr_M (by decide) n01 n01 n01) (fun _ => pcSr_Z)) (fun z16 => ?_)
    refine ite (fun h => ite (fun _ => ?_) (fun _ => pcSr_Z)) (fun z17 => pcSr_Z)
    have := hT n (h1 (Or.inr h)).1 (h1 (Or.inr h)).2
    exact pcSr_M (by omega) this.2.1 this.2.2.1 this.2.2.2
  · have : ∀ {f g : Int → Int} {m : Int}, 3 ≤ m → pcSr g → pcSr (if r = m then f else g) := fun hm hg => by rw [if_neg (by omega)]; exact hg
    exact this (by decide) (this (by decide) (this (by decide) (this (by decide) (this (by decide) (this (by decide) (this (by decide) (this (by decide) (this (by decide) (this (by decide) (this (by decide) (this (by decide) (this (by decide) (this (by decide) (this (by decide) pcSr_Z))))))))))))))
theorem pcS_r (hI : pcI ru ins ct pr na nt n) (hA : pcAx ax na) (hT : pcTr tr nt) : ∀ (m : Nat) {r : Int}, 1 ≤ r → r ≤ m → r ≤ n → pcSr (pcS ax tr ru ins ct pr r)
  | 0, r, h0, h, _ => by omega
  | m + 1, r, h0, h, hr => by
    have R := hI.2.2.2 r h0 hr
    rw [pcS_eq h0 R]
    obtain ⟨r1, r2, r3, r4, r5, r6⟩ := R
    by_cases g : pcGd ru ct pr (pcS ax tr ru ins ct pr) r
    · rw [pif_t g]
      have prem : ∀ i, 0 ≤ i → i < ct r → pcSr (pcR ax tr ru ins ct pr (r.toNat - 1) (pr (3 * r + i))) := fun i a b => by
        have := r3 i a b
        rw [pcR_S this.1 (by omega)]
        exact pcS_r hI hA hT m this.1 (by omega) (by omega)
      have c := g.1
      unfold pcT at c
      refine pcSr_G hA hT r4 r5 r6 (fun w => prem 0 (by decide) ?_) (fun w x y => prem 1 (by decide) ?_) (fun w => prem 2 (by decide) ?_)
      · rw [c, if_neg (by omega)]; split <;> (try split) <;> omega
      · rw [c, if_neg (by omega), if_neg (by omega)]; split <;> omega
      · rw [c, if_neg (by omega), if_neg (by omega), if_pos w]; decide
    · rw [pif_f g]; exact pcSr_Z
/-- the premises in words -/
def pcPw (pr : Int → Int) (r : Int) : Nat → List Int
  | 0 => []
  | i + 1 => pcPw pr r i ++ (pcPh (if i = 0 then 38 else 39) ++ pcNu (pr (3 * r + i)))
theorem pcPw_l {r : Int} : ∀ i : Nat, (pcPw pr r i).length ≤ 27 * i
  | 0 => by unfold pcPw; simp
  | i + 1 => by
    have : (pcPw pr r i).length ≤ 27 * i := pcPw_l i
    have := pcPh_l (if i = 0 then 38 else 39)
    have := pcNu_l (pr (3 * r + i))
    unfold pcPw
    rw [List.length_append, List.length_append]; omega
noncomputable def pcSen (S : Int → Int → Int) (ru ct pr : Int → Int) (r : Int) : List Int := pcNu r ++ (pcPh 36 ++ (pcStm (S r 0) (S r 1) (S r 2) (S r 3) ++ (pcPh 37 ++ (pcPh (ru r).toNat ++ (pcPw pr r (ct r).toNat ++ pcPh 40)))))
theorem pcStm_l (k a b c : Int) : (pcStm k a b c).length ≤ 105 := by
  have la := pcNu_l a
  have lb := pcNu_l b
  have lc := pcNu_l c
  have lp := pcPh_l
  have l18 := lp 18; have l19 := lp 19; have l20 := lp 20; have l21 := lp 21; have l22 := lp 22; have l23 := lp 23; have l24 := lp 24; have l25 := lp 25; have l26 := lp 26; have l27 := lp 27; have l28 := lp 28; have l29 := lp 29; have l30 := lp 30; have l31 := lp 31; have l32 := lp 32; have l33 := lp 33; have l34 := lp 34; have l35 := lp 35
  have ite : ∀ {c : Prop} {_ : Decidable c} {x y : List Int}, x.length ≤ 105 → y.length ≤ 105 → (if c then x else y).length ≤ 105 := by
    intro c _ x y hx hy
    by_cases h : c
    · rw [if_pos h]; exact hx
    · rw [if_neg h]; exact hy
  have ap : ∀ {x y : List Int}, (x ++ y).length = x.length + y.length := List.length_append
  unfold pcStm
  refine ite (by omega) (ite (by rw [ap, ap, ap]; omega) (ite (by rw [ap, ap]; omega) (ite (by rw [ap, ap, ap]; omega) (ite (by rw [ap, ap, ap]; omega) (ite (by rw [ap, ap, ap, ap]; omega) (ite (by rw [ap]; omega) (ite (by rw [ap]; omega) (ite (by rw [ap, ap, ap]; omega) (ite (by rw [ap]; omega) (ite (by rw [ap, ap]; omega) (ite (ite (by rw [ap, ap]; omega) (ite (by rw [ap, ap]; omega) (by rw [ap, ap, ap, ap]; omega))) (by omega))))))))))))
theorem T50_sentence {post : Int → (Int → Int) → (Int → Int) → Int → Prop} (hph : ∀ i, 0 ≤ i → i < 98 → ph i = pcTab i) (hI : pcI ru ins ct pr na nt n) (hA : pcAx ax na) (hT : pcTr tr nt) (h0 : ¬ (1 ≤ root ∧ root ≤ n) → post (-1) st t s) (h1 : (1 ≤ root ∧ root ≤ n) → ∀ st' t' s', txB t' s' (pcSen (pcS ax tr ru ins ct pr) ru ct pr root) → post s' st' t' s') : wpX50_sentence post ph ax tr ru ins ct pr n st t s root := by
  have hn := hI.1
  unfold wpX50_sentence
  refine T50_isRowB (fun a b => T50_work hI ⟨by omega, b⟩ (fun st' W => ?_)) h0
  have W0 := W root a (Int.le_refl _) 0 (by decide) (by decide)
  have W1 := W root a (Int.le_refl _) 1 (by decide) (by decide)
  have W2 := W root a (Int.le_refl _) 2 (by decide) (by decide)
  have W3 := W root a (Int.le_refl _) 3 (by decide) (by decide)
  rw [Int.add_zero] at W0
  have R := hI.2.2.2 root a b
  obtain ⟨⟨k0, k1⟩, sr⟩ := pcS_r hI hA hT 300 a (by omega) b
  have ln := pcNu_l root
  have l36 := pcPh_l 36
  have l37 := pcPh_l 37
  have l40 := pcPh_l 40
  have lw := pcPh_l (ru root).toNat
  have ls := pcStm_l (pcS ax tr ru ins ct pr root 0) (pcS ax tr ru ins ct pr root 1) (pcS ax tr ru ins ct pr root 2) (pcS ax tr ru ins ct pr root 3)
  have tb := pcT_b (ru root)
  have ct3 : ct root ≤ 3 := by have := R.2.1; omega
  refine T50_num (by omega) txB_nil (by simp) (fun t1 s1 B1 => T50_put (p := 36) hph (by decide) B1 (by simp; omega) (fun t2 s2 B2 => ⟨by omega, by omega, by omega, by omega, ?_⟩))
  rw [W0, W1, W2, W3]
  refine T50_statement hph ⟨k0, k1⟩ (sr 1 (by decide) (by decide)) (sr 2 (by decide) (by decide)) (sr 3 (by decide) (by decide)) B2 (by simp; omega) (fun t3 s3 B3 => T50_put (p := 37) hph (by decide) B3 (by simp; omega) (fun t4 s4 B4 => ⟨by omega, ?_⟩))
  have word : ∀ {P : Int → Prop}, P ((ru root).toNat : Int) → wpX50_wordOf P (ru root) := by
    intro P hP
    rw [show (((ru root).toNat : Nat) : Int) = ru root by have := R.1; omega] at hP
    unfold wpX50_wordOf
    have := R.1
    generalize ru root = q at hP this
    refine ⟨fun e => by subst e; exact hP, fun n0 => ⟨fun e => by subst e; exact hP, fun n1 => ⟨fun e => by subst e; exact hP, fun n2 => ⟨fun e => by subst e; exact hP, fun n3 => ⟨fun e => by subst e; exact hP, fun n4 => ⟨fun e => by subst e; exact hP, fun n5 => ⟨fun e => by subst e; exact hP, fun n6 => ⟨fun e => by subst e; exact hP, fun n7 => ⟨fun e => by subst e; exact hP, fun n8 => ⟨fun e => by subst e; exact hP, fun n9 => ⟨fun e => by subst e; exact hP, fun n10 => ⟨fun e => by subst e; exact hP, fun n11 => ⟨fun e => by subst e; exact hP, fun n12 => ⟨fun e => by subst e; exact hP, fun n13 => ⟨fun e => by subst e; exact hP, fun n14 => ⟨fun e => by subst e; exact hP, fun n15 => ⟨fun e => by subst e; exact hP, fun n16 => by rw [show q = 17 by omega] at hP; exact hP⟩⟩⟩⟩⟩⟩⟩⟩⟩⟩⟩⟩⟩⟩⟩⟩⟩
  refine word (T50_put hph (by have := R.1; omega) B4 (by simp; omega) (fun t5 s5 B5 => ?_))
  have l5 : s5 ≤ 3 + 24 + 105 + 24 + 24 := by rw [B5.1]; simp; omega
  refine wl3 (fun m i t s => wX50_sentence_94 _ root ph ct pr m i t s) (fun i t s => ∃ j : Nat, i = j ∧ (j : Int) ≤ ct root ∧ txB t s ((((([] ++ pcNu root) ++ pcPh 36) ++ pcStm (pcS ax tr ru ins ct pr root 0) (pcS ax tr ru ins ct pr root 1) (pcS ax tr ru ins ct pr root 2) (pcS ax tr ru ins ct pr root 3) ++ pcPh 37) ++ pcPh (ru root).toNat) ++ pcPw pr root j)) (fun i _ _ => (ct root - i).toNat) ?_ 0 t5 s5 ⟨0, rfl, by have := R.2.1; omega, by simpa [pcPw] using B5⟩
  rintro i t s ⟨j, rfl, hj, B⟩ m ih
  rw [wX50_sentence_94]
  have pl := pcPw_l (pr := pr) (r := root) j
  have l38 := pcPh_l 38
  have l39 := pcPh_l 39
  refine ⟨by omega, fun z => ?_, fun z => ?_⟩
  · have je : j = (ct root).toNat := by omega
    subst je
    refine T50_put (p := 40) hph (by decide) B (by simp; omega) (fun t' s' B' => h1 ⟨a, b⟩ _ _ _ ?_)
    unfold pcSen
    simpa [List.append_assoc] using B'
  · have pb := R.2.2.1 j (by omega) (by omega)
    refine ⟨fun e => T50_put (p := 38) hph (by decide) B (by simp; omega) (fun t' s' B' => ⟨by omega, T50_num (by omega) B' (by simp; omega) (fun t2 s2 B2 => ⟨by omega, fun _ e1 => ?_⟩)⟩), fun e => T50_put (p := 39) hph (by decide) B (by simp; omega) (fun t' s' B' => ⟨by omega, T50_num (by omega) B' (by simp; omega) (fun t2 s2 B2 => ⟨by omega, fun _ e1 => ?_⟩)⟩)⟩
    · subst e1
      refine ih _ _ _ ⟨j + 1, by omega, by omega, ?_⟩ (by omega)
      rw [pcPw, if_pos (by omega)]
      simpa [List.append_assoc] using B2
    · subst e1
      refine ih _ _ _ ⟨j + 1, by omega, by omega, ?_⟩ (by omega)
      rw [pcPw, if_neg (by omega)]
      simpa [List.append_assoc] using B2
/-- what is told of a text -/
def pcAt (L : List Int) (i : Int) : Int := if 0 ≤ i ∧ i < L.length then L.getD i.toNat 0 else -2
theorem T50_at {post : Int → Prop} {i : Int} (B : txB t s L) (hl : L.length ≤ 400) (hp : post (pcAt L i)) : wpX50_at post t s i := by
  obtain ⟨b1, b2⟩ := B
  unfold wpX50_at
  unfold pcAt at hp
  refine ⟨fun z => by rw [if_neg (by omega)] at hp; exact hp, fun z => ⟨fun z2 => by rw [if_neg (by omega)] at hp; exact hp, fun z2 => ⟨by omega, ?_⟩⟩⟩
  rw [if_pos (by omega), ← b2 i.toNat (by omega), show ((i.toNat : Nat) : Int) = i by omega] at hp
  exact hp
end
