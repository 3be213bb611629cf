/-! QlRewrite, the reference (X56): the least row -/
section
variable {nm fr to ot co co' le : Int → Int} {a b n v w k x y c m oc : Int} {T0 : qA → Prop} {P Q : Int → Prop} {A B : Prop}
def qAr (nm fr to : Int → Int) : Int → qA := fun k => (nm k, fr k, to k)
theorem T56_f74 {K : (Int → Int) → Prop} (hn : 0 ≤ n ∧ n ≤ 4) (hnm : ∀ k, 0 ≤ k → k < n → 0 ≤ nm k ∧ nm k < 64) (hot : ∀ u, (qOt a b u ∧ ∃ i, (0 ≤ i ∧ i < n) ∧ (fr i = u ∨ to i = u)) → ∃ k, (0 ≤ k ∧ k < 8) ∧ ot k = u) (hK : ∀ co', (∀ k, 0 ≤ k → k < n → co' k = qCd a b (qRo ot w) (nm k, fr k, to k)) → K co') : ∃ fu : Nat, wX56_finish_74 K w a b nm fr to n ot fu 0 co := by
  refine wl2 (fun fu k co => wX56_finish_74 K w a b nm fr to n ot fu k co) (fun k co => (0 ≤ k ∧ k ≤ n) ∧ ∀ i, 0 ≤ i → i < k → co i = qCd a b (qRo ot w) (nm i, fr i, to i)) (fun k _ => (n - k).toNat) ?_ 0 co ⟨by omega, fun i i0 i1 => by omega⟩
  rintro k co ⟨hk, hc⟩ f ih
  rw [wX56_finish_74]
  have cls : ∀ u : Int, u = 6 ∨ u = 7 ∨ u = a ∨ u = b ∨ qOt a b u := fun u => by
    by_cases z6 : u = 6
    · exact Or.inl z6
    · by_cases z7 : u = 7
      · exact Or.inr (Or.inl z7)
      · by_cases za : u = a
        · exact Or.inr (Or.inr (Or.inl za))
        · by_cases zb : u = b
          · exact Or.inr (Or.inr (Or.inr (Or.inl zb)))
          · exact Or.inr (Or.inr (Or.inr (Or.inr ⟨z6, z7, za, zb⟩)))
  have ub : ∀ u, qCo a b (qRo ot w) u ≤ 7 := fun u => by
    unfold qCo
    split
    · omega
    · split
      · decide
      · split
        · decide
        · unfold qRo
          have := qDg_b (w := w) (v := fstI (fun k => ot k = u) 8)
          omega
  refine ⟨fun z => hK co (fun i i0 i1 => hc i i0 (by omega)), fun z => ⟨by omega, T56_named (fun u ho e => hot u ⟨ho, k, by omega, Or.inl e.symm⟩) (fun p1 => T56_named (fun u ho e => hot u ⟨ho, k, by omega, Or.inr e.symm⟩) (fun p2 => ?_) (cls _)) (cls _)⟩⟩
  have b0 := hnm k hk.1 (by omega)
  have b1 := ub (fr k)
  have b2 := ub (to k)
  refine ⟨by omega, fun _ e1 _ e2 => ⟨by omega, fun _ e3 => ?_⟩⟩
  rw [e3, e2]
  refine ih _ _ ⟨by omega, fun i i0 i1 => ?_⟩ (by omega)
  by_cases r : i = k
  · rw [r, updI_s, e1]; rfl
  · rw [updI_n r]; exact hc i i0 (by omega)
/-- sorted -/
theorem T56_sort {post : (Int → Int) → Prop} (hn : 0 ≤ n ∧ n ≤ 4) (hp : ∀ co', (aF co' 0 n.toNat).Perm (aF co 0 n.toNat) → (∀ i j, 0 ≤ i → i < j → j < n → co' i ≤ co' j) → post co') : wpX56_sortCodes post n co := by
  unfold wpX56_sortCodes
  refine wl2 (fun fu r f => wX56_sortCodes_2 (fun f => post f) n fu r f) (fun r f => (0 ≤ r ∧ r ≤ n) ∧ (aF f 0 n.toNat).Perm (aF co 0 n.toNat) ∧ ∀ i j, 0 ≤ i → i < j → n - r ≤ j → j < n → f i ≤ f j) (fun r _ => (n - r).toNat) ?_ 0 co ⟨by omega, List.Perm.refl _, fun i j i0 ij j0 j1 => by omega⟩
  rintro r f ⟨hr, hP, hS⟩ fu ih
  rw [wX56_sortCodes_2]
  refine ⟨fun z => hp f hP (fun i j i0 ij j1 => hS i j i0 ij (by omega) j1), fun z => ?_⟩
  refine wl2 (fun fu2 x g => wX56_sortCodes_12 _ r n fu2 x g) (fun x g => (0 ≤ x ∧ x ≤ n - r - 1) ∧ (aF g 0 n.toNat).Perm (aF co 0 n.toNat) ∧ (∀ i j, 0 ≤ i → i < j → n - r ≤ j → j < n → g i ≤ g j) ∧ ∀ i, 0 ≤ i → i < x → g i ≤ g x) (fun x _ => (n - r - x).toNat) ?_ 0 f ⟨by omega, hP, hS, fun i i0 i1 => by omega⟩
  rintro x g ⟨hx, gP, gS, gM⟩ fu2 ih2
  rw [wX56_sortCodes_12]
  refine ⟨by omega, by omega, fun y => ⟨by omega, fun _ e => ?_⟩, fun y => ⟨by omega, by omega, fun s => fun _ e1 _ e2 _ e3 _ e4 _ e5 => ?_, fun s => fun _ e5 => ?_⟩⟩
  · rw [e]
    refine ih _ _ ⟨by omega, gP, fun i j i0 ij j0 j1 => ?_⟩ (by omega)
    by_cases q : n - r ≤ j
    · exact gS i j i0 ij q j1
    · have ex : j = x := by omega
      rw [ex] at ij ⊢
      exact gM i i0 ij
  · rw [e5, e4, e3, e2, e1]
    have u0 : updI (updI g x (g (x + 1))) (x + 1) (g x) x = g (x + 1) := by rw [updI_n (by omega), updI_s]
    have u1 : updI (updI g x (g (x + 1))) (x + 1) (g x) (x + 1) = g x := updI_s
    have u2 : ∀ j, ¬ j = x → ¬ j = x + 1 → updI (updI g x (g (x + 1))) (x + 1) (g x) j = g j := fun j h1 h2 => by rw [updI_n h2, updI_n h1]
    generalize updI (updI g x (g (x + 1))) (x + 1) (g x) = g' at u0 u1 u2
    refine ih2 _ _ ⟨by omega, (aF_sw u0 u1 u2 n.toNat 0 hx.1 (by omega)).trans gP, fun i j i0 ij j0 j1 => ?_, fun i i0 i1 => ?_⟩ (by omega)
    · rw [u2 j (by omega) (by omega)]
      by_cases p : i = x
      · rw [p, u0]; exact gS (x + 1) j (by omega) (by omega) j0 j1
      · by_cases q : i = x + 1
        · rw [q, u1]; exact gS x j (by omega) (by omega) j0 j1
        · rw [u2 i p q]; exact gS i j i0 ij j0 j1
    · rw [u1]
      by_cases p : i = x
      · rw [p, u0]; omega
      · rw [u2 i p (by omega)]; exact gM i i0 (by omega)
  · rw [e5]
    refine ih2 _ _ ⟨by omega, gP, gS, fun i i0 i1 => ?_⟩ (by omega)
    by_cases p : i = x
    · rw [p]; omega
    · have := gM i i0 (by omega)
      omega
/-- how far two rows agree -/
theorem T56_f136 {K : Int → Prop} (hn : 0 ≤ n ∧ n ≤ 4) (hK : ∀ k, (x = 0 ∧ k = 0) ∨ (¬ x = 0 ∧ (0 ≤ k ∧ k ≤ n) ∧ (∀ i, 0 ≤ i → i < k → co i = le i) ∧ (k < n → ¬ co k = le k)) → K k) : ∃ fu : Nat, wX56_finish_136 K x n co le fu 0 := by
  refine wloop (fun fu k => wX56_finish_136 K x n co le fu k) (fun k => (x = 0 → k = 0) ∧ (0 ≤ k ∧ k ≤ n) ∧ ∀ i, 0 ≤ i → i < k → co i = le i) (fun k => (n - k).toNat) ?_ 0 ⟨fun _ => rfl, by omega, fun i i0 i1 => by omega⟩
  rintro k ⟨h0, hk, he⟩ f ih
  rw [wX56_finish_136]
  refine ⟨fun z => hK k (Or.inl ⟨z, h0 z⟩), fun z => ⟨fun y => hK k (Or.inr ⟨z, hk, he, fun q => by omega⟩), fun y => ⟨by omega, fun q => ⟨by omega, fun _ e => ?_⟩, fun q => hK k (Or.inr ⟨z, hk, he, fun _ => q⟩)⟩⟩⟩
  rw [e]
  refine ih _ ⟨fun w => absurd w z, by omega, fun i i0 i1 => ?_⟩ (by omega)
  by_cases p : i = k
  · rw [p]; exact q
  · exact he i i0 (by omega)
theorem T56_f206 {K : (Int → Int) → Prop} (hn : 0 ≤ n ∧ n ≤ 4) (hK : ∀ le', (x = 0 → le' = le) → (¬ x = 0 → ∀ i, 0 ≤ i → i < n → le' i = co i) → K le') : ∃ fu : Nat, wX56_finish_206 K x n co fu 0 le := by
  refine wl2 (fun fu k g => wX56_finish_206 K x n co fu k g) (fun k g => (0 ≤ k ∧ k ≤ n) ∧ (x = 0 → g = le) ∧ (¬ x = 0 → ∀ i, 0 ≤ i → i < k → g i = co i)) (fun k _ => (n - k).toNat) ?_ 0 le ⟨by omega, fun _ => rfl, fun _ i i0 i1 => by omega⟩
  rintro k g ⟨hk, g0, g1⟩ f ih
  rw [wX56_finish_206]
  refine ⟨fun z => hK g g0 (fun w i i0 i1 => g1 w i i0 (by omega)), fun z => ⟨fun y => hK g g0 (fun w => absurd y w), fun y => ⟨by omega, fun _ e1 _ e2 => ⟨by omega, fun _ e3 => ?_⟩⟩⟩⟩
  rw [e3, e2, e1]
  refine ih _ _ ⟨by omega, fun w => absurd w y, fun _ i i0 i1 => ?_⟩ (by omega)
  by_cases p : i = k
  · rw [p, updI_s]
  · rw [updI_n p]; exact g1 y i i0 (by omega)
/-- the least row of the ways below w -/
def qLw (a b : Int) (nm fr to ot : Int → Int) (n oc : Int) (w c : Int) (le : Int → Int) : Prop := (c = 0 ∧ ∀ u, 0 ≤ u → u < w → ¬ qWy oc u) ∨ (c = 1 ∧ (∃ u, (0 ≤ u ∧ u < w) ∧ qWy oc u ∧ qRow a b (aF (qAr nm fr to) 0 n.toNat) (qRo ot u) (aF le 0 n.toNat)) ∧ ∀ u, 0 ≤ u → u < w → qWy oc u → ∀ d, qRow a b (aF (qAr nm fr to) 0 n.toNat) (qRo ot u) d → qLx (aF le 0 n.toNat) d)
theorem qRow_u {l : List qA} {r : Int → Int} {d e : List Int} (h : qRow a b l r d) (g : qRow a b l r e) : d = e := List.Perm.eq_of_pairwise (fun x y _ _ h1 h2 => Int.le_antisymm h1 h2) h.2 g.2 (h.1.trans g.1.symm)
theorem T56_f49 {K : (Int → Int) → (Int → Int) → Prop} (hn : 0 ≤ n ∧ n ≤ 4) (hoc : 0 ≤ oc ∧ oc ≤ 8) (hnm : ∀ k, 0 ≤ k → k < n → 0 ≤ nm k ∧ nm k < 64) (hot : ∀ u, (qOt a b u ∧ ∃ i, (0 ≤ i ∧ i < n) ∧ (fr i = u ∨ to i = u)) → ∃ k, (0 ≤ k ∧ k < 8) ∧ ot k = u) (hK : ∀ c co le, qLw a b nm fr to ot n oc (2 ^ (2 * oc).toNat) c le → K co le) : ∃ fu : Nat, wX56_finish_49 K a b nm fr to n ot oc fu 0 0 co le := by
  have p0 : (0 : Int) < 2 ^ (2 * oc).toNat ∧ (2 : Int) ^ (2 * oc).toNat < 2147483648 := pw31 (by omega)
  refine wl4 (fun fu c w co le => wX56_finish_49 K a b nm fr to n ot oc fu c w co le) (fun c w _ le => (0 ≤ w ∧ w ≤ 2 ^ (2 * oc).toNat) ∧ qLw a b nm fr to ot n oc w c le) (fun _ w _ _ => (2 ^ (2 * oc).toNat - w).toNat) ?_ 0 0 co le ⟨by omega, Or.inl ⟨rfl, fun u u0 u1 => by omega⟩⟩
  rintro c w co le ⟨hw, hL⟩ f ih
  rw [wX56_finish_49]
  refine ⟨by omega, by omega, fun z => hK c co le (by rw [show (2 : Int) ^ (2 * oc).toNat = w by omega]; exact hL), fun z => T56_isWayB hoc hw.1 (fun wy => ?_) (fun wy => ⟨by omega, fun _ e => ?_⟩)⟩
  · refine T56_f74 hn hnm hot (fun co1 hc1 => T56_sort hn (fun co2 pm st => ?_))
    have row : qRow a b (aF (qAr nm fr to) 0 n.toNat) (qRo ot w) (aF co2 0 n.toNat) := by
      refine ⟨pm.trans ?_, aF_pw _ _ (fun i j i0 ij j1 => st i j i0 ij (by omega))⟩
      rw [aF_map, aF_c (g := fun i => qCd a b (qRo ot w) (qAr nm fr to i)) n.toNat 0 (fun i i0 i1 => hc1 i i0 (by omega))]
    have fin : ∀ le2, ((∀ i, 0 ≤ i → i < n → le2 i = co2 i) ∧ (c = 0 ∨ qLx (aF co2 0 n.toNat) (aF le 0 n.toNat))) ∨ (le2 = le ∧ c = 1 ∧ qLx (aF le 0 n.toNat) (aF co2 0 n.toNat)) → qLw a b nm fr to ot n oc (w + 1) 1 le2 := fun le2 h => by
      right
      refine ⟨rfl, ?_⟩
      rcases h with ⟨h1, h2⟩ | ⟨h1, h2, h3⟩
      · have e2 : aF le2 0 n.toNat = aF co2 0 n.toNat := aF_c _ _ (fun i i0 i1 => h1 i i0 (by omega))
        rw [e2]
        refine ⟨⟨w, by omega, wy, row⟩, fun u u0 u1 uw d hd => ?_⟩
        by_cases q : u = w
        · rw [q] at hd
          rw [qRow_u row hd]
          exact qLx_r d
        · rcases hL with ⟨c0, no⟩ | ⟨c1, _, ls⟩
          · exact absurd uw (no u u0 (by omega))
          · exact qLx_t (h2.resolve_left (by omega)) (ls u u0 (by omega) uw d hd)
      · rw [h1]
        rcases hL with ⟨c0, no⟩ | ⟨c1, ⟨u, hu, uw, ur⟩, ls⟩
        · omega
        · refine ⟨⟨u, by omega, uw, ur⟩, fun u' u0 u1 uw' d hd => ?_⟩
          by_cases q : u' = w
          · rw [q] at hd
            rw [← qRow_u row hd]; exact h3
          · exact ls u' u0 (by omega) uw' d hd
    have cb : c = 0 ∨ c = 1 := hL.elim (fun h => Or.inl h.1) (fun h => Or.inr h.1)
    refine T56_f136 hn (fun k hk => ?_)
    unfold wX56_finish_169
    refine ⟨fun c0 => T56_f206 hn (fun le2 g0 g1 => ⟨by omega, fun _ e => ?_⟩), fun c0 => ⟨fun y => T56_f206 hn (fun le2 g0 g1 => ⟨by omega, fun _ e => ?_⟩), fun y => ?_⟩⟩
    · rw [e]
      exact ih _ _ _ _ ⟨by omega, fin le2 (Or.inl ⟨g1 (by decide), Or.inl c0⟩)⟩ (by omega)
    · obtain ⟨_, kb, ke, _⟩ := hk.resolve_left (fun q => c0 q.1)
      rw [e]
      exact ih _ _ _ _ ⟨by omega, fin le2 (Or.inr ⟨g0 rfl, cb.resolve_left c0, qLx_1 (k := k) n.toNat 0 kb.1 (fun i i0 i1 => (ke i i0 i1).symm) (Or.inl (by omega))⟩)⟩ (by omega)
    · obtain ⟨_, kb, ke, kn⟩ := hk.resolve_left (fun q => c0 q.1)
      have kn := kn (by omega)
      refine ⟨by omega, fun q => T56_f206 hn (fun le2 g0 g1 => ⟨by omega, fun _ e => ?_⟩), fun q => T56_f206 hn (fun le2 g0 g1 => ⟨by omega, fun _ e => ?_⟩)⟩
      · rw [e]
        exact ih _ _ _ _ ⟨by omega, fin le2 (Or.inr ⟨g0 rfl, cb.resolve_left c0, qLx_1 (k := k) n.toNat 0 kb.1 (fun i i0 i1 => (ke i i0 i1).symm) (Or.inr ⟨by omega, by omega⟩)⟩)⟩ (by omega)
      · rw [e]
        exact ih _ _ _ _ ⟨by omega, fin le2 (Or.inl ⟨g1 (by decide), Or.inr (qLx_1 (k := k) n.toNat 0 kb.1 ke (Or.inr ⟨by omega, by omega⟩))⟩)⟩ (by omega)
  · rw [e]
    refine ih _ _ _ _ ⟨by omega, hL.imp (fun ⟨c0, no⟩ => ⟨c0, fun u u0 u1 => ?_⟩) (fun ⟨c1, ⟨u, hu, uw, ur⟩, ls⟩ => ⟨c1, ⟨u, by omega, uw, ur⟩, fun u' u0 u1 uw' => ?_⟩)⟩ (by omega)
    · by_cases q : u = w
      · rw [q]; exact wy
      · exact no u u0 (by omega)
    · by_cases q : u' = w
      · rw [q] at uw'; exact absurd uw' wy
      · exact ls u' u0 (by omega) uw'
end
