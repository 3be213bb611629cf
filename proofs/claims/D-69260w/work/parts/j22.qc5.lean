/-! QlRewrite (room QR): a form taken into the draft, sorts, two atoms met -/
theorem zxor_odd {u v : Int} (hu : zR u) (hv : zR v) : zxor u v % 2 = 1 ↔ ¬ u % 2 = v % 2 := by
  have h := zb_xor32 hu hv (k := 0) (by decide)
  unfold zb at h
  simp only [Int.pow_zero, Int.ediv_one] at h
  omega
theorem qMF_1 {i j : Int} {D : qDr} (z : (D.2.2 i).2.1 = 6) : qMF i j D = (D.1, D.2.1, updI D.2.2 i ((D.2.2 i).1, (D.2.2 j).2.1, (D.2.2 i).2.2)) := by
  unfold qMF
  rw [if_pos z]
theorem qMF_2 {i j : Int} {D : qDr} (z : ¬ (D.2.2 i).2.1 = 6) (y : (D.2.2 j).2.1 = 6) : qMF i j D = (D.1, D.2.1, updI D.2.2 j ((D.2.2 j).1, (D.2.2 i).2.1, (D.2.2 j).2.2)) := by
  unfold qMF
  rw [if_neg z, if_pos y]
theorem qMF_3 {i j : Int} {D : qDr} (z : ¬ (D.2.2 i).2.1 = 6) (y : ¬ (D.2.2 j).2.1 = 6) (q : (D.2.2 i).2.1 = (D.2.2 j).2.1) : qMF i j D = D := by
  unfold qMF
  rw [if_neg z, if_neg y, if_pos q]
theorem qMF_4 {i j : Int} {D : qDr} (z : ¬ (D.2.2 i).2.1 = 6) (y : ¬ (D.2.2 j).2.1 = 6) (q : ¬ (D.2.2 i).2.1 = (D.2.2 j).2.1) (w : (D.2.2 i).2.1 ≤ (D.2.2 j).2.1) : qMF i j D = qRd (D.2.2 j).2.1 (D.2.2 i).2.1 D := by
  unfold qMF
  rw [if_neg z, if_neg y, if_neg q, if_pos w]
theorem qMF_5 {i j : Int} {D : qDr} (z : ¬ (D.2.2 i).2.1 = 6) (y : ¬ (D.2.2 j).2.1 = 6) (q : ¬ (D.2.2 i).2.1 = (D.2.2 j).2.1) (w : ¬ (D.2.2 i).2.1 ≤ (D.2.2 j).2.1) : qMF i j D = qRd (D.2.2 i).2.1 (D.2.2 j).2.1 D := by
  unfold qMF
  rw [if_neg z, if_neg y, if_neg q, if_neg w]
theorem qMT_1 {i j : Int} {D : qDr} (z : (D.2.2 i).2.2 = 6) : qMT i j D = (D.1, D.2.1, updI D.2.2 i ((D.2.2 i).1, (D.2.2 i).2.1, (D.2.2 j).2.2)) := by
  unfold qMT
  rw [if_pos z]
theorem qMT_2 {i j : Int} {D : qDr} (z : ¬ (D.2.2 i).2.2 = 6) (y : (D.2.2 j).2.2 = 6) : qMT i j D = (D.1, D.2.1, updI D.2.2 j ((D.2.2 j).1, (D.2.2 j).2.1, (D.2.2 i).2.2)) := by
  unfold qMT
  rw [if_neg z, if_pos y]
theorem qMT_3 {i j : Int} {D : qDr} (z : ¬ (D.2.2 i).2.2 = 6) (y : ¬ (D.2.2 j).2.2 = 6) (q : (D.2.2 i).2.2 = (D.2.2 j).2.2) : qMT i j D = D := by
  unfold qMT
  rw [if_neg z, if_neg y, if_pos q]
theorem qMT_4 {i j : Int} {D : qDr} (z : ¬ (D.2.2 i).2.2 = 6) (y : ¬ (D.2.2 j).2.2 = 6) (q : ¬ (D.2.2 i).2.2 = (D.2.2 j).2.2) (w : (D.2.2 i).2.2 ≤ (D.2.2 j).2.2) : qMT i j D = qRd (D.2.2 j).2.2 (D.2.2 i).2.2 D := by
  unfold qMT
  rw [if_neg z, if_neg y, if_neg q, if_pos w]
theorem qMT_5 {i j : Int} {D : qDr} (z : ¬ (D.2.2 i).2.2 = 6) (y : ¬ (D.2.2 j).2.2 = 6) (q : ¬ (D.2.2 i).2.2 = (D.2.2 j).2.2) (w : ¬ (D.2.2 i).2.2 ≤ (D.2.2 j).2.2) : qMT i j D = qRd (D.2.2 i).2.2 (D.2.2 j).2.2 D := by
  unfold qMT
  rw [if_neg z, if_neg y, if_neg q, if_neg w]
theorem qMF_cg {i j n : Int} {D E : qDr} (hi : 0 ≤ i ∧ i < n) (hj : 0 ≤ j ∧ j < n) (e1 : D.1 = E.1) (e2 : D.2.1 = E.2.1) (h : ∀ k, 0 ≤ k → k < n → D.2.2 k = E.2.2 k) : (qMF i j D).1 = (qMF i j E).1 ∧ (qMF i j D).2.1 = (qMF i j E).2.1 ∧ ∀ k, 0 ≤ k → k < n → (qMF i j D).2.2 k = (qMF i j E).2.2 k := by
  have hi' := h i hi.1 hi.2
  have hj' := h j hj.1 hj.2
  unfold qMF
  rw [hi', hj', e1, e2]
  have up : ∀ (t : Int) (q : qA) (k : Int), 0 ≤ k → k < n → updI D.2.2 t q k = updI E.2.2 t q k := fun t q k k0 k1 => by
    rw [updI_e, updI_e, h k k0 k1]
  have rd : ∀ o f : Int, (qRd o f D).1 = (qRd o f E).1 ∧ (qRd o f D).2.1 = (qRd o f E).2.1 ∧ ∀ k, 0 ≤ k → k < n → (qRd o f D).2.2 k = (qRd o f E).2.2 k := fun o f => by
    unfold qRd
    rw [e1, e2]
    exact ⟨rfl, rfl, fun k k0 k1 => by dsimp only; rw [h k k0 k1]⟩
  split
  · exact ⟨rfl, rfl, up _ _⟩
  · split
    · exact ⟨rfl, rfl, up _ _⟩
    · split
      · exact ⟨e1, e2, h⟩
      · split
        · exact rd _ _
        · exact rd _ _
theorem qMT_cg {i j n : Int} {D E : qDr} (hi : 0 ≤ i ∧ i < n) (hj : 0 ≤ j ∧ j < n) (e1 : D.1 = E.1) (e2 : D.2.1 = E.2.1) (h : ∀ k, 0 ≤ k → k < n → D.2.2 k = E.2.2 k) : (qMT i j D).1 = (qMT i j E).1 ∧ (qMT i j D).2.1 = (qMT i j E).2.1 ∧ ∀ k, 0 ≤ k → k < n → (qMT i j D).2.2 k = (qMT i j E).2.2 k := by
  have hi' := h i hi.1 hi.2
  have hj' := h j hj.1 hj.2
  unfold qMT
  rw [hi', hj', e1, e2]
  have up : ∀ (t : Int) (q : qA) (k : Int), 0 ≤ k → k < n → updI D.2.2 t q k = updI E.2.2 t q k := fun t q k k0 k1 => by
    rw [updI_e, updI_e, h k k0 k1]
  have rd : ∀ o f : Int, (qRd o f D).1 = (qRd o f E).1 ∧ (qRd o f D).2.1 = (qRd o f E).2.1 ∧ ∀ k, 0 ≤ k → k < n → (qRd o f D).2.2 k = (qRd o f E).2.2 k := fun o f => by
    unfold qRd
    rw [e1, e2]
    exact ⟨rfl, rfl, fun k k0 k1 => by dsimp only; rw [h k k0 k1]⟩
  split
  · exact ⟨rfl, rfl, up _ _⟩
  · split
    · exact ⟨rfl, rfl, up _ _⟩
    · split
      · exact ⟨e1, e2, h⟩
      · split
        · exact rd _ _
        · exact rd _ _
theorem qGa_MF {i j n : Int} {D : qDr} (hi : 0 ≤ i ∧ i < n) (hj : 0 ≤ j ∧ j < n) (e : (D.2.2 i).1 = (D.2.2 j).1) (h : ∀ k, 0 ≤ k → k < n → qGa (D.2.2 k)) : (∀ k, 0 ≤ k → k < n → qGa ((qMF i j D).2.2 k)) ∧ ∀ k, 0 ≤ k → k < n → ((qMF i j D).2.2 k).1 = (D.2.2 k).1 := by
  have gi := h i hi.1 hi.2
  have gj := h j hj.1 hj.2
  have one : ∀ (t : Int) (q : qA), q.1 = (D.2.2 t).1 → qGa q → (∀ k, 0 ≤ k → k < n → qGa (updI D.2.2 t q k)) ∧ ∀ k, 0 ≤ k → k < n → (updI D.2.2 t q k).1 = (D.2.2 k).1 := fun t q eq gq => ⟨fun k k0 k1 => by
    rw [updI_e]
    split
    · exact gq
    · exact h k k0 k1, fun k k0 k1 => by
    rw [updI_e]
    by_cases z : k = t
    · rw [if_pos z, eq, z]
    · rw [if_neg z]⟩
  have rd : ∀ o f : Int, ¬ o = 7 → ¬ f = 7 → (∀ k, 0 ≤ k → k < n → qGa ((qRd o f D).2.2 k)) ∧ ∀ k, 0 ≤ k → k < n → ((qRd o f D).2.2 k).1 = (D.2.2 k).1 := fun o f ho hf => ⟨fun k k0 k1 => qGa_r (h k k0 k1) ho hf, fun k k0 k1 => rfl⟩
  have n7 : ¬ (D.2.2 i).2.1 = 7 ∧ ¬ (D.2.2 j).2.1 = 7 := by
    unfold qGa at gi gj; omega
  unfold qMF
  split
  · refine one _ _ rfl ?_
    unfold qGa at gi gj ⊢
    dsimp only; omega
  · split
    · refine one _ _ rfl ?_
      unfold qGa at gi gj ⊢
      dsimp only; omega
    · split
      · exact ⟨h, fun k _ _ => rfl⟩
      · split
        · exact rd _ _ n7.2 n7.1
        · exact rd _ _ n7.1 n7.2
theorem qGa_MT {i j n : Int} {D : qDr} (hi : 0 ≤ i ∧ i < n) (hj : 0 ≤ j ∧ j < n) (e : (D.2.2 i).1 = (D.2.2 j).1) (h : ∀ k, 0 ≤ k → k < n → qGa (D.2.2 k)) : ∀ k, 0 ≤ k → k < n → qGa ((qMT i j D).2.2 k) := by
  have gi := h i hi.1 hi.2
  have gj := h j hj.1 hj.2
  have one : ∀ (t : Int) (q : qA), qGa q → ∀ k, 0 ≤ k → k < n → qGa (updI D.2.2 t q k) := fun t q gq k k0 k1 => by
    rw [updI_e]
    split
    · exact gq
    · exact h k k0 k1
  have n7 : ¬ (D.2.2 i).2.2 = (D.2.2 j).2.2 → ¬ (D.2.2 i).2.2 = 7 ∧ ¬ (D.2.2 j).2.2 = 7 := by
    unfold qGa at gi gj; omega
  unfold qMT
  split
  · refine one _ _ ?_
    unfold qGa at gi gj ⊢
    dsimp only; omega
  · split
    · refine one _ _ ?_
      unfold qGa at gi gj ⊢
      dsimp only; omega
    · split
      · exact h
      · rename_i ne
        split
        · exact fun k k0 k1 => qGa_r (h k k0 k1) (n7 ne).2 (n7 ne).1
        · exact fun k k0 k1 => qGa_r (h k k0 k1) (n7 ne).1 (n7 ne).2
section
variable {kd : Nat → Nat} {an : Nat → Nat} {ai : Nat → Int → Int} {al : Nat → Int → Int} {ar : Nat → Int → Option Nat} {mX40_kinds : Nat → Option Nat} {mX40_lefts : Nat → Option Nat} {mX40_rights : Nat → Option Nat} {mX40_axioms : Nat → Int} {mX40_classFacts : Nat → Option Nat} {mX40_roleFacts : Nat → Option Nat} {mX40_facts : Nat → Int} {mX40_draft : Nat → Option Nat} {mX40_questions : Nat → Option Nat} {mX40_questionCount : Nat → Int} {mX40_forbidden : Nat → Option Nat} {mX40_given : Nat → Option Nat} {mX41_first : Nat → Int} {mX41_second : Nat → Int} {mX41_names : Nat → Option Nat} {mX41_from : Nat → Option Nat} {mX41_to : Nat → Option Nat} {mX41_n : Nat → Int} {mX41_codes : Nat → Option Nat} {mX41_least : Nat → Option Nat} {mX41_hasLeast : Nat → Int} {mX41_others : Nat → Option Nat} {mX41_otherCount : Nat → Int} {mX41_named : Nat → Option Nat} {mX62_answers : Nat → Int} {mX62_names : Nat → Option Nat} {mX62_from : Nat → Option Nat} {mX62_to : Nat → Option Nat} {mX62_n : Nat → Int} {mX62_forms : Nat → Option Nat} {mX62_count : Nat → Int} {mX62_large : Nat → Int} {mX62_known : Nat → Int} {mX85_first : Nat → Int} {mX85_second : Nat → Int} {mX85_codes : Nat → Option Nat} {x : Nat} {P : Nat → Nat} {n k v oc i j a b o f : Int} {l : List qA}
/-- an atom written at k -/
theorem qcW3 {ai1 ai2 ai3 : Nat → Int → Int} {u w q : Int} (hNe : ∀ i j, i < 7 → j < 7 → i ≠ j → P i ≠ P j) (e1 : ai1 = va_up ai (P 0) (updI (ai (P 0)) k u)) (e2 : ai2 = va_up ai1 (P 1) (updI (ai1 (P 1)) k w)) (e3 : ai3 = va_up ai2 (P 2) (updI (ai2 (P 2)) k q)) : qcG P 0 3 ai ai3 ∧ ai3 (P 0) = updI (ai (P 0)) k u ∧ ai3 (P 1) = updI (ai (P 1)) k w ∧ ai3 (P 2) = updI (ai (P 2)) k q := by
  have n10 := hNe 1 0 (by decide) (by decide) (by decide)
  have n20 := hNe 2 0 (by decide) (by decide) (by decide)
  have n21 := hNe 2 1 (by decide) (by decide) (by decide)
  have n01 := hNe 0 1 (by decide) (by decide) (by decide)
  have n02 := hNe 0 2 (by decide) (by decide) (by decide)
  have n12 := hNe 1 2 (by decide) (by decide) (by decide)
  refine ⟨?_, ?_, ?_, ?_⟩
  · rw [e3, e2, e1]
    exact ((qcG.up (i := 0) (by decide) (by decide)).tr (qcG.up (i := 1) (by decide) (by decide))).tr (qcG.up (i := 2) (by decide) (by decide))
  · rw [e3, va_up_ne _ _ n02, e2, va_up_ne _ _ n01, e1, va_up_self]
  · rw [e3, va_up_ne _ _ n12, e2, va_up_self, e1, va_up_ne _ _ n10]
  · rw [e3, va_up_self, e2, va_up_ne _ _ n21, e1, va_up_ne _ _ n20]
theorem CQR_add {post : (Nat → Int → Int) → (Nat → Int) → Prop} (D : qcD kd an mX41_names mX41_from mX41_to mX41_others mX41_codes mX41_least mX41_named x P) (hn : 0 ≤ mX41_n x ∧ mX41_n x < 4) (hp : ∀ ai' n', qcG P 0 3 ai ai' → n' x = mX41_n x + 1 → (ai' (P 0) = updI (ai (P 0)) (mX41_n x) v ∧ ai' (P 1) = updI (ai (P 1)) (mX41_n x) a ∧ ai' (P 2) = updI (ai (P 2)) (mX41_n x) b) → post ai' n') : wpQR_X41_add post kd an ai mX41_names mX41_from mX41_to mX41_n x v a b := by
  obtain ⟨kx, ⟨eN, eF, eT, eO, eC, eL, eM⟩, hKd, hNe⟩ := D
  obtain ⟨k0, a0⟩ := hKd 0 (by decide)
  obtain ⟨k1, a1⟩ := hKd 1 (by decide)
  obtain ⟨k2, a2⟩ := hKd 2 (by decide)
  obtain ⟨k3, a3⟩ := hKd 3 (by decide)
  obtain ⟨k4, a4⟩ := hKd 4 (by decide)
  obtain ⟨k5, a5⟩ := hKd 5 (by decide)
  obtain ⟨k6, a6⟩ := hKd 6 (by decide)
  have a0 : an (P 0) = 4 := a0
  have a1 : an (P 1) = 4 := a1
  have a2 : an (P 2) = 4 := a2
  have a3 : an (P 3) = 8 := a3
  have a4 : an (P 4) = 4 := a4
  have a5 : an (P 5) = 4 := a5
  have a6 : an (P 6) = 8 := a6
  unfold wpQR_X41_add
  refine kOn_of eN ⟨k0, by rw [a0]; omega, fun ai1 e1 => kOn_of eF ⟨k1, by rw [a1]; omega, fun ai2 e2 => kOn_of eT ⟨k2, by rw [a2]; omega, fun ai3 e3 => ⟨by omega, fun w ew n' en => ?_⟩⟩⟩⟩
  obtain ⟨G, h⟩ := qcW3 hNe e1 e2 e3
  exact hp _ _ G (by rw [en, va_up_self, ew]) h
theorem CQR_take {post : (Nat → Int → Int) → (Nat → Int) → (Nat → Int) → (Nat → Int) → Prop} {fo c : Nat} (D : qcD kd an mX41_names mX41_from mX41_to mX41_others mX41_codes mX41_least mX41_named x P) (hf : kd fo = 4) (hc : mX85_codes fo = some c) (kc : kd c = 5) (hl : 1 ≤ (an c : Int) ∧ (an c : Int) ≤ 4) (hne : ∀ i, i < 7 → c ≠ P i) (hp : ∀ ai' fi' se' n', qcG P 0 3 ai ai' → fi' x = mX85_first fo → se' x = mX85_second fo → n' x = (an c : Int) → (∀ k, 0 ≤ k → k < (an c : Int) → qAr (ai' (P 0)) (ai' (P 1)) (ai' (P 2)) k = qDe (ai c k)) → post ai' fi' se' n') : wpQR_X41_take post kd an ai mX41_first mX41_second mX41_names mX41_from mX41_to mX41_n mX85_first mX85_second mX85_codes x (some fo) := by
  have D' := D
  obtain ⟨kx, ⟨eN, eF, eT, eO, eC, eL, eM⟩, hKd, hNe⟩ := D
  obtain ⟨k0, a0⟩ := hKd 0 (by decide)
  obtain ⟨k1, a1⟩ := hKd 1 (by decide)
  obtain ⟨k2, a2⟩ := hKd 2 (by decide)
  obtain ⟨k3, a3⟩ := hKd 3 (by decide)
  obtain ⟨k4, a4⟩ := hKd 4 (by decide)
  obtain ⟨k5, a5⟩ := hKd 5 (by decide)
  obtain ⟨k6, a6⟩ := hKd 6 (by decide)
  have a0 : an (P 0) = 4 := a0
  have a1 : an (P 1) = 4 := a1
  have a2 : an (P 2) = 4 := a2
  have a3 : an (P 3) = 8 := a3
  have a4 : an (P 4) = 4 := a4
  have a5 : an (P 5) = 4 := a5
  have a6 : an (P 6) = 8 := a6
  unfold wpQR_X41_take
  refine kOn_some ⟨hf, ?_⟩
  unfold wpQR_X41_begin
  intro fi' ef se' es n0 en cc ecc
  rw [hc] at ecc
  refine kOn_of ecc ⟨kc, by omega, fun m em => ?_⟩
  rw [ecc]
  refine wl3 (fun fu q ai' n' => wQR_X41_take_23 _ x (some c) m kd an mX41_names mX41_from mX41_to fu q ai' n') (fun q ai' n' => (0 ≤ q ∧ q ≤ m) ∧ n' x = q ∧ qcG P 0 3 ai ai' ∧ ∀ k, 0 ≤ k → k < q → qAr (ai' (P 0)) (ai' (P 1)) (ai' (P 2)) k = qDe (ai c k)) (fun q _ _ => (m - q).toNat) ?_ 0 ai n0 ⟨by omega, by rw [en, va_up_self], qcG.refl, fun k a b => by omega⟩
  rintro q ai1 n1 ⟨hq, nq, G, hJ⟩ fu ih
  rw [wQR_X41_take_23]
  refine ⟨fun z => hp _ _ _ _ G (by rw [ef, va_up_self]) (by rw [es, va_up_self]) (by omega) (fun k k0 k1 => hJ k k0 (by omega)), fun z => kOn_some ⟨kc, by omega, fun cd ecd => CQR_add (mX41_n := n1) D' (by omega) (fun ai2 n2 G2 en2 hw => ⟨by omega, fun _ e => ?_⟩)⟩⟩
  rw [e]
  refine ih _ _ _ ⟨by omega, by omega, G.tr G2, fun k k0 k1 => ?_⟩ (by omega)
  unfold qAr
  rw [hw.1, hw.2.1, hw.2.2, nq, updI_e, updI_e, updI_e]
  have gc : ai1 c = ai c := G c (fun i a b => hne i (by omega))
  by_cases y : k = q
  · rw [if_pos y, if_pos y, if_pos y, y, ecd, gc]; rfl
  · rw [if_neg y, if_neg y, if_neg y]; exact hJ k k0 (by omega)
theorem CQR_sort {post : (Nat → Int → Int) → Prop} (D : qcD kd an mX41_names mX41_from mX41_to mX41_others mX41_codes mX41_least mX41_named x P) (hk : 0 ≤ k ∧ k < 4) (hL : qSo v) (hp : ∀ ai', qcG P 0 3 ai ai' → (∀ i, qAr (ai' (P 0)) (ai' (P 1)) (ai' (P 2)) i = if i = k then qSr v a else qAr (ai (P 0)) (ai (P 1)) (ai (P 2)) i) → post ai') : wpQR_X41_sort post kd an ai mX41_names mX41_from mX41_to x k v a := by
  obtain ⟨kx, ⟨eN, eF, eT, eO, eC, eL, eM⟩, hKd, hNe⟩ := D
  obtain ⟨k0, a0⟩ := hKd 0 (by decide)
  obtain ⟨k1, a1⟩ := hKd 1 (by decide)
  obtain ⟨k2, a2⟩ := hKd 2 (by decide)
  obtain ⟨k3, a3⟩ := hKd 3 (by decide)
  obtain ⟨k4, a4⟩ := hKd 4 (by decide)
  obtain ⟨k5, a5⟩ := hKd 5 (by decide)
  obtain ⟨k6, a6⟩ := hKd 6 (by decide)
  have a0 : an (P 0) = 4 := a0
  have a1 : an (P 1) = 4 := a1
  have a2 : an (P 2) = 4 := a2
  have a3 : an (P 3) = 8 := a3
  have a4 : an (P 4) = 4 := a4
  have a5 : an (P 5) = 4 := a5
  have a6 : an (P 6) = 8 := a6
  have fin : ∀ ai1 ai2 ai3 (u w q : Int), ai1 = va_up ai (P 0) (updI (ai (P 0)) k u) → ai2 = va_up ai1 (P 1) (updI (ai1 (P 1)) k w) → ai3 = va_up ai2 (P 2) (updI (ai2 (P 2)) k q) → (u, w, q) = qSr v a → post ai3 := fun ai1 ai2 ai3 u w q e1 e2 e3 e => by
    obtain ⟨G, h0, h1, h2⟩ := qcW3 hNe e1 e2 e3
    refine hp _ G (fun i => ?_)
    unfold qAr
    rw [h0, h1, h2, updI_e, updI_e, updI_e]
    by_cases y : i = k
    · rw [if_pos y, if_pos y, if_pos y, if_pos y, e]
    · rw [if_neg y, if_neg y, if_neg y, if_neg y]
  unfold qSr at fin
  unfold qSo at hL
  unfold wpQR_X41_sort wQR_X41_sort_11 wQR_X41_sort_36 wQR_X41_sort_59
  refine ⟨fun z => ⟨fun _ => ⟨by omega, by omega, kOn_of eN ⟨k0, by rw [a0]; omega, fun ai1 e1 => ⟨fun _ => ⟨fun y => kOn_of eF ⟨k1, by rw [a1]; omega, fun ai2 e2 => ⟨fun _ => ⟨fun _ => kOn_of eT ⟨k2, by rw [a2]; omega, fun ai3 e3 => fin _ _ _ _ _ _ e1 e2 e3 ?_⟩, fun q => absurd y q⟩, fun w => absurd rfl w⟩⟩, fun y => kOn_of eF ⟨k1, by rw [a1]; omega, fun ai2 e2 => ⟨fun _ => ⟨fun q => absurd q y, fun _ => kOn_of eT ⟨k2, by rw [a2]; omega, fun ai3 e3 => fin _ _ _ _ _ _ e1 e2 e3 ?_⟩⟩, fun w => absurd rfl w⟩⟩⟩, fun w => absurd rfl w⟩⟩⟩, fun w => absurd rfl w⟩, fun z => ⟨fun w => absurd w (by decide), fun _ => kOn_of eN ⟨k0, by rw [a0]; omega, fun ai1 e1 => ⟨fun w => absurd w (by decide), fun _ => kOn_of eF ⟨k1, by rw [a1]; omega, fun ai2 e2 => ⟨fun w => absurd w (by decide), fun _ => kOn_of eT ⟨k2, by rw [a2]; omega, fun ai3 e3 => fin _ _ _ _ _ _ e1 e2 e3 ?_⟩⟩⟩⟩⟩⟩⟩
  · rw [if_pos z, if_neg (show ¬ (20 ≤ v ∧ v % 2 = 1) by omega), if_neg (show ¬ v < 20 by omega), if_pos y]
  · rw [if_pos z, if_pos (show 20 ≤ v ∧ v % 2 = 1 by omega), if_neg (show ¬ v < 20 by omega), if_neg y]
  · rw [if_neg z, if_neg (show ¬ (20 ≤ v ∧ v % 2 = 1) by omega), if_pos (show v < 20 by omega)]
theorem CQR_replace {post : (Nat → Int → Int) → (Nat → Int) → (Nat → Int) → Prop} (D : qcD kd an mX41_names mX41_from mX41_to mX41_others mX41_codes mX41_least mX41_named x P) (n4 : 0 ≤ mX41_n x ∧ mX41_n x ≤ 4) (hp : ∀ ai' fi' se', qcG P 1 3 ai ai' → fi' x = qRv o f (mX41_first x) → se' x = qRv o f (mX41_second x) → (∀ k, 0 ≤ k → k < mX41_n x → ai' (P 1) k = qRv o f (ai (P 1) k) ∧ ai' (P 2) k = qRv o f (ai (P 2) k)) → post ai' fi' se') : wpQR_X41_replace post kd an ai mX41_first mX41_second mX41_from mX41_to mX41_n x o f := by
  obtain ⟨kx, ⟨eN, eF, eT, eO, eC, eL, eM⟩, hKd, hNe⟩ := D
  obtain ⟨k0, a0⟩ := hKd 0 (by decide)
  obtain ⟨k1, a1⟩ := hKd 1 (by decide)
  obtain ⟨k2, a2⟩ := hKd 2 (by decide)
  obtain ⟨k3, a3⟩ := hKd 3 (by decide)
  obtain ⟨k4, a4⟩ := hKd 4 (by decide)
  obtain ⟨k5, a5⟩ := hKd 5 (by decide)
  obtain ⟨k6, a6⟩ := hKd 6 (by decide)
  have a0 : an (P 0) = 4 := a0
  have a1 : an (P 1) = 4 := a1
  have a2 : an (P 2) = 4 := a2
  have a3 : an (P 3) = 8 := a3
  have a4 : an (P 4) = 4 := a4
  have a5 : an (P 5) = 4 := a5
  have a6 : an (P 6) = 8 := a6
  have n21 := hNe 2 1 (by decide) (by decide) (by decide)
  have n12 := hNe 1 2 (by decide) (by decide) (by decide)
  unfold wpQR_X41_replace
  refine wl2 (fun fu k ai' => wQR_X41_replace_2 _ x o f kd an mX41_from mX41_to mX41_n fu k ai') (fun k ai' => (0 ≤ k ∧ k ≤ mX41_n x) ∧ qcG P 1 3 ai ai' ∧ (∀ i, 0 ≤ i → i < k → ai' (P 1) i = qRv o f (ai (P 1) i) ∧ ai' (P 2) i = qRv o f (ai (P 2) i)) ∧ ∀ i, k ≤ i → ai' (P 1) i = ai (P 1) i ∧ ai' (P 2) i = ai (P 2) i) (fun k _ => (mX41_n x - k).toNat) ?_ 0 ai ⟨by omega, qcG.refl, fun i a b => by omega, fun _ _ => ⟨rfl, rfl⟩⟩
  rintro k ai1 ⟨hk, G, h1, h2⟩ fu ih
  rw [wQR_X41_replace_2]
  refine ⟨fun z => ?_, fun z => ?_⟩
  · have H := fun fi' se' e1 e2 => hp ai1 fi' se' G e1 e2 (fun i i0 i1 => h1 i i0 (by omega))
    unfold qRv at H
    refine ⟨fun p fi' ef => ⟨fun q se' es => ?_, fun q => ?_⟩, fun p => ⟨fun q se' es => ?_, fun q => ?_⟩⟩
    · rw [if_pos p, if_pos q] at H
      exact H _ _ (by rw [ef, va_up_self]) (by rw [es, va_up_self])
    · rw [if_pos p, if_neg q] at H
      exact H _ _ (by rw [ef, va_up_self]) rfl
    · rw [if_neg p, if_pos q] at H
      exact H _ _ rfl (by rw [es, va_up_self])
    · rw [if_neg p, if_neg q] at H
      exact H _ _ rfl rfl
  · have nx : ∀ ai2, qcG P 1 3 ai1 ai2 → ai2 (P 1) = updI (ai1 (P 1)) k (qRv o f (ai1 (P 1) k)) → ai2 (P 2) = updI (ai1 (P 2)) k (qRv o f (ai1 (P 2) k)) → ∀ k' : Int, k' = k + 1 → wQR_X41_replace_2 _ x o f kd an mX41_from mX41_to mX41_n fu k' ai2 := fun ai2 G2 r1 r2 k' ek => by
      rw [ek]
      refine ih _ _ ⟨by omega, G.tr G2, fun i i0 i1 => ?_, fun i i0 => ?_⟩ (by omega)
      · rw [r1, r2, updI_e, updI_e]
        by_cases q : i = k
        · have := h2 k (Int.le_refl _)
          rw [if_pos q, if_pos q, q, this.1, this.2]; exact ⟨rfl, rfl⟩
        · rw [if_neg q, if_neg q]; exact h1 i i0 (by omega)
      · rw [r1, r2, updI_n (by omega), updI_n (by omega)]; exact h2 i (by omega)
    have st : ∀ ai2, qcG P 1 3 ai1 ai2 → ai2 (P 1) = updI (ai1 (P 1)) k (qRv o f (ai1 (P 1) k)) → ai2 (P 2) = ai1 (P 2) → wQR_X41_replace_27 (wQR_X41_replace_2 _ x o f kd an mX41_from mX41_to mX41_n fu) x o f k kd an ai2 mX41_to := fun ai2 G2 r1 r2 => by
      unfold wQR_X41_replace_27
      refine kOn_of eT ⟨k2, by rw [a2]; omega, fun q => fun ai3 e3 => ⟨by omega, fun k' ek => nx _ (by rw [e3]; exact G2.tr (qcG.up (i := 2) (by decide) (by decide))) ?_ ?_ k' ek⟩, fun q => ⟨by omega, fun k' ek => nx _ G2 r1 ?_ k' ek⟩⟩
      · rw [e3, va_up_ne _ _ n12]; exact r1
      · rw [e3, va_up_self, r2]; unfold qRv; rw [← r2, if_pos q]
      · rw [r2] at q ⊢
        have e : qRv o f (ai1 (P 2) k) = ai1 (P 2) k := by unfold qRv; rw [if_neg q]
        rw [e, updI_id]
    refine kOn_of eF ⟨k1, by rw [a1]; omega, fun q => fun ai2 e2 => st _ (by rw [e2]; exact qcG.up (i := 1) (by decide) (by decide)) ?_ ?_, fun q => st _ qcG.refl ?_ rfl⟩
    · rw [e2, va_up_self]; unfold qRv; rw [if_pos q]
    · rw [e2, va_up_ne _ _ n21]
    · have e : qRv o f (ai1 (P 1) k) = ai1 (P 1) k := by unfold qRv; rw [if_neg q]
      rw [e, updI_id]
theorem CQR_meet1 {post : (Nat → Int → Int) → (Nat → Int) → (Nat → Int) → Prop} (D : qcD kd an mX41_names mX41_from mX41_to mX41_others mX41_codes mX41_least mX41_named x P) (n4 : 0 ≤ mX41_n x ∧ mX41_n x ≤ 4) (hi : 0 ≤ i ∧ i < mX41_n x) (hj : 0 ≤ j ∧ j < mX41_n x) (hp : ∀ ai' fi' se', qcG P 0 3 ai ai' → fi' x = (qMF i j (mX41_first x, mX41_second x, qAr (ai (P 0)) (ai (P 1)) (ai (P 2)))).1 → se' x = (qMF i j (mX41_first x, mX41_second x, qAr (ai (P 0)) (ai (P 1)) (ai (P 2)))).2.1 → (∀ k, 0 ≤ k → k < mX41_n x → qAr (ai' (P 0)) (ai' (P 1)) (ai' (P 2)) k = (qMF i j (mX41_first x, mX41_second x, qAr (ai (P 0)) (ai (P 1)) (ai (P 2)))).2.2 k) → post ai' fi' se') : wpQR_X41_meet post kd an ai mX41_first mX41_second mX41_from mX41_to mX41_n x (some (P 1)) i j := by
  have D' := D
  obtain ⟨kx, ⟨eN, eF, eT, eO, eC, eL, eM⟩, hKd, hNe⟩ := D
  obtain ⟨k0, a0⟩ := hKd 0 (by decide)
  obtain ⟨k1, a1⟩ := hKd 1 (by decide)
  obtain ⟨k2, a2⟩ := hKd 2 (by decide)
  obtain ⟨k3, a3⟩ := hKd 3 (by decide)
  obtain ⟨k4, a4⟩ := hKd 4 (by decide)
  obtain ⟨k5, a5⟩ := hKd 5 (by decide)
  obtain ⟨k6, a6⟩ := hKd 6 (by decide)
  have a0 : an (P 0) = 4 := a0
  have a1 : an (P 1) = 4 := a1
  have a2 : an (P 2) = 4 := a2
  have a3 : an (P 3) = 8 := a3
  have a4 : an (P 4) = 4 := a4
  have a5 : an (P 5) = 4 := a5
  have a6 : an (P 6) = 8 := a6
  unfold wpQR_X41_meet
  refine kOn_some ⟨k1, by rw [a1]; omega, fun u eu => ⟨by rw [a1]; omega, fun w ew => ⟨fun z => fun ai2 e2 => ?_, fun z => ⟨fun y => fun ai2 e2 => ?_, fun y => ⟨fun q => ?_, fun q => ?_⟩⟩⟩⟩⟩
  · rw [eu] at z
    rw [qMF_1 (D := (mX41_first x, mX41_second x, qAr (ai (P 0)) (ai (P 1)) (ai (P 2)))) z] at hp
    dsimp only [qAr] at hp
    refine hp _ _ _ (by rw [e2]; exact qcG.up (i := 1) (by decide) (by decide)) rfl rfl (fun k _ _ => ?_)
    rw [e2, va_up_self, va_up_ne _ _ (hNe 0 1 (by decide) (by decide) (by decide)), va_up_ne _ _ (hNe 2 1 (by decide) (by decide) (by decide)), updI_e, updI_e, ew]
    by_cases w2 : k = i
    · rw [if_pos w2, if_pos w2, w2]
    · rw [if_neg w2, if_neg w2]; rfl
  · rw [eu] at z
    rw [ew] at y
    rw [qMF_2 (D := (mX41_first x, mX41_second x, qAr (ai (P 0)) (ai (P 1)) (ai (P 2)))) z y] at hp
    dsimp only [qAr] at hp
    refine hp _ _ _ (by rw [e2]; exact qcG.up (i := 1) (by decide) (by decide)) rfl rfl (fun k _ _ => ?_)
    rw [e2, va_up_self, va_up_ne _ _ (hNe 0 1 (by decide) (by decide) (by decide)), va_up_ne _ _ (hNe 2 1 (by decide) (by decide) (by decide)), updI_e, updI_e, eu]
    by_cases w2 : k = j
    · rw [if_pos w2, if_pos w2, w2]
    · rw [if_neg w2, if_neg w2]; rfl
  · rw [eu] at z
    rw [ew] at y
    rw [eu, ew] at q
    rw [qMF_3 (D := (mX41_first x, mX41_second x, qAr (ai (P 0)) (ai (P 1)) (ai (P 2)))) z y q] at hp
    exact hp _ _ _ qcG.refl rfl rfl (fun k _ _ => rfl)
  · rw [eu] at z
    rw [ew] at y
    rw [eu, ew] at q ⊢
    refine CQR_replace D' n4 (fun ai' fi' se' G e1 e2 e3 => ?_)
    have g0 : ai' (P 0) = ai (P 0) := G.o hNe (by decide) (by decide) (Or.inl (by decide))
    by_cases le : ai (P 1) i ≤ ai (P 1) j
    · rw [qMF_4 (D := (mX41_first x, mX41_second x, qAr (ai (P 0)) (ai (P 1)) (ai (P 2)))) z y q le] at hp
      unfold qRd qRt at hp
      dsimp only [qAr] at hp
      have o1 : (if ai (P 1) i < ai (P 1) j then ai (P 1) j else ai (P 1) i) = ai (P 1) j := if_pos (by omega)
      have o2 : (if ai (P 1) j < ai (P 1) i then ai (P 1) j else ai (P 1) i) = ai (P 1) i := if_neg (by omega)
      rw [o1, o2] at e1 e2 e3
      refine hp _ _ _ (G.wd (by decide) (by decide)) e1 e2 (fun k k0 k1 => ?_)
      rw [g0, (e3 k k0 k1).1, (e3 k k0 k1).2]
    · rw [qMF_5 (D := (mX41_first x, mX41_second x, qAr (ai (P 0)) (ai (P 1)) (ai (P 2)))) z y q le] at hp
      unfold qRd qRt at hp
      dsimp only [qAr] at hp
      have o1 : (if ai (P 1) i < ai (P 1) j then ai (P 1) j else ai (P 1) i) = ai (P 1) i := if_neg (by omega)
      have o2 : (if ai (P 1) j < ai (P 1) i then ai (P 1) j else ai (P 1) i) = ai (P 1) j := if_pos (by omega)
      rw [o1, o2] at e1 e2 e3
      refine hp _ _ _ (G.wd (by decide) (by decide)) e1 e2 (fun k k0 k1 => ?_)
      rw [g0, (e3 k k0 k1).1, (e3 k k0 k1).2]
theorem CQR_meet2 {post : (Nat → Int → Int) → (Nat → Int) → (Nat → Int) → Prop} (D : qcD kd an mX41_names mX41_from mX41_to mX41_others mX41_codes mX41_least mX41_named x P) (n4 : 0 ≤ mX41_n x ∧ mX41_n x ≤ 4) (hi : 0 ≤ i ∧ i < mX41_n x) (hj : 0 ≤ j ∧ j < mX41_n x) (hp : ∀ ai' fi' se', qcG P 0 3 ai ai' → fi' x = (qMT i j (mX41_first x, mX41_second x, qAr (ai (P 0)) (ai (P 1)) (ai (P 2)))).1 → se' x = (qMT i j (mX41_first x, mX41_second x, qAr (ai (P 0)) (ai (P 1)) (ai (P 2)))).2.1 → (∀ k, 0 ≤ k → k < mX41_n x → qAr (ai' (P 0)) (ai' (P 1)) (ai' (P 2)) k = (qMT i j (mX41_first x, mX41_second x, qAr (ai (P 0)) (ai (P 1)) (ai (P 2)))).2.2 k) → post ai' fi' se') : wpQR_X41_meet post kd an ai mX41_first mX41_second mX41_from mX41_to mX41_n x (some (P 2)) i j := by
  have D' := D
  obtain ⟨kx, ⟨eN, eF, eT, eO, eC, eL, eM⟩, hKd, hNe⟩ := D
  obtain ⟨k0, a0⟩ := hKd 0 (by decide)
  obtain ⟨k1, a1⟩ := hKd 1 (by decide)
  obtain ⟨k2, a2⟩ := hKd 2 (by decide)
  obtain ⟨k3, a3⟩ := hKd 3 (by decide)
  obtain ⟨k4, a4⟩ := hKd 4 (by decide)
  obtain ⟨k5, a5⟩ := hKd 5 (by decide)
  obtain ⟨k6, a6⟩ := hKd 6 (by decide)
  have a0 : an (P 0) = 4 := a0
  have a1 : an (P 1) = 4 := a1
  have a2 : an (P 2) = 4 := a2
  have a3 : an (P 3) = 8 := a3
  have a4 : an (P 4) = 4 := a4
  have a5 : an (P 5) = 4 := a5
  have a6 : an (P 6) = 8 := a6
  unfold wpQR_X41_meet
  refine kOn_some ⟨k2, by rw [a2]; omega, fun u eu => ⟨by rw [a2]; omega, fun w ew => ⟨fun z => fun ai2 e2 => ?_, fun z => ⟨fun y => fun ai2 e2 => ?_, fun y => ⟨fun q => ?_, fun q => ?_⟩⟩⟩⟩⟩
  · rw [eu] at z
    rw [qMT_1 (D := (mX41_first x, mX41_second x, qAr (ai (P 0)) (ai (P 1)) (ai (P 2)))) z] at hp
    dsimp only [qAr] at hp
    refine hp _ _ _ (by rw [e2]; exact qcG.up (i := 2) (by decide) (by decide)) rfl rfl (fun k _ _ => ?_)
    rw [e2, va_up_self, va_up_ne _ _ (hNe 0 2 (by decide) (by decide) (by decide)), va_up_ne _ _ (hNe 1 2 (by decide) (by decide) (by decide)), updI_e, updI_e, ew]
    by_cases w2 : k = i
    · rw [if_pos w2, if_pos w2, w2]
    · rw [if_neg w2, if_neg w2]; rfl
  · rw [eu] at z
    rw [ew] at y
    rw [qMT_2 (D := (mX41_first x, mX41_second x, qAr (ai (P 0)) (ai (P 1)) (ai (P 2)))) z y] at hp
    dsimp only [qAr] at hp
    refine hp _ _ _ (by rw [e2]; exact qcG.up (i := 2) (by decide) (by decide)) rfl rfl (fun k _ _ => ?_)
    rw [e2, va_up_self, va_up_ne _ _ (hNe 0 2 (by decide) (by decide) (by decide)), va_up_ne _ _ (hNe 1 2 (by decide) (by decide) (by decide)), updI_e, updI_e, eu]
    by_cases w2 : k = j
    · rw [if_pos w2, if_pos w2, w2]
    · rw [if_neg w2, if_neg w2]; rfl
  · rw [eu] at z
    rw [ew] at y
    rw [eu, ew] at q
    rw [qMT_3 (D := (mX41_first x, mX41_second x, qAr (ai (P 0)) (ai (P 1)) (ai (P 2)))) z y q] at hp
    exact hp _ _ _ qcG.refl rfl rfl (fun k _ _ => rfl)
  · rw [eu] at z
    rw [ew] at y
    rw [eu, ew] at q ⊢
    refine CQR_replace D' n4 (fun ai' fi' se' G e1 e2 e3 => ?_)
    have g0 : ai' (P 0) = ai (P 0) := G.o hNe (by decide) (by decide) (Or.inl (by decide))
    by_cases le : ai (P 2) i ≤ ai (P 2) j
    · rw [qMT_4 (D := (mX41_first x, mX41_second x, qAr (ai (P 0)) (ai (P 1)) (ai (P 2)))) z y q le] at hp
      unfold qRd qRt at hp
      dsimp only [qAr] at hp
      have o1 : (if ai (P 2) i < ai (P 2) j then ai (P 2) j else ai (P 2) i) = ai (P 2) j := if_pos (by omega)
      have o2 : (if ai (P 2) j < ai (P 2) i then ai (P 2) j else ai (P 2) i) = ai (P 2) i := if_neg (by omega)
      rw [o1, o2] at e1 e2 e3
      refine hp _ _ _ (G.wd (by decide) (by decide)) e1 e2 (fun k k0 k1 => ?_)
      rw [g0, (e3 k k0 k1).1, (e3 k k0 k1).2]
    · rw [qMT_5 (D := (mX41_first x, mX41_second x, qAr (ai (P 0)) (ai (P 1)) (ai (P 2)))) z y q le] at hp
      unfold qRd qRt at hp
      dsimp only [qAr] at hp
      have o1 : (if ai (P 2) i < ai (P 2) j then ai (P 2) j else ai (P 2) i) = ai (P 2) i := if_neg (by omega)
      have o2 : (if ai (P 2) j < ai (P 2) i then ai (P 2) j else ai (P 2) i) = ai (P 2) j := if_pos (by omega)
      rw [o1, o2] at e1 e2 e3
      refine hp _ _ _ (G.wd (by decide) (by decide)) e1 e2 (fun k k0 k1 => ?_)
      rw [g0, (e3 k k0 k1).1, (e3 k k0 k1).2]
theorem CQR_isSame {post : Int → Prop} {fo c r : Nat} (hc : mX85_codes fo = some c) (kc : kd c = 5) (hl : 0 ≤ (an c : Int) ∧ (an c : Int) ≤ 4) (kr : kd r = 5) (hr : 4 ≤ (an r : Int)) (hn : 0 ≤ n ∧ n ≤ 4) (h1 : (a, b, aF (ai r) 0 n.toNat) = ((mX85_first fo, mX85_second fo, aF (ai c) 0 (an c)) : qFo) → post 1) (h0 : ¬ (a, b, aF (ai r) 0 n.toNat) = ((mX85_first fo, mX85_second fo, aF (ai c) 0 (an c)) : qFo) → post 0) : wpQR_X85_isSame post kd an ai mX85_first mX85_second mX85_codes fo a b (some r) n := by
  unfold wpQR_X85_isSame
  have no : ¬ (a, b, aF (ai r) 0 n.toNat) = ((mX85_first fo, mX85_second fo, aF (ai c) 0 (an c)) : qFo) → ∃ fu : Nat, wQR_X85_isSame_36 (fun (x5_17 : Int) => (x5_17 = 0 ∨ x5_17 = 1) ∧ ((post x5_17))) fo (some r) n kd an ai mX85_codes fu 0 0 := fun h => ⟨1, by
    rw [wQR_X85_isSame_36]
    exact ⟨fun _ => ⟨Or.inl rfl, h0 h⟩, fun _ => ⟨fun _ => ⟨Or.inl rfl, h0 h⟩, fun w => absurd rfl w⟩⟩⟩
  refine ⟨fun e1 => ⟨fun e2 => kOn_of hc ⟨kc, by omega, fun e3 => ?_, fun e3 => no (fun h => ?_)⟩, fun e2 => no (fun h => e2 (congrArg (fun t : qFo => t.2.1) h))⟩, fun e1 => no (fun h => e1 (congrArg (fun t : qFo => t.1) h))⟩
  · refine wl2 (fun fu g k => wQR_X85_isSame_36 _ fo (some r) n kd an ai mX85_codes fu g k) (fun g k => (0 ≤ k ∧ k ≤ n) ∧ ((g = 1 ∧ ∀ i, 0 ≤ i → i < k → ai r i = ai c i) ∨ (g = 0 ∧ ∃ i, (0 ≤ i ∧ i < n) ∧ ¬ ai r i = ai c i))) (fun _ k => (n - k).toNat) ?_ 1 0 ⟨by omega, Or.inl ⟨rfl, fun i a b => by omega⟩⟩
    rintro g k ⟨hk, hg⟩ fu ih
    rw [wQR_X85_isSame_36]
    have f0 : g = 0 → (g = 0 ∨ g = 1) ∧ post g := fun g0 => by
      rcases hg with hg | ⟨_, i, hi, ne⟩
      · omega
      · refine ⟨Or.inl g0, ?_⟩
        rw [g0]
        refine h0 (fun h => ne ?_)
        have := (aF_eq n.toNat (an c) 0 0).1 (congrArg (fun t : qFo => t.2.2) h)
        have q := this.2 i hi.1 (by omega)
        rw [Int.zero_add] at q; exact q
    refine ⟨fun z => ?_, fun z => ⟨f0, fun g1 => kOn_some ⟨kr, by omega, kOn_of hc ⟨kc, by omega, fun q => ⟨by omega, fun _ e => ?_⟩, fun q => ⟨by omega, fun _ e => ?_⟩⟩⟩⟩⟩
    · rcases hg with ⟨g1, al_⟩ | hg
      · refine ⟨Or.inr g1, ?_⟩
        rw [g1]
        refine h1 ?_
        rw [e1, e2]
        have := (aF_eq (f := ai r) (g := ai c) n.toNat (an c) 0 0).2 ⟨by omega, fun i i0 i1 => by rw [Int.zero_add]; exact al_ i i0 (by omega)⟩
        rw [this]
      · exact f0 hg.1
    · rw [e]
      refine ih _ _ ⟨by omega, hg.imp (fun h => ⟨rfl, fun i i0 i1 => ?_⟩) (fun h => absurd h.1 g1)⟩ (by omega)
      by_cases y : i = k
      · rw [y]; exact q
      · exact h.2 i i0 (by omega)
    · rw [e]
      exact ih _ _ ⟨by omega, Or.inr ⟨rfl, k, by omega, q⟩⟩ (by omega)
  · have := (aF_eq n.toNat (an c) 0 0).1 (congrArg (fun t : qFo => t.2.2) h)
    omega
end
