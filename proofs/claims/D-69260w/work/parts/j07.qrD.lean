/-! QlRewrite, the reference (X56): a form gets its name -/
section
variable {nm fr to ot co le : Int → Int} {a b n v w k x y c m oc : Int} {T0 : qA → Prop} {P Q : Int → Prop}
/-- how often some of many stand -/
def qSq (fr to ot : Int → Int) (m : Nat) : Nat → Int
  | 0 => 0
  | i + 1 => qSq fr to ot m i + qTm fr to (ot i) m
def qS1 (ot : Int → Int) (x : Int) : Nat → Int
  | 0 => 0
  | i + 1 => qS1 ot x i + (if x = ot i then 1 else 0)
theorem qS1_b (h : ∀ i j, 0 ≤ i → i < j → j < oc → ¬ ot i = ot j) : ∀ i : Nat, (i : Int) ≤ oc → qS1 ot x i ≤ 1 ∧ ((∀ j : Int, 0 ≤ j → j < i → ¬ x = ot j) → qS1 ot x i = 0)
  | 0, _ => ⟨by unfold qS1; decide, fun _ => rfl⟩
  | i + 1, hi => by
    obtain ⟨i1, i2⟩ := qS1_b h i (by omega)
    rw [qS1]
    refine ⟨?_, fun hno => ?_⟩
    · by_cases z : x = ot i
      · rw [if_pos z, i2 (fun j j0 j1 e => h j i j0 j1 (by omega) (e.symm.trans z))]; decide
      · rw [if_neg z]; omega
    · rw [if_neg (hno i (by omega) (by omega)), i2 (fun j j0 j1 => hno j j0 (by omega))]; rfl
theorem qSq_0 : ∀ i : Nat, qSq fr to ot 0 i = 0
  | 0 => rfl
  | i + 1 => by rw [qSq, qSq_0 i]; rfl
theorem qSq_s {m : Nat} : ∀ i : Nat, qSq fr to ot (m + 1) i = qSq fr to ot m i + qS1 ot (fr m) i + qS1 ot (to m) i
  | 0 => rfl
  | i + 1 => by
    rw [qSq, qSq_s i, qSq, qS1, qS1, qTm]
    omega
theorem qSq_b (h : ∀ i j, 0 ≤ i → i < j → j < oc → ¬ ot i = ot j) {i : Nat} (hi : (i : Int) ≤ oc) : ∀ m : Nat, qSq fr to ot m i ≤ 2 * m
  | 0 => by rw [qSq_0]; decide
  | m + 1 => by
    have ih := qSq_b h hi m
    have b1 := (qS1_b (x := fr m) h i hi).1
    have b2 := (qS1_b (x := to m) h i hi).1
    rw [qSq_s]; omega
theorem qSq_g {m : Nat} : ∀ i : Nat, (∀ j : Int, 0 ≤ j → j < i → 2 ≤ qTm fr to (ot j) m) → 2 * (i : Int) ≤ qSq fr to ot m i
  | 0, _ => by unfold qSq; decide
  | i + 1, h => by
    have ih := qSq_g i (fun j j0 j1 => h j j0 (by omega))
    have := h i (by omega) (by omega)
    rw [qSq]; omega
/-- there are no more others than atoms -/
theorem qTh.few (H : qTh a b T0 nm fr to n) (hO : qOo ot oc (fun v => qOt a b v ∧ ∃ k, (0 ≤ k ∧ k < n) ∧ (fr k = v ∨ to k = v))) : oc ≤ n := by
  obtain ⟨hn, ⟨m, V, _, N2, N3⟩, nd⟩ := H
  have eT : qAt nm fr to n = qIm V T0 := funext fun t => propext (N3 t)
  rw [← eT] at N2
  have two : ∀ j : Int, 0 ≤ j → j < oc → 2 ≤ qTm fr to (ot j) n.toNat := fun j j0 j1 => by
    obtain ⟨ho, k, hk, hh⟩ := (hO.2.1 (ot j)).1 ⟨j, ⟨j0, j1⟩, rfl⟩
    have b := (qTm_b (fr := fr) (to := to) (v := ot j) n.toNat).1
    have n0 : ¬ qTm fr to (ot j) n.toNat = 0 := fun z => by
      have := (qTm_0 (fr := fr) (to := to) (v := ot j) n.toNat).1 z k hk.1 (by omega)
      exact hh.elim this.1 this.2
    have n1 : ¬ qTm fr to (ot j) n.toNat = 1 := fun z => by
      obtain ⟨g1, g2⟩ := (qTm_1 hk ho.1 hh).1 z
      refine N2 (ot j) ⟨ho, (nm k, fr k, to k), ⟨k, hk, rfl⟩, g1, ?_⟩
      rintro t' ⟨i, hi, rfl⟩ hi2
      by_cases q : i = k
      · rw [q]
      · have := g2 i hi.1 hi.2 q
        exact absurd hi2 (fun w => w.elim this.1 this.2)
    omega
  have g := qSq_g (fr := fr) (to := to) (ot := ot) (m := n.toNat) oc.toNat (fun j j0 j1 => two j j0 (by omega))
  have u := qSq_b (fr := fr) (to := to) hO.2.2 (i := oc.toNat) (by have := hO.1; omega) n.toNat
  have := hO.1
  omega
/-- a way by its digits -/
theorem qDg_of {d : Int → Int} (hd : ∀ j, 0 ≤ j → j < 4 → 0 ≤ d j ∧ d j < 4) {j : Int} (j0 : 0 ≤ j) (j1 : j < 4) : qDg (d 0 + 4 * d 1 + 16 * d 2 + 64 * d 3) j = d j := by
  have h0 := hd 0 (by decide) (by decide)
  have h1 := hd 1 (by decide) (by decide)
  have h2 := hd 2 (by decide) (by decide)
  have h3 := hd 3 (by decide) (by decide)
  have hj : j = 0 ∨ j = 1 ∨ j = 2 ∨ j = 3 := by omega
  unfold qDg
  rcases hj with rfl | rfl | rfl | rfl
  · rw [show (2 : Int) ^ (2 * (0 : Int)).toNat = 1 from rfl]; omega
  · rw [show (2 : Int) ^ (2 * (1 : Int)).toNat = 4 from rfl]; omega
  · rw [show (2 : Int) ^ (2 * (2 : Int)).toNat = 16 from rfl]; omega
  · rw [show (2 : Int) ^ (2 * (3 : Int)).toNat = 64 from rfl]; omega
theorem qOo.ix (hO : qOo ot oc P) (hoc : oc ≤ 8) {j : Int} (j0 : 0 ≤ j) (j1 : j < oc) : fstI (fun k => ot k = ot j) 8 = j := fstI_u j0 (by omega) (fun _ => rfl) (fun i i0 i1 => hO.2.2 i j i0 i1 j1)
/-- a naming is some way's -/
theorem qWay_of {l : List qA} {r : Int → Int} (hO : qOo ot oc (qOc a b l)) (hoc : oc ≤ 4) (hr : qNm a b l oc r) : ∃ u, (0 ≤ u ∧ u < 2 ^ (2 * oc).toNat) ∧ qWy oc u ∧ ∀ v, qOc a b l v → qRo ot u v = r v := by
  have h0 := hO.1
  have hd : ∀ j, 0 ≤ j → j < 4 → 0 ≤ (if j < oc then r (ot j) - 2 else 0) ∧ (if j < oc then r (ot j) - 2 else 0) < 4 := fun j j0 j1 => by
    by_cases z : j < oc
    · have := hr.1 (ot j) ((hO.2.1 (ot j)).1 ⟨j, ⟨j0, z⟩, rfl⟩)
      rw [if_pos z]; omega
    · rw [if_neg z]; omega
  have dg := fun j j0 j1 => qDg_of (d := fun j => if j < oc then r (ot j) - 2 else 0) hd (j := j) j0 j1
  have hb : ∀ j, 0 ≤ j → j < 4 → (j < oc → (if j < oc then r (ot j) - 2 else 0) < oc) ∧ (¬ j < oc → (if j < oc then r (ot j) - 2 else 0) = 0) := fun j j0 j1 => ⟨fun z => by
    have := hr.1 (ot j) ((hO.2.1 (ot j)).1 ⟨j, ⟨j0, z⟩, rfl⟩)
    rw [if_pos z]; omega, fun z => if_neg z⟩
  have b0 := hb 0 (by decide) (by decide)
  have b1 := hb 1 (by decide) (by decide)
  have b2 := hb 2 (by decide) (by decide)
  have b3 := hb 3 (by decide) (by decide)
  have g0 := hd 0 (by decide) (by decide)
  have g1 := hd 1 (by decide) (by decide)
  have g2 := hd 2 (by decide) (by decide)
  have g3 := hd 3 (by decide) (by decide)
  refine ⟨(if (0 : Int) < oc then r (ot 0) - 2 else 0) + 4 * (if (1 : Int) < oc then r (ot 1) - 2 else 0) + 16 * (if (2 : Int) < oc then r (ot 2) - 2 else 0) + 64 * (if (3 : Int) < oc then r (ot 3) - 2 else 0), ⟨by omega, ?_⟩, fun j j0 j1 => ?_, fun v hv => ?_⟩
  · generalize (if (0 : Int) < oc then r (ot 0) - 2 else 0) = d0 at b0 g0 ⊢
    generalize (if (1 : Int) < oc then r (ot 1) - 2 else 0) = d1 at b1 g1 ⊢
    generalize (if (2 : Int) < oc then r (ot 2) - 2 else 0) = d2 at b2 g2 ⊢
    generalize (if (3 : Int) < oc then r (ot 3) - 2 else 0) = d3 at b3 g3 ⊢
    have ho : oc = 0 ∨ oc = 1 ∨ oc = 2 ∨ oc = 3 ∨ oc = 4 := by omega
    clear dg hd hb hO hr
    rcases ho with rfl | rfl | rfl | rfl | rfl
    · rw [show (2 : Int) ^ (2 * (0 : Int)).toNat = 1 from rfl]; omega
    · rw [show (2 : Int) ^ (2 * (1 : Int)).toNat = 4 from rfl]; omega
    · rw [show (2 : Int) ^ (2 * (2 : Int)).toNat = 16 from rfl]; omega
    · rw [show (2 : Int) ^ (2 * (3 : Int)).toNat = 64 from rfl]; omega
    · rw [show (2 : Int) ^ (2 * (4 : Int)).toNat = 256 from rfl]; omega
  · have e := dg j j0 (by omega)
    have e' : qDg _ j = r (ot j) - 2 := e.trans (if_pos j1)
    have rj := hr.1 (ot j) ((hO.2.1 (ot j)).1 ⟨j, ⟨j0, j1⟩, rfl⟩)
    refine ⟨by rw [e']; omega, fun i i0 i1 q => ?_⟩
    have ei : qDg _ i = r (ot i) - 2 := (dg i i0 (by omega)).trans (if_pos (show i < oc by omega))
    rw [e', ei] at q
    exact hO.2.2 i j i0 i1 j1 (hr.2 _ _ ((hO.2.1 (ot i)).1 ⟨i, ⟨i0, by omega⟩, rfl⟩) ((hO.2.1 (ot j)).1 ⟨j, ⟨j0, j1⟩, rfl⟩) (by omega))
  · obtain ⟨j, hj, rfl⟩ := (hO.2.1 v).2 hv
    have rj := hr.1 (ot j) hv
    unfold qRo
    rw [hO.ix (by omega) hj.1 hj.2]
    have e' : qDg _ j = r (ot j) - 2 := (dg j hj.1 (by omega)).trans (if_pos hj.2)
    rw [e']; omega
theorem qCd_c {l : List qA} {r s : Int → Int} (h : ∀ v, qOc a b l v → r v = s v) : l.map (qCd a b r) = l.map (qCd a b s) := by
  refine List.map_congr_left (fun t ht => ?_)
  have one : ∀ v, qHas t v → qCo a b r v = qCo a b s v := fun v hv => by
    unfold qCo
    by_cases z : v = 6 ∨ v = 7
    · rw [if_pos z, if_pos z]
    · rw [if_neg z, if_neg z]
      by_cases za : v = a
      · rw [if_pos za, if_pos za]
      · rw [if_neg za, if_neg za]
        by_cases zb : v = b
        · rw [if_pos zb, if_pos zb]
        · rw [if_neg zb, if_neg zb]
          exact h v ⟨⟨fun e => z (Or.inl e), fun e => z (Or.inr e), za, zb⟩, t, ht, hv⟩
  unfold qCd
  rw [one _ (Or.inl rfl), one _ (Or.inr rfl)]
theorem qOc_a : qOc a b (aF (qAr nm fr to) 0 n.toNat) v ↔ qOt a b v ∧ ∃ k, (0 ≤ k ∧ k < n) ∧ (fr k = v ∨ to k = v) := by
  refine and_congr Iff.rfl ⟨?_, ?_⟩
  · rintro ⟨t, ht, hh⟩
    obtain ⟨k, hk, e⟩ := (aF_mem _ _).1 ht
    rw [e] at hh
    exact ⟨k, by omega, hh⟩
  · rintro ⟨k, hk, hh⟩
    exact ⟨_, (aF_mem _ _).2 ⟨k, by omega, rfl⟩, hh⟩
/-- all ways tried: the least row -/
theorem qLs_of (hO : qOo ot oc (fun v => qOt a b v ∧ ∃ k, (0 ≤ k ∧ k < n) ∧ (fr k = v ∨ to k = v))) (hoc : oc ≤ 4) (hL : qLw a b nm fr to ot n oc (2 ^ (2 * oc).toNat) c le) : qLs a b (aF (qAr nm fr to) 0 n.toNat) (aF le 0 n.toNat) := by
  have h0 := hO.1
  have hO' : qOo ot oc (qOc a b (aF (qAr nm fr to) 0 n.toNat)) := hO.cg (fun v => qOc_a.symm)
  have len : (((aF ot 0 oc.toNat).length : Nat) : Int) = oc := by rw [aF_len]; omega
  have wayNm : ∀ u, qWy oc u → qNm a b (aF (qAr nm fr to) 0 n.toNat) oc (qRo ot u) := fun u hu => by
    refine ⟨fun v hv => ?_, fun v w hv hw e => ?_⟩
    · obtain ⟨j, hj, rfl⟩ := (hO'.2.1 v).2 hv
      have db := qDg_b (w := u) (v := j)
      have d := (hu j hj.1 hj.2).1
      unfold qRo
      rw [hO'.ix (by omega) hj.1 hj.2]; omega
    · obtain ⟨j, hj, rfl⟩ := (hO'.2.1 v).2 hv
      obtain ⟨i, hi, rfl⟩ := (hO'.2.1 w).2 hw
      unfold qRo at e
      rw [hO'.ix (by omega) hj.1 hj.2, hO'.ix (by omega) hi.1 hi.2] at e
      by_cases q : j = i
      · rw [q]
      · by_cases q2 : j < i
        · exact absurd (by omega) ((hu i hi.1 hi.2).2 j hj.1 q2)
        · exact absurd (by omega) ((hu j hj.1 hj.2).2 i hi.1 (by omega))
  have idn : qNm a b (aF (qAr nm fr to) 0 n.toNat) oc (fun v => 2 + fstI (fun k => ot k = v) 8) := by
    refine ⟨fun v hv => ?_, fun v w hv hw e => ?_⟩
    · obtain ⟨j, hj, rfl⟩ := (hO'.2.1 v).2 hv
      show 2 ≤ 2 + fstI (fun k => ot k = ot j) 8 ∧ 2 + fstI (fun k => ot k = ot j) 8 < 2 + oc
      rw [hO'.ix (by omega) hj.1 hj.2]; omega
    · obtain ⟨j, hj, rfl⟩ := (hO'.2.1 v).2 hv
      obtain ⟨i, hi, rfl⟩ := (hO'.2.1 w).2 hw
      have e' : 2 + fstI (fun k => ot k = ot j) 8 = 2 + fstI (fun k => ot k = ot i) 8 := e
      rw [hO'.ix (by omega) hj.1 hj.2, hO'.ix (by omega) hi.1 hi.2] at e'
      rw [show j = i by omega]
  refine ⟨aF ot 0 oc.toNat, aF_pw _ _ (fun i j i0 ij j1 => hO.2.2 i j i0 ij (by omega)), fun v => ?_, ?_⟩
  · rw [aF_mem]
    exact ⟨fun ⟨i, hi, e⟩ => (hO'.2.1 v).1 ⟨i, by omega, e.symm⟩, fun h => by
      obtain ⟨i, hi, e⟩ := (hO'.2.1 v).2 h
      exact ⟨i, by omega, e.symm⟩⟩
  · rw [len]
    rcases hL with ⟨_, no⟩ | ⟨_, ⟨u, hu, uw, ur⟩, ls⟩
    · obtain ⟨u, hu, uw, _⟩ := qWay_of hO' hoc idn
      exact absurd uw (no u hu.1 hu.2)
    · refine ⟨⟨qRo ot u, wayNm u uw, ur⟩, fun r d hr hd => ?_⟩
      obtain ⟨u', hu', uw', ue⟩ := qWay_of hO' hoc hr
      refine ls u' hu'.1 hu'.2 uw' d ⟨?_, hd.2⟩
      rw [qCd_c ue]; exact hd.1
end
