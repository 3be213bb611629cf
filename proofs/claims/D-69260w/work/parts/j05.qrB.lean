/-! QlRewrite, the reference (X56): names -/
def qOo (ot : Int → Int) (oc : Int) (P : Int → Prop) : Prop := 0 ≤ oc ∧ (∀ v, (∃ k, (0 ≤ k ∧ k < oc) ∧ ot k = v) ↔ P v) ∧ ∀ i j, 0 ≤ i → i < j → j < oc → ¬ ot i = ot j
def qDg (w j : Int) : Int := w / 2 ^ (2 * j).toNat % 4
def qWy (m w : Int) : Prop := ∀ j, 0 ≤ j → j < m → qDg w j < m ∧ ∀ i, 0 ≤ i → i < j → ¬ qDg w i = qDg w j
noncomputable def qRo (ot : Int → Int) (w v : Int) : Int := 2 + qDg w (fstI (fun k => ot k = v) 8)
section
variable {nm fr to ot co le : Int → Int} {a b n v w k x y c m oc : Int} {T0 : qA → Prop} {P Q : Int → Prop} {post : Int → Prop} {A B : Prop}
theorem qDg_b : 0 ≤ qDg w v ∧ qDg w v < 4 := by unfold qDg; omega
theorem T56_gather {post : (Int → Int) → Int → Prop} (hO : qOo ot oc P) (hoc : oc < 8) (hp : ∀ ot' oc', qOo ot' oc' (fun u => P u ∨ (u = v ∧ qOt a b v)) → oc' ≤ oc + 1 → post ot' oc') : wpX56_gather post a b ot oc v := by
  unfold wpX56_gather
  obtain ⟨h0, h1, h2⟩ := hO
  refine T56_isOtherB (fun ho => ?_) (fun ho => hp ot oc ⟨h0, fun u => (h1 u).trans ⟨Or.inl, fun z => z.resolve_right (fun y => ho y.2)⟩, h2⟩ (by omega))
  refine wloop (fun fu j => wX56_gather_11 _ _ v ot oc fu j) (fun j => (0 ≤ j ∧ j ≤ oc) ∧ ∀ i, 0 ≤ i → i < j → ¬ ot i = v) (fun j => (oc - j).toNat) ?_ 0 ⟨by omega, fun i i0 i1 => by omega⟩
  rintro j ⟨hj, hno⟩ f ih
  rw [wX56_gather_11]
  refine ⟨fun z => ⟨by omega, fun _ e1 => ⟨by omega, fun _ e2 => ?_⟩⟩, fun z => ⟨by omega, fun y => ?_, fun y => ⟨by omega, fun _ e1 => ?_⟩⟩⟩
  · have ej : j = oc := by omega
    rw [e1, e2]
    refine hp _ _ ⟨by omega, fun u => ?_, fun i j' i0 ij j1 => ?_⟩ (Int.le_refl _)
    · constructor
      · rintro ⟨k, hk, e⟩
        by_cases q : k = oc
        · rw [q, updI_s] at e
          exact Or.inr ⟨e.symm, ho⟩
        · rw [updI_n q] at e
          exact Or.inl ((h1 u).1 ⟨k, by omega, e⟩)
      · rintro (h | h)
        · obtain ⟨k, hk, e⟩ := (h1 u).2 h
          exact ⟨k, by omega, by rw [updI_n (by omega)]; exact e⟩
        · exact ⟨oc, by omega, by rw [updI_s]; exact h.1.symm⟩
    · by_cases q : j' = oc
      · rw [q, updI_s, updI_n (by omega)]
        exact hno i i0 (by omega)
      · rw [updI_n q, updI_n (by omega)]
        exact h2 i j' i0 ij (by omega)
  · refine hp ot oc ⟨h0, fun u => (h1 u).trans ⟨Or.inl, fun q => q.elim id (fun q => ?_)⟩, h2⟩ (by omega)
    rw [q.1]
    exact (h1 v).1 ⟨j, by omega, y⟩
  · rw [e1]
    refine ih _ ⟨by omega, fun i i0 i1 => ?_⟩ (by omega)
    by_cases q : i = j
    · rw [q]; exact y
    · exact hno i i0 (by omega)
theorem qOo.cg (h : qOo ot oc P) (e : ∀ v, P v ↔ Q v) : qOo ot oc Q := ⟨h.1, fun v => (h.2.1 v).trans (e v), h.2.2⟩
/-- all others of the atoms -/
theorem T56_f11 {K : (Int → Int) → Int → Prop} (hn : 0 ≤ n ∧ n ≤ 4) (hK : ∀ ot oc, qOo ot oc (fun v => qOt a b v ∧ ∃ k, (0 ≤ k ∧ k < n) ∧ (fr k = v ∨ to k = v)) → oc ≤ 8 → K ot oc) : ∃ fu : Nat, wX56_finish_11 K a b fr to n fu 0 ot 0 := by
  refine wl3 (fun fu k ot oc => wX56_finish_11 K a b fr to n fu k ot oc) (fun k ot oc => (0 ≤ k ∧ k ≤ n) ∧ qOo ot oc (fun v => qOt a b v ∧ ∃ i, (0 ≤ i ∧ i < k) ∧ (fr i = v ∨ to i = v)) ∧ oc ≤ 2 * k) (fun k _ _ => (n - k).toNat) ?_ 0 ot 0 ⟨by omega, ⟨Int.le_refl _, fun v => ⟨fun ⟨k, h, _⟩ => by omega, fun ⟨_, i, h, _⟩ => by omega⟩, fun i j i0 ij j1 => by omega⟩, by omega⟩
  rintro k ot oc ⟨hk, hO, ho⟩ f ih
  rw [wX56_finish_11]
  refine ⟨fun z => hK ot oc (by rw [show n = k by omega]; exact hO) (by omega), fun z => ⟨by omega, T56_gather hO (by omega) (fun ot1 oc1 O1 l1 => T56_gather O1 (by omega) (fun ot2 oc2 O2 l2 => ⟨by omega, fun _ e => ?_⟩))⟩⟩
  rw [e]
  refine ih _ _ _ ⟨by omega, O2.cg (fun v => ?_), by omega⟩ (by omega)
  constructor
  · rintro ((⟨h, i, hi, q⟩ | ⟨h, q⟩) | ⟨h, q⟩)
    · exact ⟨h, i, by omega, q⟩
    · rw [h]; exact ⟨q, k, by omega, Or.inl rfl⟩
    · rw [h]; exact ⟨q, k, by omega, Or.inr rfl⟩
  · rintro ⟨h, i, hi, q⟩
    by_cases y : i = k
    · rw [y] at q
      rcases q with q | q
      · exact Or.inl (Or.inr ⟨q.symm, by rw [q]; exact h⟩)
      · exact Or.inr ⟨q.symm, by rw [q]; exact h⟩
    · exact Or.inl (Or.inl ⟨h, i, by omega, q⟩)
theorem T56_isWayB (hoc : 0 ≤ oc ∧ oc ≤ 8) (hw : 0 ≤ w) (h1 : qWy oc w → B) (h0 : ¬ qWy oc w → A) : wpX56_isWay (fun r => (r = 0 → A) ∧ (¬ r = 0 → B)) oc w := by
  unfold wpX56_isWay
  refine wl2 (fun fu u j => wX56_isWay_4 _ _ w oc fu u j) (fun u j => (0 ≤ j ∧ j ≤ oc) ∧ mS u (fun v => ∃ i, (0 ≤ i ∧ i < j) ∧ qDg w i = v) ∧ ∀ j', 0 ≤ j' → j' < j → qDg w j' < oc ∧ ∀ i, 0 ≤ i → i < j' → ¬ qDg w i = qDg w j') (fun _ j => (oc - j).toNat) ?_ 0 0 ⟨by omega, mS_c mS_0 (fun k _ _ => ⟨fun h => h.elim, fun ⟨i, h, _⟩ => by omega⟩), fun j' a b => by omega⟩
  rintro u j ⟨hj, hu, hd⟩ f ih
  have db := qDg_b (w := w) (v := j)
  rw [wX56_isWay_4]
  refine ⟨fun z => ⟨fun y => absurd y (by decide), fun _ => h1 (fun j' a b => hd j' a (by omega))⟩, fun z => ⟨by omega, by omega, fun d ed => ?_⟩⟩
  have ed' : d = qDg w j := ed
  refine ⟨fun y => ⟨fun _ => h0 (fun q => by have := (q j hj.1 (by omega)).1; omega), fun y => absurd rfl y⟩, fun y => ⟨by omega, fun q => ⟨fun _ => h0 (fun r => ?_), fun y => absurd rfl y⟩, fun q => ⟨by omega, fun u' eu => ⟨by omega, fun j' ej => ?_⟩⟩⟩⟩
  · obtain ⟨i, hi, e⟩ := (mS_bit hu (k := d) (by omega) (by omega)).1 q
    exact (r j hj.1 (by omega)).2 i hi.1 hi.2 (by rw [e, ed'])
  · rw [ej, eu]
    refine ih _ _ ⟨by omega, mS_c (mS_or hu (mS_one (j := d) (by omega))) (fun k k0 k1 => ?_), fun j'' a b => ?_⟩ (by omega)
    · constructor
      · rintro (⟨i, hi, e⟩ | e)
        · exact ⟨i, by omega, e⟩
        · exact ⟨j, by omega, by rw [e, ed']⟩
      · rintro ⟨i, hi, e⟩
        by_cases r : i = j
        · right; rw [← e, r, ed']
        · exact Or.inl ⟨i, by omega, e⟩
    · by_cases r : j'' = j
      · rw [r]
        refine ⟨by omega, fun i i0 i1 e => q ?_⟩
        exact (mS_bit hu (k := d) (by omega) (by omega)).2 ⟨i, by omega, by rw [e, ed']⟩
      · exact hd j'' a (by omega)
theorem T56_named (hO : ∀ u, qOt a b u → u = v → ∃ k, (0 ≤ k ∧ k < 8) ∧ ot k = u) (hp : 0 ≤ qCo a b (qRo ot w) v → post (qCo a b (qRo ot w) v)) (hv : v = 6 ∨ v = 7 ∨ v = a ∨ v = b ∨ qOt a b v) : wpX56_named post a b ot v w := by
  unfold wpX56_named
  unfold qCo at hp
  refine ⟨fun z => ?_, fun z6 => ⟨fun z => ?_, fun z7 => ?_⟩⟩
  · rw [if_pos (Or.inl z)] at hp
    exact hp (by omega)
  · rw [if_pos (Or.inr z)] at hp
    exact hp (by omega)
  rw [if_neg (fun h => h.elim z6 z7)] at hp
  refine ⟨fun z => ?_, fun za => ⟨fun z => ?_, fun zb => ?_⟩⟩
  · rw [if_pos z] at hp
    exact hp (Int.le_refl _)
  · rw [if_neg za, if_pos z] at hp
    exact hp (by decide)
  rw [if_neg za, if_neg zb] at hp
  obtain ⟨q, hq, eq⟩ := hO v ⟨z6, z7, za, zb⟩ rfl
  refine wloop (fun fu j => wX56_named_36 _ v ot fu j) (fun j => (0 ≤ j ∧ j ≤ q) ∧ ∀ i, 0 ≤ i → i < j → ¬ ot i = v) (fun j => (q - j).toNat) ?_ 0 ⟨by omega, fun i i0 i1 => by omega⟩
  rintro j ⟨hj, hno⟩ f ih
  rw [wX56_named_36]
  refine ⟨by omega, fun y => ?_, fun y => ⟨by omega, fun _ e => ?_⟩⟩
  · have ef : fstI (fun k => ot k = v) 8 = j := fstI_u hj.1 (by omega) (fun _ => y) hno
    have db := qDg_b (w := w) (v := j)
    unfold qRo at hp
    rw [ef] at hp
    have hp2 := hp (by omega)
    have e2 : w / 2 ^ (2 * j).toNat % 4 = qDg w j := rfl
    rw [e2]
    exact ⟨by omega, by omega, by omega, hp2⟩
  · rw [e]
    refine ih _ ⟨?_, fun i i0 i1 => ?_⟩ ?_
    · by_cases r : j = q
      · rw [r] at y; exact absurd eq y
      · omega
    · by_cases r : i = j
      · rw [r]; exact y
      · exact hno i i0 (by omega)
    · by_cases r : j = q
      · rw [r] at y; exact absurd eq y
      · omega
end
