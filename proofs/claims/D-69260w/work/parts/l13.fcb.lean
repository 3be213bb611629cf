/-! FacetCountsModel (X53): top, range, sum, changed -/
theorem X53_rankOf {post : Int32 → Prop} {own cl ch has but kept : Nat → Int32} {h v : Nat} (hh : h < 8) (hv : v < 32) (hH : ftH own cl has) (hB : ftB own cl ch but kept) (hp : post (nI (rkV (fcCount own cl ch h) v))) : wpX53_rankOf post has but (nI h) (nI v) := by
  unfold wpX53_rankOf
  have hcl : ∀ w, fcCount own cl ch h w ≤ 40 := fun w => cnt_le _ 40
  refine X53_countOf hh hv hH hB ?_
  refine nloop (fun n (s : Int32 × Int32) => wX53_rankOf_13 (fun x => post x) (nI h) (nI v) (nI (fcCount own cl ch h v)) has but n s.1 s.2) (fun k => (nI (cnt (fun w => bett (fcCount own cl ch h) w v) k), nI k)) 32 (Nat.zero_le 32) (fun n k _ hk ih => ?_) (fun n => ?_)
  · show wX53_rankOf_13 _ (nI h) (nI v) (nI (fcCount own cl ch h v)) has but (n + 1) (nI _) (nI k)
    rw [wX53_rankOf_13]
    dsimp only at ih ⊢
    unfold cnt at ih
    have h1 := hcl k
    have h2 := hcl v
    refine ⟨fun d => absurd d (nI_ge hk (by decide)), fun _ => X53_countOf hh hk hH hB ⟨fun a x ex y ey => ?_, fun a => ⟨fun b => ⟨fun c x ex y ey => ?_, fun c x ex y ey => ?_⟩, fun b x ex y ey => ?_⟩⟩⟩
    · have a := (nI_ltI (by omega) (by omega)).mp a
      have : bett (fcCount own cl ch h) k v = true := by simp only [bett, Bool.or_eq_true, decide_eq_true_eq]; exact Or.inl a
      simp only [this, if_true] at ih
      rw [ex, ey, nI_1, nI_1]; exact ih
    · have b := (nI_eq (by omega) (by omega)).mp b
      have c := (nI_leI (by omega) (by omega)).mp c
      have : bett (fcCount own cl ch h) k v = false := by simp only [bett, Bool.or_eq_false_iff, Bool.and_eq_false_iff, decide_eq_false_iff_not]; omega
      simp only [this, Bool.false_eq_true, if_false, Nat.add_zero] at ih
      rw [ex, ey, i0, nI_1]; exact ih
    · have b := (nI_eq (by omega) (by omega)).mp b
      have c : ¬ v ≤ k := fun q => c (nI_le q (by omega))
      have : bett (fcCount own cl ch h) k v = true := by simp only [bett, Bool.or_eq_true, Bool.and_eq_true, decide_eq_true_eq]; omega
      simp only [this, if_true] at ih
      rw [ex, ey, nI_1, nI_1]; exact ih
    · have a : ¬ fcCount own cl ch h v < fcCount own cl ch h k := fun q => a (nI_lt q (by omega))
      have b : ¬ fcCount own cl ch h k = fcCount own cl ch h v := fun q => b (by rw [q])
      have : bett (fcCount own cl ch h) k v = false := by simp only [bett, Bool.or_eq_false_iff, Bool.and_eq_false_iff, decide_eq_false_iff_not]; omega
      simp only [this, Bool.false_eq_true, if_false, Nat.add_zero] at ih
      rw [ex, ey, i0, nI_1]; exact ih
  · show wX53_rankOf_13 _ (nI h) (nI v) (nI (fcCount own cl ch h v)) has but (n + 1) (nI _) (nI 32)
    rw [wX53_rankOf_13]
    exact ⟨fun _ => hp, fun d => absurd (Int32.le_refl _) d⟩
/-- the value of a rank as a number; -1 -/
def topP (c : Nat → Nat) (k : Nat) (v : Nat) : Bool := decide (0 < c v) && decide (rkV c v = k)
def fcTop (own cl ch : Nat → Int32) (x y : Int32) : Int32 := if rI x 8 && rI y 32 then lfp (topP (fcCount own cl ch x.toNatClampNeg) y.toNatClampNeg) 32 else -1
theorem lfp_none {p : Nat → Bool} : ∀ {n : Nat}, (∀ i, i < n → p i = false) → lfp p n = -1
  | 0, _ => rfl
  | n + 1, h => by unfold lfp; rw [h n (by omega)]; simp; exact lfp_none (fun i hi => h i (by omega))
theorem lfp_uniq {p : Nat → Bool} {v : Nat} : ∀ {n : Nat}, v < n → p v = true → (∀ i, i < n → p i = true → i = v) → lfp p n = nI v
  | 0, h, _, _ => by omega
  | n + 1, h, h1, h2 => by
    unfold lfp
    by_cases e : v = n
    · subst e; rw [h1]; simp
    · have : p n = false := by
        cases z : p n with
        | false => rfl
        | true => exact absurd (h2 n (by omega) z).symm e
      rw [this]; simp
      exact lfp_uniq (by omega) h1 (fun i hi => h2 i (by omega))
theorem topIs_eq {c : Nat → Nat} {k : Nat} {r : Int32} (h : topIs c k r) : r = lfp (topP c k) 32 := by
  rcases h with ⟨v, hv, h0, h1, e⟩ | ⟨h1, e⟩
  · rw [e, lfp_uniq hv (by simp [topP, h0, h1]) (fun i hi q => ?_)]
    simp only [topP, Bool.and_eq_true, decide_eq_true_eq] at q
    exact rkV_inj (c := c) hi hv (by omega)
  · rw [e, lfp_none (fun i hi => ?_)]
    simp only [topP, Bool.and_eq_false_iff, decide_eq_false_iff_not]
    rcases Nat.eq_zero_or_pos (c i) with q | q
    · exact Or.inl (by omega)
    · exact Or.inr (h1 i hi q)
theorem rkV_32 (c : Nat → Nat) {v : Nat} (hv : v < 32) : rkV c v < 32 := by
  have := cnt_lt (p := fun w => bett c w v) (q := fun _ => true) (k := v) (n := 32) (fun _ _ _ => rfl) hv (bett_irr c v) rfl
  have h2 := cnt_le (fun _ : Nat => true) 32
  unfold rkV; omega
theorem X31_topF {post : Int32 → Prop} {own cl ch fl cn : Nat → Int32} {x y : Int32} (hI : fcI own cl ch fl cn) (hp : post (fcTop own cl ch x y)) : wpX31_top post cn x y := by
  unfold fcTop at hp
  refine X31_top hI (fun h => ?_) (fun h k r hh hk ex ey ht => ?_)
  · rw [if_neg h] at hp; exact hp
  · subst ex; subst ey
    rw [rI_n hh (by decide), rI_n hk (by decide), nI_clamp (by omega), nI_clamp (by omega)] at hp
    rw [topIs_eq ht]; exact hp
theorem X53_t24 {K : Int32 → Prop} {K0 : Prop} {own cl ch has but kept : Nat → Int32} {h : Nat} {y : Int32} (hh : h < 8) (hH : ftH own cl has) (hB : ftB own cl ch but kept)
    (h1 : ∀ v, v < 32 → 0 < fcCount own cl ch h v → nI (rkV (fcCount own cl ch h) v) = y → K (nI v)) (h0 : (∀ v, v < 32 → 0 < fcCount own cl ch h v → ¬ nI (rkV (fcCount own cl ch h) v) = y) → K0) : ∃ fu, wX53_top_24 K K0 (nI h) y has but fu 0 := by
  have hcl : ∀ w, fcCount own cl ch h w ≤ 40 := fun w => cnt_le _ 40
  have key : ∀ d m, m + d = 32 → (∀ v, v < m → 0 < fcCount own cl ch h v → ¬ nI (rkV (fcCount own cl ch h) v) = y) → wX53_top_24 K K0 (nI h) y has but (d + 1) (nI m) := by
    intro d
    induction d with
    | zero =>
      intro m hm hI
      have : m = 32 := by omega
      subst this
      rw [wX53_top_24]
      exact ⟨fun _ => h0 hI, fun q => absurd (Int32.le_refl _) q⟩
    | succ d ih =>
      intro m hm hI
      have hm32 : m < 32 := by omega
      rw [wX53_top_24]
      have hc := hcl m
      have go : ∀ x, x = nI m + 1 → (0 < fcCount own cl ch h m → ¬ nI (rkV (fcCount own cl ch h) m) = y) → wX53_top_24 K K0 (nI h) y has but (d + 1) x := by
        intro x ex hq
        rw [ex, nI_1]
        refine ih (m + 1) (by omega) (fun v hv q => ?_)
        by_cases e : v = m
        · subst e; exact hq q
        · exact hI v (by omega) q
      refine ⟨fun q => absurd q (nI_ge hm32 (by decide)), fun _ => X53_countOf hh hm32 hH hB ⟨fun a x ex => go x ex (fun q => ?_), fun a => X53_rankOf hh hm32 hH hB ⟨fun b => h1 m hm32 ?_ b, fun b x ex => go x ex (fun _ => b)⟩⟩⟩
      · have := (nI_leI (a := fcCount own cl ch h m) (b := 0) (by omega) (by omega)).mp a; omega
      · rcases Nat.eq_zero_or_pos (fcCount own cl ch h m) with q | q
        · exact absurd (by rw [q]; exact Int32.le_refl _) a
        · exact q
  exact ⟨33, key 32 0 (by omega) (fun v hv => by omega)⟩
section FT
variable {own th hd vl up cl ch ch2 has but kept : Nat → Int32} {n : Nat} {fr : Int32}
theorem X53_top {post : Int32 → Int32 → Int32 → (Nat → Int32) → (Nat → Int32) → (Nat → Int32) → Prop} {x y : Int32} (H : ftR own th hd vl n) (hO : upOK up) (hE : clE up cl) (hC : chT ch ch2) (hF : ftF own cl ch fr has but kept)
    (hp : ∀ fr' has' but' kept', ftF own cl ch fr' has' but' kept' → post (fcTop own cl ch x y) 0 fr' has' but' kept') : wpX53_top post (nI n) th hd vl up ch2 fr has but kept x y := by
  unfold wpX53_top
  refine X53_reckon H hO hE hC hF (fun a b c h1 h2 => ?_)
  have hp := hp 1 a b c (Or.inr ⟨rfl, h1, h2⟩)
  unfold fcTop at hp
  refine X53_isHead (fun h hh e => ⟨fun q => absurd q (by decide), fun _ => ?_⟩) (fun h => ⟨fun _ => ?_, fun q => absurd rfl q⟩)
  · subst e
    rw [rI_n hh (by decide), nI_clamp (by omega), Bool.true_and] at hp
    refine ⟨fun d => X53_t24 hh h1 h2 (fun v hv q1 q2 => ?_) (fun q => ?_), fun d => ?_⟩
    · have := rkV_32 (fcCount own cl ch h) hv
      have hr : rI y 32 = true := by rw [← q2]; exact rI_n this (by decide)
      rw [hr] at hp
      simp only [if_true] at hp
      rw [lfp_uniq hv (by rw [← q2, nI_clamp (by omega)]; simp [topP, q1]) (fun i hi z => ?_)] at hp
      · exact hp
      · rw [← q2, nI_clamp (by omega)] at z
        simp only [topP, Bool.and_eq_true, decide_eq_true_eq] at z
        exact rkV_inj hi hv z.2
    · by_cases hr : rI y 32 = true
      · rw [hr] at hp
        simp only [if_true] at hp
        obtain ⟨k, hk, e⟩ := rI_t (by decide) hr
        rw [lfp_none (fun i hi => ?_)] at hp
        · exact hp
        · rw [e, nI_clamp (by omega)]
          simp only [topP, Bool.and_eq_false_iff, decide_eq_false_iff_not]
          rcases Nat.eq_zero_or_pos (fcCount own cl ch h i) with z | z
          · exact Or.inl (by omega)
          · exact Or.inr (fun w => q i hi z (by rw [w, e]))
      · rw [if_neg hr] at hp; exact hp
    · have : rI y 32 = false := rI_f (by decide) (fun ⟨v, hv, e⟩ => d (by rw [e]; exact nI_pos' (by omega)))
      rw [this] at hp; exact hp
  · rw [rI_f (x := x) (by decide) h] at hp; exact hp
theorem X53_rg37 {K : Int32 → Prop} {h t : Nat} {a b : Int32} (hh : h < 8) (ht : t < 40) (hH : ftH own cl has) (hp : K (b2i (!decide (hasC own cl t h &&& spanB a b 32 = 0)))) : ∃ fu, wX53_range_37 K (nI h) a b (nI t) has fu 0 0 := by
  have ep : (!decide (hasC own cl t h &&& spanB a b 32 = 0)) = anyB (fun v => (decide (a ≤ nI v) && decide (nI v ≤ b)) && bt (hasC own cl t h) v) 32 := by
    rw [Bool.eq_iff_iff, anyB_iff, Bool.not_eq_true', decide_eq_false_iff_not, bt_zero]
    constructor
    · intro q
      have q : ∃ i, i < 32 ∧ ¬ bt (hasC own cl t h &&& spanB a b 32) i = false := by
        apply Classical.byContradiction
        intro w
        exact q (fun i hi => Classical.byContradiction (fun z => w ⟨i, hi, z⟩))
      obtain ⟨i, hi, q⟩ := q
      refine ⟨i, hi, ?_⟩
      rw [b_and, spanB_bt a b hi 32 (Nat.le_refl _)] at q
      simp [hi] at q ⊢
      exact ⟨q.2, q.1⟩
    · rintro ⟨i, hi, q⟩ w
      have := w i hi
      rw [b_and, spanB_bt a b hi 32 (Nat.le_refl _)] at this
      simp [hi] at this q
      exact absurd (this q.2 q.1.1) (by have := q.1.2; grind)
  rw [ep] at hp
  refine nloop (fun n (s : Int32 × Int32) => wX53_range_37 K (nI h) a b (nI t) has n s.1 s.2) (fun k => (b2i (anyB (fun v => (decide (a ≤ nI v) && decide (nI v ≤ b)) && bt (hasC own cl t h) v) k), nI k)) 32 (Nat.zero_le 32) (fun n k _ hk ih => ?_) (fun n => ?_)
  · show wX53_range_37 K (nI h) a b (nI t) has (n + 1) _ (nI k)
    rw [wX53_range_37]
    dsimp only at ih ⊢
    simp only [b2i_0, Bool.not_eq_false]
    unfold anyB at ih
    refine ⟨fun d => absurd d (nI_ge hk (by decide)), fun _ => ⟨fun c => ⟨fun d x ex => ?_, fun d => ⟨fun f x ex => ?_, fun f => ?_⟩⟩, fun c x ex => ?_⟩⟩
    · have : decide (a ≤ nI k) = false := by simp; grind
      rw [this, c] at ih
      rw [ex, nI_1]; exact ih
    · have : decide (nI k ≤ b) = false := by simp; grind
      rw [this, c, Bool.and_false] at ih
      rw [ex, nI_1]; exact ih
    · have g1 : decide (a ≤ nI k) = true := by simp; grind
      have g2 : decide (nI k ≤ b) = true := by simp; grind
      rw [g1, g2, c] at ih
      unfold wpX53_place
      rw [i256]
      dsimp only
      rw [nI_clamp (show 256 * t + 32 * h + k < 2 ^ 31 by omega), hH t h k ht hh hk]
      refine ⟨vp_in_nI (by omega) (by decide), fun z x ex => ?_, fun z x ex => ?_⟩
      · have z : bt (hasC own cl t h) k = false := by
          cases w : bt (hasC own cl t h) k with
          | false => rfl
          | true => rw [w] at z; simp at z
        rw [z] at ih
        rw [ex, nI_1]; exact ih
      · have z : bt (hasC own cl t h) k = true := by
          cases w : bt (hasC own cl t h) k with
          | true => rfl
          | false => rw [w] at z; simp at z
        rw [z] at ih
        rw [ex, nI_1]; exact ih
    · rw [c, Bool.true_or] at ih
      rw [ex, nI_1]; exact ih
  · show wX53_range_37 K (nI h) a b (nI t) has (n + 1) _ (nI 32)
    rw [wX53_range_37]
    exact ⟨fun _ => hp, fun d => absurd (Int32.le_refl _) d⟩
theorem X53_range {post : Int32 → Int32 → Int32 → (Nat → Int32) → (Nat → Int32) → (Nat → Int32) → Prop} {x y z : Int32} (H : ftR own th hd vl n) (hO : upOK up) (hE : clE up cl) (hC : chT ch ch2) (hF : ftF own cl ch fr has but kept)
    (hp : ∀ fr' has' but' kept', ftF own cl ch fr' has' but' kept' → post (fcRange own cl ch x y z) 0 fr' has' but' kept') : wpX53_range post (nI n) th hd vl up ch2 fr has but kept x y z := by
  unfold wpX53_range
  refine X53_reckon H hO hE hC hF (fun a b c h1 h2 => ?_)
  have hp := hp 1 a b c (Or.inr ⟨rfl, h1, h2⟩)
  unfold fcRange at hp
  refine X53_isHead (fun h hh e => ⟨fun q => absurd q (by decide), fun _ => ?_⟩) (fun h => ⟨fun _ => ?_, fun q => absurd rfl q⟩)
  · subst e
    rw [rI_n hh (by decide), nI_clamp (by omega)] at hp
    simp only [if_true] at hp
    refine nloop (fun m (s : Int32 × Int32) => wX53_range_24 _ (nI h) y z a b m s.1 s.2) (fun k => (nI (cnt (fun t => fbut own cl ch t h && !decide (hasC own cl t h &&& spanB y z 32 = 0)) k), nI k)) 40 (Nat.zero_le 40) (fun m k _ hk ih => ?_) (fun m => ?_)
    · show wX53_range_24 _ (nI h) y z a b (m + 1) (nI _) (nI k)
      rw [wX53_range_24]
      dsimp only at ih ⊢
      unfold cnt at ih
      refine ⟨fun d => absurd d (nI_ge hk (by decide)), fun _ => X53_rg37 hh hk h1 ?_⟩
      rw [i8, nI_clamp (show 8 * k + h < 2 ^ 31 by omega), h2.1 k h hk hh]
      simp only [b2i_0, Bool.not_eq_false]
      refine ⟨fun q x ex w ew => ?_, fun q => ⟨vp_in_nI (by omega) (by decide), fun r x ex w ew => ?_, fun r x ex w ew => ?_⟩⟩
      · simp only [q, Bool.and_false, Bool.false_eq_true, if_false, Nat.add_zero] at ih
        rw [ex, ew, i0, nI_1]; exact ih
      · simp only [r, Bool.false_and, Bool.false_eq_true, if_false, Nat.add_zero] at ih
        rw [ex, ew, i0, nI_1]; exact ih
      · simp only [q, r, Bool.and_true, if_true] at ih
        rw [ex, ew, nI_1, nI_1]; exact ih
    · show wX53_range_24 _ (nI h) y z a b (m + 1) (nI _) (nI 40)
      rw [wX53_range_24]
      exact ⟨fun _ => hp, fun d => absurd (Int32.le_refl _) d⟩
  · rw [rI_f (x := x) (by decide) h] at hp; exact hp
end FT
