/-! QlRewrite (room QR): the draft, its small methods */ -/
def qcL : Nat → Nat
  | 3 => 8 | 6 => 8 | _ => 4
/-- the draft x; its arrays: 0 names, 1 from, 2 to, 3 others, 4 codes, 5 least, 6 named -/
def qcD (kd an : Nat → Nat) (ns fs ts os cs ls ds : Nat → Option Nat) (x : Nat) (P : Nat → Nat) : Prop := kd x = 2 ∧ (ns x = some (P 0) ∧ fs x = some (P 1) ∧ ts x = some (P 2) ∧ os x = some (P 3) ∧ cs x = some (P 4) ∧ ls x = some (P 5) ∧ ds x = some (P 6)) ∧ (∀ i, i < 7 → kd (P i) = 5 ∧ an (P i) = qcL i) ∧ ∀ i j, i < 7 → j < 7 → i ≠ j → P i ≠ P j
/-- only the draft's arrays lo .. hi - 1 change -/
def qcG (P : Nat → Nat) (lo hi : Nat) (ai ai' : Nat → Int → Int) : Prop := ∀ b, (∀ i, lo ≤ i → i < hi → b ≠ P i) → ai' b = ai b
section
variable {P : Nat → Nat} {lo hi lo' hi' i : Nat} {ai ai' ai'' : Nat → Int → Int} {f : Int → Int}
theorem qcG.refl : qcG P lo hi ai ai := fun _ _ => rfl
theorem qcG.tr (h : qcG P lo hi ai ai') (g : qcG P lo hi ai' ai'') : qcG P lo hi ai ai'' := fun b hb => (g b hb).trans (h b hb)
theorem qcG.wd (h : qcG P lo hi ai ai') (h1 : lo' ≤ lo) (h2 : hi ≤ hi') : qcG P lo' hi' ai ai' := fun b hb => h b (fun i a c => hb i (by omega) (by omega))
theorem qcG.up (h1 : lo ≤ i) (h2 : i < hi) : qcG P lo hi ai (va_up ai (P i) f) := fun b hb => va_up_ne _ _ (hb i h1 h2)
theorem qcG.o (h : qcG P lo hi ai ai') (hNe : ∀ i j, i < 7 → j < 7 → i ≠ j → P i ≠ P j) (hi7 : i < 7) (hhi : hi ≤ 7) (ho : i < lo ∨ hi ≤ i) : ai' (P i) = ai (P i) := h _ (fun j a b => hNe i j hi7 (by omega) (by omega))
end
/-- an atom goes: those behind it move down -/
theorem qS0.drop {a b n k j : Int} {T0 : qA → Prop} {nm fr to nm' fr' to' : Int → Int} (S : qS0 a b T0 nm fr to n) (hk : k < n) (hj : 0 ≤ j ∧ j < k) (e : (nm j, fr j, to j) = (nm k, fr k, to k)) (h : ∀ i, 0 ≤ i → i < n - 1 → (nm' i, fr' i, to' i) = if i < k then (nm i, fr i, to i) else (nm (i + 1), fr (i + 1), to (i + 1))) : qS0 a b T0 nm' fr' to' (n - 1) := by
  obtain ⟨hn, m, V, S1, S2⟩ := S
  refine ⟨by omega, m, V, S1, fun t => ?_⟩
  rw [← S2]
  constructor
  · rintro ⟨i, hi, rfl⟩
    rw [h i hi.1 hi.2]
    by_cases z : i < k
    · rw [if_pos z]; exact ⟨i, by omega, rfl⟩
    · rw [if_neg z]; exact ⟨i + 1, by omega, rfl⟩
  · rintro ⟨i, hi, rfl⟩
    by_cases z : i < k
    · exact ⟨i, by omega, by rw [h i hi.1 (by omega), if_pos z]⟩
    · by_cases y : i = k
      · exact ⟨j, by omega, by rw [h j hj.1 (by omega), if_pos hj.2, e, y]⟩
      · refine ⟨i - 1, by omega, ?_⟩
        rw [h (i - 1) (by omega) (by omega), if_neg (by omega), show i - 1 + 1 = i by omega]
theorem qMs_le {fr to : Int → Int} {n : Int} (hn : 0 ≤ n) : qMs fr to n ≤ 3 * n ∧ n ≤ qMs fr to n := by
  unfold qMs
  have a1 := cntI_b (fun k => ¬ fr k = 6) n.toNat
  have a2 := cntI_b (fun k => ¬ to k = 6) n.toNat
  omega
section
variable {kd : Nat → Nat} {an : Nat → Nat} {ai : Nat → Int → Int} {al : Nat → Int → Int} {ar : Nat → Int → Option Nat} {mX40_kinds : Nat → Option Nat} {mX40_lefts : Nat → Option Nat} {mX40_rights : Nat → Option Nat} {mX40_axioms : Nat → Int} {mX40_classFacts : Nat → Option Nat} {mX40_roleFacts : Nat → Option Nat} {mX40_facts : Nat → Int} {mX40_draft : Nat → Option Nat} {mX40_questions : Nat → Option Nat} {mX40_questionCount : Nat → Int} {mX40_forbidden : Nat → Option Nat} {mX40_given : Nat → Option Nat} {mX41_first : Nat → Int} {mX41_second : Nat → Int} {mX41_names : Nat → Option Nat} {mX41_from : Nat → Option Nat} {mX41_to : Nat → Option Nat} {mX41_n : Nat → Int} {mX41_codes : Nat → Option Nat} {mX41_least : Nat → Option Nat} {mX41_hasLeast : Nat → Int} {mX41_others : Nat → Option Nat} {mX41_otherCount : Nat → Int} {mX41_named : Nat → Option Nat} {mX62_answers : Nat → Int} {mX62_names : Nat → Option Nat} {mX62_from : Nat → Option Nat} {mX62_to : Nat → Option Nat} {mX62_n : Nat → Int} {mX62_forms : Nat → Option Nat} {mX62_count : Nat → Int} {mX62_large : Nat → Int} {mX62_known : Nat → Int} {mX85_first : Nat → Int} {mX85_second : Nat → Int} {mX85_codes : Nat → Option Nat} {x : Nat} {P : Nat → Nat} {n k v : Int}
theorem CQR_isVarB {A B : Prop} (h1 : ¬ v = 6 → ¬ v = 7 → B) (h0 : v = 6 ∨ v = 7 → A) : wpQR_X41_isVariable (fun r => (r = 0 → A) ∧ (¬ r = 0 → B)) v := by
  unfold wpQR_X41_isVariable
  exact ⟨fun z => ⟨fun _ => h0 (Or.inl z), fun w => absurd rfl w⟩, fun z => ⟨fun y => ⟨fun _ => h0 (Or.inr y), fun w => absurd rfl w⟩, fun y => ⟨fun w => absurd w (by decide), fun _ => h1 z y⟩⟩⟩
theorem CQR_many {post : Int → Prop} (D : qcD kd an mX41_names mX41_from mX41_to mX41_others mX41_codes mX41_least mX41_named x P) (n4 : 0 ≤ mX41_n x ∧ mX41_n x ≤ 4) (hp : post (qTm (ai (P 1)) (ai (P 2)) v (mX41_n x).toNat)) : wpQR_X41_many post kd an ai mX41_from mX41_to mX41_n x v := by
  obtain ⟨kx, ⟨eN, eF, eT, eO, eC, eL, eM⟩, hKd, hNe⟩ := D
  obtain ⟨k0, a0⟩ := hKd 0 (by decide)
  obtain ⟨k1, a1⟩ := hKd 1 (by decide)
  obtain ⟨k2, a2⟩ := hKd 2 (by decide)
  obtain ⟨k3, a3⟩ := hKd 3 (by decide)
  obtain ⟨k4, a4⟩ := hKd 4 (by decide)
  obtain ⟨k5, a5⟩ := hKd 5 (by decide)
  obtain ⟨k6, a6⟩ := hKd 6 (by decide)
  have a0 : an (P 0) = 4 := a0
  have a1 : an (P 1) = 4 := a1
  have a2 : an (P 2) = 4 := a2
  have a3 : an (P 3) = 8 := a3
  have a4 : an (P 4) = 4 := a4
  have a5 : an (P 5) = 4 := a5
  have a6 : an (P 6) = 8 := a6
  unfold wpQR_X41_many
  refine wl2 (fun fu m k => wQR_X41_many_4 _ x v kd an ai mX41_from mX41_to mX41_n fu m k) (fun m k => (0 ≤ k ∧ k ≤ mX41_n x) ∧ m = qTm (ai (P 1)) (ai (P 2)) v k.toNat) (fun _ k => (mX41_n x - k).toNat) ?_ 0 0 ⟨by omega, rfl⟩
  rintro m k ⟨hk, rfl⟩ f ih
  rw [wQR_X41_many_4]
  have tb := qTm_b (fr := ai (P 1)) (to := ai (P 2)) (v := v) k.toNat
  have ek : ((k.toNat : Nat) : Int) = k := by omega
  have e : qTm (ai (P 1)) (ai (P 2)) v (k + 1).toNat = qTm (ai (P 1)) (ai (P 2)) v k.toNat + (if ai (P 1) k = v then 1 else 0) + (if ai (P 2) k = v then 1 else 0) := by
    rw [show (k + 1).toNat = k.toNat + 1 by omega, qTm, ek]
  unfold wQR_X41_many_28
  refine ⟨fun z => by rw [show k.toNat = (mX41_n x).toNat by omega]; exact hp, fun z => kOn_of eF ⟨k1, by rw [a1]; omega, fun p => kOn_of eT ⟨k2, by rw [a2]; omega, fun q => ⟨by omega, fun _ e2 => ⟨by omega, fun _ e3 => ?_⟩⟩, fun q => ⟨by omega, fun _ e2 => ⟨by omega, fun _ e3 => ?_⟩⟩⟩, fun p => kOn_of eT ⟨k2, by rw [a2]; omega, fun q => ⟨by omega, fun _ e2 => ⟨by omega, fun _ e3 => ?_⟩⟩, fun q => ⟨by omega, fun _ e2 => ⟨by omega, fun _ e3 => ?_⟩⟩⟩⟩⟩
  · rw [e3, e2]
    rw [if_pos p, if_pos q] at e
    exact ih _ _ ⟨by omega, by omega⟩ (by omega)
  · rw [e3, e2]
    rw [if_pos p, if_neg q] at e
    exact ih _ _ ⟨by omega, by omega⟩ (by omega)
  · rw [e3, e2]
    rw [if_neg p, if_pos q] at e
    exact ih _ _ ⟨by omega, by omega⟩ (by omega)
  · rw [e3, e2]
    rw [if_neg p, if_neg q] at e
    exact ih _ _ ⟨by omega, by omega⟩ (by omega)
theorem CQR_isLonelyB {A B : Prop} (D : qcD kd an mX41_names mX41_from mX41_to mX41_others mX41_codes mX41_least mX41_named x P) (n4 : 0 ≤ mX41_n x ∧ mX41_n x ≤ 4) (h1 : qOt (mX41_first x) (mX41_second x) v → qTm (ai (P 1)) (ai (P 2)) v (mX41_n x).toNat = 1 → B) (h0 : (qOt (mX41_first x) (mX41_second x) v → ¬ qTm (ai (P 1)) (ai (P 2)) v (mX41_n x).toNat = 1) → A) : wpQR_X41_isLonely (fun r => (r = 0 → A) ∧ (¬ r = 0 → B)) kd an ai mX41_first mX41_second mX41_from mX41_to mX41_n x v := by
  have no : (qOt (mX41_first x) (mX41_second x) v → ¬ qTm (ai (P 1)) (ai (P 2)) v (mX41_n x).toNat = 1) → ((0 : Int) = 0 → A) ∧ (¬ (0 : Int) = 0 → B) := fun h => ⟨fun _ => h0 h, fun z => absurd rfl z⟩
  unfold wpQR_X41_isLonely
  exact CQR_isVarB (fun z6 z7 => ⟨fun za => no (fun h => absurd za h.2.2.1), fun za => ⟨fun zb => no (fun h => absurd zb h.2.2.2), fun zb => CQR_many D n4 ⟨fun q => ⟨fun w => absurd w (by decide), fun _ => h1 ⟨z6, z7, za, zb⟩ q⟩, fun q => no (fun _ => q)⟩⟩⟩) (fun z => no (fun h => z.elim (fun w => absurd w h.1) (fun w => absurd w h.2.1)))
theorem CQR_freesOne {post : Int → (Nat → Int → Int) → Prop} (D : qcD kd an mX41_names mX41_from mX41_to mX41_others mX41_codes mX41_least mX41_named x P) (n4 : 0 ≤ mX41_n x ∧ mX41_n x ≤ 4) (h0 : (∀ i, 0 ≤ i → i < mX41_n x → qNl (mX41_first x) (mX41_second x) (ai (P 1)) (ai (P 2)) (mX41_n x) i) → post 0 ai)
  (hF : ∀ k, 0 ≤ k → k < mX41_n x → qOt (mX41_first x) (mX41_second x) (ai (P 1) k) → qTm (ai (P 1)) (ai (P 2)) (ai (P 1) k) (mX41_n x).toNat = 1 → post 1 (va_up ai (P 1) (updI (ai (P 1)) k 6)))
  (hT : ∀ k, 0 ≤ k → k < mX41_n x → qOt (mX41_first x) (mX41_second x) (ai (P 2) k) → qTm (ai (P 1)) (ai (P 2)) (ai (P 2) k) (mX41_n x).toNat = 1 → post 1 (va_up ai (P 2) (updI (ai (P 2)) k 6))) : wpQR_X41_freesOne post kd an ai mX41_first mX41_second mX41_from mX41_to mX41_n x := by
  have D' := D
  obtain ⟨kx, ⟨eN, eF, eT, eO, eC, eL, eM⟩, hKd, hNe⟩ := D
  obtain ⟨k0, a0⟩ := hKd 0 (by decide)
  obtain ⟨k1, a1⟩ := hKd 1 (by decide)
  obtain ⟨k2, a2⟩ := hKd 2 (by decide)
  obtain ⟨k3, a3⟩ := hKd 3 (by decide)
  obtain ⟨k4, a4⟩ := hKd 4 (by decide)
  obtain ⟨k5, a5⟩ := hKd 5 (by decide)
  obtain ⟨k6, a6⟩ := hKd 6 (by decide)
  have a0 : an (P 0) = 4 := a0
  have a1 : an (P 1) = 4 := a1
  have a2 : an (P 2) = 4 := a2
  have a3 : an (P 3) = 8 := a3
  have a4 : an (P 4) = 4 := a4
  have a5 : an (P 5) = 4 := a5
  have a6 : an (P 6) = 8 := a6
  unfold wpQR_X41_freesOne
  have KF : ∀ k, 0 ≤ k → k < mX41_n x → qOt (mX41_first x) (mX41_second x) (ai (P 1) k) → qTm (ai (P 1)) (ai (P 2)) (ai (P 1) k) (mX41_n x).toNat = 1 → kOn (mX41_from x) (fun b => kd b = 5 ∧ ((0 ≤ k ∧ k < (an b : Int)) ∧ (∀ ai_22 : Nat → Int → Int, ai_22 = va_up ai b (updI (ai b) k 6) → ((post 1 ai_22))))) := fun k g0 g1 g2 g3 => kOn_of eF ⟨k1, by rw [a1]; omega, fun _ e => by rw [e]; exact hF k g0 g1 g2 g3⟩
  have KT : ∀ k, 0 ≤ k → k < mX41_n x → qOt (mX41_first x) (mX41_second x) (ai (P 2) k) → qTm (ai (P 1)) (ai (P 2)) (ai (P 2) k) (mX41_n x).toNat = 1 → kOn (mX41_to x) (fun b => kd b = 5 ∧ ((0 ≤ k ∧ k < (an b : Int)) ∧ (∀ ai_22 : Nat → Int → Int, ai_22 = va_up ai b (updI (ai b) k 6) → ((post 1 ai_22))))) := fun k g0 g1 g2 g3 => kOn_of eT ⟨k2, by rw [a2]; omega, fun _ e => by rw [e]; exact hT k g0 g1 g2 g3⟩
  refine wloop (fun fu k => wQR_X41_freesOne_2 _ _ _ x kd an ai mX41_first mX41_second mX41_from mX41_to mX41_n fu k) (fun k => (0 ≤ k ∧ k ≤ mX41_n x) ∧ ∀ i, 0 ≤ i → i < k → qNl (mX41_first x) (mX41_second x) (ai (P 1)) (ai (P 2)) (mX41_n x) i) (fun k => (mX41_n x - k).toNat) ?_ 0 ⟨by omega, fun i i0 i1 => by omega⟩
  rintro k ⟨hk, hno⟩ f ih
  rw [wQR_X41_freesOne_2]
  refine ⟨fun z => h0 (fun i i0 i1 => hno i i0 (by omega)), fun z => kOn_of eF ⟨k1, by rw [a1]; omega, CQR_isLonelyB D' n4 (fun g2 g3 => KF k hk.1 (by omega) g2 g3) (fun g => kOn_of eT ⟨k2, by rw [a2]; omega, CQR_isLonelyB D' n4 (fun g2 g3 => KT k hk.1 (by omega) g2 g3) (fun g' => ⟨by omega, fun _ e => ?_⟩)⟩)⟩⟩
  rw [e]
  refine ih _ ⟨by omega, fun i i0 i1 => ?_⟩ (by omega)
  by_cases y : i = k
  · rw [y]; exact ⟨g, g'⟩
  · exact hno i i0 (by omega)
theorem CQR_drop {post : (Nat → Int → Int) → (Nat → Int) → Prop} (D : qcD kd an mX41_names mX41_from mX41_to mX41_others mX41_codes mX41_least mX41_named x P) (n4 : mX41_n x ≤ 4) (hk : 0 ≤ k ∧ k < mX41_n x) (hp : ∀ ai' n', qcG P 0 3 ai ai' → n' x = mX41_n x - 1 → (∀ i, 0 ≤ i → i < mX41_n x - 1 → (ai' (P 0) i, ai' (P 1) i, ai' (P 2) i) = if i < k then (ai (P 0) i, ai (P 1) i, ai (P 2) i) else (ai (P 0) (i + 1), ai (P 1) (i + 1), ai (P 2) (i + 1))) → post ai' n') : wpQR_X41_drop post kd an ai mX41_names mX41_from mX41_to mX41_n x k := by
  obtain ⟨kx, ⟨eN, eF, eT, eO, eC, eL, eM⟩, hKd, hNe⟩ := D
  obtain ⟨k0, a0⟩ := hKd 0 (by decide)
  obtain ⟨k1, a1⟩ := hKd 1 (by decide)
  obtain ⟨k2, a2⟩ := hKd 2 (by decide)
  obtain ⟨k3, a3⟩ := hKd 3 (by decide)
  obtain ⟨k4, a4⟩ := hKd 4 (by decide)
  obtain ⟨k5, a5⟩ := hKd 5 (by decide)
  obtain ⟨k6, a6⟩ := hKd 6 (by decide)
  have a0 : an (P 0) = 4 := a0
  have a1 : an (P 1) = 4 := a1
  have a2 : an (P 2) = 4 := a2
  have a3 : an (P 3) = 8 := a3
  have a4 : an (P 4) = 4 := a4
  have a5 : an (P 5) = 4 := a5
  have a6 : an (P 6) = 8 := a6
  unfold wpQR_X41_drop
  refine ⟨by omega, fun w ew n' en => ?_⟩
  have nx : n' x = mX41_n x - 1 := by rw [en, va_up_self, ew]
  refine wl2 (fun fu i ai' => wQR_X41_drop_12 _ x kd an mX41_names mX41_from mX41_to (n') fu i ai') (fun i ai' => (k ≤ i ∧ i ≤ mX41_n x - 1) ∧ qcG P 0 3 ai ai' ∧ ∀ j, (ai' (P 0) j, ai' (P 1) j, ai' (P 2) j) = if k ≤ j ∧ j < i then (ai (P 0) (j + 1), ai (P 1) (j + 1), ai (P 2) (j + 1)) else (ai (P 0) j, ai (P 1) j, ai (P 2) j)) (fun i _ => (mX41_n x - i).toNat) ?_ k ai ⟨by omega, qcG.refl, fun j => by rw [if_neg (by omega)]⟩
  rintro i ai1 ⟨hi, G, hJ⟩ f ih
  rw [wQR_X41_drop_12, nx]
  refine ⟨fun z => hp _ _ G nx (fun j j0 j1 => ?_), fun z => kOn_of eN ⟨k0, by rw [a0]; omega, by omega, fun v0 ev0 => ⟨by rw [a0]; omega, fun ai2 e2 => kOn_of eF ⟨k1, by rw [a1]; omega, fun v1 ev1 => ⟨by rw [a1]; omega, fun ai3 e3 => kOn_of eT ⟨k2, by rw [a2]; omega, fun v2 ev2 => ⟨by rw [a2]; omega, fun ai4 e4 i' ei => ?_⟩⟩⟩⟩⟩⟩⟩
  · rw [hJ j]
    by_cases y : j < k
    · rw [if_neg (by omega), if_pos y]
    · rw [if_pos (by omega), if_neg y]
  · rw [ei]
    have n10 := hNe 1 0 (by decide) (by decide) (by decide)
    have n20 := hNe 2 0 (by decide) (by decide) (by decide)
    have n21 := hNe 2 1 (by decide) (by decide) (by decide)
    have n01 := hNe 0 1 (by decide) (by decide) (by decide)
    have n02 := hNe 0 2 (by decide) (by decide) (by decide)
    have n12 := hNe 1 2 (by decide) (by decide) (by decide)
    have r0 : ai4 (P 0) = updI (ai1 (P 0)) i (ai1 (P 0) (i + 1)) := by
      rw [e4, va_up_ne _ _ n02, e3, va_up_ne _ _ n01, e2, va_up_self, ev0]
    have r1 : ai4 (P 1) = updI (ai1 (P 1)) i (ai1 (P 1) (i + 1)) := by
      rw [e4, va_up_ne _ _ n12, e3, va_up_self, ev1, e2, va_up_ne _ _ n10]
    have r2 : ai4 (P 2) = updI (ai1 (P 2)) i (ai1 (P 2) (i + 1)) := by
      rw [e4, va_up_self, ev2, e3, va_up_ne _ _ n21, e2, va_up_ne _ _ n20]
    have q := hJ (i + 1)
    rw [if_neg (by omega)] at q
    refine ih _ _ ⟨by omega, ?_, fun j => ?_⟩ (by omega)
    · rw [e4, e3, e2]
      exact ((G.tr (qcG.up (i := 0) (by decide) (by decide))).tr (qcG.up (i := 1) (by decide) (by decide))).tr (qcG.up (i := 2) (by decide) (by decide))
    · rw [r0, r1, r2, updI_e, updI_e, updI_e]
      by_cases y : j = i
      · rw [if_pos y, if_pos y, if_pos y, if_pos (by omega), q, y]
      · rw [if_neg y, if_neg y, if_neg y, hJ j]
        by_cases w : k ≤ j ∧ j < i
        · rw [if_pos w, if_pos (by omega)]
        · rw [if_neg w, if_neg (by omega)]
theorem CQR_dropsEqual {post : Int → (Nat → Int → Int) → (Nat → Int) → Prop} (D : qcD kd an mX41_names mX41_from mX41_to mX41_others mX41_codes mX41_least mX41_named x P) (n4 : 0 ≤ mX41_n x ∧ mX41_n x ≤ 4) (h0 : (∀ i j, 0 ≤ j → j < i → i < mX41_n x → ¬ (ai (P 0) j, ai (P 1) j, ai (P 2) j) = (ai (P 0) i, ai (P 1) i, ai (P 2) i)) → post 0 ai mX41_n)
  (h1 : ∀ k j ai' n', (0 ≤ j ∧ j < k) → k < mX41_n x → (ai (P 0) j, ai (P 1) j, ai (P 2) j) = (ai (P 0) k, ai (P 1) k, ai (P 2) k) → qcG P 0 3 ai ai' → n' x = mX41_n x - 1 → (∀ i, 0 ≤ i → i < mX41_n x - 1 → (ai' (P 0) i, ai' (P 1) i, ai' (P 2) i) = if i < k then (ai (P 0) i, ai (P 1) i, ai (P 2) i) else (ai (P 0) (i + 1), ai (P 1) (i + 1), ai (P 2) (i + 1))) → post 1 ai' n') : wpQR_X41_dropsEqual post kd an ai mX41_names mX41_from mX41_to mX41_n x := by
  have D' := D
  obtain ⟨kx, ⟨eN, eF, eT, eO, eC, eL, eM⟩, hKd, hNe⟩ := D
  obtain ⟨k0, a0⟩ := hKd 0 (by decide)
  obtain ⟨k1, a1⟩ := hKd 1 (by decide)
  obtain ⟨k2, a2⟩ := hKd 2 (by decide)
  obtain ⟨k3, a3⟩ := hKd 3 (by decide)
  obtain ⟨k4, a4⟩ := hKd 4 (by decide)
  obtain ⟨k5, a5⟩ := hKd 5 (by decide)
  obtain ⟨k6, a6⟩ := hKd 6 (by decide)
  have a0 : an (P 0) = 4 := a0
  have a1 : an (P 1) = 4 := a1
  have a2 : an (P 2) = 4 := a2
  have a3 : an (P 3) = 8 := a3
  have a4 : an (P 4) = 4 := a4
  have a5 : an (P 5) = 4 := a5
  have a6 : an (P 6) = 8 := a6
  unfold wpQR_X41_dropsEqual
  refine wloop (fun fu k => wQR_X41_dropsEqual_2 _ _ x kd an ai mX41_names mX41_from mX41_to mX41_n fu k) (fun k => (0 ≤ k ∧ k ≤ mX41_n x) ∧ ∀ i j, 0 ≤ j → j < i → i < k → ¬ (ai (P 0) j, ai (P 1) j, ai (P 2) j) = (ai (P 0) i, ai (P 1) i, ai (P 2) i)) (fun k => (mX41_n x - k).toNat) ?_ 0 ⟨by omega, fun i j a b c => by omega⟩
  rintro k ⟨hk, hno⟩ f ih
  rw [wQR_X41_dropsEqual_2]
  refine ⟨fun z => h0 (fun i j a b c => hno i j a b (by omega)), fun z => ?_⟩
  refine wloop (fun fu j => wQR_X41_dropsEqual_12 _ _ x k kd an ai mX41_names mX41_from mX41_to fu j) (fun j => (0 ≤ j ∧ j ≤ k) ∧ ∀ i, 0 ≤ i → i < j → ¬ (ai (P 0) i, ai (P 1) i, ai (P 2) i) = (ai (P 0) k, ai (P 1) k, ai (P 2) k)) (fun j => (k - j).toNat) ?_ 0 ⟨by omega, fun i i0 i1 => by omega⟩
  rintro j ⟨hj, hnj⟩ f2 ih2
  rw [wQR_X41_dropsEqual_12]
  have nxt : ¬ k ≤ j → ¬ (ai (P 0) j, ai (P 1) j, ai (P 2) j) = (ai (P 0) k, ai (P 1) k, ai (P 2) k) → (0 ≤ j + 1 ∧ j + 1 ≤ k) ∧ ∀ i, 0 ≤ i → i < j + 1 → ¬ (ai (P 0) i, ai (P 1) i, ai (P 2) i) = (ai (P 0) k, ai (P 1) k, ai (P 2) k) := fun y ne => ⟨by omega, fun i i0 i1 => by
    by_cases w : i = j
    · rw [w]; exact ne
    · exact hnj i i0 (by omega)⟩
  refine ⟨fun y => ⟨by omega, fun _ e => ?_⟩, fun y => kOn_of eN ⟨k0, by rw [a0]; omega, by rw [a0]; omega, fun q0 => kOn_of eF ⟨k1, by rw [a1]; omega, by rw [a1]; omega, fun q1 => kOn_of eT ⟨k2, by rw [a2]; omega, by rw [a2]; omega, fun q2 => CQR_drop D' n4.2 ⟨hk.1, by omega⟩ (fun ai' n' G en hJ => h1 k j ai' n' ⟨hj.1, by omega⟩ (by omega) (by rw [q0, q1, q2]) G en hJ), fun q2 => ⟨by omega, fun _ e => ?_⟩⟩, fun q1 => ⟨by omega, fun _ e => ?_⟩⟩, fun q0 => ⟨by omega, fun _ e => ?_⟩⟩⟩
  · rw [e]
    refine ih _ ⟨by omega, fun i j' a b c => ?_⟩ (by omega)
    by_cases w : i = k
    · rw [w] at b ⊢; exact hnj j' a (by omega)
    · exact hno i j' a b (by omega)
  · rw [e]; exact ih2 _ (nxt y (fun w => q2 (congrArg (fun t : qA => t.2.2) w).symm)) (by omega)
  · rw [e]; exact ih2 _ (nxt y (fun w => q1 (congrArg (fun t : qA => t.2.1) w).symm)) (by omega)
  · rw [e]; exact ih2 _ (nxt y (fun w => q0 (congrArg (fun t : qA => t.1) w).symm)) (by omega)
/-- equal ones go, lonely ones are freed, till nothing more does -/
theorem CQR_s2 {K : (Nat → Int → Int) → (Nat → Int) → Prop} (D : qcD kd an mX41_names mX41_from mX41_to mX41_others mX41_codes mX41_least mX41_named x P) (n4 : 0 ≤ mX41_n x ∧ mX41_n x ≤ 4) (hK : ∀ ai' n', qcG P 0 3 ai ai' → qTh (mX41_first x) (mX41_second x) (qAt (ai (P 0)) (ai (P 1)) (ai (P 2)) (mX41_n x)) (ai' (P 0)) (ai' (P 1)) (ai' (P 2)) (n' x) → K ai' n') : ∃ fu : Nat, wQR_X41_settle_2 K x kd an mX41_first mX41_second mX41_names mX41_from mX41_to fu 1 ai mX41_n := by
  have D' := D
  obtain ⟨kx, ⟨eN, eF, eT, eO, eC, eL, eM⟩, hKd, hNe⟩ := D
  obtain ⟨k0, a0⟩ := hKd 0 (by decide)
  obtain ⟨k1, a1⟩ := hKd 1 (by decide)
  obtain ⟨k2, a2⟩ := hKd 2 (by decide)
  obtain ⟨k3, a3⟩ := hKd 3 (by decide)
  obtain ⟨k4, a4⟩ := hKd 4 (by decide)
  obtain ⟨k5, a5⟩ := hKd 5 (by decide)
  obtain ⟨k6, a6⟩ := hKd 6 (by decide)
  have a0 : an (P 0) = 4 := a0
  have a1 : an (P 1) = 4 := a1
  have a2 : an (P 2) = 4 := a2
  have a3 : an (P 3) = 8 := a3
  have a4 : an (P 4) = 4 := a4
  have a5 : an (P 5) = 4 := a5
  have a6 : an (P 6) = 8 := a6
  refine wl3 (fun fu c ai' n' => wQR_X41_settle_2 K x kd an mX41_first mX41_second mX41_names mX41_from mX41_to fu c ai' n') (fun c ai' n' => qcG P 0 3 ai ai' ∧ ((c = 1 ∧ qS0 (mX41_first x) (mX41_second x) (qAt (ai (P 0)) (ai (P 1)) (ai (P 2)) (mX41_n x)) (ai' (P 0)) (ai' (P 1)) (ai' (P 2)) (n' x)) ∨ (c = 0 ∧ qTh (mX41_first x) (mX41_second x) (qAt (ai (P 0)) (ai (P 1)) (ai (P 2)) (mX41_n x)) (ai' (P 0)) (ai' (P 1)) (ai' (P 2)) (n' x)))) (fun c ai' n' => (8 * n' x + qMs (ai' (P 1)) (ai' (P 2)) (n' x) + c).toNat) ?_ 1 ai mX41_n ⟨qcG.refl, Or.inl ⟨rfl, n4, 0, fun _ => False, fun v h => h, fun t => ⟨fun h => ⟨t, h, ?_⟩, fun ⟨s, hs, e⟩ => ?_⟩⟩⟩
  rotate_left
  · unfold qSt; rw [qSu_f (fun h => h), qSu_f (fun h => h)]
  · rw [e]; unfold qSt; rw [qSu_f (fun h => h), qSu_f (fun h => h)]; exact hs
  rintro c ai1 n1 ⟨G, h⟩ f ih
  rw [wQR_X41_settle_2]
  rcases h with ⟨rfl, S⟩ | ⟨rfl, T⟩
  · refine ⟨fun z => absurd z (by decide), fun _ => ?_⟩
    have hn := S.1
    have mb := qMs_le (fr := ai1 (P 1)) (to := ai1 (P 2)) hn.1
    refine CQR_dropsEqual D' hn (fun no => ⟨fun _ => CQR_freesOne D' hn (fun nl => ⟨fun _ => ?_, fun w => absurd rfl w⟩) (fun k g0 g1 g2 g3 => ⟨fun w => absurd w (by decide), fun _ => ?_⟩) (fun k g0 g1 g2 g3 => ⟨fun w => absurd w (by decide), fun _ => ?_⟩), fun w => absurd rfl w⟩) (fun k j ai2 n2 hj hk e G2 en hJ => ⟨fun w => absurd w (by decide), fun _ => ?_⟩)
    · exact ih _ _ _ ⟨G, Or.inr ⟨rfl, qTh_of S nl no⟩⟩ (by omega)
    · have m := qMs_F (fr := ai1 (P 1)) (to := ai1 (P 2)) (k := k) ⟨g0, g1⟩ g2.1
      refine ih _ _ _ ⟨G.tr (qcG.up (i := 1) (by decide) (by decide)), Or.inl ⟨rfl, ?_⟩⟩ ?_
      · rw [va_up_self, va_up_ne _ _ (hNe 0 1 (by decide) (by decide) (by decide)), va_up_ne _ _ (hNe 2 1 (by decide) (by decide) (by decide))]
        exact S.freeF g2 ⟨g0, g1⟩ g3
      · rw [va_up_self, va_up_ne _ _ (hNe 2 1 (by decide) (by decide) (by decide))]; omega
    · have m := qMs_T (fr := ai1 (P 1)) (to := ai1 (P 2)) (k := k) ⟨g0, g1⟩ g2.1
      refine ih _ _ _ ⟨G.tr (qcG.up (i := 2) (by decide) (by decide)), Or.inl ⟨rfl, ?_⟩⟩ ?_
      · rw [va_up_self, va_up_ne _ _ (hNe 0 2 (by decide) (by decide) (by decide)), va_up_ne _ _ (hNe 1 2 (by decide) (by decide) (by decide))]
        exact S.freeT g2 ⟨g0, g1⟩ g3
      · rw [va_up_self, va_up_ne _ _ (hNe 1 2 (by decide) (by decide) (by decide))]; omega
    · have S2 := S.drop hk hj e hJ
      rw [← en] at S2
      have mb2 := qMs_le (fr := ai2 (P 1)) (to := ai2 (P 2)) (n := n2 x) (by omega)
      exact ih _ _ _ ⟨G.tr G2, Or.inl ⟨rfl, S2⟩⟩ (by omega)
  · exact ⟨fun _ => hK _ _ G T, fun w => absurd rfl w⟩
end
