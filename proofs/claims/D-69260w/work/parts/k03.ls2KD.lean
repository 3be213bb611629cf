/-! LS2: ArrayLists of room KD (printed off a template) -/
def ekKD (k : Nat) : Prop := k = 2 ∨ k = 4
section
variable {kd an : Nat → Nat} {ar : Nat → Int → Option Nat} {ed : Nat → Option Nat} {sz mo : Nat → Int} {sa : Nat → Nat} {l e : Nat} {n : Int} {f : Int → Nat} {MC MS : Nat}
theorem CKD_lget {post : Option Nat → Prop} {i : Int} (H : lsOK kd an ar ed sz 13 (sa 0) l e n f) (h0 : 0 ≤ i) (h1 : i < n) (hp : post (some (f i))) : wpKD_J2_get post kd an ar ed sz l i := by
  obtain ⟨k, c, b⟩ := H.at h0 h1
  have hs := H.2.1
  unfold wpKD_J2_get wpKD_J14_checkIndex wpKD_J15_checkIndex wpKD_J2_elementData
  refine ⟨fun z => by omega, fun z => ⟨fun z1 => kOn_of H.1 ⟨k, by omega, fun r er => ?_⟩, fun z1 => by omega⟩⟩
  rw [er, b]; exact hp
theorem CKD_copyOf {post : Option Nat → (Nat → Nat) → (Nat → Nat) → (Nat → Int → Option Nat) → Prop} {m : Int} (ke : kd e = 13) (hc : (an e : Int) = n) (hn : 0 ≤ n) (hm : n ≤ m ∧ m ≤ 100000) (hMC : 1 ≤ MC) (hMS : m.toNat ≤ MS) (hf : ∀ i, 0 ≤ i → i < n → ar e i = some (f i)) (hk : ∀ i, 0 ≤ i → i < n → ekKD (kd (f i)))
    (hp : ∀ q, kd q = 0 → ∀ g : Int → Option Nat, (∀ i, 0 ≤ i → i < n → g i = some (f i)) → post (some q) (va_up kd q 13) (va_up an q m.toNat) (va_up ar q g)) : wpKD_J12_copyOf MC MS post kd an ar sa (some e) m := by
  unfold wpKD_J12_copyOf
  refine kOn_some ⟨ke, 1, m.toNat, ⟨by omega, by omega⟩, ?_⟩
  unfold wpKD_J12_copyOf_2
  refine ⟨fun _ => ⟨⟨by omega, by omega⟩, ⟨by omega, by omega⟩, fun q hq _ e1 _ e2 _ e3 => ?_⟩, fun z => absurd rfl z⟩
  subst e1 e2 e3
  have hne : e ≠ q := fun z => by rw [z, hq] at ke; exact absurd ke (by decide)
  have a1 : va_up an q m.toNat e = an e := va_up_ne _ _ hne
  have a2 : va_up an q m.toNat q = m.toNat := va_up_self _ _ _
  have r1 : va_up ar q (fun _ => none) e = ar e := va_up_ne _ _ hne
  refine kOn_some ⟨by rw [va_up_ne _ _ hne]; exact ke, by rw [a1]; omega, ⟨by omega, by omega⟩, ?_, ?_, fun _ e4 => ⟨by omega, by omega, fun _ => ⟨by omega, by omega, ?_⟩⟩⟩
  · rw [a1, a2]; refine ⟨by decide, by decide, ?_⟩; split <;> omega
  · rw [a1, r1]
    intro i i0 i1 y ey
    have hi : i < n := by revert i1; split <;> omega
    rw [Int.zero_add, hf i i0 hi] at ey
    have : f i = y := Option.some.inj ey
    have kk := hk i i0 hi
    rw [this] at kk
    have yq : y ≠ q := by
      intro z
      rw [z, hq] at kk
      revert kk
      unfold ekKD
      omega
    rw [va_up_ne _ _ yq]; exact kk
  · rw [r1, va_up_self, va_up_up, a1] at e4
    subst e4
    refine hp q hq _ (fun i i0 i1 => ?_)
    rw [zcpy_in i0 (by split <;> omega), Int.zero_add, Int.sub_zero]
    exact hf i i0 i1
theorem CKD_ladd {post : Int → (Nat → Nat) → (Nat → Nat) → (Nat → Int → Option Nat) → (Nat → Int) → (Nat → Option Nat) → (Nat → Int) → Prop} {b : Nat} (H : lsOK kd an ar ed sz 13 (sa 0) l e n f) (hn : n ≤ 10000) (hmo : 0 ≤ mo l ∧ mo l < 100000) (hMC : 1 ≤ MC) (hMS : n + n / 2 + 10 ≤ MS) (hk : ∀ i, 0 ≤ i → i < n → ekKD (kd (f i))) (hb : ekKD (kd b))
    (hp : ∀ kd' an' ar' ed' e', kLe kd an kd' an' → lsOK kd' an' ar' ed' (va_up sz l (n + 1)) 13 (sa 0) l e' (n + 1) (updI f n b) → ((e' = e ∧ kd e = 13) ∨ kd e' = 0) → (∀ a, a ≠ e' → kd' a = kd a ∧ an' a = an a ∧ ar' a = ar a) → (∀ a, a ≠ l → ed' a = ed a) → kd' e' = 13 → kd (sa 0) = 0 → post 1 kd' an' ar' (va_up mo l (mo l + 1)) ed' (va_up sz l (n + 1))) : wpKD_J2_add MC MS post kd an ar mo ed sz sa l (some b) := by
  obtain ⟨h1, h2, h3, h4, h5⟩ := id H
  have eb : ∀ q, kd q = 0 → b ≠ q := by
    intro q hq z
    rw [z, hq] at hb
    revert hb; unfold ekKD; omega
  -- a new row
  have new : kd (sa 0) = 0 → ∀ (q : Nat) (m : Nat) (g : Int → Option Nat), kd q = 0 → (n < m ∧ m ≤ 100000) → (∀ i, 0 ≤ i → i < n → g i = some (f i)) → post 1 (va_up kd q 13) (va_up an q m) (va_up (va_up ar q g) q (updI (va_up ar q g q) n (some b))) (va_up mo l (mo l + 1)) (va_up ed l (some q)) (va_up sz l (n + 1)) := by
    intro hs0 q m g hq hm hg
    rw [va_up_self, va_up_up]
    refine hp _ _ _ _ q (fun a ha => ?_) ⟨va_up_self _ _ _, va_up_self _ _ _, by omega, Or.inl ⟨va_up_self _ _ _, by rw [va_up_self]; omega, by rw [va_up_self]; omega⟩, fun i i0 i1 => ?_⟩ (Or.inr hq) (fun a ha => ⟨va_up_ne _ _ ha, va_up_ne _ _ ha, va_up_ne _ _ ha⟩) (fun a ha => va_up_ne _ _ ha) (va_up_self _ _ _) hs0
    · have : a ≠ q := fun z => ha (by rw [z, hq])
      exact ⟨va_up_ne _ _ this, va_up_ne _ _ this⟩
    · rw [va_up_self]
      by_cases hi : i = n
      · rw [hi, updI_s, updI_s]
      · rw [updI_n hi, updI_n hi]; exact hg i i0 (by omega)
  unfold wpKD_J2_add
  refine ⟨by omega, fun _ e1 _ e2 => ⟨1, (n + n / 2 + 10).toNat, ⟨by omega, by omega⟩, ?_⟩⟩
  subst e1 e2
  unfold wpKD_J2_add_2
  rw [h2]
  rcases h4 with h4 | h4
  · have ln : ∀ z : Int, z = (if kd e = 13 then ((an e : Nat) : Int) else 0) → z = an e := fun z hz => by rw [hz, if_pos h4.1]
    refine kOn_of h1 ⟨Or.inl h4.1, fun hs0 n3 e3 => ?_⟩
    rw [if_pos h4.1] at e3 ⊢
    subst e3
    refine ⟨?_, fun z => ⟨1, (n + n / 2 + 10).toNat, ⟨by omega, by omega⟩, ?_⟩, fun z => ⟨h4.1, by omega, kOn_some ⟨hb, fun _ e4 => ⟨by omega, fun _ e5 _ e6 => ⟨by omega, by omega, fun kl => ⟨by omega, by omega, ?_⟩⟩⟩⟩⟩⟩
    · omega
    · unfold wpKD_J2_grow
      rw [h2]
      refine ⟨by omega, 1, (n + n / 2 + 10).toNat, ⟨by omega, by omega⟩, ?_⟩
      unfold wpKD_J2_grow_2
      refine kOn_of h1 ⟨Or.inl h4.1, fun _ n4 e4 => ?_⟩
      rw [if_pos h4.1] at e4 ⊢
      refine ⟨by omega, fun x2 e5 => ⟨fun z5 => ?_, fun z5 => by omega⟩⟩
      unfold wKD_J2_grow_2_20
      refine ⟨by omega, ⟨by omega, by omega⟩, ?_⟩
      unfold wpKD_J13_newLength
      have mx : ∃ m, m = x2 + (if n + 1 - x2 < x2 / 2 then x2 / 2 else n + 1 - x2) ∧ n < m ∧ m ≤ n + n / 2 + 10 := ⟨_, rfl, by split <;> omega, by split <;> omega⟩
      obtain ⟨m, em, m1, m2⟩ := mx
      rw [← em]
      refine ⟨by omega, fun _ e6 => ⟨fun w => by omega, fun w => ⟨fun w2 => by omega, fun w2 => ⟨1, (n + n / 2 + 10).toNat, ⟨by omega, by omega⟩, ?_⟩⟩⟩⟩
      subst e6
      rw [h1]
      refine CKD_copyOf (n := n) (f := f) h4.1 z.symm h3 (by omega) (by omega) (by omega) h5 hk (fun q hq g hg _ _ e7 => ⟨by omega, by omega, fun _ => ⟨by omega, by omega, fun _ => kOn_some ⟨va_up_self _ _ _, by rw [va_up_self]; omega, kOn_some ⟨?_, fun _ e8 => ⟨by omega, fun _ e9 _ e10 => ⟨by omega, by omega, fun _ => ⟨by omega, by omega, ?_⟩⟩⟩⟩⟩⟩⟩)
      · rw [va_up_ne _ _ (eb q hq)]; exact hb
      · subst e7 e8 e9 e10
        exact new hs0 q _ g hq (by omega) hg
    · subst e4 e5 e6
      refine hp kd an _ ed e (fun _ _ => ⟨rfl, rfl⟩) ⟨h1, va_up_self _ _ _, by omega, Or.inl ⟨h4.1, h4.2.1, by omega⟩, fun i i0 i1 => ?_⟩ (Or.inl ⟨rfl, h4.1⟩) (fun a ha => ⟨rfl, rfl, va_up_ne _ _ ha⟩) (fun _ _ => rfl) h4.1 hs0
      rw [va_up_self]
      by_cases hi : i = n
      · rw [hi, updI_s, updI_s]
      · rw [updI_n hi, updI_n hi]; exact h5 i i0 (by omega)
  · obtain ⟨g1, g3⟩ := h4
    subst g3
    refine kOn_of h1 ⟨Or.inr g1, fun hs0 n3 e3 => ?_⟩
    have nk : ¬ kd e = 13 := by rw [g1, hs0]; decide
    rw [if_neg nk] at e3 ⊢
    subst e3
    refine ⟨by decide, fun z => ⟨1, 10, ⟨by omega, by omega⟩, ?_⟩, fun z => absurd rfl z⟩
    unfold wpKD_J2_grow
    rw [h2]
    refine ⟨by decide, 1, 10, ⟨by omega, by omega⟩, ?_⟩
    unfold wpKD_J2_grow_2
    refine kOn_of h1 ⟨Or.inr g1, fun _ n4 e4 => ?_⟩
    rw [if_neg nk] at e4 ⊢
    refine ⟨by omega, fun x2 e5 => ⟨fun z5 => by omega, fun z5 => ⟨fun _ => ⟨⟨by omega, by omega⟩, fun m em => ?_⟩, fun z6 => absurd (by rw [h1, g1]) z6⟩⟩⟩
    have em : m = 10 := by rw [em]; decide
    subst em
    refine ⟨by decide, ⟨by decide, by decide⟩, fun q hq _ e6 _ e7 _ e8 _ e9 => ⟨by decide, by omega, fun _ => ⟨by omega, by omega, fun _ => kOn_some ⟨va_up_self _ _ _, ?_, kOn_some ⟨?_, fun _ e10 => ⟨by decide, fun _ e11 _ e12 => ⟨by omega, by omega, fun _ => ⟨by omega, by omega, ?_⟩⟩⟩⟩⟩⟩⟩⟩
    · subst e6; rw [va_up_self]; decide
    · rw [va_up_ne _ _ (eb q hq)]; exact hb
    · subst e6 e7 e8 e9 e10 e11 e12
      exact new hs0 q _ _ hq (by decide) (fun i a b => by omega)
theorem CKD_lrem {post : Option Nat → (Nat → Int → Option Nat) → (Nat → Int) → (Nat → Int) → Prop} {i : Int} (H : lsOK kd an ar ed sz 13 (sa 0) l e n f) (hn : n ≤ 10000) (hmo : 0 ≤ mo l ∧ mo l < 100000) (hk : ∀ i, 0 ≤ i → i < n → ekKD (kd (f i))) (h0 : 0 ≤ i) (h1 : i < n)
    (hp : ∀ g, (∀ j, 0 ≤ j → j < n - 1 → g j = some (f (if j < i then j else j + 1))) → post (some (f i)) (va_up ar e g) (va_up mo l (mo l + 1)) (va_up sz l (n - 1))) : wpKD_J2_remove post kd an ar mo ed sz l i := by
  obtain ⟨k, c, b⟩ := H.at h0 h1
  obtain ⟨g1, g2, g3, g4, g5⟩ := id H
  unfold wpKD_J2_remove wpKD_J14_checkIndex wpKD_J15_checkIndex
  rw [g2]
  refine ⟨fun z => by omega, fun z => ⟨fun z1 x2 e2 => kOn_of (e2.trans g1) ⟨k, by omega, fun r er => ?_⟩, fun z1 => by omega⟩⟩
  have e2 : x2 = some e := e2.trans g1
  rw [b] at er
  subst er e2
  unfold wpKD_J2_fastRemove
  rw [g2]
  refine ⟨by omega, fun _ q1 _ q2 => ⟨by omega, fun _ q3 => ⟨fun y _ q4 => kOn_some ⟨k, by omega, fun _ q5 => ?_⟩, fun y => ⟨by omega, by omega, kOn_some ⟨k, by omega, ?_, fun _ q4 _ q5 => ⟨by omega, fun _ q6 => ?_⟩⟩⟩⟩⟩⟩
  · subst q1 q2 q3 q4 q5
    refine hp _ (fun j j0 j1 => ?_)
    rw [updI_n (by omega), if_pos (by omega)]
    exact g5 j j0 (by omega)
  · subst q3
    intro t t0 t1 y ey
    rw [g5 _ (by omega) (by omega)] at ey
    have : f (i + 1 + t) = y := Option.some.inj ey
    rw [← this]
    exact hk _ (by omega) (by omega)
  · subst q1 q2 q3 q4 q5 q6
    rw [va_up_self, va_up_up]
    refine hp _ (fun j j0 j1 => ?_)
    rw [updI_n (by omega)]
    by_cases hj : j < i
    · rw [zcpy_out (Or.inl hj), if_pos hj]; exact g5 j j0 (by omega)
    · rw [zcpy_in (by omega) (by omega), if_neg hj, g5 _ (by omega) (by omega)]
      congr 2; omega
end
