/-! RightDesk (room RD): rules in their order, what they decide -/
section
variable {rk dn wn : Int → Int} {nr nc : Int}
theorem rdBf_iff (hd : rdR rk dn wn nr nc) {k j : Int} (hk : 0 ≤ k ∧ k < nr) (hj : 0 ≤ j ∧ j < nr) : rdBf rk dn k j ↔ (rk k < rk j ∨ (rk k = rk j ∧ ((dn k ≠ 0 ∧ dn j = 0) ∨ (dn k = dn j ∧ k < j)))) := by
  have a := (hd.2 k hk.1 hk.2).2.1
  have b := (hd.2 j hj.1 hj.2).2.1
  unfold rdBf
  by_cases c1 : rk k = rk j
  · rw [if_pos c1]
    by_cases c2 : dn k = dn j
    · rw [if_pos c2]; omega
    · rw [if_neg c2]; omega
  · rw [if_neg c1]; omega
theorem rdBf_tr (hd : rdR rk dn wn nr nc) {k j l : Int} (hk : 0 ≤ k ∧ k < nr) (hj : 0 ≤ j ∧ j < nr) (hl : 0 ≤ l ∧ l < nr) (h1 : rdBf rk dn k j) (h2 : rdBf rk dn j l) : rdBf rk dn k l := by
  rw [rdBf_iff hd hk hj] at h1
  rw [rdBf_iff hd hj hl] at h2
  rw [rdBf_iff hd hk hl]
  omega
theorem rdBf_to (hd : rdR rk dn wn nr nc) {k j : Int} (hk : 0 ≤ k ∧ k < nr) (hj : 0 ≤ j ∧ j < nr) (hn : k ≠ j) (h : ¬ rdBf rk dn k j) : rdBf rk dn j k := by
  have a := (hd.2 k hk.1 hk.2).2.1
  have b := (hd.2 j hj.1 hj.2).2.1
  rw [rdBf_iff hd hk hj] at h
  rw [rdBf_iff hd hj hk]
  omega
theorem rdBf_no (hd : rdR rk dn wn nr nc) {k j : Int} (hk : 0 ≤ k ∧ k < nr) (hj : 0 ≤ j ∧ j < nr) (h1 : rdBf rk dn k j) (h : rdBf rk dn j k) : False := by
  rw [rdBf_iff hd hk hj] at h1
  rw [rdBf_iff hd hj hk] at h
  omega
/-- the one that decides goes before all others that hold -/
theorem rdB_min {H : Int → Int} {w : Int} (hd : rdR rk dn wn nr nc) : ∀ n : Nat, (n : Int) ≤ nr → (rdB rk dn wn H w n = -1 ∧ ∀ r : Int, 0 ≤ r → r < n → r ≠ w → H (wn r) = 0) ∨ ((0 ≤ rdB rk dn wn H w n ∧ rdB rk dn wn H w n < n) ∧ rdB rk dn wn H w n ≠ w ∧ ¬ H (wn (rdB rk dn wn H w n)) = 0 ∧ ∀ r : Int, 0 ≤ r → r < n → r ≠ w → ¬ H (wn r) = 0 → r ≠ rdB rk dn wn H w n → rdBf rk dn (rdB rk dn wn H w n) r)
  | 0, _ => Or.inl ⟨rfl, fun r a b => by omega⟩
  | n + 1, hn => by
    have ih := rdB_min (H := H) (w := w) hd n (by omega)
    rw [rdB]
    generalize rdB rk dn wn H w n = D at ih
    by_cases c1 : (n : Int) = w ∨ H (wn n) = 0
    · rw [pif_t c1]
      have skip : ∀ r, 0 ≤ r → r < ((n + 1 : Nat) : Int) → r ≠ w → ¬ H (wn r) = 0 → r < n := by
        intro r a b x y
        by_cases e : r = n
        · subst e; rcases c1 with c | c
          · exact absurd c x
          · exact absurd c y
        · omega
      rcases ih with ⟨a, b⟩ | ⟨a, b, c, d⟩
      · refine Or.inl ⟨a, fun r x y z => ?_⟩
        by_cases e : H (wn r) = 0
        · exact e
        · exact b r x (skip r x y z e) z
      · exact Or.inr ⟨by omega, b, c, fun r x y z u v => d r x (skip r x y z u) z u v⟩
    · rw [pif_f c1]
      have nw : (n : Int) ≠ w := fun z => c1 (Or.inl z)
      have nh : ¬ H (wn n) = 0 := fun z => c1 (Or.inr z)
      rcases ih with ⟨a, b⟩ | ⟨a, b, c, d⟩
      · rw [pif_t (Or.inl (by omega))]
        refine Or.inr ⟨by omega, nw, nh, fun r x y z u v => absurd (b r x (by omega) z) u⟩
      · have iff := rdBf_iff hd (k := n) (j := D) (by omega) (by omega)
        have b2 := (hd.2 D a.1 (by omega)).2.1
        have b3 := (hd.2 n (by omega) (by omega)).2.1
        by_cases c2 : D < 0 ∨ rk n < rk D ∨ (rk n = rk D ∧ dn n ≠ 0 ∧ dn D = 0)
        · rw [pif_t c2]
          have bf : rdBf rk dn n D := iff.mpr (by omega)
          refine Or.inr ⟨by omega, nw, nh, fun r x y z u v => ?_⟩
          by_cases e : r = D
          · subst e; exact bf
          · exact rdBf_tr hd (by omega) (by omega) (by omega) bf (d r x (by omega) z u e)
        · rw [pif_f c2]
          refine Or.inr ⟨by omega, b, c, fun r x y z u v => ?_⟩
          by_cases e : r = n
          · subst e
            exact rdBf_to hd (by omega) (by omega) (by omega) (fun w => by rw [iff] at w; omega)
          · exact d r x (by omega) z u v
theorem rdB_w {H : Int → Int} {w w' : Int} (h : w < 0) (h' : w' < 0) : ∀ n : Nat, rdB rk dn wn H w n = rdB rk dn wn H w' n
  | 0 => rfl
  | n + 1 => by
    rw [rdB, rdB, rdB_w h h' n]
    refine pif_c ⟨fun z => Or.inr (z.elim (fun e => by omega) id), fun z => Or.inr (z.elim (fun e => by omega) id)⟩
end
section
variable {kd : Nat → Nat} {an : Nat → Nat} {ai : Nat → Int → Int} {al : Nat → Int → Int} {ar : Nat → Int → Option Nat} {mX27_groups : Nat → Option Nat} {mX27_conditions : Nat → Option Nat} {mX27_rules : Nat → Option Nat} {mX27_sets : Nat → Option Nat} {mX27_right : Nat → Int} {mX27_known : Nat → Option Nat} {mX27_asks : Nat → Option Nat} {mX27_done : Nat → Option Nat} {mX27_more : Nat → Option Nat} {mX27_its : Nat → Option Nat} {mX27_allowed : Nat → Option Nat} {mX27_other : Nat → Option Nat} {mX27_order : Nat → Option Nat} {mX28_person : Nat → Int} {mX28_graph : Nat → Int} {mX28_predicate : Nat → Int} {mX28_class0 : Nat → Int} {mX28_version : Nat → Int} {mX75_kind : Nat → Int} {mX75_number : Nat → Int} {mX75_groups : Nat → Option Nat} {mX76_from : Nat → Int} {mX76_to : Nat → Int} {mX77_of : Nat → Int} {mX78_least : Nat → Int} {mX78_of : Nat → Option Nat} {mX80_rank : Nat → Int} {mX80_denies : Nat → Int} {mX80_condition : Nat → Int} {mJ1_modCount : Nat → Int} {mJ2_elementData : Nat → Option Nat} {mJ2_size : Nat → Int} {mJ4_words : Nat → Option Nat} {mJ4_wordsInUse : Nat → Int} {mJ4_sizeIsSticky : Nat → Int} {sa : Nat → Nat} {A : Nat → Int → Nat} {gi : Nat → Nat × Int} {g kk a b c rk dn wn : Int → Int} {nc nr q : Int} {e0 e1 e2 o : Nat} {f0 f1 : Int → Nat} {D : Int → Nat} {B B' : Int → Int → Prop} {t i : Int} {MC MS : Nat}
theorem CRD_in26 {K : Int → (Nat → Int → Int) → Prop} {k n : Int} (S : rdS0 kd an ai al ar mX27_groups mX27_conditions mX27_rules mX27_sets mX27_right mX27_known mX27_asks mX27_done mX27_more mX27_its mX27_allowed mX27_other mX27_order mX28_person mX28_graph mX28_predicate mX28_class0 mX28_version mX75_kind mX75_number mX75_groups mX76_from mX76_to mX77_of mX78_least mX78_of mX80_rank mX80_denies mX80_condition mJ1_modCount mJ2_elementData mJ2_size mJ4_words mJ4_wordsInUse mJ4_sizeIsSticky sa A gi g kk a b c nc rk dn wn nr e0 f0 e1 f1 e2 D) (hk : 0 ≤ k ∧ k < nr) (hn : 0 ≤ n ∧ n ≤ k) (hf : ∀ i, 0 ≤ i → i < n → 0 ≤ ai (A 2 0) i ∧ ai (A 2 0) i < nr)
    (hp : ∀ p f, (0 ≤ p ∧ p ≤ n) → (∀ j, 0 ≤ j → j < p → f j = ai (A 2 0) j) → (∀ j, p < j → j ≤ n → f j = ai (A 2 0) (j - 1)) → (p = 0 ∨ ¬ rdBf rk dn k (ai (A 2 0) (p - 1))) → (∀ j, p ≤ j → j < n → rdBf rk dn k (ai (A 2 0) j)) → K p (va_up ai (A 2 0) f)) : ∃ fu, wRD_X27_inOrder_26 K (A 0 0) k kd an ar mX27_rules mX27_order mX80_rank mX80_denies mJ2_elementData mJ2_size fu n ai := by
  obtain ⟨s1, s2, s3, s4, s5, s6, s7, s8⟩ := id S
  have k2 : kd (A 2 0) = 11 := s1.kd_ 2 0 (by decide) z01
  have l2 : an (A 2 0) = 20 := s1.an_ 2 0 (by decide) z01 (by decide)
  have k41 : kd (A 4 1) = 9 := s1.kd_ 4 1 (by decide) (by show (1 : Int) < 3; decide)
  have hr := s3.2.1
  refine wl2 (fun m p ai2 => wRD_X27_inOrder_26 K (A 0 0) k kd an ar mX27_rules mX27_order mX80_rank mX80_denies mJ2_elementData mJ2_size m p ai2) (fun p ai2 => (0 ≤ p ∧ p ≤ n) ∧ ∃ f, ai2 = va_up ai (A 2 0) f ∧ (∀ j, 0 ≤ j → j < p → f j = ai (A 2 0) j) ∧ (∀ j, p < j → j ≤ n → f j = ai (A 2 0) (j - 1)) ∧ ∀ j, p ≤ j → j < n → rdBf rk dn k (ai (A 2 0) j)) (fun p _ => p.toNat) ?_ n ai ⟨by omega, ai (A 2 0), (va_up_id rfl).symm, fun j _ _ => rfl, fun j x y => by omega, fun j x y => by omega⟩
  rintro p ai2 ⟨h0, f, rfl, h1, h2, h3⟩ m ih
  rw [wRD_X27_inOrder_26]
  refine ⟨fun z => hp p f h0 h1 h2 (Or.inl (by omega)) h3, fun z => kOn_of s2.1.2.1 ⟨k2, by rw [l2]; show 0 ≤ p - 1 ∧ p - 1 < 20; omega, by omega, ?_⟩⟩
  rw [va_up_self, h1 (p - 1) (by omega) (by omega)]
  refine CRD_isBefore s2.2.1.2.1 k41 s6 s3.2 hk (hf _ (by omega) (by omega)) (fun w => ⟨fun y => absurd y (by decide), fun _ v ev => ⟨by rw [l2]; show 0 ≤ p ∧ p < 20; omega, fun _ e1 => ⟨by omega, fun _ e2 => ?_⟩⟩⟩) (fun w => ⟨fun _ => hp p f h0 h1 h2 (Or.inr w) h3, fun y => absurd rfl y⟩)
  subst ev e1 e2
  rw [va_up_up]
  refine ih _ _ ⟨by omega, _, rfl, fun j x y => ?_, fun j x y => ?_, fun j x y => ?_⟩ (by omega)
  · rw [updI_n (by omega)]; exact h1 j x (by omega)
  · by_cases hj : j = p
    · rw [hj, updI_s]
    · rw [updI_n hj]; exact h2 j (by omega) y
  · by_cases hj : j = p - 1
    · rw [hj]; exact w
    · exact h3 j (by omega) y
/-- an order of the rules but one -/
def rdOd (rk dn : Int → Int) (nr w n : Int) (f : Int → Int) : Prop := (0 ≤ n ∧ n ≤ nr) ∧ (∀ i, 0 ≤ i → i < n → (0 ≤ f i ∧ f i < nr) ∧ f i ≠ w) ∧ (∀ r, 0 ≤ r → r < nr → r ≠ w → ∃ i, (0 ≤ i ∧ i < n) ∧ f i = r) ∧ ∀ i j, 0 ≤ i → i < j → j < n → rdBf rk dn (f i) (f j)
theorem CRD_inOrder {post : Int → (Nat → Int → Int) → Prop} {w : Int} (S : rdS0 kd an ai al ar mX27_groups mX27_conditions mX27_rules mX27_sets mX27_right mX27_known mX27_asks mX27_done mX27_more mX27_its mX27_allowed mX27_other mX27_order mX28_person mX28_graph mX28_predicate mX28_class0 mX28_version mX75_kind mX75_number mX75_groups mX76_from mX76_to mX77_of mX78_least mX78_of mX80_rank mX80_denies mX80_condition mJ1_modCount mJ2_elementData mJ2_size mJ4_words mJ4_wordsInUse mJ4_sizeIsSticky sa A gi g kk a b c nc rk dn wn nr e0 f0 e1 f1 e2 D) (hp : ∀ n f, rdOd rk dn nr w n f → post n (va_up ai (A 2 0) f)) : wpRD_X27_inOrder post kd an ai ar mX27_rules mX27_order mX80_rank mX80_denies mJ2_elementData mJ2_size (A 0 0) w := by
  obtain ⟨s1, s2, s3, s4, s5, s6, s7, s8⟩ := id S
  have k2 : kd (A 2 0) = 11 := s1.kd_ 2 0 (by decide) z01
  have l2 : an (A 2 0) = 20 := s1.an_ 2 0 (by decide) z01 (by decide)
  have k41 : kd (A 4 1) = 9 := s1.kd_ 4 1 (by decide) (by show (1 : Int) < 3; decide)
  have hr := s3.2.1
  have hd := s3.2
  unfold wpRD_X27_inOrder
  refine wl3 (fun m n k ai2 => wRD_X27_inOrder_4 _ (A 0 0) w kd an ar mX27_rules mX27_order mX80_rank mX80_denies mJ2_elementData mJ2_size m n k ai2) (fun n k ai2 => (0 ≤ k ∧ k ≤ nr) ∧ ∃ f, ai2 = va_up ai (A 2 0) f ∧ rdOd rk dn k w n f) (fun n k _ => (nr - k).toNat) ?_ 0 0 ai ⟨by omega, ai (A 2 0), (va_up_id rfl).symm, ⟨by omega, fun i x y => by omega, fun i x y => by omega, fun i j x y z => by omega⟩⟩
  rintro n k ai2 ⟨h0, f, rfl, o1, o2, o3, o4⟩ m ih
  rw [wRD_X27_inOrder_4]
  unfold wpRD_J2_size
  refine kOn_of s2.2.1.2.1 ⟨k41, ?_⟩
  rw [s6.1.2.1]
  refine ⟨fun z => ?_, fun z => ⟨fun z2 => ⟨by omega, fun _ e1 => ?_⟩, fun z2 => ?_⟩⟩
  · have : k = nr := by omega
    subst this
    exact hp n f ⟨o1, o2, o3, o4⟩
  · subst e1
    refine ih _ _ _ ⟨by omega, f, rfl, by omega, fun i x y => ⟨by have := (o2 i x y).1; omega, (o2 i x y).2⟩, fun r x y z => o3 r x (by omega) z, o4⟩ (by omega)
  · have S2 := S.ai2 f
    refine CRD_in26 S2 ⟨h0.1, by omega⟩ ⟨o1.1, o1.2⟩ (fun i x y => ?_) (fun p f' p0 p1 p2 p3 p4 => kOn_of s2.1.2.1 ⟨k2, by rw [l2]; show 0 ≤ p ∧ p < 20; omega, fun _ e1 => ⟨by omega, fun _ e2 => ⟨by omega, fun _ e3 => ?_⟩⟩⟩)
    · rw [va_up_self]; have := (o2 i x y).1; omega
    · rw [va_up_self] at p1 p2 p3 p4
      subst e1 e2 e3
      rw [va_up_self, va_up_up, va_up_up]
      have inb : ∀ i, 0 ≤ i → i < n → (0 ≤ f i ∧ f i < nr) := fun i x y => by have := (o2 i x y).1; omega
      have lt : ∀ i, 0 ≤ i → i < p → rdBf rk dn (f i) k := by
        intro i x y
        have q1 : rdBf rk dn (f (p - 1)) k := by
          rcases p3 with p3 | p3
          · omega
          · exact rdBf_to hd ⟨h0.1, by omega⟩ (inb _ (by omega) (by omega)) (by have := (o2 (p - 1) (by omega) (by omega)).1; omega) p3
        by_cases hi : i = p - 1
        · rw [hi]; exact q1
        · exact rdBf_tr hd (inb i x (by omega)) (inb (p - 1) (by omega) (by omega)) ⟨h0.1, by omega⟩ (o4 i (p - 1) x (by omega) (by omega)) q1
      have v1 : ∀ j, 0 ≤ j → j < p → updI f' p k j = f j := fun j x y => by rw [updI_n (by omega)]; exact p1 j x y
      have v2 : updI f' p k p = k := updI_s
      have v3 : ∀ j, p < j → j ≤ n → updI f' p k j = f (j - 1) := fun j x y => by rw [updI_n (by omega)]; exact p2 j x y
      generalize updI f' p k = F at v1 v2 v3
      refine ih _ _ _ ⟨by omega, F, rfl, by omega, fun i x y => ?_, fun r x y z => ?_, fun i j x y z => ?_⟩ (by omega)
      · rcases Int.lt_trichotomy i p with c1 | c1 | c1
        · rw [v1 i x c1]; have := o2 i x (by omega); exact ⟨by omega, this.2⟩
        · rw [c1, v2]; exact ⟨by omega, z2⟩
        · rw [v3 i c1 (by omega)]; have := o2 (i - 1) (by omega) (by omega); exact ⟨by omega, this.2⟩
      · by_cases hr : r = k
        · exact ⟨p, by omega, by rw [v2, hr]⟩
        · obtain ⟨i, hi, e⟩ := o3 r x (by omega) z
          by_cases c1 : i < p
          · exact ⟨i, by omega, by rw [v1 i hi.1 c1]; exact e⟩
          · exact ⟨i + 1, by omega, by rw [v3 (i + 1) (by omega) (by omega), show i + 1 - 1 = i by omega]; exact e⟩
      · rcases Int.lt_trichotomy j p with c1 | c1 | c1
        · rw [v1 i x (by omega), v1 j (by omega) c1]; exact o4 i j x y (by omega)
        · rw [c1, v2, v1 i x (by omega)]; exact lt i x (by omega)
        · rw [v3 j c1 (by omega)]
          rcases Int.lt_trichotomy i p with c2 | c2 | c2
          · rw [v1 i x c2]
            exact rdBf_tr hd (inb i x (by omega)) ⟨h0.1, by omega⟩ (inb _ (by omega) (by omega)) (lt i x c2) (p4 (j - 1) (by omega) (by omega))
          · rw [c2, v2]; exact p4 (j - 1) (by omega) (by omega)
          · rw [v3 i c2 (by omega)]; exact o4 (i - 1) (j - 1) (by omega) (by omega) (by omega)
theorem CRD_d96 {K : Int → (Nat → Nat) → (Nat → Nat) → (Nat → Int → Int) → (Nat → Int → Int) → (Nat → Int) → (Nat → Option Nat) → (Nat → Int) → (Nat → Int) → Nat → Nat → Prop} {x5 tl : Int} {kc ks : Nat} (L : Lab rK rL kd an A gi (rN nc)) (hF : rdF mX27_groups mX27_conditions mX27_rules mX27_sets mX27_known mX27_asks mX27_done mX27_more mX27_its mX27_allowed mX27_other mX27_order A) (hnc : 0 ≤ nc) (H : rdBB al mJ4_words mJ4_wordsInUse A (5 + nc) B) (ko : kd o = 8) (h5 : zR (x5 + 1)) (htl : tl = 3 ∨ tl = 4) (hkc : kc ≤ MC ∧ ks ≤ MS)
    (hp : ∀ al' iu' B', rdBB al' mJ4_words iu' A (5 + nc) B' → (∀ s, s ≠ 0 → s ≠ tl → B' s = B s) → (∀ q, B' 0 q ↔ B 0 q ∨ B 1 q) → (∀ q, B' tl q ↔ B tl q ∨ (mX80_denies o = 0 ∧ B 1 q)) → K (x5 + 1) kd an ai al' mX27_right mJ4_words iu' mJ4_sizeIsSticky kc ks) : wRD_X27_decided_96 MC MS K (A 0 0) (some (A 6 tl)) x5 (some o) kd an ai al mX27_right mX27_done mX27_more mX80_denies mJ4_words mJ4_wordsInUse mJ4_sizeIsSticky kc ks := by
  have n01 : 0 < 5 + nc ∧ 1 < 5 + nc ∧ 2 < 5 + nc ∧ 3 < 5 + nc ∧ 4 < 5 + nc := by omega
  have k6 : ∀ j, 0 ≤ j → j < 5 → kd (A 6 j) = 10 := fun j x y => L.kd_ 6 j x (by show j < 5 + nc; omega)
  have t0 : 0 ≤ tl ∧ tl < 5 + nc := by omega
  unfold wRD_X27_decided_96
  refine kOn_some ⟨ko, fun z => kOn_some ⟨k6 tl (by omega) (by omega), 0, 0, hkc, ?_⟩, fun z => kOn_of hF.2.2.1 ⟨k6 0 (by decide) (by decide), 0, 0, hkc, ?_⟩⟩
  · rw [hF.2.2.2.1]
    refine CRD_bor L H t0.1 t0.2 (by decide) n01.2.1 (by omega) (fun al1 iu1 H1 _ => kOn_of hF.2.2.1 ⟨k6 0 (by decide) (by decide), 0, 0, hkc, ?_⟩)
    refine CRD_bor L H1 (by decide) n01.1 (by decide) n01.2.1 (by decide) (fun al2 iu2 H2 _ => ⟨h5, fun _ e1 => ?_⟩)
    subst e1
    refine hp al2 iu2 _ H2 (fun s s0 s1 => ?_) (fun q => ?_) (fun q => ?_)
    · rw [updI_n s0, updI_n s1]
    · rw [updI_s, updI_n (show (0 : Int) ≠ tl by omega), updI_n (show (1 : Int) ≠ tl by omega)]
    · rw [updI_n (show tl ≠ 0 by omega), updI_s]; simp [z]
  · rw [hF.2.2.2.1]
    refine CRD_bor L H (by decide) n01.1 (by decide) n01.2.1 (by decide) (fun al2 iu2 H2 _ => ⟨h5, fun _ e1 => ?_⟩)
    subst e1
    refine hp al2 iu2 _ H2 (fun s s0 s1 => ?_) (fun q => ?_) (fun q => ?_)
    · rw [updI_n s0]
    · rw [updI_s]
    · rw [updI_n (show tl ≠ 0 by omega)]; simp [z]
theorem rdOd_hit (hd : rdR rk dn wn nr nc) {H : Int → Int} {w n i : Int} {f : Int → Int} (O : rdOd rk dn nr w n f) (hi : 0 ≤ i ∧ i < n) : (¬ H (wn (f i)) = 0 ∧ ¬ ∃ j, (0 ≤ j ∧ j < i) ∧ f j = rdB rk dn wn H w nr.toNat) ↔ rdB rk dn wn H w nr.toNat = f i := by
  obtain ⟨o1, o2, o3, o4⟩ := O
  have hn := hd.1
  have M := rdB_min (H := H) (w := w) hd nr.toNat (by omega)
  have fi := o2 i hi.1 hi.2
  generalize rdB rk dn wn H w nr.toNat = X at M ⊢
  constructor
  · rintro ⟨h1, h2⟩
    rcases M with ⟨m1, m2⟩ | ⟨m1, m2, m3, m4⟩
    · exact absurd (m2 _ fi.1.1 (by omega) fi.2) h1
    · obtain ⟨j, hj, ej⟩ := o3 X m1.1 (by omega) m2
      rcases Int.lt_trichotomy j i with c | c | c
      · exact absurd ⟨j, ⟨hj.1, c⟩, ej⟩ h2
      · rw [← c]; exact ej.symm
      · by_cases e : f i = X
        · exact e.symm
        · have b1 := o4 i j hi.1 c hj.2
          have b2 := m4 (f i) fi.1.1 (by omega) fi.2 h1 e
          rw [ej] at b1
          exact absurd b2 (fun b2 => rdBf_no hd fi.1 (by omega) b1 b2)
  · intro e
    rcases M with ⟨m1, m2⟩ | ⟨m1, m2, m3, m4⟩
    · omega
    · rw [e] at m3
      refine ⟨m3, fun ⟨j, hj, ej⟩ => ?_⟩
      rw [e] at ej
      have b1 := o4 j i hj.1 hj.2 hi.2
      rw [ej] at b1
      exact rdBf_no hd fi.1 fi.1 b1 b1
theorem CRD_decided {post : (Nat → Nat) → (Nat → Nat) → (Nat → Int → Int) → (Nat → Int → Int) → (Nat → Int) → (Nat → Option Nat) → (Nat → Int) → (Nat → Int) → Prop} {w of tl : Int} (S : rdS0 kd an ai al ar mX27_groups mX27_conditions mX27_rules mX27_sets mX27_right mX27_known mX27_asks mX27_done mX27_more mX27_its mX27_allowed mX27_other mX27_order mX28_person mX28_graph mX28_predicate mX28_class0 mX28_version mX75_kind mX75_number mX75_groups mX76_from mX76_to mX77_of mX78_least mX78_of mX80_rank mX80_denies mX80_condition mJ1_modCount mJ2_elementData mJ2_size mJ4_words mJ4_wordsInUse mJ4_sizeIsSticky sa A gi g kk a b c nc rk dn wn nr e0 f0 e1 f1 e2 D) (H : rdBB al mJ4_words mJ4_wordsInUse A (5 + nc) B) (T : rdRt mX27_right A g kk a b c nc B) (htl : tl = 3 ∨ tl = 4)
    (hp : ∀ f2 f3 al' iu' rt' B', rdBB al' mJ4_words iu' A (5 + nc) B' → rdRt rt' A g kk a b c nc B' → (∀ q, 0 ≤ q → q < 6144 → (B' tl q ↔ rdAl g kk a b c rk dn wn nr q w)) → (∀ q, 0 ≤ q → q < 6144 → (B' 2 q ↔ 0 ≤ rdDec g kk a b c rk dn wn nr q w ∧ rdDec g kk a b c rk dn wn nr q w = of)) → (∀ s, 3 ≤ s → s < 5 → s ≠ tl → B' s = B s) → post kd an (va_up (va_up ai (A 2 0) f2) (A 3 0) f3) al' rt' mJ4_words iu' mJ4_sizeIsSticky) : wpRD_X27_decided MC MS post kd an ai al ar mX27_conditions mX27_rules mX27_sets mX27_right mX27_known mX27_asks mX27_done mX27_more mX27_its mX27_order mX28_person mX28_graph mX28_predicate mX28_class0 mX28_version mX75_kind mX75_number mX75_groups mX76_from mX76_to mX77_of mX78_least mX78_of mX80_rank mX80_denies mX80_condition mJ2_elementData mJ2_size mJ4_words mJ4_wordsInUse mJ4_sizeIsSticky (A 0 0) w of (some (A 6 tl)) := by
  obtain ⟨s1, s2, s3, s4, s5, s6, s7, s8⟩ := id S
  have hC := s3.1.1
  have hd := s3.2
  have hr := hd.1
  have k6 : ∀ j, 0 ≤ j → j < 5 → kd (A 6 j) = 10 := fun j x y => s1.kd_ 6 j x (by show j < 5 + nc; omega)
  have zz : (0 ≤ MC ∧ 0 ≤ MS) := ⟨Nat.zero_le _, Nat.zero_le _⟩
  have k2 : kd (A 2 0) = 11 := s1.kd_ 2 0 (by decide) z01
  have l2 : an (A 2 0) = 20 := s1.an_ 2 0 (by decide) z01 (by decide)
  have k41 : kd (A 4 1) = 9 := s1.kd_ 4 1 (by decide) (by show (1 : Int) < 3; decide)
  have n23 : A 2 0 ≠ A 3 0 := s1.ne ⟨by decide, z01⟩ ⟨by decide, z01⟩ (Or.inl (by decide))
  unfold wpRD_X27_decided
  refine ⟨zz, CRD_inOrder S (fun n f O => ?_)⟩
  have S2 := S.ai2 f
  refine kOn_of s2.2.2.1 ⟨k6 0 (by decide) (by decide), zz, CRD_bclear s1 H (by decide) (by omega) (fun al1 iu1 H1 => kOn_of s2.2.2.2.2.1 ⟨k6 2 (by decide) (by decide), zz, CRD_bclear s1 H1 (by decide) (by omega) (fun al2 iu2 H2 => kOn_some ⟨k6 tl (by omega) (by omega), zz, CRD_bclear s1 H2 (by omega) (by omega) (fun al3 iu3 H3 => ?_)⟩)⟩)⟩
  have b0 : ∀ q, ¬ updI (updI (updI B 0 (fun _ => False)) 2 (fun _ => False)) tl (fun _ => False) 0 q := fun q => by rw [updI_n (show (0 : Int) ≠ tl by omega), updI_n (by decide), updI_s]; exact id
  have b2 : ∀ q, ¬ updI (updI (updI B 0 (fun _ => False)) 2 (fun _ => False)) tl (fun _ => False) 2 q := fun q => by rw [updI_n (show (2 : Int) ≠ tl by omega), updI_s]; exact id
  have bt : ∀ q, ¬ updI (updI (updI B 0 (fun _ => False)) 2 (fun _ => False)) tl (fun _ => False) tl q := fun q => by rw [updI_s]; exact id
  have bo : ∀ s, s ≠ 0 → s ≠ 2 → s ≠ tl → updI (updI (updI B 0 (fun _ => False)) 2 (fun _ => False)) tl (fun _ => False) s = B s := fun s x y z => by rw [updI_n z, updI_n y, updI_n x]
  generalize updI (updI (updI B 0 (fun _ => False)) 2 (fun _ => False)) tl (fun _ => False) = B3 at H3 b0 b2 bt bo
  have T3 : rdRt mX27_right A g kk a b c nc B3 := ⟨T.1, fun k x y q x' y' => by rw [bo _ (by omega) (by omega) (by omega)]; exact T.2 k x y q x' y'⟩
  obtain ⟨o1, o2, o3, o4⟩ := id O
  refine wl5 (fun m x ai al rt iu => wRD_X27_decided_28 MC MS _ (A 0 0) of (some (A 6 tl)) n ar mX27_conditions mX27_rules mX27_sets mX27_known mX27_asks mX27_done mX27_more mX27_its mX27_order mX28_person mX28_graph mX28_predicate mX28_class0 mX28_version mX75_kind mX75_number mX75_groups mX76_from mX76_to mX77_of mX78_least mX78_of mX80_denies mX80_condition mJ2_elementData mJ2_size m x kd an ai al rt mJ4_words iu mJ4_sizeIsSticky 0 0) (fun x ai2 al2 rt2 iu2 => (0 ≤ x ∧ x ≤ n) ∧ ∃ f3 B', ai2 = va_up (va_up ai (A 2 0) f) (A 3 0) f3 ∧ rdBB al2 mJ4_words iu2 A (5 + nc) B' ∧ rdRt rt2 A g kk a b c nc B' ∧ (∀ q, 0 ≤ q → q < 6144 → (B' 0 q ↔ ∃ j, (0 ≤ j ∧ j < x) ∧ f j = rdDec g kk a b c rk dn wn nr q w)) ∧ (∀ q, 0 ≤ q → q < 6144 → (B' 2 q ↔ (∃ j, (0 ≤ j ∧ j < x) ∧ f j = rdDec g kk a b c rk dn wn nr q w) ∧ rdDec g kk a b c rk dn wn nr q w = of)) ∧ (∀ q, 0 ≤ q → q < 6144 → (B' tl q ↔ (∃ j, (0 ≤ j ∧ j < x) ∧ f j = rdDec g kk a b c rk dn wn nr q w) ∧ dn (rdDec g kk a b c rk dn wn nr q w) = 0)) ∧ ∀ s, 3 ≤ s → s < 5 → s ≠ tl → B' s = B s) (fun x _ _ _ _ => (n - x).toNat) ?_ 0 (va_up ai (A 2 0) f) al3 mX27_right iu3 ⟨by omega, va_up ai (A 2 0) f (A 3 0), B3, (va_up_id rfl).symm, H3, T3, fun q x y => ⟨fun z => absurd z (b0 q), fun ⟨j, hj, _⟩ => by omega⟩, fun q x y => ⟨fun z => absurd z (b2 q), fun ⟨⟨j, hj, _⟩, _⟩ => by omega⟩, fun q x y => ⟨fun z => absurd z (bt q), fun ⟨⟨j, hj, _⟩, _⟩ => by omega⟩, fun s x y z => bo s (by omega) (by omega) z⟩
  rintro x ai2 al2 rt2 iu2 ⟨hx, f3, B', rfl, H4, T4, i0, i2, it, io⟩ m ih
  rw [wRD_X27_decided_28]
  refine ⟨fun z => ?_, fun z => kOn_of s2.1.2.1 ⟨k2, by rw [l2]; show 0 ≤ x ∧ x < 20; omega, kOn_of s2.2.1.2.1 ⟨k41, zz, ?_⟩⟩⟩
  · have : x = n := by omega
    subst this
    have full : ∀ q, (∃ j, (0 ≤ j ∧ j < x) ∧ f j = rdDec g kk a b c rk dn wn nr q w) ↔ 0 ≤ rdDec g kk a b c rk dn wn nr q w := by
      intro q
      constructor
      · rintro ⟨j, hj, e⟩
        rw [← e]; exact (o2 j hj.1 hj.2).1.1
      · intro y
        rcases rdB_min (H := rdH g kk a b c q) (w := w) hd nr.toNat (by omega) with ⟨m1, _⟩ | ⟨m1, m2, _⟩
        · have e : rdDec g kk a b c rk dn wn nr q w = -1 := m1
          omega
        · unfold rdDec; exact o3 _ m1.1 (by omega) m2
    refine ⟨zz.1, zz.2, hp f f3 al2 iu2 rt2 B' H4 T4 (fun q u v => ?_) (fun q u v => ?_) io⟩
    · rw [it q u v, full]; exact Iff.rfl
    · rw [i2 q u v, full]
  · have fx := o2 x hx.1 (by omega)
    obtain ⟨p1, p2, p3, p4⟩ := s6.2 (f x) fx.1.1 fx.1.2
    have hw := (hd.2 (f x) fx.1.1 fx.1.2).2.2
    have er : va_up (va_up ai (A 2 0) f) (A 3 0) f3 (A 2 0) = f := by rw [va_up_ne _ _ n23, va_up_self]
    rw [er]
    refine CRD_lget s6.1 fx.1.1 fx.1.2 (kOn_some ⟨p1, 0, 0, zz, ?_⟩)
    rw [p4]
    have S4 : rdS0 kd an (va_up (va_up ai (A 2 0) f) (A 3 0) f3) al2 ar mX27_groups mX27_conditions mX27_rules mX27_sets rt2 mX27_known mX27_asks mX27_done mX27_more mX27_its mX27_allowed mX27_other mX27_order mX28_person mX28_graph mX28_predicate mX28_class0 mX28_version mX75_kind mX75_number mX75_groups mX76_from mX76_to mX77_of mX78_least mX78_of mX80_rank mX80_denies mX80_condition mJ1_modCount mJ2_elementData mJ2_size mJ4_words iu2 mJ4_sizeIsSticky sa A gi g kk a b c nc rk dn wn nr e0 f0 e1 f1 e2 D := S2.ai3 f3
    refine CRD_setOf S4 H4 T4 hw (fun f4 al5 iu5 rt5 B5 H5 T5 u5 v5 _ => ⟨0, 0, zz, ?_⟩)
    rw [s2.2.2.1, s2.2.2.2.1, va_up_up]
    refine CRD_put s1 H5 ⟨by decide, by omega⟩ ⟨by omega, by omega⟩ ⟨by decide, by omega⟩ (by omega) (by decide) (fun al6 iu6 B6 H6 u6 v6 _ => ⟨by rw [l2]; show 0 ≤ x ∧ x < 20; omega, ?_⟩)
    have er2 : va_up (va_up ai (A 2 0) f) (A 3 0) f4 (A 2 0) = f := by rw [va_up_ne _ _ n23, va_up_self]
    rw [er2]
    have more : ∀ q, 0 ≤ q → q < 6144 → (B6 1 q ↔ rdDec g kk a b c rk dn wn nr q w = f x) := by
      intro q q0 q1
      rw [v6, T5.2 (wn (f x)) hw.1 v5.1 q q0 q1, u5 0 (by decide), i0 q q0 q1]
      exact rdOd_hit hd O ⟨hx.1, by omega⟩
    have ext : ∀ q, (∃ j, (0 ≤ j ∧ j < x + 1) ∧ f j = rdDec g kk a b c rk dn wn nr q w) ↔ (∃ j, (0 ≤ j ∧ j < x) ∧ f j = rdDec g kk a b c rk dn wn nr q w) ∨ rdDec g kk a b c rk dn wn nr q w = f x := by
      intro q
      constructor
      · rintro ⟨j, hj, e⟩
        by_cases hjx : j = x
        · subst hjx; exact Or.inr e.symm
        · exact Or.inl ⟨j, by omega, e⟩
      · rintro (⟨j, hj, e⟩ | e)
        · exact ⟨j, by omega, e⟩
        · exact ⟨x, by omega, e.symm⟩
    -- what is kept through the rest of the round
    have T6 : ∀ rt B7, (∀ s, 5 ≤ s → B7 s = B6 s) → rdRt rt A g kk a b c nc B5 → rdRt rt A g kk a b c nc B7 := fun rt B7 hs ht => ⟨ht.1, fun k a1 a2 q a3 a4 => by rw [hs _ (by omega), u6 _ (by omega)]; exact ht.2 k a1 a2 q a3 a4⟩
    have go : ∀ al7 iu7 B7, rdBB al7 mJ4_words iu7 A (5 + nc) B7 → (∀ s, s ≠ 2 → B7 s = B6 s) → (∀ q, 0 ≤ q → q < 6144 → (B7 2 q ↔ B6 2 q ∨ (f x = of ∧ B6 1 q))) → wRD_X27_decided_96 MC MS (wRD_X27_decided_28 MC MS (fun kd_122 an_123 ai_124 al_125 mX27_right_126 mJ4_words_127 mJ4_wordsInUse_128 mJ4_sizeIsSticky_129 kc_130 ks_131 => kc_130 ≤ MC ∧ ks_131 ≤ MS ∧ post kd_122 an_123 ai_124 al_125 mX27_right_126 mJ4_words_127 mJ4_wordsInUse_128 mJ4_sizeIsSticky_129) (A 0 0) of (some (A 6 tl)) n ar mX27_conditions mX27_rules mX27_sets mX27_known mX27_asks mX27_done mX27_more mX27_its mX27_order mX28_person mX28_graph mX28_predicate mX28_class0 mX28_version mX75_kind mX75_number mX75_groups mX76_from mX76_to mX77_of mX78_least mX78_of mX80_denies mX80_condition mJ2_elementData mJ2_size m) (A 0 0) (some (A 6 tl)) x (some (f1 (f x))) kd an (va_up (va_up ai (A 2 0) f) (A 3 0) f4) al7 rt5 mX27_done mX27_more mX80_denies mJ4_words iu7 mJ4_sizeIsSticky ((0 : Nat)) ((0 : Nat)) := by
      intro al7 iu7 B7 H7 u7 v7
      refine CRD_d96 (al := al7) (mJ4_wordsInUse := iu7) s1 s2 hC.1 H7 p1 (by omega) htl zz (fun al8 iu8 B8 H8 u8 v8 w8 => ?_)
      have e1 : B7 1 = B6 1 := u7 1 (by decide)
      have e0' : B7 0 = B' 0 := by rw [u7 0 (by decide), u6 0 (by decide), u5 0 (by decide)]
      have et : B7 tl = B' tl := by rw [u7 tl (by omega), u6 tl (by omega), u5 tl (by omega)]
      have e2' : B6 2 = B' 2 := by rw [u6 2 (by decide), u5 2 (by decide)]
      refine ih _ _ _ _ _ ⟨by omega, f4, B8, rfl, H8, T6 rt5 B8 (fun s hs => by rw [u8 s (by omega) (by omega), u7 s (by omega)]) T5, fun q q0 q1 => ?_, fun q q0 q1 => ?_, fun q q0 q1 => ?_, fun s a1 a2 a3 => ?_⟩ (by omega)
      · rw [v8, e0', e1, more q q0 q1, i0 q q0 q1, ext]
      · rw [u8 2 (by decide) (by omega), v7 q q0 q1, e2', i2 q q0 q1, more q q0 q1, ext]
        constructor
        · rintro (⟨y1, y2⟩ | ⟨y1, y2⟩)
          · exact ⟨Or.inl y1, y2⟩
          · exact ⟨Or.inr y2, by rw [y2]; exact y1⟩
        · rintro ⟨y1 | y1, y2⟩
          · exact Or.inl ⟨y1, y2⟩
          · exact Or.inr ⟨by rw [← y1]; exact y2, y1⟩
      · rw [w8, et, e1, it q q0 q1, more q q0 q1, ext, p3]
        constructor
        · rintro (⟨y1, y2⟩ | ⟨y1, y2⟩)
          · exact ⟨Or.inl y1, y2⟩
          · exact ⟨Or.inr y2, by rw [y2]; exact y1⟩
        · rintro ⟨y1 | y1, y2⟩
          · exact Or.inl ⟨y1, y2⟩
          · exact Or.inr ⟨by rw [← y1]; exact y2, y1⟩
      · rw [u8 s (by omega) a3, u7 s (by omega), u6 s (by omega), u5 s (by omega)]; exact io s a1 a2 a3
    refine ⟨fun y => kOn_of s2.2.2.2.2.1 ⟨k6 2 (by decide) (by decide), 0, 0, zz, ?_⟩, fun y => go al6 iu6 B6 H6 (fun _ _ => rfl) (fun q _ _ => ⟨Or.inl, fun w => w.elim id (fun w => absurd w.1 y)⟩)⟩
    refine CRD_bor s1 H6 (by decide) (by omega) (by decide) (by omega) (by decide) (fun al7 iu7 H7 _ => go al7 iu7 _ H7 (fun s hs => updI_n hs) (fun q _ _ => ?_))
    rw [updI_s]; simp [y]
end
