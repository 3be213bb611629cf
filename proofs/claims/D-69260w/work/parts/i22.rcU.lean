/-! RuleEngine (room RE): find's loops -/
section
variable {kd : Nat → Nat} {an : Nat → Nat} {ai : Nat → Int → Int} {al : Nat → Int → Int} {ar : Nat → Int → Option Nat} {mX35_said : Nat → Option Nat} {mX35_rules : Nat → Option Nat} {mX35_strata : Nat → Option Nat} {mX35_needs : Nat → Option Nat} {mX35_safe : Nat → Option Nat} {mX35_circle : Nat → Int} {mX35_known : Nat → Int} {mX35_holds : Nat → Option Nat} {mX35_rounds : Nat → Option Nat} {mX35_counts : Nat → Option Nat} {mX35_roundCount : Nat → Int} {mX35_last : Nat → Option Nat} {mX35_next : Nat → Option Nat} {mX35_values : Nat → Option Nat} {mX35_coming : Nat → Option Nat} {mX35_counting : Nat → Option Nat} {mX35_gathering : Nat → Option Nat} {mX35_together : Nat → Option Nat} {mX35_held : Nat → Option Nat} {mX35_work : Nat → Int} {mX35_large : Nat → Int} {mX83_head : Nat → Option Nat} {mX83_parts : Nat → Option Nat} {mX83_kind : Nat → Int} {mX83_variable : Nat → Int} {mX84_sort : Nat → Int} {mX84_name : Nat → Int} {mX84_x : Nat → Int} {mX84_y : Nat → Int} {mJ1_modCount : Nat → Int} {mJ2_elementData : Nat → Option Nat} {mJ2_size : Nat → Int} {mJ4_words : Nat → Option Nat} {mJ4_wordsInUse : Nat → Int} {mJ4_sizeIsSticky : Nat → Int} {sa : Nat → Nat} {A : Nat → Int → Nat} {hd ki fo ln pt sd st rn gv : Int → Int} {n r k v c s : Int} {e0 : Nat} {W : Int → Nat} {Lq : Int → Int} {Pq : Int → Int → Prop} {MC MS : Nat} {F H_ Li Ro : Int → Nat} {Pa : Int → Int → Nat} {G : Nat → Nat × Int} {L0 : Int → Int} {P0 : Int → Int → Prop} {ai0 : Nat → Int → Int} {ne la fr : Int}
variable {w1 w2 : Nat} {L1 L2 : Int} {S0 Ho La : Int → Prop} {kc ks : Nat}
theorem CRE_f38 {K : (Nat → Int → Int) → Prop} {w : Nat} {L : Int} (hC : kc ≤ MC) (hD : ks ≤ MS) (H : Lab rxK rxL kd an A G rxN) (rSd : mX35_said (A 0 0) = some (A 1 0)) (rRd : mX35_rounds (A 0 0) = some (A 4 0)) (rCt : mX35_counts (A 0 0) = some (A 4 1)) (B : bsI kd an al mJ4_words mJ4_wordsInUse (A 1 0) w L S0)
  (hK : ∀ ai', (∀ a, a ≠ A 4 0 → a ≠ A 4 1 → ai' a = ai a) → (∀ c, 0 ≤ c → c < 16384 → ai' (A 4 0) c = pif (S0 c) 0 (-2) ∧ ai' (A 4 1) c = 0) → K ai') : ∃ fu, wRE_X35_find_38 MC MS K (A 0 0) kd an al mX35_said mX35_rounds mX35_counts mJ4_words mJ4_wordsInUse kc ks fu 0 ai := by
  have k40 : kd (A 4 0) = 9 := rx_kd H 4 0 (by decide) (by decide)
  have a40 : an (A 4 0) = 16384 := rx_an H 4 0 (by decide) (by decide) (by decide)
  have k41 : kd (A 4 1) = 9 := rx_kd H 4 1 (by decide) (by decide)
  have a41 : an (A 4 1) = 16384 := rx_an H 4 1 (by decide) (by decide) (by decide)
  have k8 : kd (A 1 0) = 8 := rx_kd H 1 0 (by decide) (by decide)
  refine wl2 (fun fu x a => wRE_X35_find_38 MC MS K (A 0 0) kd an al mX35_said mX35_rounds mX35_counts mJ4_words mJ4_wordsInUse kc ks fu x a) (fun (x : Int) (a : Nat → Int → Int) => (0 ≤ x ∧ x ≤ 16384) ∧ (∀ b, b ≠ A 4 0 → b ≠ A 4 1 → a b = ai b) ∧ ∀ c, 0 ≤ c → c < x → a (A 4 0) c = pif (S0 c) 0 (-2) ∧ a (A 4 1) c = 0) (fun x _ => (16384 - x).toNat) ?_ 0 ai ⟨by decide, fun _ _ _ => rfl, fun c c0 c1 => by omega⟩
  rintro x a ⟨hx, s1, s2⟩ fu ih
  rw [wRE_X35_find_38]
  refine ⟨fun z => hK a s1 (fun c c0 c1 => s2 c c0 (by omega)), fun z => kOn_of rSd ⟨k8, ⟨hC, hD⟩, CRE_getG B hx.1 (by omega) (fun q => ⟨fun y => absurd y (by decide), fun _ => ?_⟩) (fun q => ⟨fun _ => ?_, fun y => absurd rfl y⟩)⟩⟩
  · refine kOn_of rRd ⟨k40, by rw [a40]; exact ⟨hx.1, by show x < 16384; omega⟩, fun a1 e1 => kOn_of rCt ⟨k41, by rw [a41]; exact ⟨hx.1, by show x < 16384; omega⟩, fun a2 e2 => ⟨by omega, fun x' ex => ?_⟩⟩⟩
    rw [ex]
    refine ih _ _ ⟨by omega, fun b b0 b1 => by rw [e2, va_up_ne _ _ b1, e1, va_up_ne _ _ b0]; exact s1 b b0 b1, fun c c0 c1 => ?_⟩ (by omega)
    have n01 : A 4 0 ≠ A 4 1 := H.ne (i := 4) (i' := 4) ⟨by decide, by decide⟩ ⟨by decide, by decide⟩ (Or.inr (by decide))
    rw [e2, va_up_self, va_up_ne _ _ n01, e1, va_up_self, va_up_ne _ _ n01.symm, updI_e, updI_e]
    by_cases y : c = x
    · rw [if_pos y, if_pos y, y]; exact ⟨(pif_t q).symm, rfl⟩
    · rw [if_neg y, if_neg y]; exact s2 c c0 (by omega)
  · refine kOn_of rRd ⟨k40, by rw [a40]; exact ⟨hx.1, by show x < 16384; omega⟩, fun a1 e1 => kOn_of rCt ⟨k41, by rw [a41]; exact ⟨hx.1, by show x < 16384; omega⟩, fun a2 e2 => ⟨by omega, fun x' ex => ?_⟩⟩⟩
    rw [ex]
    refine ih _ _ ⟨by omega, fun b b0 b1 => by rw [e2, va_up_ne _ _ b1, e1, va_up_ne _ _ b0]; exact s1 b b0 b1, fun c c0 c1 => ?_⟩ (by omega)
    have n01 : A 4 0 ≠ A 4 1 := H.ne (i := 4) (i' := 4) ⟨by decide, by decide⟩ ⟨by decide, by decide⟩ (Or.inr (by decide))
    rw [e2, va_up_self, va_up_ne _ _ n01, e1, va_up_self, va_up_ne _ _ n01.symm, updI_e, updI_e]
    by_cases y : c = x
    · rw [if_pos y, if_pos y, y]; exact ⟨(pif_f q).symm, rfl⟩
    · rw [if_neg y, if_neg y]; exact s2 c c0 (by omega)
theorem CRE_o25 {K : (Nat → Int → Int) → Prop} {w : Nat} {L : Int} (hC : kc ≤ MC) (hD : ks ≤ MS) (H : Lab rxK rxL kd an A G rxN) (rSd : mX35_said (A 0 0) = some (A 1 0)) (rRd : mX35_rounds (A 0 0) = some (A 4 0)) (B : bsI kd an al mJ4_words mJ4_wordsInUse (A 1 0) w L S0)
  (hK : ∀ ai', (∀ a, a ≠ A 4 0 → ai' a = ai a) → (∀ c, 0 ≤ c → c < 16384 → ai' (A 4 0) c = pif (S0 c) 0 (-2)) → K ai') : ∃ fu, wRE_X35_onlySaid_25 MC MS K (A 0 0) kd an al mX35_said mX35_rounds mJ4_words mJ4_wordsInUse kc ks fu 0 ai := by
  have k40 : kd (A 4 0) = 9 := rx_kd H 4 0 (by decide) (by decide)
  have a40 : an (A 4 0) = 16384 := rx_an H 4 0 (by decide) (by decide) (by decide)
  have k8 : kd (A 1 0) = 8 := rx_kd H 1 0 (by decide) (by decide)
  refine wl2 (fun fu x a => wRE_X35_onlySaid_25 MC MS K (A 0 0) kd an al mX35_said mX35_rounds mJ4_words mJ4_wordsInUse kc ks fu x a) (fun (x : Int) (a : Nat → Int → Int) => (0 ≤ x ∧ x ≤ 16384) ∧ (∀ b, b ≠ A 4 0 → a b = ai b) ∧ ∀ c, 0 ≤ c → c < x → a (A 4 0) c = pif (S0 c) 0 (-2)) (fun x _ => (16384 - x).toNat) ?_ 0 ai ⟨by decide, fun _ _ => rfl, fun c c0 c1 => by omega⟩
  rintro x a ⟨hx, s1, s2⟩ fu ih
  rw [wRE_X35_onlySaid_25]
  refine ⟨fun z => hK a s1 (fun c c0 c1 => s2 c c0 (by omega)), fun z => kOn_of rSd ⟨k8, ⟨hC, hD⟩, CRE_getG B hx.1 (by omega) (fun q => ⟨fun y => absurd y (by decide), fun _ => ?_⟩) (fun q => ⟨fun _ => ?_, fun y => absurd rfl y⟩)⟩⟩
  · refine kOn_of rRd ⟨k40, by rw [a40]; exact ⟨hx.1, by show x < 16384; omega⟩, fun a1 e1 => ⟨by omega, fun x' ex => ?_⟩⟩
    rw [ex]
    refine ih _ _ ⟨by omega, fun b b0 => by rw [e1, va_up_ne _ _ b0]; exact s1 b b0, fun c c0 c1 => ?_⟩ (by omega)
    rw [e1, va_up_self, updI_e]
    by_cases y : c = x
    · rw [if_pos y, y]; exact (pif_t q).symm
    · rw [if_neg y]; exact s2 c c0 (by omega)
  · refine kOn_of rRd ⟨k40, by rw [a40]; exact ⟨hx.1, by show x < 16384; omega⟩, fun a1 e1 => ⟨by omega, fun x' ex => ?_⟩⟩
    rw [ex]
    refine ih _ _ ⟨by omega, fun b b0 => by rw [e1, va_up_ne _ _ b0]; exact s1 b b0, fun c c0 c1 => ?_⟩ (by omega)
    rw [e1, va_up_self, updI_e]
    by_cases y : c = x
    · rw [if_pos y, y]; exact (pif_f q).symm
    · rw [if_neg y]; exact s2 c c0 (by omega)
theorem CRE_f83 {K : (Nat → Int → Int) → Prop} (hC : kc ≤ MC) (hD : ks ≤ MS) (I : reI hd ki fo ln pt n) (H : Lab rxK rxL kd an A G rxN) (R : rxRs kd an ar mX83_head mX83_parts mX83_kind mX83_variable mX84_sort mX84_name mX84_x mX84_y mJ2_elementData mJ2_size (sa 0) A hd ki fo ln pt n e0 F H_ Li Ro Pa) (rR : mX35_rules (A 0 0) = some (A 10 0)) (rS : mX35_safe (A 0 0) = some (A 3 0))
  (hK : ∀ ai', (∀ a, a ≠ A 3 0 → ai' a = ai a) → (∀ k, 0 ≤ k → k < n → (¬ ai' (A 3 0) k = 0 ↔ reSf hd ki fo ln pt k)) → K ai') : ∃ fu, wRE_X35_find_83 MC MS K (A 0 0) kd an ar mX35_rules mX35_safe mX83_head mX83_parts mX83_kind mX83_variable mX84_sort mX84_x mX84_y mJ2_elementData mJ2_size kc ks fu 0 ai := by
  have hn := I.1
  have k3 : kd (A 3 0) = 10 := rx_kd H 3 0 (by decide) (by decide)
  have a3 : an (A 3 0) = 16 := rx_an H 3 0 (by decide) (by decide) (by decide)
  have k10 : kd (A 10 0) = 7 := rx_kd H 10 0 (by decide) (by decide)
  obtain ⟨R1, R2, _⟩ := R
  refine wl2 (fun fu x a => wRE_X35_find_83 MC MS K (A 0 0) kd an ar mX35_rules mX35_safe mX83_head mX83_parts mX83_kind mX83_variable mX84_sort mX84_x mX84_y mJ2_elementData mJ2_size kc ks fu x a) (fun (x : Int) (a : Nat → Int → Int) => (0 ≤ x ∧ x ≤ n) ∧ (∀ b, b ≠ A 3 0 → a b = ai b) ∧ ∀ k, 0 ≤ k → k < x → (¬ a (A 3 0) k = 0 ↔ reSf hd ki fo ln pt k)) (fun x _ => (n - x).toNat) ?_ 0 ai ⟨by omega, fun _ _ => rfl, fun c c0 c1 => by omega⟩
  rintro x a ⟨hx, s1, s2⟩ fu ih
  rw [wRE_X35_find_83]
  unfold wpRE_J2_size
  refine kOn_of rR ⟨k10, ⟨hC, hD⟩, ?_⟩
  rw [R1.2.1]
  have nxt : ¬ n ≤ x → ∀ v : Int, (¬ v = 0 ↔ reSf hd ki fo ln pt x) → ∀ a1, a1 = va_up a (A 3 0) (updI (a (A 3 0)) x v) → zR (x + 1) ∧ ∀ x' : Int, x' = x + 1 → wRE_X35_find_83 MC MS K (A 0 0) kd an ar mX35_rules mX35_safe mX83_head mX83_parts mX83_kind mX83_variable mX84_sort mX84_x mX84_y mJ2_elementData mJ2_size kc ks fu x' a1 := fun z v hv a1 e1 => ⟨by omega, fun x' ex => by
    rw [ex]
    refine ih _ _ ⟨by omega, fun b b0 => by rw [e1, va_up_ne _ _ b0]; exact s1 b b0, fun k k0 k1 => ?_⟩ (by omega)
    rw [e1, va_up_self, updI_e]
    by_cases y : k = x
    · rw [if_pos y, y]; exact hv
    · rw [if_neg y]; exact s2 k k0 (by omega)⟩
  refine ⟨fun z => hK a s1 (fun k k0 k1 => s2 k k0 (by omega)), fun z => ⟨⟨hC, hD⟩, CRE_lget R1 hx.1 (by omega) (kOn_some ⟨(R2 x hx.1 (by omega)).1.1, ⟨hC, hD⟩, CRE_isSafe I ⟨hx.1, by omega⟩ (R2 x hx.1 (by omega)) (fun q => kOn_of rS ⟨k3, by rw [a3]; exact ⟨hx.1, by show x < 16; omega⟩, Or.inr rfl, fun a1 e1 => nxt z 1 ⟨fun _ => q, fun _ => by decide⟩ a1 e1⟩) (fun q => kOn_of rS ⟨k3, by rw [a3]; exact ⟨hx.1, by show x < 16; omega⟩, Or.inl rfl, fun a1 e1 => nxt z 0 ⟨fun y => absurd rfl y, fun y => absurd y q⟩ a1 e1⟩)⟩)⟩⟩
theorem CRE_f145 {K : (Nat → Int → Int) → Prop} (H : Lab rxK rxL kd an A G rxN) (rHd : mX35_held (A 0 0) = some (A 2 2)) (hK : ∀ ai', (∀ a, a ≠ A 2 2 → ai' a = ai a) → (∀ a, 0 ≤ a → a < 16 → ai' (A 2 2) a = 0) → K ai') : ∃ fu, wRE_X35_find_145 MC MS K (A 0 0) kd an mX35_held fu 0 ai := by
  have k2 : kd (A 2 2) = 9 := rx_kd H 2 2 (by decide) (by decide)
  have a2 : an (A 2 2) = 16 := rx_an H 2 2 (by decide) (by decide) (by decide)
  refine wl2 (fun fu x a => wRE_X35_find_145 MC MS K (A 0 0) kd an mX35_held fu x a) (fun (x : Int) (a : Nat → Int → Int) => (0 ≤ x ∧ x ≤ 16) ∧ (∀ b, b ≠ A 2 2 → a b = ai b) ∧ ∀ k, 0 ≤ k → k < x → a (A 2 2) k = 0) (fun x _ => (16 - x).toNat) ?_ 0 ai ⟨by omega, fun _ _ => rfl, fun c c0 c1 => by omega⟩
  rintro x a ⟨hx, s1, s2⟩ fu ih
  rw [wRE_X35_find_145]
  refine ⟨fun z => hK a s1 (fun k k0 k1 => s2 k k0 (by omega)), fun z => kOn_of rHd ⟨k2, by rw [a2]; exact ⟨hx.1, by show x < 16; omega⟩, fun a1 e1 => ⟨by omega, fun x' ex => ?_⟩⟩⟩
  rw [ex]
  refine ih _ _ ⟨by omega, fun b b0 => by rw [e1, va_up_ne _ _ b0]; exact s1 b b0, fun k k0 k1 => ?_⟩ (by omega)
  rw [e1, va_up_self, updI_e]
  by_cases y : k = x
  · rw [if_pos y]
  · rw [if_neg y]; exact s2 k k0 (by omega)
/-- the numbers of what is said -/
theorem CRE_f173 {K : (Nat → Int → Int) → Prop} {w : Nat} {L : Int} (hC : kc ≤ MC) (hD : ks ≤ MS) (H : Lab rxK rxL kd an A G rxN) (rSd : mX35_said (A 0 0) = some (A 1 0)) (rHd : mX35_held (A 0 0) = some (A 2 2)) (B : bsI kd an al mJ4_words mJ4_wordsInUse (A 1 0) w L S0) (h0 : ∀ a, 0 ≤ a → a < 16 → ai (A 2 2) a = 0)
  (hK : ∀ ai', (∀ a, a ≠ A 2 2 → ai' a = ai a) → (∀ a, 0 ≤ a → a < 16 → ai' (A 2 2) a = reFo (fun c => pif (S0 c) 0 (-1)) a) → K ai') :
  wpRE_J4_nextSetBit (fun (r_98 : Int) => ((∃ fu : Nat, wRE_X35_find_173 MC MS K (A 0 0) kd an al mX35_said mX35_held mJ4_words mJ4_wordsInUse kc ks fu r_98 ai))) kd an al mJ4_words mJ4_wordsInUse (A 1 0) 0 := by
  have k2 : kd (A 2 2) = 9 := rx_kd H 2 2 (by decide) (by decide)
  have a2 : an (A 2 2) = 16 := rx_an H 2 2 (by decide) (by decide) (by decide)
  have kn : kd (A 1 0) = 8 := rx_kd H 1 0 (by decide) (by decide)
  obtain ⟨rm, erm⟩ : ∃ rm : Int → Int → Int, rm = fun m c => pif (S0 c ∧ c < m) 0 (-1) := ⟨_, rfl⟩
  have rmc : ∀ m m' : Int, (∀ c, S0 c → (c < m ↔ c < m')) → rm m = rm m' := fun m m' h => by
    rw [erm]
    funext c
    by_cases z : S0 c ∧ c < m
    · show pif _ _ _ = pif _ _ _
      rw [pif_t z, pif_t ⟨z.1, (h c z.1).1 z.2⟩]
    · show pif _ _ _ = pif _ _ _
      rw [pif_f z, pif_f (fun y => z ⟨y.1, (h c y.1).2 y.2⟩)]
  have rmu : ∀ m, S0 m → rm (m + 1) = updI (rm m) m 0 := fun m pm => by
    rw [erm]
    funext c
    rw [updI_e]
    by_cases z : c = m
    · rw [if_pos z]
      show pif _ _ _ = _
      rw [pif_t ⟨by rw [z]; exact pm, by omega⟩]
    · rw [if_neg z]
      show pif _ _ _ = pif _ _ _
      by_cases y : S0 c ∧ c < m
      · rw [pif_t y, pif_t ⟨y.1, by omega⟩]
      · rw [pif_f y, pif_f (fun u => y ⟨u.1, by omega⟩)]
  have rmm : ∀ m, rm m m < 0 := fun m => by
    rw [erm]
    show pif _ _ _ < 0
    rw [pif_f (fun u => by omega)]
    decide
  have rme : ∀ m, (∀ j, m ≤ j → ¬ S0 j) → rm m = fun c => pif (S0 c) 0 (-1) := fun m h => by
    rw [erm]
    funext c
    show pif _ _ _ = pif _ _ _
    by_cases z : S0 c
    · rw [pif_t z, pif_t ⟨z, Classical.byContradiction (fun y => h c (by omega) z)⟩]
    · rw [pif_f z, pif_f (fun y => z y.1)]
  have rm0 : ∀ a, reFo (rm 0) a = 0 := fun a => by
    unfold reFo
    have e := cntI_c (p := fun i => 0 ≤ rm 0 (1024 * a + i)) (q := fun _ => False) (n := 1024) (fun i i0 i1 => by
      rw [erm]
      show 0 ≤ pif _ _ _ ↔ False
      rw [pif_f (fun y => by
        have := (B.2.2.2 _ y.1).1.1
        omega)]
      decide)
    rw [e]
    have z : ∀ m : Nat, cntI (fun _ => False) m = 0 := fun m => by
      induction m with
      | zero => rfl
      | succ m ihm =>
        show cntI (fun _ => False) m + pif False 1 0 = 0
        rw [ihm, pif_f (fun w => w)]; rfl
    exact z 1024
  have go : ∀ (x4 : Int) (a : Nat → Int → Int), (∃ m, (0 ≤ m ∧ m ≤ 16384) ∧ ((x4 = m ∧ S0 m) ∨ (x4 = -1 ∧ ∀ j, m ≤ j → ¬ S0 j)) ∧ (∀ b, b ≠ A 2 2 → a b = ai b) ∧ ∀ b, 0 ≤ b → b < 16 → a (A 2 2) b = reFo (rm m) b) → ∃ fu, wRE_X35_find_173 MC MS K (A 0 0) kd an al mX35_said mX35_held mJ4_words mJ4_wordsInUse kc ks fu x4 a := by
    refine wl2 (fun fu x4 a => wRE_X35_find_173 MC MS K (A 0 0) kd an al mX35_said mX35_held mJ4_words mJ4_wordsInUse kc ks fu x4 a) (fun (x4 : Int) (a : Nat → Int → Int) => ∃ m, (0 ≤ m ∧ m ≤ 16384) ∧ ((x4 = m ∧ S0 m) ∨ (x4 = -1 ∧ ∀ j, m ≤ j → ¬ S0 j)) ∧ (∀ b, b ≠ A 2 2 → a b = ai b) ∧ ∀ b, 0 ≤ b → b < 16 → a (A 2 2) b = reFo (rm m) b) (fun x4 _ => if x4 < 0 then 0 else (16385 - x4).toNat) ?_
    rintro x4 a ⟨m, hm, hx, s1, s3⟩ fu ih
    rw [wRE_X35_find_173]
    refine ⟨fun z => ?_, fun z => ?_⟩
    · have hno : ∀ j, m ≤ j → ¬ S0 j := by
        rcases hx with hx | hx
        · omega
        · exact hx.2
      rw [rme m hno] at s3
      exact hK a s1 s3
    · obtain ⟨ex, pm⟩ : x4 = m ∧ S0 m := by
        rcases hx with hx | hx
        · exact hx
        · omega
      subst ex
      have bm := (B.2.2.2 x4 pm).1
      have fb := reFo_b (rn := rm x4) (a := x4 / 1024)
      refine kOn_of rHd ⟨k2, by rw [a2]; exact ⟨by omega, by show x4 / 1024 < 16; omega⟩, ?_⟩
      rw [s3 _ (by omega) (by omega)]
      refine ⟨by omega, fun v ev a2_ e2 => kOn_of rSd ⟨kn, by omega, ⟨hC, hD⟩, ?_⟩⟩
      have t1 : ∀ b, b ≠ A 2 2 → a2_ b = ai b := fun b b2 => by rw [e2, va_up_ne _ _ b2]; exact s1 b b2
      have t3 : ∀ b, 0 ≤ b → b < 16 → a2_ (A 2 2) b = reFo (rm (x4 + 1)) b := fun b b0 b1 => by
        rw [e2, va_up_self, rmu x4 pm, reFo_u bm (rmm x4) (Int.le_refl _) b0, updI_e, ev]
        by_cases y : b = x4 / 1024
        · rw [if_pos y, if_pos y, y]
        · rw [if_neg y, if_neg y, s3 b b0 b1]; omega
      refine CRE_nsbG B (by omega) (by omega) (fun q q0 pq nq => ?_) (fun nq => ?_)
      · have bq := (B.2.2.2 q pq).1
        have e : rm (x4 + 1) = rm q := rmc _ _ (fun c pc => ⟨fun h => by omega, fun h => Classical.byContradiction (fun y => nq c (by omega) h pc)⟩)
        rw [e] at t3
        refine ih q a2_ ⟨q, by omega, Or.inl ⟨rfl, pq⟩, t1, t3⟩ ?_
        rw [if_neg (by omega), if_neg (by omega)]; omega
      · refine ih (-1) a2_ ⟨x4 + 1, by omega, Or.inr ⟨rfl, nq⟩, t1, t3⟩ ?_
        rw [if_pos (by decide), if_neg (by omega)]; omega
  refine CRE_nsbG B (by decide) (by decide) (fun q q0 pq nq => go q ai ⟨q, ?_, Or.inl ⟨rfl, pq⟩, fun _ _ => rfl, ?_⟩) (fun nq => go (-1) ai ⟨0, by decide, Or.inr ⟨rfl, nq⟩, fun _ _ => rfl, fun b b0 b1 => by rw [rm0 b]; exact h0 b b0 b1⟩)
  · have := (B.2.2.2 q pq).1; omega
  · have e : rm q = rm 0 := rmc q 0 (fun c pc => ⟨fun h => absurd pc (nq c ((B.2.2.2 c pc).1.1) h), fun h => by
      have := (B.2.2.2 c pc).1.1
      omega⟩)
    intro b b0 b1
    rw [e, rm0 b]; exact h0 b b0 b1
/-- all are counted -/
theorem CRE_f249 {K : (Nat → Nat) → (Nat → Nat) → (Nat → Int → Int) → (Nat → Int → Int) → (Nat → Option Nat) → (Nat → Int) → (Nat → Int) → Nat → Nat → Prop} {aiS : Nat → Int → Int} (hC : kc ≤ MC) (hD : ks ≤ MS) (I : reI hd ki fo ln pt n) (rR : mX35_rules (A 0 0) = some (A 10 0)) (rS : mX35_safe (A 0 0) = some (A 3 0)) (rV : mX35_values (A 0 0) = some (A 5 0)) (rH : mX35_holds (A 0 0) = some (A 1 1)) (rL : mX35_last (A 0 0) = some (A 1 la)) (hla : 0 ≤ la ∧ la < 4) (rCt : mX35_counts (A 0 0) = some (A 4 1)) (rTg : mX35_together (A 0 0) = some (A 6 0)) (rG : mX35_gathering (A 0 0) = some (A 9 0)) (rCo : mX35_counting (A 0 0) = some (A 8 0)) (H : Lab rxK rxL kd an A G rxN) (R : rxRs kd an ar mX83_head mX83_parts mX83_kind mX83_variable mX84_sort mX84_name mX84_x mX84_y mJ2_elementData mJ2_size (sa 0) A hd ki fo ln pt n e0 F H_ Li Ro Pa) (B1 : bsI kd an al mJ4_words mJ4_wordsInUse (A 1 1) w1 L1 Ho) (B2 : bsI kd an al mJ4_words mJ4_wordsInUse (A 1 la) w2 L2 La)
  (hsf : ∀ k, 0 ≤ k → k < n → (¬ aiS (A 3 0) k = 0 ↔ reSf hd ki fo ln pt k)) (hA : ∀ k : Nat, (k : Int) ≤ n → ((reAl hd ki fo ln pt st Ho (-1) k).length : Int) ≤ 1000000) (hCs : ∀ r, 0 ≤ r → r < n → reSf hd ki fo ln pt r → ((reCs ln pt Ho r).length : Int) ≤ 1000000) (hz : ∀ c, 0 ≤ c → c < 16384 → aiS (A 4 1) c = 0)
  (hK : ∀ ai' sk', (∀ a, a ≠ A 5 0 → a ≠ A 6 0 → a ≠ A 4 1 → ai' a = aiS a) → (∀ c, 0 ≤ c → c < 16384 → ai' (A 4 1) c = ((reAl hd ki fo ln pt st Ho (-1) n.toNat).count c : Int)) → K kd an ai' al mJ4_words mJ4_wordsInUse sk' kc ks) :
  ∀ (j k : Nat) (ai : Nat → Int → Int) (mJ4_sizeIsSticky : Nat → Int), (k : Int) + j = n → (∀ a, a ≠ A 5 0 → a ≠ A 6 0 → a ≠ A 4 1 → ai a = aiS a) → (∀ c, 0 ≤ c → c < 16384 → ai (A 4 1) c = ((reAl hd ki fo ln pt st Ho (-1) k).count c : Int)) → wRE_X35_find_249 MC MS K (A 0 0) ar mX35_rules mX35_safe mX35_holds mX35_counts mX35_last mX35_next mX35_values mX35_counting mX35_gathering mX35_together mX83_head mX83_parts mX83_kind mX83_variable mX84_sort mX84_name mX84_x mX84_y mJ2_elementData mJ2_size (j + 1) k kd an ai al mJ4_words mJ4_wordsInUse mJ4_sizeIsSticky kc ks := fun j => by
  have hn := I.1
  have k10 : kd (A 10 0) = 7 := rx_kd H 10 0 (by decide) (by decide)
  have a3 : an (A 3 0) = 16 := rx_an H 3 0 (by decide) (by decide) (by decide)
  have k3 : kd (A 3 0) = 10 := rx_kd H 3 0 (by decide) (by decide)
  obtain ⟨R1, R2, _⟩ := id R
  induction j with
  | zero =>
    intro k ai mJ4_sizeIsSticky hk f1 f2
    have nk : n ≤ (k : Int) := by omega
    rw [show k = n.toNat by omega] at f2
    rw [wRE_X35_find_249]
    unfold wpRE_J2_size
    refine kOn_of rR ⟨k10, ⟨hC, hD⟩, ?_⟩
    rw [R1.2.1]
    exact ⟨fun _ => hK _ _ f1 f2, fun w => absurd nk w⟩
  | succ j ih =>
    intro k ai mJ4_sizeIsSticky hk f1 f2
    have eA3 : ai (A 3 0) = aiS (A 3 0) := f1 _ (H.ne (i := 3) (i' := 5) ⟨by decide, by decide⟩ ⟨by decide, by decide⟩ (Or.inl (by decide))) (H.ne (i := 3) (i' := 6) ⟨by decide, by decide⟩ ⟨by decide, by decide⟩ (Or.inl (by decide))) (H.ne (i := 3) (i' := 4) ⟨by decide, by decide⟩ ⟨by decide, by decide⟩ (Or.inl (by decide)))
    have sf := hsf k (by omega) (by omega)
    have eS : reAl hd ki fo ln pt st Ho (-1) (k + 1) = reAl hd ki fo ln pt st Ho (-1) k ++ pif (reSel hd ki fo ln pt st (-1) k) (reHl hd ki fo ln pt Ho k) [] := rfl
    rw [wRE_X35_find_249]
    unfold wpRE_J2_size
    refine kOn_of rR ⟨k10, ⟨hC, hD⟩, ?_⟩
    rw [R1.2.1]
    refine ⟨fun w => by omega, fun _ => kOn_of rS ⟨k3, by rw [a3]; exact ⟨by omega, by show (k : Int) < 16; omega⟩, fun q => ⟨by omega, fun x1 e1 => ?_⟩, fun q => ⟨⟨hC, hD⟩, CRE_lget R1 (by omega) (by omega) (kOn_some ⟨(R2 k (by omega) (by omega)).1.1, 0, 0, ⟨by omega, by omega⟩, ?_⟩)⟩⟩⟩
    · rw [eA3] at q
      rw [pif_f (fun u => (sf.2 u.1) q), List.append_nil] at eS
      rw [e1]
      have I2 := ih (k + 1) ai mJ4_sizeIsSticky (by omega) f1 (by rw [eS]; exact f2)
      rw [show ((k + 1 : Nat) : Int) = (k : Int) + 1 by omega] at I2
      exact I2
    · rw [eA3] at q
      have hs := sf.1 q
      rw [pif_t ⟨hs, Or.inl (by decide)⟩] at eS
      have lC := hCs k (by omega) (by omega) hs
      have lA := hA k (by omega)
      refine CRE_count (Ho := Ho) (La := La) I ⟨by omega, by omega⟩ hs rV rH rL hla rCt rTg rG rCo H R B1 B2 (fun c c0 c1 => ?_) (fun ai' st' s1 s2 kl => ⟨by omega, fun x1 e1 => ?_⟩)
      · have ct := List.count_le_length (a := c) (l := reAl hd ki fo ln pt st Ho (-1) k)
        rw [f2 c c0 c1]; omega
      · rw [e1]
        have I2 := ih (k + 1) ai' st' (by omega) (fun a a5 a6 a4 => by rw [s1 a a5 a6 a4]; exact f1 a a5 a6 a4) (fun c c0 c1 => by
          rw [s2 c c0 c1, f2 c c0 c1, eS, List.count_append]; omega)
        rw [show ((k + 1 : Nat) : Int) = (k : Int) + 1 by omega] at I2
        exact I2
theorem reLp_0 {t w : Int} {f : Nat} (hno : ∀ r, 0 ≤ r → r < n → ¬ reSel hd ki fo ln pt st s r) (hw : w ≤ 200000) (hn : 0 ≤ n) : reLp hd ki fo ln pt st n s (f + 1) 1 rn t w = (rn, t, w, 0) := by
  have eW : ∀ k : Nat, (k : Int) ≤ n → reWk hd ki fo ln pt st rn s w k = w := fun k => by
    induction k with
    | zero => intro _; rfl
    | succ k ih =>
      intro hk
      rw [reWk, pif_f (hno k (by omega) (by omega))]
      exact ih (by omega)
  have eA : ∀ k : Nat, (k : Int) ≤ n → reAl hd ki fo ln pt st (reHo rn) s k = [] := fun k => by
    induction k with
    | zero => intro _; rfl
    | succ k ih =>
      intro hk
      rw [reAl, pif_f (hno k (by omega) (by omega)), List.append_nil]
      exact ih (by omega)
  rw [reLp, eW n.toNat (by omega), eA n.toNat (by omega), if_neg (by omega), pif_f]
  rintro ⟨c, hc, _⟩
  exact absurd hc (by simp)
/-- all strata -/
theorem CRE_f206 (I : reI hd ki fo ln pt n) (hst : reLs (reEd hd ki fo ln pt n 1) (reEd hd ki fo ln pt n 2) st) (h15 : ∀ a, 0 ≤ a → a < 16 → st a ≤ 15) (rR : mX35_rules (A 0 0) = some (A 10 0)) (rT : mX35_strata (A 0 0) = some (A 2 0)) (rS : mX35_safe (A 0 0) = some (A 3 0)) (rV : mX35_values (A 0 0) = some (A 5 0)) (rH : mX35_holds (A 0 0) = some (A 1 1)) (rRd : mX35_rounds (A 0 0) = some (A 4 0)) (rHd : mX35_held (A 0 0) = some (A 2 2)) (rTg : mX35_together (A 0 0) = some (A 6 0)) (rG : mX35_gathering (A 0 0) = some (A 9 0)) (rC : mX35_coming (A 0 0) = some (A 7 0)) (hsf : ∀ k, 0 ≤ k → k < n → (¬ ai0 (A 3 0) k = 0 ↔ reSf hd ki fo ln pt k)) (hsa : ∀ a, 0 ≤ a → a < 16 → ai0 (A 2 0) a = st a) :
  ∀ (j : Nat) (s : Int) (rn : Int → Int) (t w g la ne : Int) (La : Int → Prop) (L : Int → Int), s + j = 16 → 0 ≤ s → ((la = 2 ∧ ne = 3) ∨ (la = 3 ∧ ne = 2)) → (∀ j, 1 ≤ j → j < 4 → 1 ≤ L j ∧ L j ≤ 510) → (0 ≤ t ∧ t ≤ s * 16385) → (g = 0 ∧ 0 ≤ w ∧ w ≤ 200000 ∨ g = 1) →
  ∃ (L' : Int → Int) (la' ne' : Int) (La' : Int → Prop), (((la' = 2 ∧ ne' = 3) ∨ (la' = 3 ∧ ne' = 2)) ∧ L' 0 = L 0 ∧ ∀ j, 1 ≤ j → j < 4 → L j ≤ L' j ∧ L' j ≤ 510) ∧ ∀ (MC MS C D : Nat) (K : (Nat → Nat) → (Nat → Nat) → (Nat → Int → Int) → (Nat → Int → Int) → (Nat → Int) → (Nat → Option Nat) → (Nat → Option Nat) → (Nat → Int) → (Nat → Int) → (Nat → Option Nat) → (Nat → Int) → (Nat → Int) → Nat → Nat → Prop) (S0 : Int → Prop) (kd an : Nat → Nat) (ai al : Nat → Int → Int) (mX35_roundCount : Nat → Int) (mX35_last mX35_next : Nat → Option Nat) (mX35_work mX35_large : Nat → Int) (mJ4_words : Nat → Option Nat) (mJ4_wordsInUse mJ4_sizeIsSticky : Nat → Int) (kc ks : Nat), C ≤ MC → D ≤ MS → rxQ ar mX83_head mX83_parts mX83_kind mX83_variable mX84_sort mX84_name mX84_x mX84_y mJ2_elementData mJ2_size (sa 0) A G hd ki fo ln pt n e0 F H_ Li Ro Pa la L S0 La rn ai0 kd an ai al mJ4_words mJ4_wordsInUse → mX35_last (A 0 0) = some (A 1 la) → mX35_next (A 0 0) = some (A 1 ne) → mX35_roundCount (A 0 0) = t → mX35_work (A 0 0) = rxM w → mX35_large (A 0 0) = g → kc + (rxSm L' - rxSm L) ≤ C → ks + 2 * (rxSm L' - rxSm L) ≤ D →
    (∀ kd an ai al rc la ne wo lg wd iu sk (kc ks : Nat), rxQ ar mX83_head mX83_parts mX83_kind mX83_variable mX84_sort mX84_name mX84_x mX84_y mJ2_elementData mJ2_size (sa 0) A G hd ki fo ln pt n e0 F H_ Li Ro Pa la' L' S0 La' (reSs hd ki fo ln pt st n j s rn t w g).1 ai0 kd an ai al wd iu → la (A 0 0) = some (A 1 la') → ne (A 0 0) = some (A 1 ne') → rc (A 0 0) = (reSs hd ki fo ln pt st n j s rn t w g).2.1 → wo (A 0 0) = rxM (reSs hd ki fo ln pt st n j s rn t w g).2.2.1 → lg (A 0 0) = (reSs hd ki fo ln pt st n j s rn t w g).2.2.2 → kc ≤ C → ks ≤ D → K kd an ai al rc la ne wo lg wd iu sk kc ks) →
    wRE_X35_find_206 MC MS K (A 0 0) ar mX35_rules mX35_strata mX35_safe mX35_holds mX35_rounds mX35_counts mX35_values mX35_coming mX35_gathering mX35_together mX35_held mX83_head mX83_parts mX83_kind mX83_variable mX84_sort mX84_name mX84_x mX84_y mJ2_elementData mJ2_size (j + 2) s kd an ai al mX35_roundCount mX35_last mX35_next mX35_work mX35_large mJ4_words mJ4_wordsInUse mJ4_sizeIsSticky kc ks := by
  intro j
  have hn := I.1
  induction j with
  | zero =>
    intro s rn t w g la ne La L hs hs0 hne hL ht hg
    have e16 : s = 16 := by omega
    rcases hg with ⟨g0, hw⟩ | g1
    · subst g0
      obtain ⟨L', la', ne', La', ⟨q1, q2, q3⟩, q4⟩ := CRE_goThrough (round := 1) (t := t) (w := w) (L := L) (La := La) (rn := rn) rfl I hst hs0 rR rT rS rV rH rRd rHd rTg rG rC hsf hsa hne hL (by omega) hw
      have hno : ∀ r, 0 ≤ r → r < n → ¬ reSel hd ki fo ln pt st s r := fun r r0 r1 z => by
        have hd0 := (I.2 r r0 r1).1.1
        have := h15 _ hd0.1 hd0.2
        have := z.2.resolve_left (by omega)
        omega
      have eR : reLp hd ki fo ln pt st n s 16385 1 rn t w = (rn, t, w, 0) := reLp_0 (f := 16384) hno hw.2 hn.1
      rw [eR] at q4
      have s1 := q3 1 (by decide) (by decide)
      have s2 := q3 2 (by decide) (by decide)
      have s3 := q3 3 (by decide) (by decide)
      have sm : rxSm L ≤ rxSm L' := by unfold rxSm; omega
      refine ⟨L', la', ne', La', ⟨q1, q2, q3⟩, ?_⟩
      intro MC MS C D K S0 kd an ai al mX35_roundCount mX35_last mX35_next mX35_work mX35_large mJ4_words mJ4_wordsInUse mJ4_sizeIsSticky kc ks hC hD Q rL rN eT eW eG hkc hks hK
      rw [wRE_X35_find_206]
      refine ⟨fun z => absurd z (by omega), fun _ => ⟨fun _ => ⟨(rxSm L' - rxSm L).toNat, (2 * (rxSm L' - rxSm L)).toNat, ⟨by omega, by omega⟩, q4 _ _ _ S0 kd an ai al mX35_roundCount mX35_last mX35_next mX35_work mX35_large mJ4_words mJ4_wordsInUse mJ4_sizeIsSticky Q rL rN eT eW (by omega) (by omega) (fun kd1 an1 ai1 al1 rc1 la1 ne1 wo1 lg1 wd1 iu1 sk1 Q' l1 l2 l3 l4 l5 kl => ⟨by omega, fun x1 e1 => ?_⟩)⟩, fun z => absurd eG z⟩⟩
      rw [wRE_X35_find_206]
      exact ⟨fun _ => hK _ _ _ _ _ _ _ _ _ _ _ _ _ _ Q' l1 l2 l3 l4 l5 (by omega) (by omega), fun z => absurd (show 16 < x1 by omega) z⟩
    · refine ⟨L, la, ne, La, ⟨hne, rfl, fun j j0 j1 => ⟨Int.le_refl _, (hL j j0 j1).2⟩⟩, ?_⟩
      intro MC MS C D K S0 kd an ai al mX35_roundCount mX35_last mX35_next mX35_work mX35_large mJ4_words mJ4_wordsInUse mJ4_sizeIsSticky kc ks hC hD Q rL rN eT eW eG hkc hks hK
      rw [wRE_X35_find_206]
      exact ⟨fun z => absurd z (by omega), fun _ => ⟨fun z => by omega, fun _ => hK _ _ _ _ _ _ _ _ _ _ _ _ _ _ Q rL rN eT eW eG (by omega) (by omega)⟩⟩
  | succ j ih =>
    intro s rn t w g la ne La L hs hs0 hne hL ht hg
    rcases hg with ⟨g0, hw⟩ | g1
    · subst g0
      obtain ⟨L1, la1, ne1, La1, ⟨q1, q2, q3⟩, q4⟩ := CRE_goThrough (round := 1) (t := t) (w := w) (L := L) (La := La) (rn := rn) rfl I hst hs0 rR rT rS rV rH rRd rHd rTg rG rC hsf hsa hne hL (by omega) hw
      have rb := reLp_b (st := st) (s := s) I 16385 1 rn t w hw.1 hw.2
      have eS : reSs hd ki fo ln pt st n (j + 1) s rn t w 0 = reSs hd ki fo ln pt st n j (s + 1) (reLp hd ki fo ln pt st n s 16385 1 rn t w).1 (reLp hd ki fo ln pt st n s 16385 1 rn t w).2.1 (reLp hd ki fo ln pt st n s 16385 1 rn t w).2.2.1 (reLp hd ki fo ln pt st n s 16385 1 rn t w).2.2.2 := by rw [reSs, if_pos rfl]
      rw [eS]
      generalize reLp hd ki fo ln pt st n s 16385 1 rn t w = R at q4 rb
      obtain ⟨L', la', ne', La', ⟨p1, p2, p3⟩, p4⟩ := ih (s + 1) R.1 R.2.1 R.2.2.1 R.2.2.2 la1 ne1 La1 L1 (by omega) (by omega) q1 (fun j j0 j1 => by
        have := q3 j j0 j1
        have := hL j j0 j1
        omega) (by omega) rb.2
      have s1 := q3 1 (by decide) (by decide)
      have s2 := q3 2 (by decide) (by decide)
      have s3 := q3 3 (by decide) (by decide)
      have r1 := p3 1 (by decide) (by decide)
      have r2 := p3 2 (by decide) (by decide)
      have r3 := p3 3 (by decide) (by decide)
      have sm : rxSm L ≤ rxSm L1 := by unfold rxSm; omega
      have rm : rxSm L1 ≤ rxSm L' := by unfold rxSm; omega
      refine ⟨L', la', ne', La', ⟨p1, p2.trans q2, fun j j0 j1 => ⟨Int.le_trans (q3 j j0 j1).1 (p3 j j0 j1).1, (p3 j j0 j1).2⟩⟩, ?_⟩
      intro MC MS C D K S0 kd an ai al mX35_roundCount mX35_last mX35_next mX35_work mX35_large mJ4_words mJ4_wordsInUse mJ4_sizeIsSticky kc ks hC hD Q rL rN eT eW eG hkc hks hK
      rw [wRE_X35_find_206]
      refine ⟨fun z => absurd z (by omega), fun _ => ⟨fun _ => ⟨(rxSm L1 - rxSm L).toNat, (2 * (rxSm L1 - rxSm L)).toNat, ⟨by omega, by omega⟩, q4 _ _ _ S0 kd an ai al mX35_roundCount mX35_last mX35_next mX35_work mX35_large mJ4_words mJ4_wordsInUse mJ4_sizeIsSticky Q rL rN eT eW (by omega) (by omega) (fun kd1 an1 ai1 al1 rc1 la_ ne_ wo1 lg1 wd1 iu1 sk1 Q' l1 l2 l3 l4 l5 kl => ⟨by omega, fun x1 e1 => ?_⟩)⟩, fun z => absurd eG z⟩⟩
      rw [e1]
      exact p4 MC MS C D K S0 kd1 an1 ai1 al1 rc1 la_ ne_ wo1 lg1 wd1 iu1 sk1 _ _ hC hD Q' l1 l2 l3 l4 l5 (by omega) (by omega) hK
    · have eS : reSs hd ki fo ln pt st n (j + 1) s rn t w g = (rn, t, w, g) := by rw [reSs, if_neg (by omega)]
      rw [eS]
      refine ⟨L, la, ne, La, ⟨hne, rfl, fun j j0 j1 => ⟨Int.le_refl _, (hL j j0 j1).2⟩⟩, ?_⟩
      intro MC MS C D K S0 kd an ai al mX35_roundCount mX35_last mX35_next mX35_work mX35_large mJ4_words mJ4_wordsInUse mJ4_sizeIsSticky kc ks hC hD Q rL rN eT eW eG hkc hks hK
      rw [wRE_X35_find_206]
      exact ⟨fun z => absurd z (by omega), fun _ => ⟨fun z => by omega, fun _ => hK _ _ _ _ _ _ _ _ _ _ _ _ _ _ Q rL rN eT eW eG (by omega) (by omega)⟩⟩
end
