/-! RuleEngine (room RE): a rule comes; a rule goes -/
section
variable {kd : Nat → Nat} {an : Nat → Nat} {ai : Nat → Int → Int} {al : Nat → Int → Int} {ar : Nat → Int → Option Nat} {mX35_said : Nat → Option Nat} {mX35_rules : Nat → Option Nat} {mX35_strata : Nat → Option Nat} {mX35_needs : Nat → Option Nat} {mX35_safe : Nat → Option Nat} {mX35_circle : Nat → Int} {mX35_known : Nat → Int} {mX35_holds : Nat → Option Nat} {mX35_rounds : Nat → Option Nat} {mX35_counts : Nat → Option Nat} {mX35_roundCount : Nat → Int} {mX35_last : Nat → Option Nat} {mX35_next : Nat → Option Nat} {mX35_values : Nat → Option Nat} {mX35_coming : Nat → Option Nat} {mX35_counting : Nat → Option Nat} {mX35_gathering : Nat → Option Nat} {mX35_together : Nat → Option Nat} {mX35_held : Nat → Option Nat} {mX35_work : Nat → Int} {mX35_large : Nat → Int} {mX83_head : Nat → Option Nat} {mX83_parts : Nat → Option Nat} {mX83_kind : Nat → Int} {mX83_variable : Nat → Int} {mX84_sort : Nat → Int} {mX84_name : Nat → Int} {mX84_x : Nat → Int} {mX84_y : Nat → Int} {mJ1_modCount : Nat → Int} {mJ2_elementData : Nat → Option Nat} {mJ2_size : Nat → Int} {mJ4_words : Nat → Option Nat} {mJ4_wordsInUse : Nat → Int} {mJ4_sizeIsSticky : Nat → Int} {sa : Nat → Nat} {A : Nat → Int → Nat} {hd ki fo ln pt sd st rn gv : Int → Int} {n r k v c s : Int} {e0 : Nat} {W : Int → Nat} {Lq : Int → Int} {Pq : Int → Int → Prop} {MC MS : Nat} {F H_ Li Ro : Int → Nat} {Pa : Int → Int → Nat} {G : Nat → Nat × Int} {L0 : Int → Int} {P0 : Int → Int → Prop} {ai0 : Nat → Int → Int} {ne la fr : Int}
variable {mb l0 : Int}
theorem lsDj_s {K s0 e : Nat} (hK : K ≠ 0) : lsDj kd K s0 s0 e := fun hs h1 _ => absurd (h1.symm.trans hs) hK
theorem CRE_rule {post : Int → (Nat → Nat) → (Nat → Nat) → (Nat → Int → Option Nat) → (Nat → Int) → (Nat → Option Nat) → (Nat → Option Nat) → (Nat → Int) → (Nat → Int) → (Nat → Int) → (Nat → Int) → (Nat → Int) → (Nat → Int) → (Nat → Int) → (Nat → Option Nat) → (Nat → Int) → Prop} {a x y : Int} (hMC : 4 ≤ MC) (hMS : 60 ≤ MS) (I : reI hd ki fo ln pt n) (Rm : rxRm kd an ai al ar mX35_said mX35_rules mX35_strata mX35_needs mX35_safe mX35_circle mX35_known mX35_holds mX35_rounds mX35_counts mX35_roundCount mX35_last mX35_next mX35_values mX35_coming mX35_counting mX35_gathering mX35_together mX35_held mX35_work mX35_large mX83_head mX83_parts mX83_kind mX83_variable mX84_sort mX84_name mX84_x mX84_y mJ1_modCount mJ2_elementData mJ2_size mJ4_words mJ4_wordsInUse mJ4_sizeIsSticky (sa 0) A G l0 mb sd hd ki fo ln pt n) (hmb : mb < 90000) (h1 : ¬ ((0 ≤ a ∧ a < 16) ∧ reIt x ∧ reIt y) → post (-1) kd an ar mX35_known mX83_head mX83_parts mX83_kind mX83_variable mX84_sort mX84_name mX84_x mX84_y mJ1_modCount mJ2_elementData mJ2_size) (h3 : ((0 ≤ a ∧ a < 16) ∧ reIt x ∧ reIt y) → n = 16 → post (-3) kd an ar mX35_known mX83_head mX83_parts mX83_kind mX83_variable mX84_sort mX84_name mX84_x mX84_y mJ1_modCount mJ2_elementData mJ2_size)
  (h0 : ((0 ≤ a ∧ a < 16) ∧ reIt x ∧ reIt y) → n < 16 → ∀ kd9 an9 ar9 kn9 hp9 pp9 kp9 vp9 so9 nm9 px9 py9 mo9 ed9 sz9, rxRm kd9 an9 ai al ar9 mX35_said mX35_rules mX35_strata mX35_needs mX35_safe mX35_circle kn9 mX35_holds mX35_rounds mX35_counts mX35_roundCount mX35_last mX35_next mX35_values mX35_coming mX35_counting mX35_gathering mX35_together mX35_held mX35_work mX35_large hp9 pp9 kp9 vp9 so9 nm9 px9 py9 mo9 ed9 sz9 mJ4_words mJ4_wordsInUse mJ4_sizeIsSticky (sa 0) A G l0 (mb + 1) sd (updI (updI (updI hd (3 * n) a) (3 * n + 1) x) (3 * n + 2) y) (updI ki n (-1)) (updI fo n 0) (updI ln n 0) pt (n + 1) → post n kd9 an9 ar9 kn9 hp9 pp9 kp9 vp9 so9 nm9 px9 py9 mo9 ed9 sz9) : wpRE_X35_rule MC MS post kd an ar mX35_rules mX35_known mX83_head mX83_parts mX83_kind mX83_variable mX84_sort mX84_name mX84_x mX84_y mJ1_modCount mJ2_elementData mJ2_size sa (A 0 0) a x y := by
  obtain ⟨⟨H, rF⟩, ⟨e0, F, H_, Li, Ro, Pa, R, mo⟩, la, ne, W, L, P, hne, eL, ⟨rL, rN⟩, B, p0, told⟩ := Rm
  have rR := rF.1.2.2
  have k10 : kd (A 10 0) = 7 := rx_kd H 10 0 (by decide) (by decide)
  have hn := I.1
  obtain ⟨R1, R2, R3, R4⟩ := id R
  unfold wpRE_X35_rule
  refine ⟨⟨Nat.zero_le _, Nat.zero_le _⟩, CRE_isName (fun a0 a1 => ⟨fun z => absurd z (by decide), fun _ => ⟨⟨Nat.zero_le _, Nat.zero_le _⟩, CRE_isItem (fun ix => ⟨fun z => absurd z (by decide), fun _ => ⟨⟨Nat.zero_le _, Nat.zero_le _⟩, CRE_isItem (fun iy => ⟨fun z => absurd z (by decide), fun _ => kOn_of rR ⟨k10, ⟨Nat.zero_le _, Nat.zero_le _⟩, ?_⟩⟩) (fun w => ⟨fun _ => ⟨Nat.zero_le _, Nat.zero_le _, h1 (fun y => w y.2.2)⟩, fun z => absurd rfl z⟩)⟩⟩) (fun w => ⟨fun _ => ⟨Nat.zero_le _, Nat.zero_le _, h1 (fun y => w y.2.1)⟩, fun z => absurd rfl z⟩)⟩⟩) (fun w => ⟨fun _ => ⟨Nat.zero_le _, Nat.zero_le _, h1 (fun y => w y.1)⟩, fun z => absurd rfl z⟩)⟩
  have cond : (0 ≤ a ∧ a < 16) ∧ reIt x ∧ reIt y := ⟨⟨a0, a1⟩, ix, iy⟩
  unfold wpRE_J2_size
  rw [R1.2.1]
  refine ⟨fun z => ⟨Nat.zero_le _, Nat.zero_le _, h3 cond z⟩, fun z => ⟨⟨by omega, by omega⟩, fun q hq _ e1 _ e2 _ e3 vp9 e4 => ⟨⟨by omega, by omega⟩, fun q2 hq2 _ e5 _ e6 _ e7 _ e8 => ⟨⟨by omega, by omega⟩, CRE_Pinit ⟨1, 3, ⟨by omega, by omega⟩, ?_⟩⟩⟩⟩⟩
  rw [e5, e6, e7, e8, va_up_up, va_up_up, va_up_up, va_up_up]
  have n12 : q2 ≠ q := fun w => by rw [w, va_up_self] at hq2; exact absurd hq2 (by decide)
  have kq2 : kd q2 = 0 := by rw [va_up_ne _ _ n12] at hq2; exact hq2
  unfold wpRE_X83_init wpRE_J2_init wpRE_J1_init wpRE_J0_init
  refine ⟨⟨by omega, by omega⟩, fun q3 hq3 _ e9 _ e10 sz3 e11 => ⟨⟨by omega, by omega⟩, fun mo3 e12 ed3 e13 pp9 e14 kp9 e15 hp9 e16 => ⟨by omega, by omega, fun kl1 => ⟨1, 40, ⟨by omega, by omega⟩, ?_⟩⟩⟩⟩
  rw [e9, va_up_up] at e12
  rw [e10, va_up_up] at e13
  rw [e2, va_up_up] at e14
  rw [e3, va_up_up] at e15
  rw [e1, va_up_up] at e16
  have n32 : q3 ≠ q2 := fun w => by rw [w, va_up_self] at hq3; exact absurd hq3 (by decide)
  have n31 : q3 ≠ q := fun w => by rw [w, va_up_ne _ _ n12.symm, va_up_self] at hq3; exact absurd hq3 (by decide)
  have kq3 : kd q3 = 0 := by rw [va_up_ne _ _ n32, va_up_ne _ _ n31] at hq3; exact hq3
  obtain ⟨kd3, ek3⟩ : ∃ kd3, kd3 = va_up (va_up (va_up kd q 5) q2 6) q3 7 := ⟨_, rfl⟩
  have le3 : kLe kd an kd3 an := by
    rw [ek3]
    exact kLe_tr (kLe_new hq (fun _ _ => rfl)) (kLe_tr (kLe_new hq2 (fun _ _ => rfl)) (kLe_new hq3 (fun _ _ => rfl)))
  have k3q : kd3 q = 5 := by rw [ek3, va_up_ne _ _ n31.symm, va_up_ne _ _ n12.symm, va_up_self]
  have k3q2 : kd3 q2 = 6 := by rw [ek3, va_up_ne _ _ n32.symm, va_up_self]
  have k3q3 : kd3 q3 = 7 := by rw [ek3, va_up_self]
  rw [← ek3]
  have Rk := R.le le3
  have nA : A 10 0 ≠ q3 := fun w => by rw [w, kq3] at k10; exact absurd k10 (by decide)
  have L1 : lsOK kd3 an ar ed3 sz3 12 (sa 0) (A 10 0) e0 n F := R1.fr (e1 := q3) (by decide) le3 (fun _ _ => rfl) (fun hl w => by
    obtain ⟨k, _⟩ := R1.at (Int.le_refl 0) hl
    rw [w, kq3] at k; exact absurd k (by decide)) (by rw [e13, va_up_ne _ _ nA]) (by rw [e11, va_up_ne _ _ nA])
  have m3 : mo3 (A 10 0) = mJ1_modCount (A 10 0) := by rw [e12, va_up_ne _ _ nA]
  have mo1 := mo.1
  refine CRE_ladd L1 (by omega) (by rw [m3]; omega) (by decide) (by omega) (fun i i0 i1 => Or.inl ((le3 _ (by rw [(R2 i i0 i1).1.1]; decide)).1.trans (R2 i i0 i1).1.1)) (Or.inl k3q) (fun kd9 an9 ar9 ed9 e9_ le9 L9 he hfr hed ke9 hs0 kl kn9 ekn => ⟨⟨by omega, by omega⟩, ?_⟩)
  rw [va_up_self]
  show zR (n + 1 - 1) ∧ _ ∧ _ ∧ post (n + 1 - 1) _ _ _ _ _ _ _ _ _ _ _ _ _ _ _
  rw [show n + 1 - 1 = n by omega]
  have le := kLe_tr le3 le9
  have nLi : ∀ r, 0 ≤ r → r < n → Li r ≠ q3 := fun r r0 r1 w => by
    have k := (R2 r r0 r1).2.2.1
    rw [w, kq3] at k; exact absurd k (by decide)
  have nF : ∀ r, 0 ≤ r → r < n → F r ≠ q := fun r r0 r1 w => by
    have k := (R2 r r0 r1).1.1
    rw [w, hq] at k; exact absurd k (by decide)
  have nRo : ∀ r, 0 ≤ r → r < n → 0 < ln r → Ro r ≠ e9_ := fun r r0 r1 hl => (Rk.2.1 r r0 r1).2.2.2.1.ne (by decide) (Rk.2.2.2 r r0 r1).2 hs0 he hl
  refine ⟨by omega, by omega, by omega, h0 cond (by omega) _ _ _ _ _ _ _ _ _ _ _ _ _ _ _ ⟨⟨H.kLe le, rF⟩, ⟨e9_, updI F n q, upJ H_ n q2, upJ Li n q3, upJ Ro n (sa 0), Pa, ⟨L9, fun r r0 r1 => ?_, fun i j i0 i1 j0 j1 ne => ?_, fun i i0 i1 => ?_⟩, ?_, fun r r0 r1 => ?_, fun r r0 r1 hl2 => ?_⟩, la, ne, W, L, P, hne, eL, ⟨rL, rN⟩, B.le le, p0, fun z => absurd (by rw [ekn, va_up_self]) z⟩⟩
  · by_cases z : r = n
    · subst z
      rw [updI_s, upJ_s, upJ_s, upJ_s]
      refine ⟨⟨((le9 _ (by rw [k3q]; decide)).1).trans k3q, by rw [e16, va_up_self], by rw [e14, va_up_self], by rw [e15, va_up_self, updI_s], by rw [e4, va_up_self, updI_s]⟩, ⟨((le9 _ (by rw [k3q2]; decide)).1).trans k3q2, va_up_self _ _ _, ?_, ?_, ?_⟩, ((le9 _ (by rw [k3q3]; decide)).1).trans k3q3, ⟨?_, ?_, ?_, Or.inr ⟨rfl, updI_s⟩, fun i i0 i1 => ?_⟩, fun k k0 k1 => ?_⟩
      · rw [va_up_self, updI_n (by omega), updI_n (by omega), updI_s]
      · rw [va_up_self, updI_n (by omega), updI_s]
      · rw [va_up_self, updI_s]
      · rw [hed _ nA.symm, e13, va_up_self]
      · rw [va_up_ne _ _ nA.symm, e11, va_up_self, updI_s]
      · rw [updI_s]; exact Int.le_refl _
      · rw [updI_s] at i1; omega
      · rw [updI_s] at k1; omega
    · have r1' : r < n := by omega
      rw [updI_n z, upJ_n z, upJ_n z, upJ_n z]
      have Rr := (R2 r r0 r1').cg (hd' := updI (updI (updI hd (3 * n) a) (3 * n + 1) x) (3 * n + 2) y) (ki' := updI ki n (-1)) (fo' := updI fo n 0) (ln' := updI ln n 0) (pt' := pt) (r' := r) (fun k k0 k1 => by rw [updI_n (by omega), updI_n (by omega), updI_n (by omega)]) (updI_n z) (updI_n z) (updI_n z) (fun _ _ _ => rfl)
      refine Rr.frm (e1 := e9_) le (fun b kb => ?_) (fun b kb => ?_) (fun b hb => (hfr b hb).2.2) (fun hl => ?_) ?_ ?_
      · have nb : b ≠ q := fun w => by rw [w, hq] at kb; exact absurd kb (by decide)
        exact ⟨by rw [e16, va_up_ne _ _ nb], by rw [e14, va_up_ne _ _ nb], by rw [e15, va_up_ne _ _ nb], by rw [e4, va_up_ne _ _ nb]⟩
      · have nb : b ≠ q2 := fun w => by rw [w, kq2] at kb; exact absurd kb (by decide)
        exact ⟨va_up_ne _ _ nb, va_up_ne _ _ nb, va_up_ne _ _ nb, va_up_ne _ _ nb⟩
      · rw [updI_n z] at hl
        exact nRo r r0 r1' hl
      · rw [hed _ (R4 r r0 r1').1, e13, va_up_ne _ _ (nLi r r0 r1')]
      · rw [va_up_ne _ _ (R4 r r0 r1').1, e11, va_up_ne _ _ (nLi r r0 r1')]
  · by_cases z : i = n
    · have hj : j ≠ n := fun w => ne (z.trans w.symm)
      rw [z, updI_s, upJ_s, upJ_s, updI_n hj, upJ_n hj, upJ_n hj]
      exact ⟨(nF j j0 (by omega)).symm, (nLi j j0 (by omega)).symm, lsDj_s (by decide)⟩
    · rw [updI_n z, upJ_n z, upJ_n z]
      by_cases w : j = n
      · rw [w, updI_s, upJ_s, upJ_s]
        exact ⟨nF i i0 (by omega), nLi i i0 (by omega), (lsDj_s (by decide)).symm⟩
      · rw [updI_n w, upJ_n w, upJ_n w]
        obtain ⟨f1, f2, f3⟩ := R3 i j i0 (by omega) j0 (by omega) ne
        exact ⟨f1, f2, f3.le (by decide) le (R2 i i0 (by omega)).2.2.2.1.own (R2 j j0 (by omega)).2.2.2.1.own⟩
  · by_cases z : i = n
    · rw [z, upJ_s, upJ_s]
      exact ⟨nA.symm, (lsDj_s (by decide)).symm⟩
    · rw [upJ_n z, upJ_n z]
      exact ⟨(R4 i i0 (by omega)).1, (Rk.2.2.2 i i0 (by omega)).2.up (by decide) le9 (Rk.2.1 i i0 (by omega)).2.2.2.1.own he⟩
  · rw [va_up_self, m3]; omega
  · by_cases z : r = n
    · rw [z, upJ_s, va_up_ne _ _ nA.symm, e12, va_up_self]; omega
    · have := mo.2.1 r r0 (by omega)
      rw [upJ_n z, va_up_ne _ _ (R4 r r0 (by omega)).1, e12, va_up_ne _ _ (nLi r r0 (by omega))]; omega
  · by_cases z : r = n
    · rw [z, updI_s] at hl2; omega
    · rw [updI_n z] at hl2
      rw [upJ_n z]
      exact nRo r r0 (by omega) hl2
theorem CRE_drop {post : Int → (Nat → Int → Option Nat) → (Nat → Int) → (Nat → Int) → (Nat → Int) → Prop} {x : Int} (I : reI hd ki fo ln pt n) (Rm : rxRm kd an ai al ar mX35_said mX35_rules mX35_strata mX35_needs mX35_safe mX35_circle mX35_known mX35_holds mX35_rounds mX35_counts mX35_roundCount mX35_last mX35_next mX35_values mX35_coming mX35_counting mX35_gathering mX35_together mX35_held mX35_work mX35_large mX83_head mX83_parts mX83_kind mX83_variable mX84_sort mX84_name mX84_x mX84_y mJ1_modCount mJ2_elementData mJ2_size mJ4_words mJ4_wordsInUse mJ4_sizeIsSticky (sa 0) A G l0 mb sd hd ki fo ln pt n) (hmb : mb < 90000) (h1 : ¬ (0 ≤ x ∧ x < n) → post (-1) ar mX35_known mJ1_modCount mJ2_size)
  (h0 : 0 ≤ x → x < n → ∀ ar9 kn9 mo9 sz9, rxRm kd an ai al ar9 mX35_said mX35_rules mX35_strata mX35_needs mX35_safe mX35_circle kn9 mX35_holds mX35_rounds mX35_counts mX35_roundCount mX35_last mX35_next mX35_values mX35_coming mX35_counting mX35_gathering mX35_together mX35_held mX35_work mX35_large mX83_head mX83_parts mX83_kind mX83_variable mX84_sort mX84_name mX84_x mX84_y mo9 mJ2_elementData sz9 mJ4_words mJ4_wordsInUse mJ4_sizeIsSticky (sa 0) A G l0 (mb + 1) sd (reSh hd 3 x (n - 1)) (reSh ki 1 x (n - 1)) (reSh fo 1 x (n - 1)) (reSh ln 1 x (n - 1)) (reSh pt 20 x (n - 1)) (n - 1) → post (n - 1) ar9 kn9 mo9 sz9) : wpRE_X35_drop post kd an ar mX35_rules mX35_known mJ1_modCount mJ2_elementData mJ2_size (A 0 0) x := by
  obtain ⟨⟨H, rF⟩, ⟨e0, F, H_, Li, Ro, Pa, R, mo⟩, la, ne, W, L, P, hne, eL, ⟨rL, rN⟩, B, p0, told⟩ := Rm
  have rR := rF.1.2.2
  have k10 : kd (A 10 0) = 7 := rx_kd H 10 0 (by decide) (by decide)
  have hn := I.1
  have mo1 := mo.1
  obtain ⟨R1, R2, R3, R4⟩ := id R
  unfold wpRE_X35_drop
  refine CRE_isRule rR k10 R1.2.1 (fun x0 x1 => ⟨fun z => absurd z (by decide), fun _ => kOn_of rR ⟨k10, CRE_lrem R1 (by omega) (by omega) (rxEk R) x0 x1 (fun g hg kn9 ekn => ?_)⟩⟩) (fun w => ⟨fun _ => h1 w, fun z => absurd rfl z⟩)
  unfold wpRE_J2_size
  rw [va_up_self]
  obtain ⟨sg, esg⟩ : ∃ sg : Int → Int, sg = fun j => if j < x then j else j + 1 := ⟨_, rfl⟩
  have sgb : ∀ j, 0 ≤ j → j < n - 1 → 0 ≤ sg j ∧ sg j < n := fun j j0 j1 => by
    rw [esg]
    show 0 ≤ (if j < x then j else j + 1) ∧ (if j < x then j else j + 1) < n
    split <;> omega
  have sgn : ∀ i j, i ≠ j → sg i ≠ sg j := fun i j h => by
    rw [esg]
    show (if i < x then i else i + 1) ≠ (if j < x then j else j + 1)
    by_cases a : i < x
    · rw [if_pos a]
      by_cases b : j < x
      · rw [if_pos b]; exact h
      · rw [if_neg b]; omega
    · rw [if_neg a]
      by_cases b : j < x
      · rw [if_pos b]; omega
      · rw [if_neg b]; omega
  have sge : ∀ j, (if j < x then j else j + 1) = sg j := fun j => by rw [esg]
  have refl : kLe kd an kd an := fun _ _ => ⟨rfl, rfl⟩
  refine h0 x0 x1 _ _ _ _ ⟨⟨H, rF⟩, ⟨e0, fun j => F (sg j), fun j => H_ (sg j), fun j => Li (sg j), fun j => Ro (sg j), fun j => Pa (sg j), ⟨?_, fun r r0 r1 => ?_, fun i j i0 i1 j0 j1 ne => ?_, fun i i0 i1 => ?_⟩, ?_, fun r r0 r1 => ?_, fun r r0 r1 hl2 => ?_⟩, la, ne, W, L, P, hne, eL, ⟨rL, rN⟩, B, p0, fun z => absurd (by rw [ekn, va_up_self]) z⟩
  · obtain ⟨a1, a2, a3, a4, a5⟩ := R1
    refine ⟨a1, va_up_self _ _ _, by omega, ?_, fun i i0 i1 => ?_⟩
    · rcases a4 with a4 | a4
      · exact Or.inl ⟨a4.1, a4.2.1, by omega⟩
      · omega
    · rw [va_up_self, hg i i0 i1, sge]
  · have b := sgb r r0 r1
    have Rr := (R2 (sg r) b.1 b.2).cg (hd' := reSh hd 3 x (n - 1)) (ki' := reSh ki 1 x (n - 1)) (fo' := reSh fo 1 x (n - 1)) (ln' := reSh ln 1 x (n - 1)) (pt' := reSh pt 20 x (n - 1)) (r' := r) (fun k k0 k1 => by rw [reSh_3 ⟨r0, r1⟩ ⟨k0, k1⟩ ⟨x0, by omega⟩, sge]) (by rw [reSh_1 ⟨r0, r1⟩ ⟨x0, by omega⟩, sge]) (by rw [reSh_1 ⟨r0, r1⟩ ⟨x0, by omega⟩, sge]) (by rw [reSh_1 ⟨r0, r1⟩ ⟨x0, by omega⟩, sge]) (fun k k0 k1 => by
      have hl := (I.2 (sg r) b.1 b.2).2.2.1
      rw [reSh_20 ⟨r0, r1⟩ ⟨k0, by omega⟩ ⟨x0, by omega⟩, sge])
    refine Rr.frm (e1 := e0) refl (fun _ _ => ⟨rfl, rfl, rfl, rfl⟩) (fun _ _ => ⟨rfl, rfl, rfl, rfl⟩) (fun a ha => va_up_ne _ _ ha) (fun hl => ?_) rfl (va_up_ne _ _ (R4 (sg r) b.1 b.2).1)
    rw [reSh_1 ⟨r0, r1⟩ ⟨x0, by omega⟩, sge] at hl
    exact mo.2.2 (sg r) b.1 b.2 hl
  · have b := sgb i i0 i1
    have c := sgb j j0 j1
    exact R3 (sg i) (sg j) b.1 b.2 c.1 c.2 (sgn i j ne)
  · have b := sgb i i0 i1
    exact R4 (sg i) b.1 b.2
  · rw [va_up_self]; omega
  · have b := sgb r r0 r1
    have := mo.2.1 (sg r) b.1 b.2
    rw [va_up_ne _ _ (R4 (sg r) b.1 b.2).1]; omega
  · have b := sgb r r0 r1
    rw [reSh_1 ⟨r0, r1⟩ ⟨x0, by omega⟩, sge] at hl2
    exact mo.2.2 (sg r) b.1 b.2 hl2
end
