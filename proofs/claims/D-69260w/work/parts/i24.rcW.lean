/-! RuleEngine (room RE): find -/
/-- what is told, once known -/
def rxTo (ai : Nat → Int → Int) (ci lg rc : Nat → Int) (A : Nat → Int → Nat) (P1 : Int → Prop) (sd hd ki fo ln pt : Int → Int) (n : Int) : Prop :=
  P1 = reHo (rzAll sd hd ki fo ln pt n).1 ∧ (∀ c, 0 ≤ c → c < 16384 → ai (A 4 0) c = if (rzAll sd hd ki fo ln pt n).1 c < 0 then -2 else (rzAll sd hd ki fo ln pt n).1 c) ∧ (∀ c, 0 ≤ c → c < 16384 → ai (A 4 1) c = (rzAll sd hd ki fo ln pt n).2.1 c) ∧ (∀ a, 0 ≤ a → a < 16 → ai (A 2 0) a = rzSt hd ki fo ln pt n a) ∧ ci (A 0 0) = rzCi hd ki fo ln pt n ∧ lg (A 0 0) = (rzAll sd hd ki fo ln pt n).2.2.2 ∧ ((rzAll sd hd ki fo ln pt n).2.2.2 = 0 → rc (A 0 0) = (rzAll sd hd ki fo ln pt n).2.2.1)
/-- the room: what is said (sd) and the rules; mb bounds the lists' counts of changes -/
def rxRm (kd : Nat → Nat) (an : Nat → Nat) (ai : Nat → Int → Int) (al : Nat → Int → Int) (ar : Nat → Int → Option Nat) (mX35_said : Nat → Option Nat) (mX35_rules : Nat → Option Nat) (mX35_strata : Nat → Option Nat) (mX35_needs : Nat → Option Nat) (mX35_safe : Nat → Option Nat) (mX35_circle : Nat → Int) (mX35_known : Nat → Int) (mX35_holds : Nat → Option Nat) (mX35_rounds : Nat → Option Nat) (mX35_counts : Nat → Option Nat) (mX35_roundCount : Nat → Int) (mX35_last : Nat → Option Nat) (mX35_next : Nat → Option Nat) (mX35_values : Nat → Option Nat) (mX35_coming : Nat → Option Nat) (mX35_counting : Nat → Option Nat) (mX35_gathering : Nat → Option Nat) (mX35_together : Nat → Option Nat) (mX35_held : Nat → Option Nat) (mX35_work : Nat → Int) (mX35_large : Nat → Int) (mX83_head : Nat → Option Nat) (mX83_parts : Nat → Option Nat) (mX83_kind : Nat → Int) (mX83_variable : Nat → Int) (mX84_sort : Nat → Int) (mX84_name : Nat → Int) (mX84_x : Nat → Int) (mX84_y : Nat → Int) (mJ1_modCount : Nat → Int) (mJ2_elementData : Nat → Option Nat) (mJ2_size : Nat → Int) (mJ4_words : Nat → Option Nat) (mJ4_wordsInUse : Nat → Int) (mJ4_sizeIsSticky : Nat → Int) (s0 : Nat) (A : Nat → Int → Nat) (G : Nat → Nat × Int) (l0 mb : Int) (sd hd ki fo ln pt : Int → Int) (n : Int) : Prop :=
  (Lab rxK rxL kd an A G rxN ∧ rxF mX35_said mX35_rules mX35_strata mX35_needs mX35_safe mX35_holds mX35_rounds mX35_counts mX35_values mX35_coming mX35_counting mX35_gathering mX35_together mX35_held A) ∧
  (∃ e0 F H_ Li Ro Pa, rxRs kd an ar mX83_head mX83_parts mX83_kind mX83_variable mX84_sort mX84_name mX84_x mX84_y mJ2_elementData mJ2_size s0 A hd ki fo ln pt n e0 F H_ Li Ro Pa ∧ (0 ≤ mJ1_modCount (A 10 0) ∧ mJ1_modCount (A 10 0) ≤ mb) ∧ (∀ r, 0 ≤ r → r < n → 0 ≤ mJ1_modCount (Li r) ∧ mJ1_modCount (Li r) ≤ mb) ∧ ∀ r, 0 ≤ r → r < n → 0 < ln r → Ro r ≠ e0) ∧
  ∃ (la ne : Int) (W : Int → Nat) (L : Int → Int) (P : Int → Int → Prop), ((la = 2 ∧ ne = 3) ∨ (la = 3 ∧ ne = 2)) ∧ L 0 = l0 ∧ (mX35_last (A 0 0) = some (A 1 la) ∧ mX35_next (A 0 0) = some (A 1 ne)) ∧ rxB kd an al mJ4_words mJ4_wordsInUse A W L P ∧ P 0 = reS0 sd ∧ (¬ mX35_known (A 0 0) = 0 → rxTo ai mX35_circle mX35_large mX35_roundCount A (P 1) sd hd ki fo ln pt n)
section
variable {kd : Nat → Nat} {an : Nat → Nat} {ai : Nat → Int → Int} {al : Nat → Int → Int} {ar : Nat → Int → Option Nat} {mX35_said : Nat → Option Nat} {mX35_rules : Nat → Option Nat} {mX35_strata : Nat → Option Nat} {mX35_needs : Nat → Option Nat} {mX35_safe : Nat → Option Nat} {mX35_circle : Nat → Int} {mX35_known : Nat → Int} {mX35_holds : Nat → Option Nat} {mX35_rounds : Nat → Option Nat} {mX35_counts : Nat → Option Nat} {mX35_roundCount : Nat → Int} {mX35_last : Nat → Option Nat} {mX35_next : Nat → Option Nat} {mX35_values : Nat → Option Nat} {mX35_coming : Nat → Option Nat} {mX35_counting : Nat → Option Nat} {mX35_gathering : Nat → Option Nat} {mX35_together : Nat → Option Nat} {mX35_held : Nat → Option Nat} {mX35_work : Nat → Int} {mX35_large : Nat → Int} {mX83_head : Nat → Option Nat} {mX83_parts : Nat → Option Nat} {mX83_kind : Nat → Int} {mX83_variable : Nat → Int} {mX84_sort : Nat → Int} {mX84_name : Nat → Int} {mX84_x : Nat → Int} {mX84_y : Nat → Int} {mJ1_modCount : Nat → Int} {mJ2_elementData : Nat → Option Nat} {mJ2_size : Nat → Int} {mJ4_words : Nat → Option Nat} {mJ4_wordsInUse : Nat → Int} {mJ4_sizeIsSticky : Nat → Int} {sa : Nat → Nat} {A : Nat → Int → Nat} {hd ki fo ln pt sd st rn gv : Int → Int} {n r k v c s : Int} {e0 : Nat} {W : Int → Nat} {Lq : Int → Int} {Pq : Int → Int → Prop} {MC MS : Nat} {F H_ Li Ro : Int → Nat} {Pa : Int → Int → Nat} {G : Nat → Nat × Int} {L0 : Int → Int} {P0 : Int → Int → Prop} {ai0 : Nat → Int → Int} {ne la fr : Int}
variable {mb l0 : Int}
theorem CRE_onlySaid {post : (Nat → Nat) → (Nat → Nat) → (Nat → Int → Int) → (Nat → Int → Int) → (Nat → Int) → (Nat → Option Nat) → (Nat → Int) → (Nat → Int) → Prop} (hMC : 510 ≤ MC) (hMS : 1020 ≤ MS) (H : Lab rxK rxL kd an A G rxN) (rSd : mX35_said (A 0 0) = some (A 1 0)) (rH : mX35_holds (A 0 0) = some (A 1 1)) (rRd : mX35_rounds (A 0 0) = some (A 4 0)) (B : rxB kd an al mJ4_words mJ4_wordsInUse A W Lq Pq)
  (hp : ∀ kd' an' ai' al' rc' wd' iu' sk' W' L' P', kLe kd an kd' an' → (∀ a, a ≠ A 4 0 → ai' a = ai a) → (∀ c, 0 ≤ c → c < 16384 → ai' (A 4 0) c = pif (Pq 0 c) 0 (-2)) → rxB kd' an' al' wd' iu' A W' L' P' → L' 0 = Lq 0 → P' 0 = Pq 0 → P' 1 = Pq 0 → post kd' an' ai' al' rc' wd' iu' sk') : wpRE_X35_onlySaid MC MS post kd an ai al mX35_said mX35_holds mX35_rounds mX35_roundCount mJ4_words mJ4_wordsInUse mJ4_sizeIsSticky (A 0 0) := by
  have k1 : kd (A 1 1) = 8 := rx_kd H 1 1 (by decide) (by decide)
  have k0 : kd (A 1 0) = 8 := rx_kd H 1 0 (by decide) (by decide)
  unfold wpRE_X35_onlySaid
  refine kOn_of rH ⟨k1, ⟨Nat.zero_le _, Nat.zero_le _⟩, CRE_clearG (B.1 1 (by decide) (by decide)) (fun al1 iu1 Fr1 N1 => ⟨510, 1020, ⟨by omega, by omega⟩, ?_⟩)⟩
  obtain ⟨W1, L1, P1, B1, L10, p11, p10⟩ : ∃ W1 L1 P1, rxB kd an al1 mJ4_words iu1 A W1 L1 P1 ∧ L1 0 = Lq 0 ∧ P1 1 = (fun _ => False) ∧ P1 0 = Pq 0 := ⟨_, _, _, rxB.up H B (by decide) (by decide) Fr1 N1, upJ_n (by decide), upJ_s, upJ_n (by decide)⟩
  have b1 := B1.1 1 (by decide) (by decide)
  have b0 := B1.1 0 (by decide) (by decide)
  have gb := reG_b b1.2.1 (u := iu1 (A 1 0)) b0.top.2
  have l11 := b1.2.1
  rw [rSd]
  refine CRE_orG b1 b0 k0 (H.ne (i := 1) (i' := 1) (j := 1) (j' := 0) ⟨by decide, by decide⟩ ⟨by decide, by decide⟩ (Or.inr (by decide))) (B1.2 1 0 (by decide) (by decide) (by decide) (by decide) (by decide)) (by omega) (by omega) (fun kd' an' al' wd' iu' st' w' Fr N kl rc1 erc => ?_)
  obtain ⟨W2, L2, P2, B2, L20, p20, p21⟩ : ∃ W2 L2 P2, rxB kd' an' al' wd' iu' A W2 L2 P2 ∧ L2 0 = Lq 0 ∧ P2 0 = Pq 0 ∧ P2 1 = Pq 0 := ⟨_, _, _, rxB.up H B1 (by decide) (by decide) Fr N, (upJ_n (by decide)).trans L10, (upJ_n (by decide)).trans p10, by
    rw [upJ_s, p11, p10]
    exact funext fun q => propext ⟨fun z => z.elim (fun w => w.elim) id, Or.inr⟩⟩
  have b20' := B2.1 0 (by decide) (by decide)
  rw [p20] at b20'
  refine CRE_o25 (by omega) (by omega) (H.kLe Fr.1) rSd rRd b20' (fun ai' f1 g1 => ⟨by omega, by omega, hp _ _ _ _ _ _ _ _ _ _ _ Fr.1 f1 g1 B2 L20 p20 p21⟩)
theorem CRE_find {post : (Nat → Nat) → (Nat → Nat) → (Nat → Int → Int) → (Nat → Int → Int) → (Nat → Int) → (Nat → Int) → (Nat → Int) → (Nat → Option Nat) → (Nat → Option Nat) → (Nat → Int) → (Nat → Int) → (Nat → Option Nat) → (Nat → Int) → (Nat → Int) → Prop} (hMC0 : mX35_known (A 0 0) = 0 → 2550 ≤ MC) (hMS0 : mX35_known (A 0 0) = 0 → 5100 ≤ MS) (I : reI hd ki fo ln pt n) (Rm : rxRm kd an ai al ar mX35_said mX35_rules mX35_strata mX35_needs mX35_safe mX35_circle mX35_known mX35_holds mX35_rounds mX35_counts mX35_roundCount mX35_last mX35_next mX35_values mX35_coming mX35_counting mX35_gathering mX35_together mX35_held mX35_work mX35_large mX83_head mX83_parts mX83_kind mX83_variable mX84_sort mX84_name mX84_x mX84_y mJ1_modCount mJ2_elementData mJ2_size mJ4_words mJ4_wordsInUse mJ4_sizeIsSticky (sa 0) A G l0 mb sd hd ki fo ln pt n)
  (hp : ∀ kd9 an9 ai9 al9 ci9 kn9 rc9 la9 ne9 wo9 lg9 wd9 iu9 sk9, rxRm kd9 an9 ai9 al9 ar mX35_said mX35_rules mX35_strata mX35_needs mX35_safe ci9 kn9 mX35_holds mX35_rounds mX35_counts rc9 la9 ne9 mX35_values mX35_coming mX35_counting mX35_gathering mX35_together mX35_held wo9 lg9 mX83_head mX83_parts mX83_kind mX83_variable mX84_sort mX84_name mX84_x mX84_y mJ1_modCount mJ2_elementData mJ2_size wd9 iu9 sk9 (sa 0) A G l0 mb sd hd ki fo ln pt n → ¬ kn9 (A 0 0) = 0 → post kd9 an9 ai9 al9 ci9 kn9 rc9 la9 ne9 wo9 lg9 wd9 iu9 sk9) : wpRE_X35_find MC MS post kd an ai al ar mX35_said mX35_rules mX35_strata mX35_needs mX35_safe mX35_circle mX35_known mX35_holds mX35_rounds mX35_counts mX35_roundCount mX35_last mX35_next mX35_values mX35_coming mX35_counting mX35_gathering mX35_together mX35_held mX35_work mX35_large mX83_head mX83_parts mX83_kind mX83_variable mX84_sort mX84_name mX84_x mX84_y mJ2_elementData mJ2_size mJ4_words mJ4_wordsInUse mJ4_sizeIsSticky (A 0 0) := by
  have Rm0 := Rm
  have hn := I.1
  obtain ⟨⟨H, rF⟩, ⟨e0, F, H_, Li, Ro, Pa, R, mo⟩, la, ne, W, L, P, hne, eL, ⟨rL, rN⟩, B, p0, told⟩ := Rm
  obtain ⟨⟨rSd, rH, rR⟩, ⟨rT, rNd, rHd, rS⟩, ⟨rRd, rCt, rV, rTg⟩, rC, rCo, rG⟩ := id rF
  have k1 : kd (A 1 1) = 8 := rx_kd H 1 1 (by decide) (by decide)
  have k0 : kd (A 1 0) = 8 := rx_kd H 1 0 (by decide) (by decide)
  have n40_41 := (H.ne (i := 4) (i' := 4) (j := 0) (j' := 1) ⟨by decide, by decide⟩ ⟨by decide, by decide⟩ (Or.inr (by decide)))
  have n40_30 := (H.ne (i := 4) (i' := 3) (j := 0) (j' := 0) ⟨by decide, by decide⟩ ⟨by decide, by decide⟩ (Or.inl (by decide)))
  have n41_30 := (H.ne (i := 4) (i' := 3) (j := 1) (j' := 0) ⟨by decide, by decide⟩ ⟨by decide, by decide⟩ (Or.inl (by decide)))
  have n40_20 := (H.ne (i := 4) (i' := 2) (j := 0) (j' := 0) ⟨by decide, by decide⟩ ⟨by decide, by decide⟩ (Or.inl (by decide)))
  have n40_21 := (H.ne (i := 4) (i' := 2) (j := 0) (j' := 1) ⟨by decide, by decide⟩ ⟨by decide, by decide⟩ (Or.inl (by decide)))
  have n41_20 := (H.ne (i := 4) (i' := 2) (j := 1) (j' := 0) ⟨by decide, by decide⟩ ⟨by decide, by decide⟩ (Or.inl (by decide)))
  have n41_21 := (H.ne (i := 4) (i' := 2) (j := 1) (j' := 1) ⟨by decide, by decide⟩ ⟨by decide, by decide⟩ (Or.inl (by decide)))
  have n30_20 := (H.ne (i := 3) (i' := 2) (j := 0) (j' := 0) ⟨by decide, by decide⟩ ⟨by decide, by decide⟩ (Or.inl (by decide)))
  have n30_21 := (H.ne (i := 3) (i' := 2) (j := 0) (j' := 1) ⟨by decide, by decide⟩ ⟨by decide, by decide⟩ (Or.inl (by decide)))
  have n40_22 := (H.ne (i := 4) (i' := 2) (j := 0) (j' := 2) ⟨by decide, by decide⟩ ⟨by decide, by decide⟩ (Or.inl (by decide)))
  have n41_22 := (H.ne (i := 4) (i' := 2) (j := 1) (j' := 2) ⟨by decide, by decide⟩ ⟨by decide, by decide⟩ (Or.inl (by decide)))
  have n30_22 := (H.ne (i := 3) (i' := 2) (j := 0) (j' := 2) ⟨by decide, by decide⟩ ⟨by decide, by decide⟩ (Or.inl (by decide)))
  have n20_22 := (H.ne (i := 2) (i' := 2) (j := 0) (j' := 2) ⟨by decide, by decide⟩ ⟨by decide, by decide⟩ (Or.inr (by decide)))
  have n41_50 := (H.ne (i := 4) (i' := 5) (j := 1) (j' := 0) ⟨by decide, by decide⟩ ⟨by decide, by decide⟩ (Or.inl (by decide)))
  have n41_60 := (H.ne (i := 4) (i' := 6) (j := 1) (j' := 0) ⟨by decide, by decide⟩ ⟨by decide, by decide⟩ (Or.inl (by decide)))
  have n20_50 := (H.ne (i := 2) (i' := 5) (j := 0) (j' := 0) ⟨by decide, by decide⟩ ⟨by decide, by decide⟩ (Or.inl (by decide)))
  have n20_60 := (H.ne (i := 2) (i' := 6) (j := 0) (j' := 0) ⟨by decide, by decide⟩ ⟨by decide, by decide⟩ (Or.inl (by decide)))
  have n20_40 := (H.ne (i := 2) (i' := 4) (j := 0) (j' := 0) ⟨by decide, by decide⟩ ⟨by decide, by decide⟩ (Or.inl (by decide)))
  have n20_41 := (H.ne (i := 2) (i' := 4) (j := 0) (j' := 1) ⟨by decide, by decide⟩ ⟨by decide, by decide⟩ (Or.inl (by decide)))
  have n30_50 := (H.ne (i := 3) (i' := 5) (j := 0) (j' := 0) ⟨by decide, by decide⟩ ⟨by decide, by decide⟩ (Or.inl (by decide)))
  have n30_60 := (H.ne (i := 3) (i' := 6) (j := 0) (j' := 0) ⟨by decide, by decide⟩ ⟨by decide, by decide⟩ (Or.inl (by decide)))
  have n30_40 := (H.ne (i := 3) (i' := 4) (j := 0) (j' := 0) ⟨by decide, by decide⟩ ⟨by decide, by decide⟩ (Or.inl (by decide)))
  have n40_50 := (H.ne (i := 4) (i' := 5) (j := 0) (j' := 0) ⟨by decide, by decide⟩ ⟨by decide, by decide⟩ (Or.inl (by decide)))
  have n40_60 := (H.ne (i := 4) (i' := 6) (j := 0) (j' := 0) ⟨by decide, by decide⟩ ⟨by decide, by decide⟩ (Or.inl (by decide)))
  unfold wpRE_X35_find
  by_cases kz0 : mX35_known (A 0 0) = 0
  rotate_left
  · exact ⟨fun z => absurd z kz0, fun kz => ⟨Nat.zero_le _, Nat.zero_le _, hp _ _ _ _ _ _ _ _ _ _ _ _ _ _ Rm0 kz⟩⟩
  have hMC := hMC0 kz0
  have hMS := hMS0 kz0
  refine ⟨fun kz kn1 ekn => kOn_of rH ⟨k1, ⟨Nat.zero_le _, Nat.zero_le _⟩, CRE_clearG (B.1 1 (by decide) (by decide)) (fun al1 iu1 Fr1 N1 => ⟨510, 1020, ⟨by omega, by omega⟩, ?_⟩)⟩, fun kz => ⟨Nat.zero_le _, Nat.zero_le _, hp _ _ _ _ _ _ _ _ _ _ _ _ _ _ Rm0 kz⟩⟩
  obtain ⟨W1, L1, P1, B1, L10, p11, p10⟩ : ∃ W1 L1 P1, rxB kd an al1 mJ4_words iu1 A W1 L1 P1 ∧ L1 0 = l0 ∧ P1 1 = (fun _ => False) ∧ P1 0 = reS0 sd := ⟨_, _, _, rxB.up H B (by decide) (by decide) Fr1 N1, (upJ_n (by decide)).trans eL, upJ_s, (upJ_n (by decide)).trans p0⟩
  have b1 := B1.1 1 (by decide) (by decide)
  have b0 := B1.1 0 (by decide) (by decide)
  have gb := reG_b b1.2.1 (u := iu1 (A 1 0)) b0.top.2
  have l11 := b1.2.1
  rw [rSd]
  refine CRE_orG b1 b0 k0 (H.ne (i := 1) (i' := 1) (j := 1) (j' := 0) ⟨by decide, by decide⟩ ⟨by decide, by decide⟩ (Or.inr (by decide))) (B1.2 1 0 (by decide) (by decide) (by decide) (by decide) (by decide)) (by omega) (by omega) (fun kd1 an1 al2 wd2 iu2 st2 w2' Fr2 N2 kl rc1 erc => ?_)
  have B2 : ∃ W2 L2 P2, rxB kd1 an1 al2 wd2 iu2 A W2 L2 P2 ∧ L2 0 = l0 ∧ P2 0 = reS0 sd ∧ P2 1 = reS0 sd := ⟨_, _, _, rxB.up H B1 (by decide) (by decide) Fr2 N2, (upJ_n (by decide)).trans L10, (upJ_n (by decide)).trans p10, by
    rw [upJ_s, p11, p10]
    exact funext fun q => propext ⟨fun z => z.elim (fun w => w.elim) id, Or.inr⟩⟩
  obtain ⟨W2, L2, P2, B2, L20, p20, p21⟩ := B2
  have b20 := B2.1 0 (by decide) (by decide)
  rw [p20] at b20
  have H2 := H.kLe Fr2.1
  have R2 := R.le Fr2.1
  refine CRE_f38 (by omega) (by omega) H2 rSd rRd rCt b20 (fun ai1 f1 g1 => CRE_f83 (by omega) (by omega) I H2 R2 rR rS (fun ai2 f2 g2 => ⟨⟨by omega, by omega⟩, CRE_stratify I H2 R2 rR rNd rT rS g2 (fun ai3 f3 c0 c1 lg0 elg => ?_)⟩))
  rw [va_up_self]
  have stP : rzP hd ki fo ln pt n (ai3 (A 2 0)) := ⟨c0, c1⟩
  have stS := rzSt_s stP
  have stE : ∀ a, 0 ≤ a → a < 16 → ai3 (A 2 0) a = rzSt hd ki fo ln pt n a := fun a a0 a1 => stP.u stS a0 a1
  have r3 : ∀ c, 0 ≤ c → c < 16384 → ai3 (A 4 0) c = pif (reS0 sd c) 0 (-2) := fun c h0 h1 => by
    rw [f3 _ n40_20 n40_21, f2 _ n40_30]; exact (g1 c h0 h1).1
  have z3 : ∀ c, 0 ≤ c → c < 16384 → ai3 (A 4 1) c = 0 := fun c h0 h1 => by
    rw [f3 _ n41_20 n41_21, f2 _ n41_30]; exact (g1 c h0 h1).2
  have s3 : ∀ k, 0 ≤ k → k < n → (¬ ai3 (A 3 0) k = 0 ↔ reSf hd ki fo ln pt k) := fun k h0 h1 => by
    rw [f3 _ n30_20 n30_21]; exact g2 k h0 h1
  have knz : ¬ kn1 (A 0 0) = 0 := by rw [ekn, va_up_self]; decide
  refine ⟨fun ci1 work70 ew => ?_, fun ci1 => ⟨by omega, by omega, hp _ _ _ _ _ _ _ _ _ _ _ _ _ _ ⟨⟨H2, rF⟩, ⟨e0, F, H_, Li, Ro, Pa, R2, mo⟩, la, ne, W2, L2, P2, hne, L20, ⟨rL, rN⟩, B2, p20, fun _ => ?_⟩ knz⟩⟩
  rotate_left
  · have c0' : 0 ≤ rzCi hd ki fo ln pt n := (rzCi_b).resolve_right ci1
    unfold rxTo
    rw [rz_ci c0']
    exact ⟨p21.trans rz1.symm, fun c h0 h1 => (show ai3 (A 4 0) c = if reZr sd (fun _ => -1) 16384 c < 0 then -2 else reZr sd (fun _ => -1) 16384 c from (r3 c h0 h1).trans (rz2 h0 h1)), fun c h0 h1 => (show ai3 (A 4 1) c = reZg (fun _ => 0) 16384 c from (z3 c h0 h1).trans (rz4 h0 h1).symm), stE, va_up_self _ _ _, by rw [elg, va_up_self], fun _ => by rw [erc, va_up_self]⟩
  have ci1' : rzCi hd ki fo ln pt n = -1 := ci1
  refine CRE_f145 H2 rHd (fun ai4 f4 g4 => ?_)
  have k01 : kd1 (A 1 0) = 8 := rx_kd H2 1 0 (by decide) (by decide)
  first
    | refine kOn_some ⟨k01, ⟨by omega, by omega⟩, ?_⟩
    | refine kOn_of rSd ⟨k01, ⟨by omega, by omega⟩, ?_⟩
  refine CRE_f173 (by omega) (by omega) H2 rSd rHd b20 g4 (fun ai5 f5 g5 => ?_)
  have fr5 : ∀ a, a ≠ A 2 2 → ai5 a = ai3 a := fun a h => (f5 a h).trans (f4 a h)
  have s5 : ∀ k, 0 ≤ k → k < n → (¬ ai5 (A 3 0) k = 0 ↔ reSf hd ki fo ln pt k) := by rw [fr5 _ n30_22]; exact s3
  have t5 : ∀ a, 0 ≤ a → a < 16 → ai5 (A 2 0) a = rzSt hd ki fo ln pt n a := by rw [fr5 _ n20_22]; exact stE
  obtain ⟨L', la', ne', La', ⟨q1, q2, q3⟩, q4⟩ := CRE_f206 (ai0 := ai5) (st := rzSt hd ki fo ln pt n) (e0 := e0) (F := F) (H_ := H_) (Li := Li) (Ro := Ro) (Pa := Pa) (G := G) (sa := sa) (ar := ar) (mX83_head := mX83_head) (mX83_parts := mX83_parts) (mX83_kind := mX83_kind) (mX83_variable := mX83_variable) (mX84_sort := mX84_sort) (mX84_name := mX84_name) (mX84_x := mX84_x) (mX84_y := mX84_y) (mJ2_elementData := mJ2_elementData) (mJ2_size := mJ2_size) (mX35_counts := mX35_counts) I (stS.2 ci1').1 (stS.2 ci1').2 rR rT rS rV rH rRd rHd rTg rG rC s5 t5 16 0 (reZr sd (fun _ => -1) 16384) 0 0 0 la ne (P2 la) L2 (by decide) (by decide) hne (fun j j0 j1 => (B2.1 j (by omega) j1).2.1) ⟨by decide, by decide⟩ (Or.inl ⟨rfl, by decide, by decide⟩)
  have sb : rxSm L' - rxSm L2 ≤ 1527 := by
    have a1 := q3 1 (by decide) (by decide)
    have a2 := q3 2 (by decide) (by decide)
    have a3 := q3 3 (by decide) (by decide)
    have d1 := (B2.1 1 (by decide) (by decide)).2.1
    have d2 := (B2.1 2 (by decide) (by decide)).2.1
    have d3 := (B2.1 3 (by decide) (by decide)).2.1
    unfold rxSm
    omega
  have ess : reSs hd ki fo ln pt (rzSt hd ki fo ln pt n) n 16 0 (reZr sd (fun _ => -1) 16384) 0 0 0 = rzSs sd hd ki fo ln pt n := rfl
  rw [ess] at q4
  have sw := reSs_w (st := rzSt hd ki fo ln pt n) I 16 0 (reZr sd (fun _ => -1) 16384) 0 0 0 (Or.inl ⟨rfl, by decide, by decide⟩)
  rw [ess] at sw
  have eB := rz_big (sd := sd) ci1'
  have eS := rz_small (sd := sd) ci1'
  generalize rzSs sd hd ki fo ln pt n = RS at q4 sw eB eS
  refine ⟨_, q4 MC MS (MC - 510) (MS - 1020) _ (reS0 sd) kd1 an1 ai5 al2 rc1 mX35_last mX35_next work70 lg0 wd2 iu2 st2 _ _ (by omega) (by omega) ⟨H2, R2, ⟨W2, P2, B2, p20, p21.trans rz1.symm, rfl⟩, fun _ _ _ _ _ => rfl, fun c h0 h1 => by rw [fr5 _ n40_22]; exact (r3 c h0 h1).trans (rz2 h0 h1), fun a h0 h1 => by rw [g5 a h0 h1, rz3]⟩ rL rN (by rw [erc, va_up_self]) (by rw [ew, va_up_self]; unfold rxM; rw [if_neg (by decide)]) (by rw [elg, va_up_self]) (by omega) (by omega) (fun kd6 an6 ai6 al6 rc6 la6 ne6 wo6 lg6 wd6 iu6 sk6 kc6 ks6 Q6 l1 l2 l3 l4 l5 hkc hks => ?_)⟩
  obtain ⟨H6, R6, ⟨W6, P6, B6, u0, u1, u2⟩, fr6, h46, h26⟩ := Q6
  have s6 : ∀ k, 0 ≤ k → k < n → (¬ ai6 (A 3 0) k = 0 ↔ reSf hd ki fo ln pt k) := by rw [fr6 _ n30_50 n30_60 n30_40 n30_22]; exact s5
  have t6 : ∀ a, 0 ≤ a → a < 16 → ai6 (A 2 0) a = rzSt hd ki fo ln pt n a := by rw [fr6 _ n20_50 n20_60 n20_40 n20_22]; exact t5
  have z6 : ∀ c, 0 ≤ c → c < 16384 → ai6 (A 4 1) c = 0 := by rw [fr6 _ n41_50 n41_60 n40_41.symm n41_22, fr5 _ n41_22]; exact z3
  have hw0 : 0 ≤ RS.2.2.1 := by omega
  refine ⟨⟨by omega, by omega⟩, CRE_pay (rn := RS.1) (w := RS.2.2.1) I H6 R6 rR rT rHd rS s6 t6 h26 (Or.inl rfl) hw0 l4 ?_⟩
  rw [va_up_self]
  by_cases big : 200000 < reWk hd ki fo ln pt (rzSt hd ki fo ln pt n) RS.1 (-1) RS.2.2.1 n.toNat
  · have eM : ¬ rxM (reWk hd ki fo ln pt (rzSt hd ki fo ln pt n) RS.1 (-1) RS.2.2.1 n.toNat) ≤ 200000 := by
      unfold rxM
      split <;> omega
    rw [if_neg eM]
    have eA := eB (Or.inr big)
    refine ⟨fun z => absurd z (by decide), fun _ => ⟨510, 1020, ⟨by omega, by omega⟩, CRE_onlySaid (by omega) (by omega) H6 rSd rH rRd B6 (fun kd7 an7 ai7 al7 rc7 wd7 iu7 sk7 W7 L7 P7 le7 f7 g7 B7 L70 v0 v1 kl7 => ⟨by omega, by omega, hp _ _ _ _ _ _ _ _ _ _ _ _ _ _ ⟨⟨H6.kLe le7, rF⟩, ⟨e0, F, H_, Li, Ro, Pa, R6.le le7, mo⟩, la', ne', W7, L7, P7, q1, L70.trans (q2.trans L20), ⟨l1, l2⟩, B7, v0.trans u0, fun _ => ?_⟩ knz⟩)⟩⟩
    unfold rxTo
    rw [eA]
    exact ⟨v1.trans (u0.trans rz1.symm), fun c h0 h1 => by rw [g7 c h0 h1, u0]; exact rz2 h0 h1, fun c h0 h1 => by rw [f7 _ n40_41.symm, z6 c h0 h1]; exact (rz4 h0 h1).symm, fun a h0 h1 => by rw [f7 _ n20_40]; exact t6 a h0 h1, va_up_self _ _ _, va_up_self _ _ _, fun z => absurd (show (1 : Int) = 0 from z) (by decide)⟩
  · have wb := (reWk_b (st := rzSt hd ki fo ln pt n) (rn := RS.1) (s := -1) I (w := RS.2.2.1) n.toNat (by omega)).1
    have g0 : RS.2.2.2 = 0 := by
      rcases sw with q | q
      · exact q.1
      · omega
    have eM : rxM (reWk hd ki fo ln pt (rzSt hd ki fo ln pt n) RS.1 (-1) RS.2.2.1 n.toNat) ≤ 200000 := by
      unfold rxM
      split <;> omega
    have hW' : reWk hd ki fo ln pt (rzSt hd ki fo ln pt n) RS.1 (-1) RS.2.2.1 n.toNat ≤ 200000 := by omega
    rw [if_pos eM]
    have eA := eS g0 big
    have b61 := B6.1 1 (by decide) (by decide)
    rw [u1] at b61
    have b6l := B6.1 la' (by omega) (by omega)
    refine ⟨fun _ => ⟨n.toNat + 1, CRE_f249 (aiS := ai6) (st := rzSt hd ki fo ln pt n) (Ho := reHo RS.1) (kc := kc6) (ks := ks6) (by omega) (by omega) I rR rS rV rH l1 (by omega) rCt rTg rG rCo H6 R6 b61 b6l s6 (fun k hk => ?_) (fun r r0 r1 hs => rxLn I hw0 hW' ⟨r0, r1⟩ ⟨hs, Or.inl (by decide)⟩) z6 (fun ai7 sk7 f7 g7 => ⟨by omega, by omega, hp _ _ _ _ _ _ _ _ _ _ _ _ _ _ ⟨⟨H6, rF⟩, ⟨e0, F, H_, Li, Ro, Pa, R6, mo⟩, la', ne', W6, L', P6, q1, q2.trans L20, ⟨l1, l2⟩, B6, u0, fun _ => ?_⟩ knz⟩) n.toNat 0 ai6 sk6 (by omega) (fun _ _ _ _ => rfl) (fun c h0 h1 => by rw [z6 c h0 h1]; rfl)⟩, fun z => absurd rfl z⟩
    · have a := reAl_len (st := rzSt hd ki fo ln pt n) (s := -1) (wk := RS.2.2.1) (F := reHo RS.1) (rn := RS.1) I (fun c h => h) k hk
      have b := reWk_m (hd := hd) (kd := ki) (fo := fo) (ln := ln) (pt := pt) (st := rzSt hd ki fo ln pt n) (s := -1) (w := RS.2.2.1) (rn := RS.1) (k := k) (n.toNat - k)
      rw [show k + (n.toNat - k) = n.toNat by omega] at b
      omega
    · unfold rxTo
      rw [eA]
      exact ⟨u1, fun c h0 h1 => by rw [f7 _ n40_50 n40_60 n40_41]; exact h46 c h0 h1, fun c h0 h1 => by
        rw [g7 c h0 h1]
        show _ = reZg _ _ c + _
        rw [rz4 h0 h1, Int.zero_add], fun a h0 h1 => by rw [f7 _ n20_50 n20_60 n20_41]; exact t6 a h0 h1, va_up_self _ _ _, va_up_self _ _ _, fun _ => l3⟩
end
