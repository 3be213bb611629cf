/-! RuleEngine (room RE): the rounds of a stratum -/
section
variable {kd : Nat → Nat} {an : Nat → Nat} {ai : Nat → Int → Int} {al : Nat → Int → Int} {ar : Nat → Int → Option Nat} {mX35_said : Nat → Option Nat} {mX35_rules : Nat → Option Nat} {mX35_strata : Nat → Option Nat} {mX35_needs : Nat → Option Nat} {mX35_safe : Nat → Option Nat} {mX35_circle : Nat → Int} {mX35_known : Nat → Int} {mX35_holds : Nat → Option Nat} {mX35_rounds : Nat → Option Nat} {mX35_counts : Nat → Option Nat} {mX35_roundCount : Nat → Int} {mX35_last : Nat → Option Nat} {mX35_next : Nat → Option Nat} {mX35_values : Nat → Option Nat} {mX35_coming : Nat → Option Nat} {mX35_counting : Nat → Option Nat} {mX35_gathering : Nat → Option Nat} {mX35_together : Nat → Option Nat} {mX35_held : Nat → Option Nat} {mX35_work : Nat → Int} {mX35_large : Nat → Int} {mX83_head : Nat → Option Nat} {mX83_parts : Nat → Option Nat} {mX83_kind : Nat → Int} {mX83_variable : Nat → Int} {mX84_sort : Nat → Int} {mX84_name : Nat → Int} {mX84_x : Nat → Int} {mX84_y : Nat → Int} {mJ1_modCount : Nat → Int} {mJ2_elementData : Nat → Option Nat} {mJ2_size : Nat → Int} {mJ4_words : Nat → Option Nat} {mJ4_wordsInUse : Nat → Int} {mJ4_sizeIsSticky : Nat → Int} {sa : Nat → Nat} {A : Nat → Int → Nat} {hd ki fo ln pt sd st rn gv : Int → Int} {n r k v c s : Int} {e0 : Nat} {W : Int → Nat} {Lq : Int → Int} {Pq : Int → Int → Prop} {MC MS : Nat} {F H_ Li Ro : Int → Nat} {Pa : Int → Int → Nat} {G : Nat → Nat × Int} {L0 : Int → Int} {P0 : Int → Int → Prop} {ai0 : Nat → Int → Int} {ne la fr : Int}
theorem CRE_go4 (I : reI hd ki fo ln pt n) (hst : reLs (reEd hd ki fo ln pt n 1) (reEd hd ki fo ln pt n 2) st) (hs0 : 0 ≤ s) (rR : mX35_rules (A 0 0) = some (A 10 0)) (rT : mX35_strata (A 0 0) = some (A 2 0)) (rS : mX35_safe (A 0 0) = some (A 3 0)) (rV : mX35_values (A 0 0) = some (A 5 0)) (rH : mX35_holds (A 0 0) = some (A 1 1)) (rRd : mX35_rounds (A 0 0) = some (A 4 0)) (rHd : mX35_held (A 0 0) = some (A 2 2)) (rTg : mX35_together (A 0 0) = some (A 6 0)) (rG : mX35_gathering (A 0 0) = some (A 9 0)) (rC : mX35_coming (A 0 0) = some (A 7 0)) (hsf : ∀ k, 0 ≤ k → k < n → (¬ ai0 (A 3 0) k = 0 ↔ reSf hd ki fo ln pt k)) (hsa : ∀ a, 0 ≤ a → a < 16 → ai0 (A 2 0) a = st a) :
  ∀ (f : Nat) (round : Int) (rn : Int → Int) (t w la ne : Int) (La : Int → Prop) (L : Int → Int), (1 ≤ round ∧ round + f ≤ 20000) → cntI (fun c => rn c < 0) 16384 + 1 ≤ f → ((la = 2 ∧ ne = 3) ∨ (la = 3 ∧ ne = 2)) → (∀ j, 1 ≤ j → j < 4 → 1 ≤ L j ∧ L j ≤ 510) → (0 ≤ t ∧ t + f ≤ 2000000) → (0 ≤ w ∧ w ≤ 200000) → (round = 1 ∨ rxLv hd ki fo ln pt st n s (reHo rn) La) →
  ∃ (L' : Int → Int) (la' ne' : Int) (La' : Int → Prop), (((la' = 2 ∧ ne' = 3) ∨ (la' = 3 ∧ ne' = 2)) ∧ L' 0 = L 0 ∧ ∀ j, 1 ≤ j → j < 4 → L j ≤ L' j ∧ L' j ≤ 510) ∧ ∀ (MC MS : Nat) (K : (Nat → Nat) → (Nat → Nat) → (Nat → Int → Int) → (Nat → Int → Int) → (Nat → Int) → (Nat → Option Nat) → (Nat → Option Nat) → (Nat → Int) → (Nat → Int) → (Nat → Option Nat) → (Nat → Int) → (Nat → Int) → Nat → Nat → Prop) (S0 : Int → Prop) (kd an : Nat → Nat) (ai al : Nat → Int → Int) (mX35_roundCount : Nat → Int) (mX35_last mX35_next : Nat → Option Nat) (mX35_work mX35_large : Nat → Int) (mJ4_words : Nat → Option Nat) (mJ4_wordsInUse mJ4_sizeIsSticky : Nat → Int) (kc ks : Nat), rxQ ar mX83_head mX83_parts mX83_kind mX83_variable mX84_sort mX84_name mX84_x mX84_y mJ2_elementData mJ2_size (sa 0) A G hd ki fo ln pt n e0 F H_ Li Ro Pa la L S0 La rn ai0 kd an ai al mJ4_words mJ4_wordsInUse → mX35_last (A 0 0) = some (A 1 la) → mX35_next (A 0 0) = some (A 1 ne) → mX35_roundCount (A 0 0) = t → mX35_work (A 0 0) = rxM w → kc + (rxSm L' - rxSm L) ≤ MC → ks + 2 * (rxSm L' - rxSm L) ≤ MS →
    (∀ kd an ai al rc la ne wo lg wd iu sk (kc ks : Nat), rxQ ar mX83_head mX83_parts mX83_kind mX83_variable mX84_sort mX84_name mX84_x mX84_y mJ2_elementData mJ2_size (sa 0) A G hd ki fo ln pt n e0 F H_ Li Ro Pa la' L' S0 La' (reLp hd ki fo ln pt st n s f round rn t w).1 ai0 kd an ai al wd iu → la (A 0 0) = some (A 1 la') → ne (A 0 0) = some (A 1 ne') → rc (A 0 0) = (reLp hd ki fo ln pt st n s f round rn t w).2.1 → wo (A 0 0) = rxM (reLp hd ki fo ln pt st n s f round rn t w).2.2.1 → lg (A 0 0) = (reLp hd ki fo ln pt st n s f round rn t w).2.2.2 → kc ≤ MC → ks ≤ MS → K kd an ai al rc la ne wo lg wd iu sk kc ks) →  wRE_X35_goThrough_4 MC MS K K (A 0 0) s ar mX35_rules mX35_strata mX35_safe mX35_holds mX35_rounds mX35_counts mX35_values mX35_coming mX35_gathering mX35_together mX35_held mX83_head mX83_parts mX83_kind mX83_variable mX84_sort mX84_name mX84_x mX84_y mJ2_elementData mJ2_size (f + 1) (round - 1) 1 kd an ai al mX35_roundCount mX35_last mX35_next mX35_work mX35_large mJ4_words mJ4_wordsInUse mJ4_sizeIsSticky kc ks := by
  intro f
  have hn := I.1
  induction f with
  | zero =>
    intro round rn t w la ne La L hro hm
    have := (cntI_b (fun c => rn c < 0) 16384).1
    omega
  | succ f ih =>
    intro round rn t w la ne La L hro hm hne hL ht hw hlv
    obtain ⟨fl, hf1, hf0⟩ : ∃ fl : Int, (round = 1 → fl = 1) ∧ (¬ round = 1 → fl = 0) := ⟨if round = 1 then 1 else 0, fun z => if_pos z, fun z => if_neg z⟩
    have lv : fl = 1 ∨ (fl = 0 ∧ rxLv hd ki fo ln pt st n s (reHo rn) La) := by
      by_cases z : round = 1
      · exact Or.inl (hf1 z)
      · exact Or.inr ⟨hf0 z, hlv.resolve_left z⟩
    obtain ⟨Z, hZ⟩ : ∃ Z, rxAl hd ki fo ln pt st (reHo rn) La fl s n.toNat = Z := ⟨_, rfl⟩
    by_cases hW : 200000 < reWk hd ki fo ln pt st rn s w n.toNat
    · have eR : reLp hd ki fo ln pt st n s (f + 1) round rn t w = (rn, t, reWk hd ki fo ln pt st rn s w n.toNat, 1) := by rw [reLp, if_pos hW]
      rw [eR]
      refine ⟨L, la, ne, La, ⟨hne, rfl, fun j j0 j1 => ⟨Int.le_refl _, (hL j j0 j1).2⟩⟩, ?_⟩
      intro MC MS K S0 kd an ai al mX35_roundCount mX35_last mX35_next mX35_work mX35_large mJ4_words mJ4_wordsInUse mJ4_sizeIsSticky kc ks Q rL rN eT eW hkc hks hK
      exact CRE_turn (t := t) (w := w) (f := fl) (Z := Z) I hst hs0 rR rT rS rV rH rRd rHd rTg rG rC hsf hsa rL rN hne ⟨by omega, by omega⟩ hf1 hf0 ⟨by omega, by omega⟩ hw lv hZ Q eT eW (fun z => absurd hW z) (fun z => absurd hW z) (by omega) (by omega) (fun _ al' iu' wo lg Q' w1 w2 => hK _ _ _ _ _ _ _ _ _ _ _ _ _ _ Q' rL rN eT w1 w2 (by omega) (by omega)) (fun z => absurd hW z)
    · have hW' : reWk hd ki fo ln pt st rn s w n.toNat ≤ 200000 := by omega
      have w0 := reWk_0 (st := st) (rn := rn) (s := s) I hw.1 (m := n.toNat) (by omega)
      have eL := rxSm_2 (L := L) (a := reGr (reHo rn) (L ne) Z) (b := reG (L 1) (bsU (rxNx rn Z))) hne
      have lne := hL ne (by omega) (by omega)
      have l1 := hL 1 (by decide) (by decide)
      have bZ : ∀ c ∈ Z, 0 ≤ c ∧ c < 16384 := fun c hc => by
        rw [← hZ] at hc
        exact rxAl_r I hw.1 hW' n.toNat (by omega) c hc
      have gZ := reGr_b (H := reHo rn) Z (L ne) lne bZ
      have uT : ∃ u, bsT (rxNx rn Z) u ∧ u ≤ 256 := by
        by_cases ex : ∃ c, rxNx rn Z c
        · obtain ⟨c, hc⟩ := ex
          have mx : ∀ d : Nat, (∃ c, rxNx rn Z c ∧ 16384 - d ≤ c) → ∃ c, rxNx rn Z c ∧ ∀ q, rxNx rn Z q → q ≤ c := fun d => by
            induction d with
            | zero => rintro ⟨c, h, hc⟩; exact absurd (bZ c h.1).2 (by omega)
            | succ d ihd =>
              rintro ⟨c, h, hc⟩
              by_cases z : ∃ c, rxNx rn Z c ∧ 16384 - (d : Int) ≤ c
              · exact ihd z
              · refine ⟨c, h, fun q hq => Classical.byContradiction (fun y => z ⟨q, hq, by omega⟩)⟩
          obtain ⟨m, hm1, hm2⟩ := mx 16384 ⟨c, hc, by have := bZ c hc.1; omega⟩
          have bm := bZ m hm1.1
          exact ⟨m / 64 + 1, ⟨by omega, fun q hq => by have := hm2 q hq; omega, fun _ => ⟨m, by omega, hm1⟩⟩, by omega⟩
        · exact ⟨0, ⟨Int.le_refl _, fun q hq => absurd ⟨q, hq⟩ ex, fun z => absurd z (by decide)⟩, by decide⟩
      obtain ⟨u, hu1, hu2⟩ := uT
      have eu : bsU (rxNx rn Z) = u := (Classical.epsilon_spec (p := bsT (rxNx rn Z)) ⟨u, hu1⟩ : bsT (rxNx rn Z) (bsU (rxNx rn Z))).u hu1
      have gb := reG_b l1 (u := bsU (rxNx rn Z)) (by omega)
      have eN : ∀ {c : Int}, rxNx rn Z c ↔ (rn c < 0 ∧ c ∈ reAl hd ki fo ln pt st (reHo rn) s n.toNat) := fun {c} => rxN1 I hst hs0 lv hw.1 hW' hZ
      have eR1 := rxR1 (round := round) I hst hs0 lv hw.1 hW' hZ
      have bL : ∀ j, 1 ≤ j → j < 4 → L j ≤ upJ (upJ L ne (reGr (reHo rn) (L ne) Z)) 1 (reG (L 1) (bsU (rxNx rn Z))) j ∧ upJ (upJ L ne (reGr (reHo rn) (L ne) Z)) 1 (reG (L 1) (bsU (rxNx rn Z))) j ≤ 510 := fun j j0 j1 => by
        by_cases z : j = 1
        · rw [z, upJ_s]; omega
        · rw [upJ_n z]
          by_cases y : j = ne
          · rw [y, upJ_s]; exact gZ
          · rw [upJ_n y]; exact ⟨Int.le_refl _, (hL j j0 j1).2⟩
      have bL0 : upJ (upJ L ne (reGr (reHo rn) (L ne) Z)) 1 (reG (L 1) (bsU (rxNx rn Z))) 0 = L 0 := by rw [upJ_n (by decide), upJ_n (by omega)]
      by_cases ex : ∃ c, rxNx rn Z c
      · have eR : reLp hd ki fo ln pt st n s (f + 1) round rn t w = reLp hd ki fo ln pt st n s f (round + 1) (reNx round rn (reAl hd ki fo ln pt st (reHo rn) s n.toNat)) (t + 1) (reWk hd ki fo ln pt st rn s w n.toNat) := by
          rw [reLp, if_neg hW, pif_t]
          obtain ⟨c, hc⟩ := ex
          exact ⟨c, (eN.1 hc).2, (eN.1 hc).1⟩
        rw [eR]
        have R4 := rxR4 (round := round) I hst hs0 lv hw.1 hW' hZ (by omega) ex
        have R3 := rxR3 I hst hs0 lv hw.1 hW' hZ
        have R2 := rxR2 (round := round) I hst hs0 lv hw.1 hW' hZ (by omega)
        rw [← R2] at R3
        have R5 : cntI (fun c => reNx round rn (reAl hd ki fo ln pt st (reHo rn) s n.toNat) c < 0) 16384 + 1 ≤ f := by
          generalize cntI (fun c => reNx round rn (reAl hd ki fo ln pt st (reHo rn) s n.toNat) c < 0) 16384 = X at R4 ⊢
          generalize cntI (fun c => rn c < 0) 16384 = Y at R4 hm
          omega
        clear R4
        obtain ⟨L', la', ne', La', ⟨q1, q2, q3⟩, q4⟩ := ih (round + 1) (reNx round rn (reAl hd ki fo ln pt st (reHo rn) s n.toNat)) (t + 1) (reWk hd ki fo ln pt st rn s w n.toNat) ne la (rxNx rn Z) (upJ (upJ L ne (reGr (reHo rn) (L ne) Z)) 1 (reG (L 1) (bsU (rxNx rn Z)))) ⟨by clear hm R5; omega, by clear hm R5; omega⟩ R5 (by clear hm R5; omega) (fun j j0 j1 => by
          clear hm R5
          have := bL j j0 j1
          have := hL j j0 j1
          omega) ⟨by clear hm R5; omega, by clear hm R5; omega⟩ ⟨w0, hW'⟩ (Or.inr R3)
        have s1 := q3 1 (by decide) (by decide)
        have s2 := q3 2 (by decide) (by decide)
        have s3 := q3 3 (by decide) (by decide)
        have sm : rxSm (upJ (upJ L ne (reGr (reHo rn) (L ne) Z)) 1 (reG (L 1) (bsU (rxNx rn Z)))) ≤ rxSm L' := by
          unfold rxSm; omega
        refine ⟨L', la', ne', La', ⟨q1, q2.trans bL0, fun j j0 j1 => ⟨Int.le_trans (bL j j0 j1).1 (q3 j j0 j1).1, (q3 j j0 j1).2⟩⟩, ?_⟩
        intro MC MS K S0 kd an ai al mX35_roundCount mX35_last mX35_next mX35_work mX35_large mJ4_words mJ4_wordsInUse mJ4_sizeIsSticky kc ks Q rL rN eT eW hkc hks hK
        refine CRE_turn (t := t) (w := w) (f := fl) (Z := Z) I hst hs0 rR rT rS rV rH rRd rHd rTg rG rC hsf hsa rL rN hne ⟨by omega, by omega⟩ hf1 hf0 ⟨by omega, by omega⟩ hw lv hZ Q eT eW (fun _ => by omega) (fun _ => by omega) (by omega) (by omega) (fun z => absurd z hW) (fun _ y kd' an' ai' al' rc' la1 ne1 wo lg wd' iu' sk' kc' ks' hy Q' l1 l2 w1 w2 hc hs => ?_)
        rcases hy with ⟨_, no, _⟩ | ⟨ey, _, et⟩
        · exact absurd ex no
        rw [eR1] at Q'
        rw [ey]
        have G := q4 MC MS K S0 kd' an' ai' al' rc' la1 ne1 wo lg wd' iu' sk' kc' ks' Q' l1 l2 et w1 (by omega) (by omega) hK
        rw [show round + 1 - 1 = round by omega] at G
        exact G
      · have eR : reLp hd ki fo ln pt st n s (f + 1) round rn t w = (rn, t, reWk hd ki fo ln pt st rn s w n.toNat, 0) := by
          rw [reLp, if_neg hW, pif_f]
          rintro ⟨c, hc, h⟩
          exact ex ⟨c, eN.2 ⟨h, hc⟩⟩
        rw [eR]
        have er : (fun c => pif (rxNx rn Z c) round (rn c)) = rn := funext fun c => pif_f (fun z => ex ⟨c, z⟩)
        rw [er] at eR1
        refine ⟨_, ne, la, rxNx rn Z, ⟨by omega, bL0, bL⟩, ?_⟩
        intro MC MS K S0 kd an ai al mX35_roundCount mX35_last mX35_next mX35_work mX35_large mJ4_words mJ4_wordsInUse mJ4_sizeIsSticky kc ks Q rL rN eT eW hkc hks hK
        refine CRE_turn (t := t) (w := w) (f := fl) (Z := Z) I hst hs0 rR rT rS rV rH rRd rHd rTg rG rC hsf hsa rL rN hne ⟨by omega, by omega⟩ hf1 hf0 ⟨by omega, by omega⟩ hw lv hZ Q eT eW (fun _ => by omega) (fun _ => by omega) (by omega) (by omega) (fun z => absurd z hW) (fun _ y kd' an' ai' al' rc' la1 ne1 wo lg wd' iu' sk' kc' ks' hy Q' l1 l2 w1 w2 hc hs => ?_)
        rcases hy with ⟨ey, _, et⟩ | ⟨_, yes, _⟩
        · rw [er] at Q'
          rw [ey, wRE_X35_goThrough_4]
          exact ⟨fun _ => hK _ _ _ _ _ _ _ _ _ _ _ _ _ _ Q' l1 l2 et w1 w2 (by omega) (by omega), fun z => absurd rfl z⟩
        · exact absurd yes ex
/-- a stratum -/
theorem CRE_goThrough {round t w : Int} {L : Int → Int} {La : Int → Prop} (er : round = 1) (I : reI hd ki fo ln pt n) (hst : reLs (reEd hd ki fo ln pt n 1) (reEd hd ki fo ln pt n 2) st) (hs0 : 0 ≤ s) (rR : mX35_rules (A 0 0) = some (A 10 0)) (rT : mX35_strata (A 0 0) = some (A 2 0)) (rS : mX35_safe (A 0 0) = some (A 3 0)) (rV : mX35_values (A 0 0) = some (A 5 0)) (rH : mX35_holds (A 0 0) = some (A 1 1)) (rRd : mX35_rounds (A 0 0) = some (A 4 0)) (rHd : mX35_held (A 0 0) = some (A 2 2)) (rTg : mX35_together (A 0 0) = some (A 6 0)) (rG : mX35_gathering (A 0 0) = some (A 9 0)) (rC : mX35_coming (A 0 0) = some (A 7 0)) (hsf : ∀ k, 0 ≤ k → k < n → (¬ ai0 (A 3 0) k = 0 ↔ reSf hd ki fo ln pt k)) (hsa : ∀ a, 0 ≤ a → a < 16 → ai0 (A 2 0) a = st a) (hne : (la = 2 ∧ ne = 3) ∨ (la = 3 ∧ ne = 2)) (hL : ∀ j, 1 ≤ j → j < 4 → 1 ≤ L j ∧ L j ≤ 510) (ht : 0 ≤ t ∧ t ≤ 1000000) (hw : 0 ≤ w ∧ w ≤ 200000) :
  ∃ (L' : Int → Int) (la' ne' : Int) (La' : Int → Prop), (((la' = 2 ∧ ne' = 3) ∨ (la' = 3 ∧ ne' = 2)) ∧ L' 0 = L 0 ∧ ∀ j, 1 ≤ j → j < 4 → L j ≤ L' j ∧ L' j ≤ 510) ∧ ∀ (MC MS : Nat) (post : (Nat → Nat) → (Nat → Nat) → (Nat → Int → Int) → (Nat → Int → Int) → (Nat → Int) → (Nat → Option Nat) → (Nat → Option Nat) → (Nat → Int) → (Nat → Int) → (Nat → Option Nat) → (Nat → Int) → (Nat → Int) → Prop) (S0 : Int → Prop) (kd an : Nat → Nat) (ai al : Nat → Int → Int) (mX35_roundCount : Nat → Int) (mX35_last mX35_next : Nat → Option Nat) (mX35_work mX35_large : Nat → Int) (mJ4_words : Nat → Option Nat) (mJ4_wordsInUse mJ4_sizeIsSticky : Nat → Int), rxQ ar mX83_head mX83_parts mX83_kind mX83_variable mX84_sort mX84_name mX84_x mX84_y mJ2_elementData mJ2_size (sa 0) A G hd ki fo ln pt n e0 F H_ Li Ro Pa la L S0 La rn ai0 kd an ai al mJ4_words mJ4_wordsInUse → mX35_last (A 0 0) = some (A 1 la) → mX35_next (A 0 0) = some (A 1 ne) → mX35_roundCount (A 0 0) = t → mX35_work (A 0 0) = rxM w → (rxSm L' - rxSm L) ≤ MC → 2 * (rxSm L' - rxSm L) ≤ MS →
    (∀ kd an ai al rc la ne wo lg wd iu sk, rxQ ar mX83_head mX83_parts mX83_kind mX83_variable mX84_sort mX84_name mX84_x mX84_y mJ2_elementData mJ2_size (sa 0) A G hd ki fo ln pt n e0 F H_ Li Ro Pa la' L' S0 La' (reLp hd ki fo ln pt st n s 16385 round rn t w).1 ai0 kd an ai al wd iu → la (A 0 0) = some (A 1 la') → ne (A 0 0) = some (A 1 ne') → rc (A 0 0) = (reLp hd ki fo ln pt st n s 16385 round rn t w).2.1 → wo (A 0 0) = rxM (reLp hd ki fo ln pt st n s 16385 round rn t w).2.2.1 → lg (A 0 0) = (reLp hd ki fo ln pt st n s 16385 round rn t w).2.2.2 → post kd an ai al rc la ne wo lg wd iu sk) →  wpRE_X35_goThrough MC MS post kd an ai al ar mX35_rules mX35_strata mX35_safe mX35_holds mX35_rounds mX35_counts mX35_roundCount mX35_last mX35_next mX35_values mX35_coming mX35_gathering mX35_together mX35_held mX35_work mX35_large mX83_head mX83_parts mX83_kind mX83_variable mX84_sort mX84_name mX84_x mX84_y mJ2_elementData mJ2_size mJ4_words mJ4_wordsInUse mJ4_sizeIsSticky (A 0 0) s := by
  have hm := (cntI_b (fun c => rn c < 0) 16384).2
  obtain ⟨L', la', ne', La', q1, q2⟩ := CRE_go4 (mX35_counts := mX35_counts) I hst hs0 rR rT rS rV rH rRd rHd rTg rG rC hsf hsa 16385 round rn t w la ne La L (by omega) (by omega) hne hL (by omega) hw (Or.inl er)
  refine ⟨L', la', ne', La', q1, ?_⟩
  intro MC MS post S0 kd an ai al mX35_roundCount mX35_last mX35_next mX35_work mX35_large mJ4_words mJ4_wordsInUse mJ4_sizeIsSticky Q rL rN eT eW hkc hks hK
  unfold wpRE_X35_goThrough
  refine ⟨16385 + 1, ?_⟩
  have G := q2 MC MS (fun kd an ai al rc la ne wo lg wd iu sk kc ks => kc ≤ MC ∧ ks ≤ MS ∧ post kd an ai al rc la ne wo lg wd iu sk) S0 kd an ai al mX35_roundCount mX35_last mX35_next mX35_work mX35_large mJ4_words mJ4_wordsInUse mJ4_sizeIsSticky 0 0 Q rL rN eT eW (by omega) (by omega) (fun kd an ai al rc la ne wo lg wd iu sk kc ks Q' l1 l2 l3 l4 l5 l6 l7 => ⟨l6, l7, hK kd an ai al rc la ne wo lg wd iu sk Q' l1 l2 l3 l4 l5⟩)
  rw [show round - 1 = 0 by omega] at G
  exact G
end
