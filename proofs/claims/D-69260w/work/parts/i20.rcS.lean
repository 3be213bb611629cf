/-! RuleEngine (room RE): a round; the rounds of a stratum -/
section
variable {kd : Nat → Nat} {an : Nat → Nat} {ai : Nat → Int → Int} {al : Nat → Int → Int} {ar : Nat → Int → Option Nat} {mX35_said : Nat → Option Nat} {mX35_rules : Nat → Option Nat} {mX35_strata : Nat → Option Nat} {mX35_needs : Nat → Option Nat} {mX35_safe : Nat → Option Nat} {mX35_circle : Nat → Int} {mX35_known : Nat → Int} {mX35_holds : Nat → Option Nat} {mX35_rounds : Nat → Option Nat} {mX35_counts : Nat → Option Nat} {mX35_roundCount : Nat → Int} {mX35_last : Nat → Option Nat} {mX35_next : Nat → Option Nat} {mX35_values : Nat → Option Nat} {mX35_coming : Nat → Option Nat} {mX35_counting : Nat → Option Nat} {mX35_gathering : Nat → Option Nat} {mX35_together : Nat → Option Nat} {mX35_held : Nat → Option Nat} {mX35_work : Nat → Int} {mX35_large : Nat → Int} {mX83_head : Nat → Option Nat} {mX83_parts : Nat → Option Nat} {mX83_kind : Nat → Int} {mX83_variable : Nat → Int} {mX84_sort : Nat → Int} {mX84_name : Nat → Int} {mX84_x : Nat → Int} {mX84_y : Nat → Int} {mJ1_modCount : Nat → Int} {mJ2_elementData : Nat → Option Nat} {mJ2_size : Nat → Int} {mJ4_words : Nat → Option Nat} {mJ4_wordsInUse : Nat → Int} {mJ4_sizeIsSticky : Nat → Int} {sa : Nat → Nat} {A : Nat → Int → Nat} {hd ki fo ln pt sd st rn gv : Int → Int} {n r k v c s : Int} {e0 : Nat} {W : Int → Nat} {Lq : Int → Int} {Pq : Int → Int → Prop} {MC MS : Nat} {F H_ Li Ro : Int → Nat} {Pa : Int → Int → Nat} {G : Nat → Nat × Int} {L0 : Int → Int} {P0 : Int → Int → Prop} {ai0 : Nat → Int → Int} {ne la fr : Int}
theorem CRE_go130 {K4 : Int → Int → (Nat → Nat) → (Nat → Nat) → (Nat → Int → Int) → (Nat → Int → Int) → (Nat → Int) → (Nat → Option Nat) → (Nat → Option Nat) → (Nat → Int) → (Nat → Int) → (Nat → Option Nat) → (Nat → Int) → (Nat → Int) → Nat → Nat → Prop} {Z : List Int} {x2 y0 t : Int} {kc ks : Nat} {S0 : Int → Prop} {aiS : Nat → Int → Int} (rR : mX35_rules (A 0 0) = some (A 10 0)) (rT : mX35_strata (A 0 0) = some (A 2 0)) (rS : mX35_safe (A 0 0) = some (A 3 0)) (rV : mX35_values (A 0 0) = some (A 5 0)) (rH : mX35_holds (A 0 0) = some (A 1 1)) (rRd : mX35_rounds (A 0 0) = some (A 4 0)) (rHd : mX35_held (A 0 0) = some (A 2 2)) (rTg : mX35_together (A 0 0) = some (A 6 0)) (rG : mX35_gathering (A 0 0) = some (A 9 0)) (rC : mX35_coming (A 0 0) = some (A 7 0)) (rL : mX35_last (A 0 0) = some (A 1 la)) (rN : mX35_next (A 0 0) = some (A 1 ne)) (hne : (la = 2 ∧ ne = 3) ∨ (la = 3 ∧ ne = 2)) (J : rxJ ar mX83_head mX83_parts mX83_kind mX83_variable mX84_sort mX84_name mX84_x mX84_y mJ2_elementData mJ2_size (sa 0) A G hd ki fo ln pt n e0 F H_ Li Ro Pa ne L0 P0 aiS Z kd an ai al mJ4_words mJ4_wordsInUse) (p0 : P0 0 = S0) (p1 : P0 1 = reHo rn) (pn : P0 ne = fun _ => False) (frS : ∀ a, a ≠ A 5 0 → a ≠ A 6 0 → a ≠ A 4 0 → a ≠ A 2 2 → aiS a = ai0 a)
  (h4S : ∀ c, 0 ≤ c → c < 16384 → aiS (A 4 0) c = if rn c < 0 then -2 else rn c) (h2S : ∀ a, 0 ≤ a → a < 16 → aiS (A 2 2) a = reFo rn a) (hNx : ∀ c, rxNx rn Z c → rn c < 0) (hx2 : 0 ≤ x2) (hN1 : reHo (fun c => pif (rxNx rn Z c) x2 (rn c)) = fun c => reHo rn c ∨ rxNx rn Z c) (eT : mX35_roundCount (A 0 0) = t) (ht : 0 ≤ t ∧ t ≤ 2000000)
  (hkc : kc + (reG (L0 1) (bsU (rxNx rn Z)) - L0 1) ≤ MC) (hks : ks + 2 * (reG (L0 1) (bsU (rxNx rn Z)) - L0 1) ≤ MS)
  (hK : ∀ kd' an' ai' al' rc' la' ne' wd' iu' sk', rxQ ar mX83_head mX83_parts mX83_kind mX83_variable mX84_sort mX84_name mX84_x mX84_y mJ2_elementData mJ2_size (sa 0) A G hd ki fo ln pt n e0 F H_ Li Ro Pa ne (upJ (upJ L0 ne (reGr (reHo rn) (L0 ne) Z)) 1 (reG (L0 1) (bsU (rxNx rn Z)))) S0 (rxNx rn Z) (fun c => pif (rxNx rn Z c) x2 (rn c)) ai0 kd' an' ai' al' wd' iu' → la' (A 0 0) = some (A 1 ne) → ne' (A 0 0) = some (A 1 la) → rc' (A 0 0) = (if y0 = 0 then t else t + 1) → K4 x2 y0 kd' an' ai' al' rc' la' ne' mX35_work mX35_large wd' iu' sk' (kc + (reG (L0 1) (bsU (rxNx rn Z)) - L0 1).toNat) (ks + (2 * (reG (L0 1) (bsU (rxNx rn Z)) - L0 1)).toNat)) :
  wRE_X35_goThrough_130 MC MS K4 (A 0 0) x2 y0 kd an ai al mX35_holds mX35_rounds mX35_roundCount mX35_last mX35_next mX35_held mX35_work mX35_large mJ4_words mJ4_wordsInUse mJ4_sizeIsSticky kc ks := by
  obtain ⟨H, R, ⟨W, B⟩, ha⟩ := J
  have kn : kd (A 1 ne) = 8 := rx_kd H 1 ne (by omega) (by show ne < 4; omega)
  have k1 : kd (A 1 1) = 8 := rx_kd H 1 1 (by decide) (by decide)
  have ne45 : A 4 0 ≠ A 5 0 := H.ne (i := 4) (i' := 5) ⟨by decide, by decide⟩ ⟨by decide, by decide⟩ (Or.inl (by decide))
  have ne46 : A 4 0 ≠ A 6 0 := H.ne (i := 4) (i' := 6) ⟨by decide, by decide⟩ ⟨by decide, by decide⟩ (Or.inl (by decide))
  have ne25 : A 2 2 ≠ A 5 0 := H.ne (i := 2) (i' := 5) ⟨by decide, by decide⟩ ⟨by decide, by decide⟩ (Or.inl (by decide))
  have ne26 : A 2 2 ≠ A 6 0 := H.ne (i := 2) (i' := 6) ⟨by decide, by decide⟩ ⟨by decide, by decide⟩ (Or.inl (by decide))
  have h4 : ∀ c, 0 ≤ c → c < 16384 → ai (A 4 0) c = if rn c < 0 then -2 else rn c := by rw [ha _ ne45 ne46]; exact h4S
  have h2 : ∀ a, 0 ≤ a → a < 16 → ai (A 2 2) a = reFo rn a := by rw [ha _ ne25 ne26]; exact h2S
  have eNx : ∀ q, upJ P0 ne (fun c => P0 ne c ∨ (c ∈ Z ∧ ¬ P0 1 c)) ne q ↔ rxNx rn Z q := fun q => by
    rw [upJ_s, pn, p1]
    exact ⟨fun z => z.resolve_left (fun w => w), Or.inr⟩
  have b1 := B.1 1 (by decide) (by decide)
  rw [upJ_n (show (1 : Int) ≠ ne by omega), upJ_n (show (1 : Int) ≠ ne by omega)] at b1
  have bn := (B.1 ne (by omega) (by omega)).c eNx
  have eu := bn.eu
  have gb := reG_b b1.2.1 (u := bsU (rxNx rn Z)) (by rw [← eu]; exact bn.top.2)
  have fin : ∀ ai1 : Nat → Int → Int, (∀ a, a ≠ A 4 0 → a ≠ A 2 2 → ai1 a = ai a) → (∀ c, 0 ≤ c → c < 16384 → ai1 (A 4 0) c = if pif (rxNx rn Z c) x2 (rn c) < 0 then -2 else pif (rxNx rn Z c) x2 (rn c)) → (∀ a, 0 ≤ a → a < 16 → ai1 (A 2 2) a = reFo (fun c => pif (rxNx rn Z c) x2 (rn c)) a) → ∀ (kd' an' : Nat → Nat) (al' : Nat → Int → Int) (wd' : Nat → Option Nat) (iu' : Nat → Int) (w' : Nat), bsF kd an al mJ4_words mJ4_wordsInUse (A 1 1) (W 1) kd' an' al' wd' iu' w' → bsI kd' an' al' wd' iu' (A 1 1) w' (reG (L0 1) (bsU (rxNx rn Z))) (fun r => P0 1 r ∨ rxNx rn Z r) → rxQ ar mX83_head mX83_parts mX83_kind mX83_variable mX84_sort mX84_name mX84_x mX84_y mJ2_elementData mJ2_size (sa 0) A G hd ki fo ln pt n e0 F H_ Li Ro Pa ne (upJ (upJ L0 ne (reGr (reHo rn) (L0 ne) Z)) 1 (reG (L0 1) (bsU (rxNx rn Z)))) S0 (rxNx rn Z) (fun c => pif (rxNx rn Z c) x2 (rn c)) ai0 kd' an' ai1 al' wd' iu' := fun ai1 f1 f2 f3 kd' an' al' wd' iu' w' Fr N => by
    have B' := rxB.up H B (by decide) (by decide) Fr N
    rw [p1] at B'
    refine ⟨H.kLe Fr.1, R.le Fr.1, ⟨_, _, B', ?_, ?_, ?_⟩, fun a a5 a6 a4 a2 => ?_, f2, f3⟩
    · rw [upJ_n (by decide), upJ_n (by omega)]; exact p0
    · rw [upJ_s]; exact hN1.symm
    · rw [upJ_n (by omega), upJ_s]
      exact funext fun q => propext (by
        have e := eNx q
        rw [upJ_s, p1] at e
        exact e)
    · rw [f1 a a4 a2, ha a a5 a6]; exact frS a a5 a6 a4 a2
  unfold wRE_X35_goThrough_130
  refine ⟨fun y => ?_, fun y => ⟨by omega, fun v ev rc er => ?_⟩⟩
  · refine kOn_of rN ⟨kn, ⟨by omega, by omega⟩, CRE_go155 (by omega) (by omega) H rRd rHd rN (by omega) bn (fun c h => hNx c h) hx2 h4 h2 (fun ai1 f1 f2 f3 => kOn_of rH ⟨k1, (reG (L0 1) (bsU (rxNx rn Z)) - L0 1).toNat, (2 * (reG (L0 1) (bsU (rxNx rn Z)) - L0 1)).toNat, ⟨by omega, by omega⟩, ?_⟩)⟩
    rw [rN]
    refine CRE_orG b1 bn kn (H.ne (i := 1) (i' := 1) ⟨by decide, by decide⟩ ⟨by omega, by show ne < 4; omega⟩ (Or.inr (by omega))) (B.2 1 ne (by decide) (by decide) (by omega) (by omega) (by omega)) (by rw [eu]; omega) (by rw [eu]; omega) (fun kd' an' al' wd' iu' st' w' Fr N kl la1 e1 ne1 e2 laM e3 neM e4 => ?_)
    rw [eu] at N
    exact hK _ _ _ _ _ _ _ _ _ _ (fin ai1 f1 f2 f3 kd' an' al' wd' iu' w' Fr N) (by rw [e3, va_up_self]; first | exact e2 | exact e2.trans rN) (by rw [e4, va_up_self]; exact e1.trans rL) (by rw [if_pos y]; exact eT)
  · refine kOn_of rN ⟨kn, ⟨by omega, by omega⟩, CRE_go155 (by omega) (by omega) H rRd rHd rN (by omega) bn (fun c h => hNx c h) hx2 h4 h2 (fun ai1 f1 f2 f3 => kOn_of rH ⟨k1, (reG (L0 1) (bsU (rxNx rn Z)) - L0 1).toNat, (2 * (reG (L0 1) (bsU (rxNx rn Z)) - L0 1)).toNat, ⟨by omega, by omega⟩, ?_⟩)⟩
    rw [rN]
    refine CRE_orG b1 bn kn (H.ne (i := 1) (i' := 1) ⟨by decide, by decide⟩ ⟨by omega, by show ne < 4; omega⟩ (Or.inr (by omega))) (B.2 1 ne (by decide) (by decide) (by omega) (by omega) (by omega)) (by rw [eu]; omega) (by rw [eu]; omega) (fun kd' an' al' wd' iu' st' w' Fr N kl la1 e1 ne1 e2 laM e3 neM e4 => ?_)
    rw [eu] at N
    exact hK _ _ _ _ _ _ _ _ _ _ (fin ai1 f1 f2 f3 kd' an' al' wd' iu' w' Fr N) (by rw [e3, va_up_self]; first | exact e2 | exact e2.trans rN) (by rw [e4, va_up_self]; exact e1.trans rL) (by rw [if_neg y, er, va_up_self, ev, eT])
end
section
variable {kd : Nat → Nat} {an : Nat → Nat} {ai : Nat → Int → Int} {al : Nat → Int → Int} {ar : Nat → Int → Option Nat} {mX35_said : Nat → Option Nat} {mX35_rules : Nat → Option Nat} {mX35_strata : Nat → Option Nat} {mX35_needs : Nat → Option Nat} {mX35_safe : Nat → Option Nat} {mX35_circle : Nat → Int} {mX35_known : Nat → Int} {mX35_holds : Nat → Option Nat} {mX35_rounds : Nat → Option Nat} {mX35_counts : Nat → Option Nat} {mX35_roundCount : Nat → Int} {mX35_last : Nat → Option Nat} {mX35_next : Nat → Option Nat} {mX35_values : Nat → Option Nat} {mX35_coming : Nat → Option Nat} {mX35_counting : Nat → Option Nat} {mX35_gathering : Nat → Option Nat} {mX35_together : Nat → Option Nat} {mX35_held : Nat → Option Nat} {mX35_work : Nat → Int} {mX35_large : Nat → Int} {mX83_head : Nat → Option Nat} {mX83_parts : Nat → Option Nat} {mX83_kind : Nat → Int} {mX83_variable : Nat → Int} {mX84_sort : Nat → Int} {mX84_name : Nat → Int} {mX84_x : Nat → Int} {mX84_y : Nat → Int} {mJ1_modCount : Nat → Int} {mJ2_elementData : Nat → Option Nat} {mJ2_size : Nat → Int} {mJ4_words : Nat → Option Nat} {mJ4_wordsInUse : Nat → Int} {mJ4_sizeIsSticky : Nat → Int} {sa : Nat → Nat} {A : Nat → Int → Nat} {hd ki fo ln pt sd st rn gv : Int → Int} {n r k v c s : Int} {e0 : Nat} {W : Int → Nat} {Lq : Int → Int} {Pq : Int → Int → Prop} {MC MS : Nat} {F H_ Li Ro : Int → Nat} {Pa : Int → Int → Nat} {G : Nat → Nat × Int} {L0 : Int → Int} {P0 : Int → Int → Prop} {ai0 : Nat → Int → Int} {ne la fr : Int}
theorem CRE_turn {K30 K232 : (Nat → Nat) → (Nat → Nat) → (Nat → Int → Int) → (Nat → Int → Int) → (Nat → Int) → (Nat → Option Nat) → (Nat → Option Nat) → (Nat → Int) → (Nat → Int) → (Nat → Option Nat) → (Nat → Int) → (Nat → Int) → Nat → Nat → Prop} {S0 La : Int → Prop} {f round t w : Int} {Z : List Int} {L : Int → Int} {fu kc ks : Nat} (I : reI hd ki fo ln pt n) (hst : reLs (reEd hd ki fo ln pt n 1) (reEd hd ki fo ln pt n 2) st) (hs0 : 0 ≤ s) (rR : mX35_rules (A 0 0) = some (A 10 0)) (rT : mX35_strata (A 0 0) = some (A 2 0)) (rS : mX35_safe (A 0 0) = some (A 3 0)) (rV : mX35_values (A 0 0) = some (A 5 0)) (rH : mX35_holds (A 0 0) = some (A 1 1)) (rRd : mX35_rounds (A 0 0) = some (A 4 0)) (rHd : mX35_held (A 0 0) = some (A 2 2)) (rTg : mX35_together (A 0 0) = some (A 6 0)) (rG : mX35_gathering (A 0 0) = some (A 9 0)) (rC : mX35_coming (A 0 0) = some (A 7 0)) (hsf : ∀ k, 0 ≤ k → k < n → (¬ ai0 (A 3 0) k = 0 ↔ reSf hd ki fo ln pt k)) (hsa : ∀ a, 0 ≤ a → a < 16 → ai0 (A 2 0) a = st a)
  (rL : mX35_last (A 0 0) = some (A 1 la)) (rN : mX35_next (A 0 0) = some (A 1 ne)) (hne : (la = 2 ∧ ne = 3) ∨ (la = 3 ∧ ne = 2)) (hro : 1 ≤ round ∧ round ≤ 20000) (hf1 : round = 1 → f = 1) (hf0 : ¬ round = 1 → f = 0) (ht : 0 ≤ t ∧ t ≤ 2000000) (hw : 0 ≤ w ∧ w ≤ 200000) (lv : f = 1 ∨ (f = 0 ∧ rxLv hd ki fo ln pt st n s (reHo rn) La)) (hZ : rxAl hd ki fo ln pt st (reHo rn) La f s n.toNat = Z)
  (Q : rxQ ar mX83_head mX83_parts mX83_kind mX83_variable mX84_sort mX84_name mX84_x mX84_y mJ2_elementData mJ2_size (sa 0) A G hd ki fo ln pt n e0 F H_ Li Ro Pa la L S0 La rn ai0 kd an ai al mJ4_words mJ4_wordsInUse) (eT : mX35_roundCount (A 0 0) = t) (eW : mX35_work (A 0 0) = rxM w)
  (hkc : ¬ 200000 < reWk hd ki fo ln pt st rn s w n.toNat → kc + ((reGr (reHo rn) (L ne) Z - L ne) + (reG (L 1) (bsU (rxNx rn Z)) - L 1)) ≤ MC) (hks : ¬ 200000 < reWk hd ki fo ln pt st rn s w n.toNat → ks + 2 * ((reGr (reHo rn) (L ne) Z - L ne) + (reG (L 1) (bsU (rxNx rn Z)) - L 1)) ≤ MS) (hkc0 : kc ≤ MC) (hks0 : ks ≤ MS)
  (hbig : 200000 < reWk hd ki fo ln pt st rn s w n.toNat → ∀ al' iu' wo lg, rxQ ar mX83_head mX83_parts mX83_kind mX83_variable mX84_sort mX84_name mX84_x mX84_y mJ2_elementData mJ2_size (sa 0) A G hd ki fo ln pt n e0 F H_ Li Ro Pa la L S0 La rn ai0 kd an ai al' mJ4_words iu' → wo (A 0 0) = rxM (reWk hd ki fo ln pt st rn s w n.toNat) → lg (A 0 0) = 1 → K30 kd an ai al' mX35_roundCount mX35_last mX35_next wo lg mJ4_words iu' mJ4_sizeIsSticky kc ks)
  (hgo : ¬ 200000 < reWk hd ki fo ln pt st rn s w n.toNat → ∀ y kd' an' ai' al' rc' la' ne' wo lg wd' iu' sk' (kc' ks' : Nat), ((y = 0 ∧ ¬ (∃ c, rxNx rn Z c) ∧ rc' (A 0 0) = t) ∨ (y = 1 ∧ (∃ c, rxNx rn Z c) ∧ rc' (A 0 0) = t + 1)) → rxQ ar mX83_head mX83_parts mX83_kind mX83_variable mX84_sort mX84_name mX84_x mX84_y mJ2_elementData mJ2_size (sa 0) A G hd ki fo ln pt n e0 F H_ Li Ro Pa ne (upJ (upJ L ne (reGr (reHo rn) (L ne) Z)) 1 (reG (L 1) (bsU (rxNx rn Z)))) S0 (rxNx rn Z) (fun c => pif (rxNx rn Z c) round (rn c)) ai0 kd' an' ai' al' wd' iu' → la' (A 0 0) = some (A 1 ne) → ne' (A 0 0) = some (A 1 la) → wo (A 0 0) = rxM (reWk hd ki fo ln pt st rn s w n.toNat) → lg (A 0 0) = 0 →
    (kc' : Int) ≤ kc + ((reGr (reHo rn) (L ne) Z - L ne) + (reG (L 1) (bsU (rxNx rn Z)) - L 1)) → (ks' : Int) ≤ ks + 2 * ((reGr (reHo rn) (L ne) Z - L ne) + (reG (L 1) (bsU (rxNx rn Z)) - L 1)) → wRE_X35_goThrough_4 MC MS K30 K232 (A 0 0) s ar mX35_rules mX35_strata mX35_safe mX35_holds mX35_rounds mX35_counts mX35_values mX35_coming mX35_gathering mX35_together mX35_held mX83_head mX83_parts mX83_kind mX83_variable mX84_sort mX84_name mX84_x mX84_y mJ2_elementData mJ2_size fu round y kd' an' ai' al' rc' la' ne' wo lg wd' iu' sk' kc' ks') :
  wRE_X35_goThrough_4 MC MS K30 K232 (A 0 0) s ar mX35_rules mX35_strata mX35_safe mX35_holds mX35_rounds mX35_counts mX35_values mX35_coming mX35_gathering mX35_together mX35_held mX83_head mX83_parts mX83_kind mX83_variable mX84_sort mX84_name mX84_x mX84_y mJ2_elementData mJ2_size (fu + 1) (round - 1) 1 kd an ai al mX35_roundCount mX35_last mX35_next mX35_work mX35_large mJ4_words mJ4_wordsInUse mJ4_sizeIsSticky kc ks := by
  have hn := I.1
  obtain ⟨H, R, ⟨W, P, B, p0, p1, pl⟩, fr, h4, h2⟩ := Q
  have kn : kd (A 1 ne) = 8 := rx_kd H 1 ne (by omega) (by show ne < 4; omega)
  have eA3 : ai (A 3 0) = ai0 (A 3 0) := fr _ (H.ne (i := 3) (i' := 5) ⟨by decide, by decide⟩ ⟨by decide, by decide⟩ (Or.inl (by decide))) (H.ne (i := 3) (i' := 6) ⟨by decide, by decide⟩ ⟨by decide, by decide⟩ (Or.inl (by decide))) (H.ne (i := 3) (i' := 4) ⟨by decide, by decide⟩ ⟨by decide, by decide⟩ (Or.inl (by decide))) (H.ne (i := 3) (i' := 2) ⟨by decide, by decide⟩ ⟨by decide, by decide⟩ (Or.inl (by decide)))
  have eA2 : ai (A 2 0) = ai0 (A 2 0) := fr _ (H.ne (i := 2) (i' := 5) ⟨by decide, by decide⟩ ⟨by decide, by decide⟩ (Or.inl (by decide))) (H.ne (i := 2) (i' := 6) ⟨by decide, by decide⟩ ⟨by decide, by decide⟩ (Or.inl (by decide))) (H.ne (i := 2) (i' := 4) ⟨by decide, by decide⟩ ⟨by decide, by decide⟩ (Or.inl (by decide))) (H.ne (i := 2) (i' := 2) ⟨by decide, by decide⟩ ⟨by decide, by decide⟩ (Or.inr (by decide)))
  have hsf' : ∀ k, 0 ≤ k → k < n → (¬ ai (A 3 0) k = 0 ↔ reSf hd ki fo ln pt k) := by rw [eA3]; exact hsf
  have hsa' : ∀ a, 0 ≤ a → a < 16 → ai (A 2 0) a = st a := by rw [eA2]; exact hsa
  have w0 := reWk_0 (st := st) (rn := rn) (s := s) I hw.1 (m := n.toNat) (by omega)
  have bl := (B.1 ne (by omega) (by omega)).2.1
  have b1L := (B.1 1 (by decide) (by decide)).2.1
  have u0 : L 1 ≤ reG (L 1) (bsU (rxNx rn Z)) := by
    unfold reG
    split
    · omega
    · split <;> omega
  have u1 : L ne ≤ reGr (reHo rn) (L ne) Z := reGr_p Z []
  rw [wRE_X35_goThrough_4]
  refine ⟨fun z => absurd z (by decide), fun _ => ⟨by omega, fun x2 e2 => kOn_of rN ⟨kn, ⟨by omega, by omega⟩, CRE_clearG (B.1 ne (by omega) (by omega)) (fun al1 iu1 Fr Nc => ⟨⟨by omega, by omega⟩, CRE_pay (rn := rn) (w := w) I H R rR rT rHd rS hsf' hsa' h2 (Or.inr hs0) hw.1 eW ?_⟩)⟩⟩⟩
  have e2' : x2 = round := by omega
  rw [e2', va_up_self]
  have B' := rxB.up H B (by omega) (by omega) Fr Nc
  have B1 := B'.cg (L' := L) (P' := upJ P ne (fun _ => False)) (fun j j0 j1 => by
    by_cases z : j = ne
    · rw [z, upJ_s]
    · rw [upJ_n z]) (fun j j0 j1 q => Iff.rfl)
  by_cases hW : 200000 < reWk hd ki fo ln pt st rn s w n.toNat
  · have eM : ¬ rxM (reWk hd ki fo ln pt st rn s w n.toNat) ≤ 200000 := by
      unfold rxM
      split <;> omega
    rw [if_neg eM]
    exact ⟨fun z => absurd z (by decide), fun _ => hbig hW _ _ _ _ ⟨H, R, ⟨_, _, B1, by rw [upJ_n (by omega)]; exact p0, by rw [upJ_n (by omega)]; exact p1, by rw [upJ_n (by omega)]; exact pl⟩, fr, h4, h2⟩ (va_up_self _ _ _) (va_up_self _ _ _)⟩
  · have eM : rxM (reWk hd ki fo ln pt st rn s w n.toNat) ≤ 200000 := by
      unfold rxM
      split <;> omega
    have hkc := hkc hW
    have hks := hks hW
    have hgo := hgo hW
    rw [if_pos eM]
    obtain ⟨P1, eP1⟩ : ∃ P1, P1 = upJ P ne (fun _ => False) := ⟨_, rfl⟩
    rw [← eP1] at B1
    have q0 : P1 0 = S0 := by rw [eP1, upJ_n (by omega)]; exact p0
    have q1 : P1 1 = reHo rn := by rw [eP1, upJ_n (by omega)]; exact p1
    have ql : P1 la = La := by rw [eP1, upJ_n (by omega)]; exact pl
    have qn : P1 ne = fun _ => False := by rw [eP1, upJ_s]
    have J0 : rxJ ar mX83_head mX83_parts mX83_kind mX83_variable mX84_sort mX84_name mX84_x mX84_y mJ2_elementData mJ2_size (sa 0) A G hd ki fo ln pt n e0 F H_ Li Ro Pa ne L P1 ai [] kd an ai al1 mJ4_words iu1 := ⟨H, R, ⟨_, B1.cg (fun j j0 j1 => by
      by_cases z : j = ne
      · rw [z, upJ_s]; rfl
      · rw [upJ_n z]) (fun j j0 j1 q => by
      by_cases z : j = ne
      · rw [z, upJ_s]
        exact ⟨Or.inl, fun y => y.elim id (fun y => absurd y.1 (by simp))⟩
      · rw [upJ_n z])⟩, fun _ _ _ => rfl⟩
    have eG0 : reGr (P1 1) (L ne) [] = L ne := rfl
    have hZ1 : rxAl hd ki fo ln pt st (P1 1) (P1 la) f s n.toNat = Z := by rw [q1, ql]; exact hZ
    have hW' : reWk hd ki fo ln pt st rn s w n.toNat ≤ 200000 := by omega
    refine ⟨fun _ => ⟨n.toNat + 1, CRE_go34 (C := kc + (reGr (reHo rn) (L ne) Z - L ne).toNat) (D := ks + (2 * (reGr (reHo rn) (L ne) Z - L ne)).toNat) (by omega) (by omega) I hs0 hf1 hf0 rR rT rS rV rH rRd rHd rTg rG rC rL rN hne hsf' hsa' hZ1 (fun kd1 an1 ai1 al2 wd1 iu2 sk1 kc1 ks1 J hc1 hs1 => ?_) n.toNat 0 kd an ai al1 mJ4_words iu1 mJ4_sizeIsSticky kc ks (by omega) J0 (by
      show kc + (reGr (P1 1) (L ne) Z - reGr (P1 1) (L ne) []) ≤ _
      rw [eG0, q1]; omega) (by
      show ks + 2 * (reGr (P1 1) (L ne) Z - reGr (P1 1) (L ne) []) ≤ _
      rw [eG0, q1]; omega)⟩, fun z => absurd rfl z⟩
    have kn1 : kd1 (A 1 ne) = 8 := rx_kd J.1 1 ne (by omega) (by show ne < 4; omega)
    have bz : iu2 (A 1 ne) = 0 ↔ ∀ q, ¬ rxNx rn Z q := by
      obtain ⟨W2, Bz⟩ := J.2.2.1
      have e := (Bz.1 ne (by omega) (by omega)).e0
      rw [upJ_s, qn, q1] at e
      exact e.trans ⟨fun h q hq => h q (Or.inr hq), fun h q hq => h q (hq.resolve_left (fun w => w))⟩
    have hNx : ∀ c, rxNx rn Z c → rn c < 0 := fun c h => ((rxN1 I hst hs0 lv hw.1 hW' hZ).1 h).1
    have hN1 : reHo (fun c => pif (rxNx rn Z c) round (rn c)) = fun c => reHo rn c ∨ rxNx rn Z c := by
      rw [rxR1 I hst hs0 lv hw.1 hW' hZ]
      exact rxR2 I hst hs0 lv hw.1 hW' hZ (by omega)
    refine kOn_of rN ⟨kn1, ⟨by omega, by omega⟩, ?_⟩
    unfold wpRE_J4_isEmpty
    refine ⟨fun z => ⟨fun y => absurd y (by decide), fun _ => ?_⟩, fun z => ⟨fun _ => ?_, fun y => absurd rfl y⟩⟩
    · have no := bz.1 z
      refine CRE_go130 (t := t) (x2 := round) (P0 := P1) (L0 := L) (ai0 := ai0) (aiS := ai) (S0 := S0) rR rT rS rV rH rRd rHd rTg rG rC rL rN hne J q0 q1 qn fr h4 h2 hNx (by omega) hN1 eT ht (by omega) (by omega) (fun kd' an' ai' al' rc' la' ne' wd' iu' sk' Q' l1 l2 l3 => ?_)
      rw [if_pos rfl] at l3
      exact hgo 0 kd' an' ai' al' rc' la' ne' _ _ wd' iu' sk' _ _ (Or.inl ⟨rfl, fun ⟨c, hc⟩ => no c hc, l3⟩) Q' l1 l2 (va_up_self _ _ _) (va_up_self _ _ _) (by omega) (by omega)
    · have ex : ∃ c, rxNx rn Z c := Classical.byContradiction (fun y => z (bz.2 (fun q hq => y ⟨q, hq⟩)))
      refine CRE_go130 (t := t) (x2 := round) (P0 := P1) (L0 := L) (ai0 := ai0) (aiS := ai) (S0 := S0) rR rT rS rV rH rRd rHd rTg rG rC rL rN hne J q0 q1 qn fr h4 h2 hNx (by omega) hN1 eT ht (by omega) (by omega) (fun kd' an' ai' al' rc' la' ne' wd' iu' sk' Q' l1 l2 l3 => ?_)
      rw [if_neg (by decide)] at l3
      exact hgo 1 kd' an' ai' al' rc' la' ne' _ _ wd' iu' sk' _ _ (Or.inr ⟨rfl, ex, l3⟩) Q' l1 l2 (va_up_self _ _ _) (va_up_self _ _ _) (by omega) (by omega)
end
