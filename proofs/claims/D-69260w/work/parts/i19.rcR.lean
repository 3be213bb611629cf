/-! RuleEngine (room RE): one round -/
/-- the room at the start of a round -/
def rxQ (ar : Nat → Int → Option Nat) (hp pp : Nat → Option Nat) (kp vp so nm px py : Nat → Int) (ed : Nat → Option Nat) (sz : Nat → Int) (s0 : Nat) (A : Nat → Int → Nat) (G : Nat → Nat × Int) (hd ki fo ln pt : Int → Int) (n : Int) (e0 : Nat) (F H_ Li Ro : Int → Nat) (Pa : Int → Int → Nat) (la : Int) (L : Int → Int) (S0 La : Int → Prop) (rn : Int → Int) (ai0 : Nat → Int → Int) (kd an : Nat → Nat) (ai al : Nat → Int → Int) (wd : Nat → Option Nat) (iu : Nat → Int) : Prop :=
  Lab rxK rxL kd an A G rxN ∧ rxRs kd an ar hp pp kp vp so nm px py ed sz s0 A hd ki fo ln pt n e0 F H_ Li Ro Pa ∧ (∃ W P, rxB kd an al wd iu A W L P ∧ P 0 = S0 ∧ P 1 = reHo rn ∧ P la = La) ∧ (∀ a, a ≠ A 5 0 → a ≠ A 6 0 → a ≠ A 4 0 → a ≠ A 2 2 → ai a = ai0 a) ∧ (∀ c, 0 ≤ c → c < 16384 → ai (A 4 0) c = if rn c < 0 then -2 else rn c) ∧ ∀ a, 0 ≤ a → a < 16 → ai (A 2 2) a = reFo rn a
def rxSm (L : Int → Int) : Int := L 1 + L 2 + L 3
theorem rxSm_2 {L : Int → Int} {la ne a b : Int} (h : (la = 2 ∧ ne = 3) ∨ (la = 3 ∧ ne = 2)) : rxSm (upJ (upJ L ne a) 1 b) = rxSm L + (a - L ne) + (b - L 1) := by
  unfold rxSm
  rcases h with ⟨_, rfl⟩ | ⟨_, rfl⟩
  · rw [upJ_s, upJ_n (show (2 : Int) ≠ 1 by decide), upJ_n (show (2 : Int) ≠ 3 by decide), upJ_n (show (3 : Int) ≠ 1 by decide), upJ_s]; omega
  · rw [upJ_s, upJ_n (show (2 : Int) ≠ 1 by decide), upJ_s, upJ_n (show (3 : Int) ≠ 1 by decide), upJ_n (show (3 : Int) ≠ 2 by decide)]; omega
section
variable {kd : Nat → Nat} {an : Nat → Nat} {ai : Nat → Int → Int} {al : Nat → Int → Int} {ar : Nat → Int → Option Nat} {mX35_said : Nat → Option Nat} {mX35_rules : Nat → Option Nat} {mX35_strata : Nat → Option Nat} {mX35_needs : Nat → Option Nat} {mX35_safe : Nat → Option Nat} {mX35_circle : Nat → Int} {mX35_known : Nat → Int} {mX35_holds : Nat → Option Nat} {mX35_rounds : Nat → Option Nat} {mX35_counts : Nat → Option Nat} {mX35_roundCount : Nat → Int} {mX35_last : Nat → Option Nat} {mX35_next : Nat → Option Nat} {mX35_values : Nat → Option Nat} {mX35_coming : Nat → Option Nat} {mX35_counting : Nat → Option Nat} {mX35_gathering : Nat → Option Nat} {mX35_together : Nat → Option Nat} {mX35_held : Nat → Option Nat} {mX35_work : Nat → Int} {mX35_large : Nat → Int} {mX83_head : Nat → Option Nat} {mX83_parts : Nat → Option Nat} {mX83_kind : Nat → Int} {mX83_variable : Nat → Int} {mX84_sort : Nat → Int} {mX84_name : Nat → Int} {mX84_x : Nat → Int} {mX84_y : Nat → Int} {mJ1_modCount : Nat → Int} {mJ2_elementData : Nat → Option Nat} {mJ2_size : Nat → Int} {mJ4_words : Nat → Option Nat} {mJ4_wordsInUse : Nat → Int} {mJ4_sizeIsSticky : Nat → Int} {sa : Nat → Nat} {A : Nat → Int → Nat} {hd ki fo ln pt sd st rn gv : Int → Int} {n r k v c s : Int} {e0 : Nat} {W : Int → Nat} {Lq : Int → Int} {Pq : Int → Int → Prop} {MC MS : Nat} {F H_ Li Ro : Int → Nat} {Pa : Int → Int → Nat} {G : Nat → Nat × Int} {L0 : Int → Int} {P0 : Int → Int → Prop} {ai0 : Nat → Int → Int} {ne la fr : Int}
variable {w1 w2 : Nat} {L1 L2 : Int}
theorem CRE_go34 {K : (Nat → Nat) → (Nat → Nat) → (Nat → Int → Int) → (Nat → Int → Int) → (Nat → Option Nat) → (Nat → Int) → (Nat → Int) → Nat → Nat → Prop} {Z : List Int} {f x2 : Int} {C D : Nat} (hC : C ≤ MC) (hD : D ≤ MS) (I : reI hd ki fo ln pt n) (hs0 : 0 ≤ s) (hf1 : x2 = 1 → f = 1) (hf0 : ¬ x2 = 1 → f = 0) (rR : mX35_rules (A 0 0) = some (A 10 0)) (rT : mX35_strata (A 0 0) = some (A 2 0)) (rS : mX35_safe (A 0 0) = some (A 3 0)) (rV : mX35_values (A 0 0) = some (A 5 0)) (rH : mX35_holds (A 0 0) = some (A 1 1)) (rRd : mX35_rounds (A 0 0) = some (A 4 0)) (rHd : mX35_held (A 0 0) = some (A 2 2)) (rTg : mX35_together (A 0 0) = some (A 6 0)) (rG : mX35_gathering (A 0 0) = some (A 9 0)) (rC : mX35_coming (A 0 0) = some (A 7 0)) (rL : mX35_last (A 0 0) = some (A 1 la)) (rN : mX35_next (A 0 0) = some (A 1 ne)) (hne : (la = 2 ∧ ne = 3) ∨ (la = 3 ∧ ne = 2)) (hsf : ∀ k, 0 ≤ k → k < n → (¬ ai0 (A 3 0) k = 0 ↔ reSf hd ki fo ln pt k)) (hst : ∀ a, 0 ≤ a → a < 16 → ai0 (A 2 0) a = st a) (hZ : rxAl hd ki fo ln pt st (P0 1) (P0 la) f s n.toNat = Z)
  (hK : ∀ kd an ai al wd iu sk kc ks, rxJ ar mX83_head mX83_parts mX83_kind mX83_variable mX84_sort mX84_name mX84_x mX84_y mJ2_elementData mJ2_size (sa 0) A G hd ki fo ln pt n e0 F H_ Li Ro Pa ne L0 P0 ai0 Z kd an ai al wd iu → kc ≤ C → ks ≤ D → K kd an ai al wd iu sk kc ks) :
  ∀ (j k : Nat) (kd an : Nat → Nat) (ai al : Nat → Int → Int) (mJ4_words : Nat → Option Nat) (mJ4_wordsInUse mJ4_sizeIsSticky : Nat → Int) (kc ks : Nat), (k : Int) + j = n → rxJ ar mX83_head mX83_parts mX83_kind mX83_variable mX84_sort mX84_name mX84_x mX84_y mJ2_elementData mJ2_size (sa 0) A G hd ki fo ln pt n e0 F H_ Li Ro Pa ne L0 P0 ai0 (rxAl hd ki fo ln pt st (P0 1) (P0 la) f s k) kd an ai al mJ4_words mJ4_wordsInUse → kc + (reGr (P0 1) (L0 ne) Z - reGr (P0 1) (L0 ne) (rxAl hd ki fo ln pt st (P0 1) (P0 la) f s k)) ≤ C → ks + 2 * (reGr (P0 1) (L0 ne) Z - reGr (P0 1) (L0 ne) (rxAl hd ki fo ln pt st (P0 1) (P0 la) f s k)) ≤ D →
  wRE_X35_goThrough_34 MC MS K (A 0 0) s x2 ar mX35_rules mX35_strata mX35_safe mX35_holds mX35_counts mX35_last mX35_next mX35_values mX35_coming mX35_gathering mX35_together mX83_head mX83_parts mX83_kind mX83_variable mX84_sort mX84_name mX84_x mX84_y mJ2_elementData mJ2_size (j + 1) k kd an ai al mJ4_words mJ4_wordsInUse mJ4_sizeIsSticky kc ks := fun j => by
  have hn := I.1
  induction j with
  | zero =>
    intro k kd an ai al mJ4_words mJ4_wordsInUse mJ4_sizeIsSticky kc ks hk J hkc hks
    have ek : k = n.toNat := by omega
    have k10 : kd (A 10 0) = 7 := rx_kd J.1 10 0 (by decide) (by decide)
    have nk : n ≤ (k : Int) := by omega
    rw [ek, hZ] at J hkc hks
    rw [wRE_X35_goThrough_34]
    unfold wpRE_J2_size
    refine kOn_of rR ⟨k10, ⟨by omega, by omega⟩, ?_⟩
    rw [J.2.1.1.2.1]
    exact ⟨fun _ => hK _ _ _ _ _ _ _ _ _ J (by omega) (by omega), fun w => absurd nk w⟩
  | succ j ih =>
    intro k kd an ai al mJ4_words mJ4_wordsInUse mJ4_sizeIsSticky kc ks hk J hkc hks
    have H := J.1
    have k10 : kd (A 10 0) = 7 := rx_kd H 10 0 (by decide) (by decide)
    have a3 : an (A 3 0) = 16 := rx_an H 3 0 (by decide) (by decide) (by decide)
    have k3 : kd (A 3 0) = 10 := rx_kd H 3 0 (by decide) (by decide)
    have a2 : an (A 2 0) = 16 := rx_an H 2 0 (by decide) (by decide) (by decide)
    have k2 : kd (A 2 0) = 9 := rx_kd H 2 0 (by decide) (by decide)
    obtain ⟨⟨o0, o1, o2, o3, o4⟩, ⟨h1, h2, h3, h4, h5⟩, _⟩ := J.2.1.2.1 k (by omega) (by omega)
    have hd0 := (I.2 k (by omega) (by omega)).1.1
    have eA3 : ai (A 3 0) = ai0 (A 3 0) := J.2.2.2 _ (H.ne (i := 3) (i' := 5) ⟨by decide, by decide⟩ ⟨by decide, by decide⟩ (Or.inl (by decide))) (H.ne (i := 3) (i' := 6) ⟨by decide, by decide⟩ ⟨by decide, by decide⟩ (Or.inl (by decide)))
    have eA2 : ai (A 2 0) = ai0 (A 2 0) := J.2.2.2 _ (H.ne (i := 2) (i' := 5) ⟨by decide, by decide⟩ ⟨by decide, by decide⟩ (Or.inl (by decide))) (H.ne (i := 2) (i' := 6) ⟨by decide, by decide⟩ ⟨by decide, by decide⟩ (Or.inl (by decide)))
    have sf := hsf k (by omega) (by omega)
    have hle : reGr (P0 1) (L0 ne) (rxAl hd ki fo ln pt st (P0 1) (P0 la) f s (k + 1)) ≤ reGr (P0 1) (L0 ne) Z := by
      obtain ⟨mm, emm⟩ := rxAl_pre (hd := hd) (ki := ki) (fo := fo) (ln := ln) (pt := pt) (st := st) (Ho := P0 1) (La := P0 la) (f := f) (s := s) (k := k + 1) (n.toNat - (k + 1))
      rw [show k + 1 + (n.toNat - (k + 1)) = n.toNat by omega, hZ] at emm
      rw [emm]
      exact reGr_p _ _
    have eS : rxAl hd ki fo ln pt st (P0 1) (P0 la) f s (k + 1) = rxAl hd ki fo ln pt st (P0 1) (P0 la) f s k ++ pif (reSel hd ki fo ln pt st s k) (rxGv hd ki fo ln pt (P0 1) (P0 la) f k) [] := rfl
    have skip : ¬ reSel hd ki fo ln pt st s k → ∀ x4 : Int, x4 = k + 1 → wRE_X35_goThrough_34 MC MS K (A 0 0) s x2 ar mX35_rules mX35_strata mX35_safe mX35_holds mX35_counts mX35_last mX35_next mX35_values mX35_coming mX35_gathering mX35_together mX83_head mX83_parts mX83_kind mX83_variable mX84_sort mX84_name mX84_x mX84_y mJ2_elementData mJ2_size (j + 1) x4 kd an ai al mJ4_words mJ4_wordsInUse mJ4_sizeIsSticky kc ks := fun ns x4 e4 => by
      rw [pif_f ns, List.append_nil] at eS
      rw [e4]
      have I2 := ih (k + 1) kd an ai al mJ4_words mJ4_wordsInUse mJ4_sizeIsSticky kc ks (by omega) (by rw [eS]; exact J) (by rw [eS]; exact hkc) (by rw [eS]; exact hks)
      rw [show ((k + 1 : Nat) : Int) = (k : Int) + 1 by omega] at I2
      exact I2
    have m0 := reGr_p (H := P0 1) (L := L0 ne) (rxGv hd ki fo ln pt (P0 1) (P0 la) f k) (rxAl hd ki fo ln pt st (P0 1) (P0 la) f s k)
    have m1 : reGr (P0 1) (L0 ne) (rxAl hd ki fo ln pt st (P0 1) (P0 la) f s k) ≤ reGr (P0 1) (L0 ne) (rxAl hd ki fo ln pt st (P0 1) (P0 la) f s (k + 1)) := by
      rw [eS]; exact reGr_p _ _
    rw [wRE_X35_goThrough_34]
    unfold wpRE_J2_size
    refine kOn_of rR ⟨k10, ⟨by omega, by omega⟩, ?_⟩
    rw [J.2.1.1.2.1]
    refine ⟨fun w => by omega, fun _ => kOn_of rS ⟨k3, by rw [a3]; exact ⟨by omega, by show (k : Int) < 16; omega⟩, fun q => ⟨by omega, skip (fun u => (sf.2 u.1) (by rw [← eA3]; exact q))⟩, fun q => ⟨⟨by omega, by omega⟩, CRE_lget J.2.1.1 (by omega) (by omega) (kOn_some ⟨o0, ?_⟩)⟩⟩⟩
    unfold wpRE_X84_name
    refine kOn_of o1 ⟨h1, ⟨by omega, by omega⟩, kOn_of rT ⟨k2, ?_⟩⟩
    rw [h3, a2, eA2, hst _ hd0.1 hd0.2]
    refine ⟨hd0, fun q2 => ⟨⟨by omega, by omega⟩, CRE_lget J.2.1.1 (by omega) (by omega) (kOn_some ⟨o0, ?_⟩)⟩, fun q2 => ⟨by omega, skip (fun u => u.2.elim (fun u => by omega) q2)⟩⟩
    have sel : reSel hd ki fo ln pt st s k := ⟨sf.1 (by rw [← eA3]; exact q), Or.inr q2⟩
    rw [pif_t sel] at eS
    rw [eS] at hle m1
    refine ⟨fun z => ?_, fun z => ?_⟩
    · have f1 := hf1 z
      subst f1
      refine ⟨(reGr (P0 1) (L0 ne) (rxAl hd ki fo ln pt st (P0 1) (P0 la) 1 s k ++ rxGv hd ki fo ln pt (P0 1) (P0 la) 1 k) - reGr (P0 1) (L0 ne) (rxAl hd ki fo ln pt st (P0 1) (P0 la) 1 s k)).toNat, (2 * (reGr (P0 1) (L0 ne) (rxAl hd ki fo ln pt st (P0 1) (P0 la) 1 s k ++ rxGv hd ki fo ln pt (P0 1) (P0 la) 1 k) - reGr (P0 1) (L0 ne) (rxAl hd ki fo ln pt st (P0 1) (P0 la) 1 s k))).toNat, ⟨by omega, by omega⟩, ?_⟩
      refine CRE_give I ⟨by omega, by omega⟩ sel.1 rV rH rL rN hne rTg rG rC J (by omega) (by omega) (fun kd' an' ai' al' wd' iu' st' J' kl => ⟨by omega, fun x4 e4 => ?_⟩)
      rw [e4]
      have I2 := ih (k + 1) kd' an' ai' al' wd' iu' st' (kc + (reGr (P0 1) (L0 ne) (rxAl hd ki fo ln pt st (P0 1) (P0 la) 1 s k ++ rxGv hd ki fo ln pt (P0 1) (P0 la) 1 k) - reGr (P0 1) (L0 ne) (rxAl hd ki fo ln pt st (P0 1) (P0 la) 1 s k)).toNat) (ks + (2 * (reGr (P0 1) (L0 ne) (rxAl hd ki fo ln pt st (P0 1) (P0 la) 1 s k ++ rxGv hd ki fo ln pt (P0 1) (P0 la) 1 k) - reGr (P0 1) (L0 ne) (rxAl hd ki fo ln pt st (P0 1) (P0 la) 1 s k))).toNat) (by omega) (by rw [eS]; exact J') (by rw [eS]; omega) (by rw [eS]; omega)
      rw [show ((k + 1 : Nat) : Int) = (k : Int) + 1 by omega] at I2
      exact I2
    · have f0 := hf0 z
      subst f0
      refine ⟨(reGr (P0 1) (L0 ne) (rxAl hd ki fo ln pt st (P0 1) (P0 la) 0 s k ++ rxGv hd ki fo ln pt (P0 1) (P0 la) 0 k) - reGr (P0 1) (L0 ne) (rxAl hd ki fo ln pt st (P0 1) (P0 la) 0 s k)).toNat, (2 * (reGr (P0 1) (L0 ne) (rxAl hd ki fo ln pt st (P0 1) (P0 la) 0 s k ++ rxGv hd ki fo ln pt (P0 1) (P0 la) 0 k) - reGr (P0 1) (L0 ne) (rxAl hd ki fo ln pt st (P0 1) (P0 la) 0 s k))).toNat, ⟨by omega, by omega⟩, ?_⟩
      refine CRE_give I ⟨by omega, by omega⟩ sel.1 rV rH rL rN hne rTg rG rC J (by omega) (by omega) (fun kd' an' ai' al' wd' iu' st' J' kl => ⟨by omega, fun x4 e4 => ?_⟩)
      rw [e4]
      have I2 := ih (k + 1) kd' an' ai' al' wd' iu' st' (kc + (reGr (P0 1) (L0 ne) (rxAl hd ki fo ln pt st (P0 1) (P0 la) 0 s k ++ rxGv hd ki fo ln pt (P0 1) (P0 la) 0 k) - reGr (P0 1) (L0 ne) (rxAl hd ki fo ln pt st (P0 1) (P0 la) 0 s k)).toNat) (ks + (2 * (reGr (P0 1) (L0 ne) (rxAl hd ki fo ln pt st (P0 1) (P0 la) 0 s k ++ rxGv hd ki fo ln pt (P0 1) (P0 la) 0 k) - reGr (P0 1) (L0 ne) (rxAl hd ki fo ln pt st (P0 1) (P0 la) 0 s k))).toNat) (by omega) (by rw [eS]; exact J') (by rw [eS]; omega) (by rw [eS]; omega)
      rw [show ((k + 1 : Nat) : Int) = (k : Int) + 1 by omega] at I2
      exact I2
/-- the rounds and the numbers of what is new -/
theorem CRE_go155 {K : (Nat → Int → Int) → Prop} {x2 : Int} {w : Nat} {L : Int} {Nx : Int → Prop} {kc ks : Nat} (hC : kc ≤ MC) (hD : ks ≤ MS) (H : Lab rxK rxL kd an A G rxN) (rRd : mX35_rounds (A 0 0) = some (A 4 0)) (rHd : mX35_held (A 0 0) = some (A 2 2)) (rN : mX35_next (A 0 0) = some (A 1 ne)) (hne : ne = 2 ∨ ne = 3) (B : bsI kd an al mJ4_words mJ4_wordsInUse (A 1 ne) w L Nx) (hNx : ∀ c, Nx c → rn c < 0) (hx2 : 0 ≤ x2)
  (h4 : ∀ c, 0 ≤ c → c < 16384 → ai (A 4 0) c = if rn c < 0 then -2 else rn c) (h2 : ∀ a, 0 ≤ a → a < 16 → ai (A 2 2) a = reFo rn a)
  (hK : ∀ ai', (∀ a, a ≠ A 4 0 → a ≠ A 2 2 → ai' a = ai a) → (∀ c, 0 ≤ c → c < 16384 → ai' (A 4 0) c = if pif (Nx c) x2 (rn c) < 0 then -2 else pif (Nx c) x2 (rn c)) → (∀ a, 0 ≤ a → a < 16 → ai' (A 2 2) a = reFo (fun c => pif (Nx c) x2 (rn c)) a) → K ai') :
  wpRE_J4_nextSetBit (fun (r_98 : Int) => ((∃ fu : Nat, wRE_X35_goThrough_155 MC MS K (A 0 0) x2 kd an al mX35_rounds mX35_next mX35_held mJ4_words mJ4_wordsInUse kc ks fu r_98 ai))) kd an al mJ4_words mJ4_wordsInUse (A 1 ne) 0 := by
  have k4 : kd (A 4 0) = 9 := rx_kd H 4 0 (by decide) (by decide)
  have a4 : an (A 4 0) = 16384 := rx_an H 4 0 (by decide) (by decide) (by decide)
  have k2 : kd (A 2 2) = 9 := rx_kd H 2 2 (by decide) (by decide)
  have a2 : an (A 2 2) = 16 := rx_an H 2 2 (by decide) (by decide) (by decide)
  have kn : kd (A 1 ne) = 8 := rx_kd H 1 ne (by omega) (by show ne < 4; omega)
  have n42 : A 4 0 ≠ A 2 2 := H.ne (i := 4) (i' := 2) ⟨by decide, by decide⟩ ⟨by decide, by decide⟩ (Or.inl (by decide))
  obtain ⟨rm, erm⟩ : ∃ rm : Int → Int → Int, rm = fun m c => pif (Nx c ∧ c < m) x2 (rn c) := ⟨_, rfl⟩
  have rmc : ∀ m m' : Int, (∀ c, Nx c → (c < m ↔ c < m')) → rm m = rm m' := fun m m' h => by
    rw [erm]
    funext c
    by_cases z : Nx c ∧ c < m
    · show pif _ _ _ = pif _ _ _
      rw [pif_t z, pif_t ⟨z.1, (h c z.1).1 z.2⟩]
    · show pif _ _ _ = pif _ _ _
      rw [pif_f z, pif_f (fun y => z ⟨y.1, (h c y.1).2 y.2⟩)]
  have rmu : ∀ m, Nx m → rm (m + 1) = updI (rm m) m x2 := fun m pm => by
    rw [erm]
    funext c
    rw [updI_e]
    by_cases z : c = m
    · rw [if_pos z]
      show pif _ _ _ = _
      rw [pif_t ⟨by rw [z]; exact pm, by omega⟩]
    · rw [if_neg z]
      show pif _ _ _ = pif _ _ _
      by_cases y : Nx c ∧ c < m
      · rw [pif_t y, pif_t ⟨y.1, by omega⟩]
      · rw [pif_f y, pif_f (fun u => y ⟨u.1, by omega⟩)]
  have rmm : ∀ m, Nx m → rm m m < 0 := fun m pm => by
    rw [erm]
    show pif _ _ _ < 0
    rw [pif_f (fun u => by omega)]
    exact hNx m pm
  have rme : ∀ m, (∀ j, m ≤ j → ¬ Nx j) → rm m = fun c => pif (Nx c) x2 (rn c) := fun m h => by
    rw [erm]
    funext c
    show pif _ _ _ = pif _ _ _
    by_cases z : Nx c
    · rw [pif_t z, pif_t ⟨z, Classical.byContradiction (fun y => h c (by omega) z)⟩]
    · rw [pif_f z, pif_f (fun y => z y.1)]
  have rm0 : rm 0 = rn := by
    rw [erm]
    funext c
    show pif _ _ _ = _
    rw [pif_f (fun y => by
      have := (B.2.2.2 c y.1).1.1
      omega)]
  have go : ∀ (x4 : Int) (a : Nat → Int → Int), (∃ m, (0 ≤ m ∧ m ≤ 16384) ∧ ((x4 = m ∧ Nx m) ∨ (x4 = -1 ∧ ∀ j, m ≤ j → ¬ Nx j)) ∧ (∀ b, b ≠ A 4 0 → b ≠ A 2 2 → a b = ai b) ∧ (∀ c, 0 ≤ c → c < 16384 → a (A 4 0) c = if rm m c < 0 then -2 else rm m c) ∧ ∀ b, 0 ≤ b → b < 16 → a (A 2 2) b = reFo (rm m) b) → ∃ fu, wRE_X35_goThrough_155 MC MS K (A 0 0) x2 kd an al mX35_rounds mX35_next mX35_held mJ4_words mJ4_wordsInUse kc ks fu x4 a := by
    refine wl2 (fun fu x4 a => wRE_X35_goThrough_155 MC MS K (A 0 0) x2 kd an al mX35_rounds mX35_next mX35_held mJ4_words mJ4_wordsInUse kc ks fu x4 a) (fun (x4 : Int) (a : Nat → Int → Int) => ∃ m, (0 ≤ m ∧ m ≤ 16384) ∧ ((x4 = m ∧ Nx m) ∨ (x4 = -1 ∧ ∀ j, m ≤ j → ¬ Nx j)) ∧ (∀ b, b ≠ A 4 0 → b ≠ A 2 2 → a b = ai b) ∧ (∀ c, 0 ≤ c → c < 16384 → a (A 4 0) c = if rm m c < 0 then -2 else rm m c) ∧ ∀ b, 0 ≤ b → b < 16 → a (A 2 2) b = reFo (rm m) b) (fun x4 _ => if x4 < 0 then 0 else (16385 - x4).toNat) ?_
    rintro x4 a ⟨m, hm, hx, s1, s2, s3⟩ fu ih
    rw [wRE_X35_goThrough_155]
    refine ⟨fun z => ?_, fun z => ?_⟩
    · have hno : ∀ j, m ≤ j → ¬ Nx j := by
        rcases hx with hx | hx
        · omega
        · exact hx.2
      rw [rme m hno] at s2 s3
      exact hK a s1 s2 s3
    · obtain ⟨ex, pm⟩ : x4 = m ∧ Nx m := by
        rcases hx with hx | hx
        · exact hx
        · omega
      subst ex
      have bm := (B.2.2.2 x4 pm).1
      have fb := reFo_b (rn := rm x4) (a := x4 / 1024)
      refine kOn_of rRd ⟨k4, by rw [a4]; exact bm, fun a1 e1 => kOn_of rHd ⟨k2, by rw [a2]; exact ⟨by omega, by show x4 / 1024 < 16; omega⟩, ?_⟩⟩
      have e1h : a1 (A 2 2) = a (A 2 2) := by rw [e1, va_up_ne _ _ n42.symm]
      rw [e1h, s3 _ (by omega) (by omega)]
      refine ⟨by omega, fun v ev a2_ e2 => kOn_of rN ⟨kn, by omega, ⟨hC, hD⟩, ?_⟩⟩
      have t1 : ∀ b, b ≠ A 4 0 → b ≠ A 2 2 → a2_ b = ai b := fun b b4 b2 => by rw [e2, va_up_ne _ _ b2, e1, va_up_ne _ _ b4]; exact s1 b b4 b2
      have t2 : ∀ c, 0 ≤ c → c < 16384 → a2_ (A 4 0) c = if rm (x4 + 1) c < 0 then -2 else rm (x4 + 1) c := fun c c0 c1 => by
        rw [e2, va_up_ne _ _ n42, e1, va_up_self, rmu x4 pm, updI_e, updI_e]
        by_cases y : c = x4
        · rw [if_pos y, if_pos y, if_neg (by omega)]
        · rw [if_neg y, if_neg y]; exact s2 c c0 c1
      have t3 : ∀ b, 0 ≤ b → b < 16 → a2_ (A 2 2) b = reFo (rm (x4 + 1)) b := fun b b0 b1 => by
        rw [e2, va_up_self, rmu x4 pm, reFo_u bm (rmm x4 pm) hx2 b0, updI_e, ev]
        by_cases y : b = x4 / 1024
        · rw [if_pos y, if_pos y, y]
        · rw [if_neg y, if_neg y, s3 b b0 b1]; omega
      refine CRE_nsbG B (by omega) (by omega) (fun q q0 pq nq => ?_) (fun nq => ?_)
      · have bq := (B.2.2.2 q pq).1
        have e : rm (x4 + 1) = rm q := rmc _ _ (fun c pc => ⟨fun h => by omega, fun h => Classical.byContradiction (fun y => nq c (by omega) h pc)⟩)
        rw [e] at t2 t3
        refine ih q a2_ ⟨q, by omega, Or.inl ⟨rfl, pq⟩, t1, t2, t3⟩ ?_
        rw [if_neg (by omega), if_neg (by omega)]; omega
      · refine ih (-1) a2_ ⟨x4 + 1, by omega, Or.inr ⟨rfl, nq⟩, t1, t2, t3⟩ ?_
        rw [if_pos (by decide), if_neg (by omega)]; omega
  refine CRE_nsbG B (by decide) (by decide) (fun q q0 pq nq => go q ai ⟨q, ?_, Or.inl ⟨rfl, pq⟩, fun _ _ _ => rfl, ?_, ?_⟩) (fun nq => go (-1) ai ⟨0, by decide, Or.inr ⟨rfl, nq⟩, fun _ _ _ => rfl, by rw [rm0]; exact h4, by rw [rm0]; exact h2⟩)
  · have := (B.2.2.2 q pq).1; omega
  · have e : rm q = rn := (rmc q 0 (fun c pc => ⟨fun h => absurd pc (nq c ((B.2.2.2 c pc).1.1) h), fun h => by
      have := (B.2.2.2 c pc).1.1
      omega⟩)).trans rm0
    rw [e]; exact h4
  · have e : rm q = rn := (rmc q 0 (fun c pc => ⟨fun h => absurd pc (nq c ((B.2.2.2 c pc).1.1) h), fun h => by
      have := (B.2.2.2 c pc).1.1
      omega⟩)).trans rm0
    rw [e]; exact h2
end
