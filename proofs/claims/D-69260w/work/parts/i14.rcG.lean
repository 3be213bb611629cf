/-! RuleEngine (room RE): give, count -/
section
variable {kd : Nat → Nat} {an : Nat → Nat} {ai : Nat → Int → Int} {al : Nat → Int → Int} {ar : Nat → Int → Option Nat} {mX35_said : Nat → Option Nat} {mX35_rules : Nat → Option Nat} {mX35_strata : Nat → Option Nat} {mX35_needs : Nat → Option Nat} {mX35_safe : Nat → Option Nat} {mX35_circle : Nat → Int} {mX35_known : Nat → Int} {mX35_holds : Nat → Option Nat} {mX35_rounds : Nat → Option Nat} {mX35_counts : Nat → Option Nat} {mX35_roundCount : Nat → Int} {mX35_last : Nat → Option Nat} {mX35_next : Nat → Option Nat} {mX35_values : Nat → Option Nat} {mX35_coming : Nat → Option Nat} {mX35_counting : Nat → Option Nat} {mX35_gathering : Nat → Option Nat} {mX35_together : Nat → Option Nat} {mX35_held : Nat → Option Nat} {mX35_work : Nat → Int} {mX35_large : Nat → Int} {mX83_head : Nat → Option Nat} {mX83_parts : Nat → Option Nat} {mX83_kind : Nat → Int} {mX83_variable : Nat → Int} {mX84_sort : Nat → Int} {mX84_name : Nat → Int} {mX84_x : Nat → Int} {mX84_y : Nat → Int} {mJ1_modCount : Nat → Int} {mJ2_elementData : Nat → Option Nat} {mJ2_size : Nat → Int} {mJ4_words : Nat → Option Nat} {mJ4_wordsInUse : Nat → Int} {mJ4_sizeIsSticky : Nat → Int} {sa : Nat → Nat} {A : Nat → Int → Nat} {hd ki fo ln pt sd st rn gv : Int → Int} {n r k v c s : Int} {e0 : Nat} {W : Int → Nat} {Lq : Int → Int} {Pq : Int → Int → Prop} {MC MS : Nat} {F H_ Li Ro : Int → Nat} {Pa : Int → Int → Nat} {G : Nat → Nat × Int} {L0 : Int → Int} {P0 : Int → Int → Prop} {ai0 : Nat → Int → Int} {ne la fr : Int}
variable {Ho La : Int → Prop} {w1 w2 : Nat} {L1 L2 : Int}
theorem reHe_r {ls : List (Int → Int)} (I : reI hd ki fo ln pt n) (hr : 0 ≤ r ∧ r < n) (hs : reSf hd ki fo ln pt r) {M : reM4} (hM : rxMi M) {x : Int} (x0 : 0 ≤ x) (x1 : x < 32) (z : ¬ M.1 x = 0) {k : Int} : reFc (hd (3 * r)) x (reTo k M x) := ⟨(I.2 r hr.1 hr.2).1.1, ⟨x0, x1⟩, (reTo_r hM x0 x1).2 (fun w => z ((reTo_r hM x0 x1).1.1 w))⟩
theorem rxJ.ai2 {codes : List Int} {ai2 : Nat → Int → Int} (J : rxJ ar mX83_head mX83_parts mX83_kind mX83_variable mX84_sort mX84_name mX84_x mX84_y mJ2_elementData mJ2_size (sa 0) A G hd ki fo ln pt n e0 F H_ Li Ro Pa ne L0 P0 ai0 codes kd an ai al mJ4_words mJ4_wordsInUse) (h : ∀ a, a ≠ A 5 0 → a ≠ A 6 0 → ai2 a = ai a) : rxJ ar mX83_head mX83_parts mX83_kind mX83_variable mX84_sort mX84_name mX84_x mX84_y mJ2_elementData mJ2_size (sa 0) A G hd ki fo ln pt n e0 F H_ Li Ro Pa ne L0 P0 ai0 codes kd an ai2 al mJ4_words mJ4_wordsInUse := ⟨J.1, J.2.1, J.2.2.1, fun a a5 a6 => (h a a5 a6).trans (J.2.2.2 a a5 a6)⟩
theorem CRE_give20 {K : (Nat → Nat) → (Nat → Nat) → (Nat → Int → Int) → (Nat → Option Nat) → (Nat → Int) → (Nat → Int) → Nat → Nat → Prop} {Z : List Int} {M : reM4} (I : reI hd ki fo ln pt n) (hr : 0 ≤ r ∧ r < n) (hs : reSf hd ki fo ln pt r) (rH : mX35_holds (A 0 0) = some (A 1 1)) (rN : mX35_next (A 0 0) = some (A 1 ne)) (hne : ne = 2 ∨ ne = 3) (rT : mX35_together (A 0 0) = some (A 6 0)) (hM : rxMi M) (hT : ∀ x, 0 ≤ x → x < 32 → ai (A 6 0) x = reTo (ki r) M x)
  (hK : ∀ kd an al wd iu st kc ks, rxJ ar mX83_head mX83_parts mX83_kind mX83_variable mX84_sort mX84_name mX84_x mX84_y mJ2_elementData mJ2_size (sa 0) A G hd ki fo ln pt n e0 F H_ Li Ro Pa ne L0 P0 ai0 Z kd an ai al wd iu → kc ≤ MC → ks ≤ MS → K kd an al wd iu st kc ks) :
  ∀ (j : Nat) (x : Int) (l : List Int) (kd an : Nat → Nat) (al : Nat → Int → Int) (mJ4_words : Nat → Option Nat) (mJ4_wordsInUse mJ4_sizeIsSticky : Nat → Int) (kc ks : Nat), x + j = 32 → 0 ≤ x → rxJ ar mX83_head mX83_parts mX83_kind mX83_variable mX84_sort mX84_name mX84_x mX84_y mJ2_elementData mJ2_size (sa 0) A G hd ki fo ln pt n e0 F H_ Li Ro Pa ne L0 P0 ai0 l kd an ai al mJ4_words mJ4_wordsInUse → l ++ reFh (ki r) (hd (3 * r)) M j x = Z → kc + (reGr (P0 1) (L0 ne) Z - reGr (P0 1) (L0 ne) l) ≤ MC → ks + 2 * (reGr (P0 1) (L0 ne) Z - reGr (P0 1) (L0 ne) l) ≤ MS →
  wRE_X35_give_20 MC MS K (A 0 0) (some (F r)) ai mX35_holds mX35_next mX35_together mX83_head mX84_name (j + 1) x kd an al mJ4_words mJ4_wordsInUse mJ4_sizeIsSticky kc ks := fun j => by
  induction j with
  | zero =>
    intro x l kd an al mJ4_words mJ4_wordsInUse mJ4_sizeIsSticky kc ks hx x0 J hZ hkc hks
    rw [reFh, List.append_nil] at hZ
    rw [hZ] at J hkc hks
    rw [wRE_X35_give_20]
    exact ⟨fun _ => hK _ _ _ _ _ _ _ _ J (by omega) (by omega), fun z => by omega⟩
  | succ j ih =>
    intro x l kd an al mJ4_words mJ4_wordsInUse mJ4_sizeIsSticky kc ks hx x0 J hZ hkc hks
    have H := J.1
    have a6 : an (A 6 0) = 32 := rx_an H 6 0 (by decide) (by decide) (by decide)
    have k6 : kd (A 6 0) = 9 := rx_kd H 6 0 (by decide) (by decide)
    obtain ⟨⟨o0, o1, o2, o3, o4⟩, ⟨h1, h2, h3, h4, h5⟩, _⟩ := J.2.1.2.1 r hr.1 hr.2
    have tr := reTo_r (k := ki r) hM x0 (show x < 32 by omega)
    have mono : ∀ (m l1 : List Int), reGr (P0 1) (L0 ne) l1 ≤ reGr (P0 1) (L0 ne) (l1 ++ m) := fun m => by
      induction m with
      | nil => intro l1; rw [List.append_nil]; exact Int.le_refl _
      | cons c m ih2 =>
        intro l1
        have a := ih2 (l1 ++ [c])
        rw [List.append_assoc] at a
        exact Int.le_trans reGr_m a
    rw [reFh_s] at hZ
    rw [wRE_X35_give_20]
    refine ⟨fun z => by omega, fun _ => kOn_of rT ⟨k6, by rw [a6]; exact ⟨x0, by show x < 32; omega⟩, ?_⟩⟩
    rw [hT x x0 (by omega)]
    refine ⟨fun z => ⟨by omega, fun x2 e2 => ?_⟩, fun z => kOn_some ⟨o0, kOn_of o1 ⟨h1, ?_⟩⟩⟩
    · rw [if_pos (tr.1.1 z), List.nil_append] at hZ
      rw [e2]
      exact ih _ _ _ _ _ _ _ _ _ _ (by omega) (by omega) J hZ hkc hks
    · have nz : ¬ M.1 x = 0 := fun w => z (tr.1.2 w)
      rw [if_neg nz, ← List.append_assoc] at hZ
      have m1 := mono (reFh (ki r) (hd (3 * r)) M j (x + 1)) (l ++ [reCd (hd (3 * r)) x (reTo (ki r) M x)])
      have m0 := mono [reCd (hd (3 * r)) x (reTo (ki r) M x)] l
      rw [hZ] at m1
      have fc := reHe_r (ls := []) I hr hs hM x0 (show x < 32 by omega) nz (k := ki r)
      unfold wpRE_X84_name
      rw [h3]
      refine ⟨by omega, by omega, CRE_code fc ⟨(reGr (P0 1) (L0 ne) (l ++ [reCd (hd (3 * r)) x (reTo (ki r) M x)]) - reGr (P0 1) (L0 ne) l).toNat, (2 * (reGr (P0 1) (L0 ne) (l ++ [reCd (hd (3 * r)) x (reTo (ki r) M x)]) - reGr (P0 1) (L0 ne) l)).toNat, ⟨by omega, by omega⟩, ?_⟩⟩
      refine rxJ.come J rH rN hne (reCd_b fc) (by omega) (by omega) (fun kd' an' al' wd' iu' st' J' kl => ⟨by omega, fun x2 e2 => ?_⟩)
      rw [e2]
      exact ih _ _ _ _ _ _ _ _ _ _ (by omega) (by omega) J' hZ (by omega) (by omega)
theorem CRE_give {post : (Nat → Nat) → (Nat → Nat) → (Nat → Int → Int) → (Nat → Int → Int) → (Nat → Option Nat) → (Nat → Int) → (Nat → Int) → Prop} {c0 : List Int} {f : Int} (I : reI hd ki fo ln pt n) (hr : 0 ≤ r ∧ r < n) (hs : reSf hd ki fo ln pt r) (rV : mX35_values (A 0 0) = some (A 5 0)) (rH : mX35_holds (A 0 0) = some (A 1 1)) (rL : mX35_last (A 0 0) = some (A 1 la)) (rN : mX35_next (A 0 0) = some (A 1 ne)) (hne : (la = 2 ∧ ne = 3) ∨ (la = 3 ∧ ne = 2)) (rT : mX35_together (A 0 0) = some (A 6 0)) (rG : mX35_gathering (A 0 0) = some (A 9 0)) (rC : mX35_coming (A 0 0) = some (A 7 0)) (J : rxJ ar mX83_head mX83_parts mX83_kind mX83_variable mX84_sort mX84_name mX84_x mX84_y mJ2_elementData mJ2_size (sa 0) A G hd ki fo ln pt n e0 F H_ Li Ro Pa ne L0 P0 ai0 c0 kd an ai al mJ4_words mJ4_wordsInUse)
  (hMC : reGr (P0 1) (L0 ne) (c0 ++ rxGv hd ki fo ln pt (P0 1) (P0 la) f r) - reGr (P0 1) (L0 ne) c0 ≤ MC) (hMS : 2 * (reGr (P0 1) (L0 ne) (c0 ++ rxGv hd ki fo ln pt (P0 1) (P0 la) f r) - reGr (P0 1) (L0 ne) c0) ≤ MS)
  (hp : ∀ kd' an' ai' al' wd' iu' st', rxJ ar mX83_head mX83_parts mX83_kind mX83_variable mX84_sort mX84_name mX84_x mX84_y mJ2_elementData mJ2_size (sa 0) A G hd ki fo ln pt n e0 F H_ Li Ro Pa ne L0 P0 ai0 (c0 ++ rxGv hd ki fo ln pt (P0 1) (P0 la) f r) kd' an' ai' al' wd' iu' → post kd' an' ai' al' wd' iu' st') : wpRE_X35_give MC MS post kd an ai al ar mX35_holds mX35_counts mX35_last mX35_next mX35_values mX35_coming mX35_gathering mX35_together mX83_head mX83_parts mX83_kind mX83_variable mX84_sort mX84_name mX84_x mX84_y mJ2_elementData mJ2_size mJ4_words mJ4_wordsInUse mJ4_sizeIsSticky (A 0 0) (some (F r)) f := by
  obtain ⟨⟨_, hx, hy⟩, ⟨hkr, hfo⟩, hl, i4⟩ := I.2 r hr.1 hr.2
  have H := J.1
  have k0 : kd (A 0 0) = 1 := rx_kd H 0 0 (by decide) (by decide)
  obtain ⟨⟨o0, o1, o2, o3, o4⟩, ⟨h1, h2, h3, h4, h5⟩, _⟩ := J.2.1.2.1 r hr.1 hr.2
  have mono : ∀ (m l1 : List Int), reGr (P0 1) (L0 ne) l1 ≤ reGr (P0 1) (L0 ne) (l1 ++ m) := fun m => by
    induction m with
    | nil => intro l1; rw [List.append_nil]; exact Int.le_refl _
    | cons c m ih2 =>
      intro l1
      have a := ih2 (l1 ++ [c])
      rw [List.append_assoc] at a
      exact Int.le_trans reGr_m a
  unfold wpRE_X35_give
  refine kOn_some ⟨o0, ?_⟩
  rw [o3]
  refine ⟨fun z => ⟨⟨Nat.zero_le _, Nat.zero_le _⟩, CRE_free H rV (fun f5 hv => ?_)⟩, fun z => ⟨fun f0 => ⟨Nat.zero_le _, Nat.zero_le _, ?_⟩, fun f0 => ⟨0, 0, ⟨by omega, by omega⟩, ?_⟩⟩⟩
  · have hk : ki r < 0 := by omega
    have Jv := J.ai2 (ai2 := va_up ai (A 5 0) f5) (fun a a5 _ => va_up_ne _ _ a5)
    have hv5 : ∀ i, 0 ≤ i → i < 6 → va_up ai (A 5 0) f5 (A 5 0) i = -1 := fun i i0 i1 => by rw [va_up_self]; exact hv i i0 i1
    generalize va_up ai (A 5 0) f5 = ai1 at Jv hv5
    refine ⟨fun f0 => ?_, fun f0 => ⟨MC, MS, ⟨by omega, by omega⟩, ?_⟩⟩
    · unfold rxGv at hMC hMS hp
      rw [if_pos f0, if_pos hk] at hMC hMS hp
      have loop : ∀ (j k : Nat) (kd an : Nat → Nat) (ai al : Nat → Int → Int) (mJ4_words : Nat → Option Nat) (mJ4_wordsInUse mJ4_sizeIsSticky : Nat → Int) (kc ks : Nat), (k : Int) + j = ln r → rxJ ar mX83_head mX83_parts mX83_kind mX83_variable mX84_sort mX84_name mX84_x mX84_y mJ2_elementData mJ2_size (sa 0) A G hd ki fo ln pt n e0 F H_ Li Ro Pa ne L0 P0 ai0 (c0 ++ rxDl hd ln pt (P0 1) (P0 la) r k) kd an ai al mJ4_words mJ4_wordsInUse → (∀ i, 0 ≤ i → i < 6 → ai (A 5 0) i = -1) → kc + (reGr (P0 1) (L0 ne) (c0 ++ rxDl hd ln pt (P0 1) (P0 la) r (ln r).toNat) - reGr (P0 1) (L0 ne) (c0 ++ rxDl hd ln pt (P0 1) (P0 la) r k)) ≤ MC → ks + 2 * (reGr (P0 1) (L0 ne) (c0 ++ rxDl hd ln pt (P0 1) (P0 la) r (ln r).toNat) - reGr (P0 1) (L0 ne) (c0 ++ rxDl hd ln pt (P0 1) (P0 la) r k)) ≤ MS → reGr (P0 1) (L0 ne) (c0 ++ rxDl hd ln pt (P0 1) (P0 la) r k) ≤ reGr (P0 1) (L0 ne) (c0 ++ rxDl hd ln pt (P0 1) (P0 la) r (ln r).toNat) →
        wRE_X35_give_86 MC MS (fun (kd_38 : Nat → Nat) (an_39 : Nat → Nat) (ai_40 : Nat → Int → Int) (al_41 : Nat → Int → Int) (mJ4_words_42 : Nat → Option Nat) (mJ4_wordsInUse_43 : Nat → Int) (mJ4_sizeIsSticky_44 : Nat → Int) (kc_45 : Nat) (ks_46 : Nat) => (kc_45 ≤ MC ∧ ks_46 ≤ MS ∧ post kd_38 an_39 ai_40 al_41 mJ4_words_42 mJ4_wordsInUse_43 mJ4_sizeIsSticky_44)) (A 0 0) (some (F r)) ar mX35_holds mX35_counts mX35_last mX35_next mX35_values mX35_coming mX35_together mX83_head mX83_parts mX83_kind mX83_variable mX84_sort mX84_name mX84_x mX84_y mJ2_elementData mJ2_size (j + 1) k kd an ai al mJ4_words mJ4_wordsInUse mJ4_sizeIsSticky kc ks := fun j => by
        induction j with
        | zero =>
          intro k kd an ai al mJ4_words mJ4_wordsInUse mJ4_sizeIsSticky kc ks hkj Jk hvk hkc hks hle
          obtain ⟨⟨o0, o1, o2, o3, o4⟩, _, l7, l5, _⟩ := Jk.2.1.2.1 r hr.1 hr.2
          have ek : k = (ln r).toNat := by omega
          rw [ek] at Jk hkc hks
          rw [wRE_X35_give_86]
          unfold wpRE_J2_size
          refine kOn_some ⟨o0, kOn_of o2 ⟨l7, ⟨by omega, by omega⟩, ?_⟩⟩
          rw [l5.2.1]
          exact ⟨fun _ => ⟨by omega, by omega, hp _ _ _ _ _ _ _ Jk⟩, fun w => by omega⟩
        | succ j ih =>
          intro k kd an ai al mJ4_words mJ4_wordsInUse mJ4_sizeIsSticky kc ks hkj Jk hvk hkc hks hle
          obtain ⟨⟨o0, o1, o2, o3, o4⟩, _, l7, l5, l6⟩ := Jk.2.1.2.1 r hr.1 hr.2
          obtain ⟨q6, q2, q3, q4, q5⟩ := l6 k (by omega) (by omega)
          obtain ⟨p1, p2, p3, p4⟩ := i4 k (by omega) (by omega)
          have so0 := rxSo_0 (pt := pt) (v := 20 * r + 4 * k) (by omega) p2.1
          have eD : rxDl hd ln pt (P0 1) (P0 la) r (k + 1) = rxDl hd ln pt (P0 1) (P0 la) r k ++ (if pt (20 * r + 4 * k) = 0 then (rxCz ln pt (fun k' c => if k' = (k : Int) then P0 la c else P0 1 c) (P0 1) r).map (reHe hd r) else []) := rfl
          have mD : ∀ d : Nat, ∃ m, rxDl hd ln pt (P0 1) (P0 la) r (k + 1 + d) = rxDl hd ln pt (P0 1) (P0 la) r (k + 1) ++ m := fun d => by
            induction d with
            | zero => exact ⟨[], (List.append_nil _).symm⟩
            | succ d ihd =>
              obtain ⟨m, em⟩ := ihd
              rw [← Nat.add_assoc, rxDl, em, List.append_assoc]
              exact ⟨_, rfl⟩
          obtain ⟨mm, emm⟩ := mD ((ln r).toNat - (k + 1))
          rw [show k + 1 + ((ln r).toNat - (k + 1)) = (ln r).toNat by omega] at emm
          have hle1 := mono mm (c0 ++ rxDl hd ln pt (P0 1) (P0 la) r (k + 1))
          rw [List.append_assoc, ← emm] at hle1
          rw [wRE_X35_give_86]
          unfold wpRE_J2_size
          refine kOn_some ⟨o0, kOn_of o2 ⟨l7, ⟨by omega, by omega⟩, ?_⟩⟩
          rw [l5.2.1]
          refine ⟨fun w => by omega, fun _ => ⟨⟨by omega, by omega⟩, CRE_lget l5 (by omega) (by omega) (kOn_some ⟨q6, ⟨by omega, by omega⟩, ?_⟩)⟩⟩
          unfold wpRE_X84_sort
          rw [q2]
          refine ⟨fun w => ?_, fun w => ⟨by omega, fun x2 e2 => ?_⟩⟩
          · rw [if_pos (so0.1 w)] at eD
            have m0 := mono ((rxCz ln pt (fun k' c => if k' = (k : Int) then P0 la c else P0 1 c) (P0 1) r).map (reHe hd r)) (c0 ++ rxDl hd ln pt (P0 1) (P0 la) r k)
            rw [eD, ← List.append_assoc] at hle1
            refine ⟨(reGr (P0 1) (L0 ne) (c0 ++ rxDl hd ln pt (P0 1) (P0 la) r k ++ (rxCz ln pt (fun k' c => if k' = (k : Int) then P0 la c else P0 1 c) (P0 1) r).map (reHe hd r)) - reGr (P0 1) (L0 ne) (c0 ++ rxDl hd ln pt (P0 1) (P0 la) r k)).toNat, (2 * (reGr (P0 1) (L0 ne) (c0 ++ rxDl hd ln pt (P0 1) (P0 la) r k ++ (rxCz ln pt (fun k' c => if k' = (k : Int) then P0 la c else P0 1 c) (P0 1) r).map (reHe hd r)) - reGr (P0 1) (L0 ne) (c0 ++ rxDl hd ln pt (P0 1) (P0 la) r k))).toNat, ⟨by omega, by omega⟩, ?_⟩
            rw [rC]
            refine CRE_coming (fr := (k : Int)) I hr hs hk rV rH rL rN hne hvk Jk (by omega) (by omega) (fun kd' an' ai' al' wd' iu' st' J' hv' kl => ⟨by omega, fun x2 e2 => ?_⟩)
            rw [e2]
            have I2 := ih (k + 1) kd' an' ai' al' wd' iu' st' (kc + (reGr (P0 1) (L0 ne) (c0 ++ rxDl hd ln pt (P0 1) (P0 la) r k ++ (rxCz ln pt (fun k' c => if k' = (k : Int) then P0 la c else P0 1 c) (P0 1) r).map (reHe hd r)) - reGr (P0 1) (L0 ne) (c0 ++ rxDl hd ln pt (P0 1) (P0 la) r k)).toNat) (ks + (2 * (reGr (P0 1) (L0 ne) (c0 ++ rxDl hd ln pt (P0 1) (P0 la) r k ++ (rxCz ln pt (fun k' c => if k' = (k : Int) then P0 la c else P0 1 c) (P0 1) r).map (reHe hd r)) - reGr (P0 1) (L0 ne) (c0 ++ rxDl hd ln pt (P0 1) (P0 la) r k))).toNat) (by omega) (by rw [eD, ← List.append_assoc]; exact J') hv' (by rw [eD, ← List.append_assoc]; omega) (by rw [eD, ← List.append_assoc]; omega) (by rw [eD, ← List.append_assoc]; exact hle1)
            rw [show ((k + 1 : Nat) : Int) = (k : Int) + 1 by omega] at I2
            exact I2
          · rw [if_neg (fun q => w (so0.2 q)), List.append_nil] at eD
            rw [e2]
            have I2 := ih (k + 1) kd an ai al mJ4_words mJ4_wordsInUse mJ4_sizeIsSticky kc ks (by omega) (by rw [eD]; exact Jk) hvk (by rw [eD]; exact hkc) (by rw [eD]; exact hks) (by rw [eD]; exact hle)
            rw [show ((k + 1 : Nat) : Int) = (k : Int) + 1 by omega] at I2
            exact I2
      have m0 := mono (rxDl hd ln pt (P0 1) (P0 la) r (ln r).toNat) c0
      have e0_ : c0 ++ rxDl hd ln pt (P0 1) (P0 la) r 0 = c0 := List.append_nil _
      exact ⟨_, loop (ln r).toNat 0 kd an ai1 al mJ4_words mJ4_wordsInUse mJ4_sizeIsSticky 0 0 (by omega) (by rw [e0_]; exact Jv) hv5 (by rw [e0_]; omega) (by rw [e0_]; omega) (by rw [e0_]; exact m0)⟩
    · unfold rxGv reHl at hMC hMS hp
      rw [if_neg f0, if_pos hk] at hMC hMS hp
      have eC : rxCz ln pt (fun k c => if k = -1 then P0 la c else P0 1 c) (P0 1) r = reCs ln pt (P0 1) r := rxCz_c hl.1 (fun k c k0 => by rw [if_neg (by omega)])
      rw [← eC] at hMC hMS hp
      rw [rC]
      exact CRE_coming (fr := -1) I hr hs hk rV rH rL rN hne hv5 Jv hMC hMS (fun kd' an' ai' al' wd' iu' st' J' _ kl => ⟨by omega, by omega, hp _ _ _ _ _ _ _ J'⟩)
  · unfold rxGv at hp
    rw [if_pos f0, if_neg (by omega), List.append_nil] at hp
    exact hp _ _ _ _ _ _ _ J
  · have hk : ¬ ki r < 0 := by omega
    unfold rxGv reHl at hMC hMS hp
    rw [if_neg f0, if_neg hk] at hMC hMS hp
    obtain ⟨_, _, _, ⟨w1, L1, B1⟩, ⟨w2, L2, B2⟩⟩ := J.i (la := la) hr hne (Or.inl (Eq.refl (A 7 0)))
    refine CRE_gather I hr hs hk rV rH rL (by omega) rT rG H J.2.1 B1 B2 (fun ai1 st1 s1 hM hT kl => ?_)
    have m0 := mono (reFh (ki r) (hd (3 * r)) (reFl (hd (3 * r + 1)) (fo r) reM0 (reCs ln pt (P0 1) r)) 32 0) c0
    exact ⟨33, CRE_give20 I hr hs rH rN (by omega) rT hM hT (fun kd' an' al' wd' iu' st' kc ks J' k1 k2 => ⟨k1, k2, hp _ _ _ _ _ _ _ J'⟩) 32 0 c0 kd an al mJ4_words mJ4_wordsInUse st1 (0 + 0) (0 + 0) (by decide) (by decide) (J.ai2 s1) rfl (by omega) (by omega)⟩
theorem CRE_count {post : (Nat → Nat) → (Nat → Nat) → (Nat → Int → Int) → (Nat → Int → Int) → (Nat → Option Nat) → (Nat → Int) → (Nat → Int) → Prop} (I : reI hd ki fo ln pt n) (hr : 0 ≤ r ∧ r < n) (hs : reSf hd ki fo ln pt r) (rV : mX35_values (A 0 0) = some (A 5 0)) (rH : mX35_holds (A 0 0) = some (A 1 1)) (rL : mX35_last (A 0 0) = some (A 1 la)) (hla : 0 ≤ la ∧ la < 4) (rK : mX35_counts (A 0 0) = some (A 4 1)) (rT : mX35_together (A 0 0) = some (A 6 0)) (rG : mX35_gathering (A 0 0) = some (A 9 0)) (rC : mX35_counting (A 0 0) = some (A 8 0)) (H : Lab rxK rxL kd an A G rxN) (R : rxRs kd an ar mX83_head mX83_parts mX83_kind mX83_variable mX84_sort mX84_name mX84_x mX84_y mJ2_elementData mJ2_size (sa 0) A hd ki fo ln pt n e0 F H_ Li Ro Pa) (B1 : bsI kd an al mJ4_words mJ4_wordsInUse (A 1 1) w1 L1 Ho) (B2 : bsI kd an al mJ4_words mJ4_wordsInUse (A 1 la) w2 L2 La)
  (hb : ∀ c, 0 ≤ c → c < 16384 → 0 ≤ ai (A 4 1) c ∧ ai (A 4 1) c + (reCs ln pt Ho r).length + 32 ≤ 2000000000)
  (hp : ∀ ai' st', (∀ a, a ≠ A 5 0 → a ≠ A 6 0 → a ≠ A 4 1 → ai' a = ai a) → (∀ c, 0 ≤ c → c < 16384 → ai' (A 4 1) c = ai (A 4 1) c + ((reHl hd ki fo ln pt Ho r).count c : Int)) → post kd an ai' al mJ4_words mJ4_wordsInUse st') : wpRE_X35_count MC MS post kd an ai al ar mX35_holds mX35_counts mX35_last mX35_next mX35_values mX35_counting mX35_gathering mX35_together mX83_head mX83_parts mX83_kind mX83_variable mX84_sort mX84_name mX84_x mX84_y mJ2_elementData mJ2_size mJ4_words mJ4_wordsInUse mJ4_sizeIsSticky (A 0 0) (some (F r)) := by
  obtain ⟨⟨_, hx, hy⟩, ⟨hkr, hfo⟩, hl, i4⟩ := I.2 r hr.1 hr.2
  have k0 : kd (A 0 0) = 1 := rx_kd H 0 0 (by decide) (by decide)
  obtain ⟨⟨o0, o1, o2, o3, o4⟩, ⟨h1, h2, h3, h4, h5⟩, _⟩ := R.2.1 r hr.1 hr.2
  have n45 : A 4 1 ≠ A 5 0 := H.ne (i := 4) (i' := 5) ⟨by decide, by decide⟩ ⟨by decide, by decide⟩ (Or.inl (by decide))
  have n46 : A 4 1 ≠ A 6 0 := H.ne (i := 4) (i' := 6) ⟨by decide, by decide⟩ ⟨by decide, by decide⟩ (Or.inl (by decide))
  have a4 : an (A 4 1) = 16384 := rx_an H 4 1 (by decide) (by decide) (by decide)
  have k4 : kd (A 4 1) = 9 := rx_kd H 4 1 (by decide) (by decide)
  have a6 : an (A 6 0) = 32 := rx_an H 6 0 (by decide) (by decide) (by decide)
  have k6 : kd (A 6 0) = 9 := rx_kd H 6 0 (by decide) (by decide)
  unfold wpRE_X35_count
  refine kOn_some ⟨o0, ?_⟩
  rw [o3]
  unfold reHl at hp
  refine ⟨fun z => ⟨⟨Nat.zero_le _, Nat.zero_le _⟩, CRE_free H rV (fun f5 hv => ⟨MC, MS, ⟨by omega, by omega⟩, ?_⟩)⟩, fun z => ⟨0, 0, ⟨by omega, by omega⟩, ?_⟩⟩
  · have hk : ki r < 0 := by omega
    rw [if_pos hk] at hp
    rw [rC]
    refine CRE_counting I hr hs hk rV rH rL hla rK H R B1 B2 (fun i i0 i1 => by rw [va_up_self]; exact hv i i0 i1) (fun c c0 c1 => by rw [va_up_ne _ _ n45]; have := hb c c0 c1; omega) (fun ai' st' s1 s2 kl => ⟨by omega, by omega, hp _ _ (fun a a5 a6 a4 => ?_) (fun c c0 c1 => ?_)⟩)
    · rw [s1 a a5 a4, va_up_ne _ _ a5]
    · rw [s2 c c0 c1, va_up_ne _ _ n45]
  · have hk : ¬ ki r < 0 := by omega
    rw [if_neg hk] at hp
    refine CRE_gather I hr hs hk rV rH rL hla rT rG H R B1 B2 (fun ai1 st1 s1 hM hT kl => ?_)
    generalize reFl (hd (3 * r + 1)) (fo r) reM0 (reCs ln pt Ho r) = M at hM hT hp
    have loop : ∀ (j : Nat) (x : Int) (l : List Int) (ai2 : Nat → Int → Int), x + j = 32 → 0 ≤ x → (∀ a, a ≠ A 4 1 → ai2 a = ai1 a) → (l.length : Int) ≤ x → (∀ c, 0 ≤ c → c < 16384 → ai2 (A 4 1) c = ai1 (A 4 1) c + (l.count c : Int)) → l ++ reFh (ki r) (hd (3 * r)) M j x = reFh (ki r) (hd (3 * r)) M 32 0 → wRE_X35_count_15 MC MS (fun (ai_56 : Nat → Int → Int) => ((0 + 0) ≤ MC ∧ (0 + 0) ≤ MS ∧ post kd an ai_56 al mJ4_words mJ4_wordsInUse st1)) (A 0 0) (some (F r)) kd an mX35_counts mX35_together mX83_head mX84_name (0 + 0) (0 + 0) (j + 1) x ai2 := fun j => by
      induction j with
      | zero =>
        intro x l ai2 hxj x0 sa_ hlen hc hZ
        rw [reFh, List.append_nil] at hZ
        rw [wRE_X35_count_15]
        refine ⟨fun _ => ⟨by omega, by omega, hp ai2 st1 (fun a a5 a6 a4 => by rw [sa_ a a4, s1 a a5 a6]) (fun c c0 c1 => ?_)⟩, fun w => by omega⟩
        rw [hc c c0 c1, hZ, s1 _ n45 n46]
      | succ j ih =>
        intro x l ai2 hxj x0 sa_ hlen hc hZ
        have tr := reTo_r (k := ki r) hM x0 (show x < 32 by omega)
        rw [reFh_s] at hZ
        rw [wRE_X35_count_15]
        refine ⟨fun w => by omega, fun _ => kOn_of rT ⟨k6, by rw [a6]; exact ⟨x0, by show x < 32; omega⟩, ?_⟩⟩
        rw [sa_ _ n46.symm, hT x x0 (by omega)]
        refine ⟨fun w => ⟨by omega, fun x2 e2 => ?_⟩, fun w => kOn_some ⟨o0, kOn_of o1 ⟨h1, ?_⟩⟩⟩
        · rw [if_pos (tr.1.1 w), List.nil_append] at hZ
          rw [e2]
          exact ih _ l ai2 (by omega) (by omega) sa_ (by omega) hc hZ
        · have nz : ¬ M.1 x = 0 := fun q => w (tr.1.2 q)
          rw [if_neg nz, ← List.append_assoc] at hZ
          have fc := reHe_r (ls := []) I hr hs hM x0 (show x < 32 by omega) nz (k := ki r)
          have cb := reCd_b fc
          unfold wpRE_X84_name
          rw [h3]
          refine ⟨by omega, by omega, CRE_code fc (kOn_of rK ⟨k4, by rw [a4]; exact cb, ?_, fun v ev ai3 e3 => ⟨by omega, fun x2 e2 => ?_⟩⟩)⟩
          · have ct := List.count_le_length (a := reCd (hd (3 * r)) x (reTo (ki r) M x)) (l := l)
            have b := hb _ cb.1 cb.2
            rw [hc _ cb.1 cb.2, s1 _ n45 n46]
            omega
          · rw [e2]
            refine ih _ (l ++ [reCd (hd (3 * r)) x (reTo (ki r) M x)]) ai3 (by omega) (by omega) (fun a a4 => by rw [e3, va_up_ne _ _ a4]; exact sa_ a a4) (by rw [List.length_append, List.length_singleton]; omega) (fun c c0 c1 => ?_) hZ
            rw [e3, va_up_self, ev, updI_e, List.count_append, List.count_singleton]
            by_cases q : c = reCd (hd (3 * r)) x (reTo (ki r) M x)
            · rw [if_pos q, q, hc _ cb.1 cb.2]
              simp only [beq_self_eq_true, if_true]
              omega
            · rw [if_neg q, hc c c0 c1]
              have : (reCd (hd (3 * r)) x (reTo (ki r) M x) == c) = false := by
                rw [beq_eq_false_iff_ne]; exact fun e => q e.symm
              rw [this]
              simp
    exact ⟨33, loop 32 0 [] ai1 (by decide) (by decide) (fun _ _ => rfl) (by decide) (fun c _ _ => by simp) rfl⟩
end
