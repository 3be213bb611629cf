/-! CanonNames (room CN): a graph kept -/
section
variable {kd : Nat → Nat} {an : Nat → Nat} {ai : Nat → Int → Int} {al : Nat → Int → Int} {ar : Nat → Int → Option Nat} {mX1_graph : Nat → Option Nat} {mX1_kept : Nat → Option Nat} {mX1_keptCount : Nat → Int} {mX1_digest : Nat → Option Nat} {mX1_hashed : Nat → Int} {mX1_rounds : Nat → Int} {mX1_hashes : Nat → Option Nat} {mX1_next : Nat → Option Nat} {mX1_descriptions : Nat → Option Nat} {mX1_order : Nat → Option Nat} {mX1_begins : Nat → Option Nat} {mX1_groups : Nat → Int} {mX1_numbers : Nat → Option Nat} {mX1_best : Nat → Option Nat} {mX1_row : Nat → Option Nat} {mX1_leastRow : Nat → Option Nat} {mX1_found : Nat → Int} {mX1_many : Nat → Int} {mX1_namedBlanks : Nat → Int} {mX1_formCount : Nat → Int} {mX1_given : Nat → Option Nat} {mX1_form : Nat → Option Nat} {mX1_octets : Nat → Option Nat} {mX1_ways : Nat → Int} {mX1_wanted : Nat → Int} {mX1_taken : Nat → Int} {mX2_blanks : Nat → Int} {mX2_count : Nat → Int} {mX2_keys : Nat → Option Nat} {mX3_words : Nat → Option Nat} {mX3_block : Nat → Option Nat} {mX3_size : Nat → Int} {mX4_bytes : Nat → Option Nat} {mX4_size : Nat → Int} {x : Nat} {nn : Int → Int} {LL : Int → List qA} {gn nbk fc : Int} {P F : List Int} {MC MS : Nat} {A : Nat → Int → Nat} {g : Nat → Nat × Int} {hp : Int} {pi : Int → Int} {l : List Int} {j : Int}
theorem chN_o {i : Nat} (h : ¬ i = 13) (h2 : ¬ i = 14) : chN (gn + 1) i = chN gn i := by
  match i with
  | 0 => rfl
  | 1 => rfl
  | 2 => rfl
  | 3 => rfl
  | 4 => rfl
  | 5 => rfl
  | 6 => rfl
  | 7 => rfl
  | 8 => rfl
  | 9 => rfl
  | 10 => rfl
  | 11 => rfl
  | 12 => rfl
  | 13 => exact absurd rfl h
  | 14 => exact absurd rfl h2
  | 15 => rfl
  | i + 16 => rfl
/-- labels with a graph more -/
theorem chLab1 (L : Lab chK chLn kd an A g (chN gn)) (hg : 0 ≤ gn) {q r : Nat} (hq : kd q = 0) (hr : (va_up kd q 2) r = 0) : ∃ A' g', Lab chK chLn (va_up (va_up kd q 2) r 6) (va_up an r 40) A' g' (chN (gn + 1)) ∧ A' 14 (gn + 1) = q ∧ A' 13 (gn + 1) = r ∧ ∀ i j, 0 ≤ j → j < chN gn i → A' i j = A i j := by
  have L1 := Lab.new L hq 14 (an' := an) (show 0 ≤ gn + 1 by omega) (by decide) (fun _ _ => rfl) (fun w => absurd rfl w)
  have L2 : Lab chK chLn (va_up (va_up kd q 2) r 6) (va_up an r 40) _ _ _ := Lab.new L1 hr 13 (an' := va_up an r 40) (show 0 ≤ nUp (chN gn) 14 13 by show 0 ≤ gn + 1; omega) (by decide) (fun b hb => va_up_ne _ _ hb) (fun _ => va_up_self _ _ _)
  have e13 : nUp (chN gn) 14 13 = gn + 1 := rfl
  have e14 : chN gn 14 = gn + 1 := rfl
  refine ⟨_, _, Lab.mono L2 (fun i => ?_), ?_, ?_, fun i j j0 j1 => ?_⟩
  · by_cases h13 : i = 13
    · rw [h13]
      show gn + 1 + 1 ≤ gn + 1 + 1
      omega
    · by_cases h14 : i = 14
      · rw [h14]
        show gn + 1 + 1 ≤ gn + 1 + 1
        omega
      · rw [chN_o h13 h14]
        unfold nUp
        rw [if_neg h13, if_neg h14]
        exact Int.le_refl _
  · rw [e13, aUp_i (by decide), e14, aUp_s]
  · rw [e13, aUp_s]
  · by_cases h13 : i = 13
    · subst h13
      have : j < gn + 1 := j1
      rw [e13, aUp_j (by omega), aUp_i (by decide)]
    · rw [aUp_i h13]
      by_cases h14 : i = 14
      · subst h14
        have : j < gn + 1 := j1
        rw [e14, aUp_j (by omega)]
      · rw [aUp_i h14]
theorem CCN_keep {post : Int → (Nat → Nat) → (Nat → Nat) → (Nat → Int → Int) → (Nat → Int → Option Nat) → (Nat → Option Nat) → (Nat → Int) → (Nat → Int) → (Nat → Int) → (Nat → Int) → (Nat → Option Nat) → Prop} (R : chRm kd an ai al ar mX1_graph mX1_kept mX1_keptCount mX1_digest mX1_hashed mX1_rounds mX1_hashes mX1_next mX1_descriptions mX1_order mX1_begins mX1_groups mX1_numbers mX1_best mX1_row mX1_leastRow mX1_found mX1_many mX1_namedBlanks mX1_formCount mX1_given mX1_form mX1_octets mX1_ways mX1_wanted mX1_taken mX2_blanks mX2_count mX2_keys mX3_words mX3_block mX3_size mX4_bytes mX4_size x nn LL gn nbk fc P F) (bC : 2 ≤ MC) (bS : 43 ≤ MS) (h1 : gn = 8 → post (-2) kd an al ar mX1_graph mX1_keptCount mX1_hashed mX2_blanks mX2_count mX2_keys) (h0 : gn < 8 → ∀ kd' an' al' ar' gr' kc' hd' bl' cu' ky', chRm (kd') (an') ai (al') (ar') (gr') mX1_kept (kc') mX1_digest (hd') mX1_rounds mX1_hashes mX1_next mX1_descriptions mX1_order mX1_begins mX1_groups mX1_numbers mX1_best mX1_row mX1_leastRow mX1_found mX1_many mX1_namedBlanks mX1_formCount mX1_given mX1_form mX1_octets mX1_ways mX1_wanted mX1_taken (bl') (cu') (ky') mX3_words mX3_block mX3_size mX4_bytes mX4_size x (updI nn (gn + 1) 0) (updI LL (gn + 1) []) (gn + 1) nbk fc P F → post gn kd' an' al' ar' gr' kc' hd' bl' cu' ky') : wpCN_X1_keep MC MS post kd an al ar mX1_graph mX1_kept mX1_keptCount mX1_hashed mX2_blanks mX2_count mX2_keys x := by
  obtain ⟨A, g, hp, pi, l, rfl, L, Sh, G, ek, D, H, NU, NM⟩ := R
  have hgn := Sh.2.2.2.2.2.2
  have hhp := Sh.2.2.2.2.2.1
  obtain ⟨k1, l1⟩ := chX1 L
  have k14 := chX14 L (j := gn) ⟨hgn.1, by omega⟩
  unfold wpCN_X1_keep
  rw [ek]
  refine ⟨fun z => ⟨Nat.zero_le _, Nat.zero_le _, h1 z⟩, fun z v ev => kOn_of Sh.1.2.1 ⟨k1, by omega, ?_⟩⟩
  rw [ev]
  refine kOn_of Sh.1.1 ⟨k14, fun ar2 ea => ⟨by omega, fun v2 ev2 kc2 ekc => ⟨⟨by omega, by omega⟩, fun q hq bl2 ebl cu2 ecu ky2 eky => ⟨1, 40, ⟨by omega, by omega⟩, ?_⟩⟩⟩⟩
  unfold wpCN_X2_init
  refine ⟨⟨by omega, by omega⟩, fun r hr al2 eal ky3 eky3 => ⟨by omega, by omega, fun _ gr2 egr hd2 ehd => ?_⟩⟩
  have ekc2 : kc2 (A 0 0) = gn + 1 := by rw [ekc, va_up_s, ev2]
  rw [ekc2, show gn + 1 - 1 = gn by omega]
  refine ⟨by omega, by omega, by omega, ?_⟩
  obtain ⟨A', g', L', eq, er, old⟩ := chLab1 L hgn.1 hq hr
  have one : ∀ i : Nat, chN gn i = 1 → A' i 0 = A i 0 := fun i e => old i 0 (Int.le_refl 0) (by rw [e]; decide)
  have o0 := one 0 rfl
  have o7 : ∀ j, 0 ≤ j → j < 4 → A' 7 j = A 7 j := fun j j0 j1 => old 7 j j0 (show j < (4 : Int) from j1)
  have o8 : ∀ j, 0 ≤ j → j < 3 → A' 8 j = A 8 j := fun j j0 j1 => old 8 j j0 (show j < (3 : Int) from j1)
  have o9 : ∀ j, 0 ≤ j → j < 2 → A' 9 j = A 9 j := fun j j0 j1 => old 9 j j0 (show j < (2 : Int) from j1)
  have o10 : ∀ j, 0 ≤ j → j < 18 → A' 10 j = A 10 j := fun j j0 j1 => old 10 j j0 (show j < (18 : Int) from j1)
  have o11 : ∀ j, 0 ≤ j → j < 40 → A' 11 j = A 11 j := fun j j0 j1 => old 11 j j0 (show j < (40 : Int) from j1)
  have o12 : ∀ j, 0 ≤ j → j < 40 → A' 12 j = A 12 j := fun j j0 j1 => old 12 j j0 (show j < (40 : Int) from j1)
  have o13 : ∀ j, 0 ≤ j → j ≤ gn → A' 13 j = A 13 j := fun j j0 j1 => old 13 j j0 (show j < gn + 1 by omega)
  have o14 : ∀ j, 0 ≤ j → j ≤ gn → A' 14 j = A 14 j := fun j j0 j1 => old 14 j j0 (show j < gn + 1 by omega)
  have n14 : ∀ j, 0 ≤ j → j ≤ gn → A 14 j ≠ q := fun j j0 j1 => L.fresh hq j0 (show j < gn + 1 by omega)
  have n13 : ∀ j, 0 ≤ j → j ≤ gn → A 13 j ≠ r := fun j j0 j1 e => by
    have a := (chX13 L (j := j) ⟨j0, by omega⟩).1
    have b := L.fresh hq (i := 13) j0 (show j < gn + 1 by omega)
    rw [← e, va_up_ne _ _ b, a] at hr
    exact absurd hr (by decide)
  have n8 : A 8 2 ≠ r := fun e => by
    have a := (chX8 L (j := 2) (by decide)).1
    have b := L.fresh hq (i := 8) (j := 2) (by decide) (show (2 : Int) < 3 by decide)
    rw [← e, va_up_ne _ _ b, a] at hr
    exact absurd hr (by decide)
  have n91 : ∀ s, (0 ≤ s ∧ s < 2) → A 9 s ≠ A 1 0 := fun s hs => L.ne ⟨hs.1, show s < (2 : Int) from hs.2⟩ ⟨Int.le_refl 0, show (0 : Int) < 1 by decide⟩ (Or.inl (by decide))
  have n51 : A 5 0 ≠ A 1 0 := L.ne ⟨Int.le_refl 0, show (0 : Int) < 1 by decide⟩ ⟨Int.le_refl 0, show (0 : Int) < 1 by decide⟩ (Or.inl (by decide))
  refine h0 (by omega) _ _ al2 ar2 gr2 kc2 hd2 bl2 cu2 ky3 ⟨A', g', hp, pi, l, o0, L', ?_, fun j j0 j1 => ?_, by rw [o0]; exact ekc2, ?_, Or.inl (by rw [o0, ehd, va_up_s]), fun b b0 b1 => by rw [o7 1 (by decide) (by decide)]; exact NU b b0 b1, ?_⟩
  · obtain ⟨⟨a1, a2, a3, a4, a5, a6⟩, ⟨b1, b2, b3, b4, b5, b6, b7, b8, b9⟩, ⟨c1, c2, c3, c4⟩, ⟨d1, d2, d3⟩, ⟨e1, e2⟩, f1, f2, f3⟩ := Sh
    refine ⟨⟨?_, ?_, ?_, ?_, ?_, ?_⟩, ⟨?_, ?_, ?_, ?_, ?_, ?_, ?_, ?_, ?_⟩, ⟨fun j j0 j1 => ?_, ?_, ?_, fun j j0 j1 => ?_⟩, ⟨fun j j0 j1 => ?_, fun s b hs hb => ?_, fun j j0 j1 => ?_⟩, ⟨e1, e2⟩, f1, by omega, by omega⟩
    · rw [o0, eq, egr, va_up_s]
    · rw [o0, one 1 rfl]; exact a2
    · rw [o0, one 2 rfl]; exact a3
    · rw [o0, o9 hp (by omega) (by omega)]; exact a4
    · rw [o0, o9 (1 - hp) (by omega) (by omega)]; exact a5
    · rw [o0, one 5 rfl]; exact a6
    · rw [o0, one 6 rfl]; exact b1
    · rw [o0, o7 0 (by decide) (by decide)]; exact b2
    · rw [o0, o7 1 (by decide) (by decide)]; exact b3
    · rw [o0, o7 2 (by decide) (by decide)]; exact b4
    · rw [o0, o7 3 (by decide) (by decide)]; exact b5
    · rw [o0, o8 0 (by decide) (by decide)]; exact b6
    · rw [o0, o8 1 (by decide) (by decide)]; exact b7
    · rw [o0, o8 2 (by decide) (by decide)]; exact b8
    · rw [o0, one 15 rfl]; exact b9
    · by_cases y : j = gn + 1
      · rw [y, eq, er, eky3, va_up_s]
      · rw [o14 j j0 (by omega), o13 j j0 (by omega), eky3, va_up_n (n14 j j0 (by omega)), eky, va_up_n (n14 j j0 (by omega))]
        exact c1 j j0 (by omega)
    · rw [one 2 rfl, one 3 rfl]; exact c2
    · rw [one 2 rfl, one 4 rfl]; exact c3
    · rw [o11 j j0 j1, o12 j j0 j1]; exact c4 j j0 j1
    · rw [one 1 rfl, o14 j j0 (by omega), ea, va_up_s, updI_e]
      by_cases y : j = gn
      · rw [if_pos y, y]
      · rw [if_neg y]; exact d1 j j0 (by omega)
    · rw [o9 s hs.1 hs.2, o10 (9 * s + b) (by omega) (by omega), ea, va_up_n (n91 s hs)]
      exact d2 s b hs hb
    · rw [one 5 rfl, ea, va_up_n n51, o11 (pi j) (e1 j j0 j1).1 (e1 j j0 j1).2]
      exact d3 j j0 j1
  · by_cases y : j = gn + 1
    · rw [y, updI_s, updI_s, eq, er]
      obtain ⟨k13, l13⟩ := chX13 L' (j := gn + 1) ⟨by omega, by omega⟩
      rw [er] at k13 l13
      exact ⟨⟨⟨by rw [eky3, va_up_s], k13, l13⟩, ⟨by rw [ebl, va_up_s], by decide, by decide⟩, ⟨by rw [ecu, va_up_s]; rfl, by decide, by decide⟩, fun i i0 i1 => absurd (show i < 0 from i1) (by omega), fun i j i0 ij j1 => absurd (show j < 0 from j1) (by omega)⟩, rfl⟩
    · rw [updI_n y, updI_n y]
      obtain ⟨⟨⟨u1, _, _⟩, u2, u3, u4, u5⟩, u6⟩ := G j j0 (by omega)
      obtain ⟨k13, l13⟩ := chX13 L' (j := j) ⟨j0, by omega⟩
      have m14 := n14 j j0 (by omega)
      have m13 := n13 j j0 (by omega)
      rw [o13 j j0 (by omega)] at k13 l13
      rw [o14 j j0 (by omega), o13 j j0 (by omega)]
      unfold chG
      rw [eal, va_up_n (f := al) m13, ebl, va_up_n m14, ecu, va_up_n m14, eky3, va_up_n m14, eky, va_up_n m14]
      exact ⟨⟨⟨u1, k13, l13⟩, u2, u3, u4, u5⟩, u6⟩
  · obtain ⟨⟨d1, _, _⟩, ⟨d2, _, _⟩, d3, d4, d5, d6⟩ := D
    obtain ⟨k3, l3⟩ := chX3 L'
    obtain ⟨k4, l4⟩ := chX4 L'
    rw [one 3 rfl] at k3 l3
    rw [one 4 rfl] at k4 l4
    rw [one 2 rfl, one 3 rfl, one 4 rfl]
    exact ⟨⟨d1, k3, l3⟩, ⟨d2, k4, l4⟩, d3, d4, d5, d6⟩
  · unfold chNm
    rw [o0, o7 3 (by decide) (by decide), o8 2 (by decide) (by decide), eal, va_up_n n8]
    exact NM
end
