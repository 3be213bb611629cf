/-! CanonNames (room CN): hashes of all blanks -/
section
variable {kd an : Nat → Nat} {ai ai' al al' : Nat → Int → Int} {ar ar' : Nat → Int → Option Nat} {mX1_graph mX1_kept mX1_digest mX1_hashes mX1_next mX1_descriptions mX1_order mX1_begins mX1_numbers mX1_best mX1_row mX1_leastRow mX1_given mX1_form mX1_octets mX2_keys mX3_words mX3_block mX4_bytes : Nat → Option Nat} {mX1_rounds mX1_hashed mX1_groups mX1_keptCount mX1_found mX1_many mX1_namedBlanks mX1_formCount mX1_ways mX1_wanted mX1_taken mX2_blanks mX2_count mX3_size mX4_size : Nat → Int} {A : Nat → Int → Nat} {g : Nat → Nat × Int} {gn hp n m b k c s i j x v r y z : Int} {pi : Int → Int} {D : Int → List Int} {H : Int → List Int} {l : List Int}
theorem cnDf_2 {H : Int → List Int} (hn : 0 ≤ n ∧ n < 2) : cnDf H n = n := by
  have h0 : cntI (cnF H) 1 = 0 := cntI_0 (fun i i0 i1 w => by have := w.1; omega)
  by_cases z : n = 0
  · rw [z]; exact h0
  · have e1 : n = 1 := by omega
    rw [e1]
    have h1 : cntI (cnF H) ((1 : Int) + 1).toNat = cntI (cnF H) (1 : Int).toNat + 1 := cntI_t (by decide) ⟨by decide, fun b b0 b1 => by omega⟩
    have h2 : cntI (cnF H) (1 : Int).toNat = 0 := h0
    show cntI (cnF H) ((1 : Int) + 1).toNat = 1
    omega
/-- what the hashes leave alone -/
def chQ (A : Nat → Int → Nat) (gn : Int) (a : Nat) : Prop := (∀ i j, (i = 3 ∨ i = 4 ∨ i = 6 ∨ i = 10 ∨ i = 12) → 0 ≤ j → j < chN gn i → a ≠ A i j) ∧ a ≠ A 7 0
theorem chQ.of (L : Lab chK chLn kd an A g (chN gn)) {i : Nat} (h : ¬ (i = 3 ∨ i = 4 ∨ i = 6 ∨ i = 10 ∨ i = 12)) (hj : 0 ≤ j ∧ j < chN gn i) (h7 : i = 7 → ¬ j = 0) : chQ A gn (A i j) := by
  refine ⟨fun i' j' hi' j0 j1 => L.ne hj ⟨j0, j1⟩ (Or.inl (fun e => h (by rw [e]; exact hi'))), ?_⟩
  by_cases y : i = 7
  · exact L.ne hj ⟨Int.le_refl 0, show (0 : Int) < 4 by decide⟩ (Or.inr (h7 y))
  · exact L.ne hj ⟨Int.le_refl 0, show (0 : Int) < 4 by decide⟩ (Or.inl y)
/-- what is told when hashes are made -/
def chHd (ai : Nat → Int → Int) (A : Nat → Int → Nat) (hp ro gc n : Int) (L : List qA) : Prop := chH ai A hp n (cnHa L n).1 ∧ ro = (cnHa L n).2 ∧ chO (cnHa L n).1 n (ai (A 6 0)) (ai (A 7 0)) gc
theorem CCN_h24 {K : (Nat → Int → Int) → Prop} (L : Lab chK chLn kd an A g (chN gn)) (Sh : chS ar mX1_graph mX1_kept mX1_digest mX1_hashes mX1_next mX1_descriptions mX1_order mX1_begins mX1_numbers mX1_best mX1_row mX1_leastRow mX1_given mX1_form mX1_octets mX2_keys mX3_words mX3_block mX4_bytes A hp pi gn) (eb : mX2_blanks (A 14 gn) = n) (hn : 0 ≤ n ∧ n ≤ 8) (Dg : chD kd an ai mX3_words mX3_block mX3_size (A 2 0) (A 3 0) (A 4 0) (shPad l)) (hK : ∀ ai', chH ai' A hp n (fun _ => shDl l) → (∀ a, (∀ j, 0 ≤ j → j < 18 → a ≠ A 10 j) → ai' a = ai a) → K ai') : ∃ fu : Nat, wCN_X1_makeHashes_24 K (A 0 0) kd an ar mX1_graph mX1_digest mX1_hashes mX2_blanks mX3_words fu 1 ai := by
  obtain ⟨⟨s1, _, s3, s4, _, _⟩, _, ⟨_, sw, _, _⟩, ⟨_, s9, _⟩, _, hhp, hgn⟩ := Sh
  have k14 := chX14 L (j := gn) ⟨hgn.1, by omega⟩
  obtain ⟨k3, l3⟩ := chX3 L
  obtain ⟨k9, l9⟩ := chX9 L (j := hp) (by omega)
  have n3 : ∀ j, 0 ≤ j → j < 18 → A 3 0 ≠ A 10 j := fun j j0 j1 => L.ne ⟨Int.le_refl 0, show (0 : Int) < 1 by decide⟩ ⟨j0, show j < (18 : Int) from j1⟩ (Or.inl (by decide))
  refine wl2 (fun fu b q => wCN_X1_makeHashes_24 K (A 0 0) kd an ar mX1_graph mX1_digest mX1_hashes mX2_blanks mX3_words fu b q) (fun b q => (1 ≤ b ∧ b ≤ n + 1) ∧ chH q A hp (b - 1) (fun _ => shDl l) ∧ ∀ a, (∀ j, 0 ≤ j → j < 18 → a ≠ A 10 j) → q a = ai a) (fun b _ => (n + 1 - b).toNat) ?_ 1 ai ⟨by omega, fun b b0 b1 => by omega, fun _ _ => rfl⟩
  rintro b q ⟨hb, h, fa⟩ fu ih
  rw [wCN_X1_makeHashes_24]
  refine kOn_of s1 ⟨k14, ?_⟩
  rw [eb]
  refine ⟨fun z => hK q (fun c c0 c1 => h c c0 (by omega)) fa, fun z => kOn_of s3 ⟨chX2 L, kOn_of s4 ⟨k9, by omega, fun r er => ?_⟩⟩⟩
  have hc : 0 ≤ 9 * hp + b ∧ 9 * hp + b < 18 := by omega
  obtain ⟨kr, lr⟩ := chX10 L hc
  rw [er, s9 hp b (by omega) (by omega)]
  refine kOn_of rfl (kOn_of sw ⟨kr, k3, by omega, fun a2 ea => ⟨by omega, fun b' eb' => ?_⟩⟩)
  rw [eb']
  refine ih (b + 1) a2 ⟨by omega, fun c c0 c1 => ?_, fun a na => by rw [ea, va_up_n (na _ hc.1 hc.2)]; exact fa a na⟩ (by omega)
  by_cases y : c = b
  · rw [y, ea, va_up_s]
    refine chW_dg (fun i i0 i1 => ?_)
    unfold zcpy
    rw [if_pos (by omega), show (0 : Int) + (i - 0) = i by omega, fa _ n3]
    exact Dg.2.2.2.2.1 i i0 i1
  · have ne : A 10 (9 * hp + c) ≠ A 10 (9 * hp + b) := L.ne ⟨by omega, show 9 * hp + c < (18 : Int) by omega⟩ ⟨hc.1, show _ < (18 : Int) from hc.2⟩ (Or.inr (by omega))
    rw [ea, va_up_n ne]
    exact h c c0 (by omega)
theorem CCN_h74 {K : (Nat → Int → Int) → (Nat → Int → Option Nat) → (Nat → Int) → (Nat → Int) → Prop} (L : Lab chK chLn kd an A g (chN gn)) (Sh : chS ar mX1_graph mX1_kept mX1_digest mX1_hashes mX1_next mX1_descriptions mX1_order mX1_begins mX1_numbers mX1_best mX1_row mX1_leastRow mX1_given mX1_form mX1_octets mX2_keys mX3_words mX3_block mX4_bytes A hp pi gn) (G : chG kd an al mX2_blanks mX2_count mX2_keys (A 14 gn) (A 13 gn) n m) (HH : chH ai A hp n H) (Dg : chD kd an ai mX3_words mX3_block mX3_size (A 2 0) (A 3 0) (A 4 0) l)
  (hK : ∀ ai' ar' s3 s4 pi' l', chS ar' mX1_graph mX1_kept mX1_digest mX1_hashes mX1_next mX1_descriptions mX1_order mX1_begins mX1_numbers mX1_best mX1_row mX1_leastRow mX1_given mX1_form mX1_octets mX2_keys mX3_words mX3_block mX4_bytes A hp pi' gn → chD kd an ai' mX3_words mX3_block s3 (A 2 0) (A 3 0) (A 4 0) l' → chH ai' A hp n H → chH ai' A (1 - hp) n (cnNx (chL (al (A 13 gn)) m) H) → (∀ a, chQ A gn a → ai' a = ai a) → K ai' ar' s3 s4) : ∃ fu : Nat, wCN_X1_makeHashes_74 K (A 0 0) kd an al mX1_graph mX1_digest mX1_hashes mX1_next mX1_descriptions mX2_blanks mX2_count mX2_keys mX3_words mX3_block mX4_bytes fu 1 ai ar mX3_size mX4_size := by
  have hn := G.2.1.2
  have k14 := chX14 L (j := gn) ⟨Sh.2.2.2.2.2.2.1, by omega⟩
  have s1 := Sh.1.1
  have eb := G.2.1.1
  have hhp := Sh.2.2.2.2.2.1
  refine wl5 (fun fu b a r s t => wCN_X1_makeHashes_74 K (A 0 0) kd an al mX1_graph mX1_digest mX1_hashes mX1_next mX1_descriptions mX2_blanks mX2_count mX2_keys mX3_words mX3_block mX4_bytes fu b a r s t) (fun b a r s t => (1 ≤ b ∧ b ≤ n + 1) ∧ (∃ pi' l', chS r mX1_graph mX1_kept mX1_digest mX1_hashes mX1_next mX1_descriptions mX1_order mX1_begins mX1_numbers mX1_best mX1_row mX1_leastRow mX1_given mX1_form mX1_octets mX2_keys mX3_words mX3_block mX4_bytes A hp pi' gn ∧ chD kd an a mX3_words mX3_block s (A 2 0) (A 3 0) (A 4 0) l') ∧ chH a A hp n H ∧ chH a A (1 - hp) (b - 1) (cnNx (chL (al (A 13 gn)) m) H) ∧ ∀ c, chQ A gn c → a c = ai c) (fun b _ _ _ _ => (n + 1 - b).toNat) ?_ 1 ai ar mX3_size mX4_size ⟨by omega, ⟨pi, l, Sh, Dg⟩, HH, fun b b0 b1 => by omega, fun _ _ => rfl⟩
  rintro b a r s t ⟨hb, ⟨pi', l', S1, D1⟩, H1, H2, fa⟩ fu ih
  rw [wCN_X1_makeHashes_74]
  refine kOn_of s1 ⟨k14, ?_⟩
  rw [eb]
  refine ⟨fun z => hK a r s t pi' l' S1 D1 H1 (fun c c0 c1 => H2 c c0 (by omega)) fa, fun z => ?_⟩
  refine CCN_hashOne L S1 G ⟨hb.1, by omega⟩ H1 D1 (fun a2 r2 s2 t2 pi2 l2 S2 D2 W2 f2 _ => ⟨by omega, fun b' eb' => ?_⟩)
  have f10 : ∀ j, (0 ≤ j ∧ j < 18) → ¬ j = 9 * (1 - hp) + b → a2 (A 10 j) = a (A 10 j) := fun j hj ne => f2 _ (fun t t0 t1 => L.ne ⟨hj.1, show j < (18 : Int) from hj.2⟩ ⟨t0, show t < (40 : Int) from t1⟩ (Or.inl (by decide))) (L.ne ⟨hj.1, show j < (18 : Int) from hj.2⟩ ⟨Int.le_refl 0, show (0 : Int) < 1 by decide⟩ (Or.inl (by decide))) (L.ne ⟨hj.1, show j < (18 : Int) from hj.2⟩ ⟨Int.le_refl 0, show (0 : Int) < 1 by decide⟩ (Or.inl (by decide))) (L.ne ⟨hj.1, show j < (18 : Int) from hj.2⟩ ⟨by omega, show _ < (18 : Int) by omega⟩ (Or.inr ne))
  rw [eb']
  refine ih (b + 1) a2 r2 s2 t2 ⟨by omega, ⟨pi2, l2, S2, D2⟩, fun c c0 c1 => ?_, fun c c0 c1 => ?_, fun c hc => ?_⟩ (by omega)
  · rw [f10 _ (by omega) (by omega)]; exact H1 c c0 c1
  · by_cases y : c = b
    · rw [y]; exact W2
    · rw [f10 _ (by omega) (by omega)]; exact H2 c c0 (by omega)
  · rw [f2 c (fun j j0 j1 => hc.1 12 j (by decide) j0 j1) (hc.1 3 0 (by decide) (Int.le_refl 0) (show (0 : Int) < 1 by decide)) (hc.1 4 0 (by decide) (Int.le_refl 0) (show (0 : Int) < 1 by decide)) (hc.1 10 _ (by decide) (by omega) (show _ < (18 : Int) by omega))]
    exact fa c hc
theorem CCN_h68 {K1 K2 : (Nat → Int → Int) → (Nat → Int → Option Nat) → (Nat → Int) → (Nat → Option Nat) → (Nat → Option Nat) → (Nat → Int) → (Nat → Int) → Prop} {ai0 : Nat → Int → Int} (L : Lab chK chLn kd an A g (chN gn)) (G : chG kd an al mX2_blanks mX2_count mX2_keys (A 14 gn) (A 13 gn) n m) {R : (Int → List Int) × Int}
  (hK1 : ∀ ai' ar' ro' hs' nx' s3 s4 hp' pi' l', chS ar' mX1_graph mX1_kept mX1_digest hs' nx' mX1_descriptions mX1_order mX1_begins mX1_numbers mX1_best mX1_row mX1_leastRow mX1_given mX1_form mX1_octets mX2_keys mX3_words mX3_block mX4_bytes A hp' pi' gn → chD kd an ai' mX3_words mX3_block s3 (A 2 0) (A 3 0) (A 4 0) l' → chH ai' A hp' n R.1 → ro' (A 0 0) = R.2 → (∀ a, chQ A gn a → ai' a = ai0 a) → K1 ai' ar' ro' hs' nx' s3 s4)
  (hK2 : ∀ ai' ar' ro' hs' nx' s3 s4 hp' pi' l', chS ar' mX1_graph mX1_kept mX1_digest hs' nx' mX1_descriptions mX1_order mX1_begins mX1_numbers mX1_best mX1_row mX1_leastRow mX1_given mX1_form mX1_octets mX2_keys mX3_words mX3_block mX4_bytes A hp' pi' gn → chD kd an ai' mX3_words mX3_block s3 (A 2 0) (A 3 0) (A 4 0) l' → chH ai' A hp' n R.1 → ro' (A 0 0) = R.2 → (∀ a, chQ A gn a → ai' a = ai0 a) → K2 ai' ar' ro' hs' nx' s3 s4) : ∀ (p : Nat) (H : Int → List Int) (q : Int) (ai : Nat → Int → Int) (ar : Nat → Int → Option Nat) (mX1_rounds : Nat → Int) (mX1_hashes mX1_next : Nat → Option Nat) (mX3_size mX4_size : Nat → Int) (hp : Int) (pi : Int → Int) (l : List Int), chS ar mX1_graph mX1_kept mX1_digest mX1_hashes mX1_next mX1_descriptions mX1_order mX1_begins mX1_numbers mX1_best mX1_row mX1_leastRow mX1_given mX1_form mX1_octets mX2_keys mX3_words mX3_block mX4_bytes A hp pi gn → chD kd an ai mX3_words mX3_block mX3_size (A 2 0) (A 3 0) (A 4 0) l → chH ai A hp n H → mX1_rounds (A 0 0) = q → (∀ a, chQ A gn a → ai a = ai0 a) → n + 2 ≤ cnDf H n + p → 0 ≤ q → q + p ≤ 100 → cnRo (chL (al (A 13 gn)) m) n p H q = R → wCN_X1_makeHashes_68 K1 K2 (A 0 0) kd an al mX1_graph mX1_digest mX1_descriptions mX2_blanks mX2_count mX2_keys mX3_words mX3_block mX4_bytes (p + 1) 1 ai ar mX1_rounds mX1_hashes mX1_next mX3_size mX4_size
  | 0, H, q, ai, ar, mX1_rounds, mX1_hashes, mX1_next, mX3_size, mX4_size, hp, pi, l, Sh, Dg, HH, er, fa, hp_, _, _, _ => by
    have := cnDf_b (H := H) G.2.1.2.1
    omega
  | p + 1, H, q, ai, ar, mX1_rounds, mX1_hashes, mX1_next, mX3_size, mX4_size, hp, pi, l, Sh, Dg, HH, er, fa, hp_, hq, hq2, eR => by
    have hn := G.2.1.2
    have eb := G.2.1.1
    have hhp := Sh.2.2.2.2.2.1
    have k14 := chX14 L (j := gn) ⟨Sh.2.2.2.2.2.2.1, by omega⟩
    rw [wCN_X1_makeHashes_68]
    refine ⟨fun w => absurd w (by decide), fun _ => ?_⟩
    refine CCN_h74 L Sh G HH Dg (fun a1 r1 s1 t1 pi1 l1 S1 D1 H1 H2 f1 => ⟨by omega, fun v ev ro ero => ?_⟩)
    have ero2 : ro (A 0 0) = q + 1 := by rw [ero, va_up_s, ev, er]
    have fa1 : ∀ a, chQ A gn a → a1 a = ai0 a := fun a ha => by rw [f1 a ha]; exact fa a ha
    have t4 := S1.1.2.2.2.1
    have t5 := S1.1.2.2.2.2.1
    rw [t4, t5]
    refine CCN_different L S1 eb hn (s := 1 - hp) (by omega) H2 (CCN_different L S1 eb hn (s := hp) (by omega) H1 ?_)
    rw [cnRo] at eR
    have Ssw : ∀ hs nx, hs (A 0 0) = mX1_next (A 0 0) → nx (A 0 0) = mX1_hashes (A 0 0) → chS r1 mX1_graph mX1_kept mX1_digest hs nx mX1_descriptions mX1_order mX1_begins mX1_numbers mX1_best mX1_row mX1_leastRow mX1_given mX1_form mX1_octets mX2_keys mX3_words mX3_block mX4_bytes A (1 - hp) pi1 gn := fun hs nx e1 e2 => by
      obtain ⟨⟨u1, u2, u3, u4, u5, u6⟩, v, w, y, z, h, h'⟩ := S1
      exact ⟨⟨u1, u2, u3, e1.trans u5, e2.trans (u4.trans (by rw [show 1 - (1 - hp) = hp by omega])), u6⟩, v, w, y, z, by omega, h'⟩
    refine ⟨fun le => ?_, fun le => ?_⟩
    · unfold wCN_X1_makeHashes_130
      refine ⟨fun _ => kOn_of S1.1.1 ⟨k14, ?_⟩, fun w => absurd rfl w⟩
      rw [eb]
      refine ⟨fun w o1 eo1 v1 ev1 hs ehs nx enx => ?_, fun w => ?_⟩
      · rw [if_pos (by omega)] at eR
        rw [wCN_X1_makeHashes_68]
        exact ⟨fun _ => hK2 a1 r1 ro hs nx s1 t1 (1 - hp) pi1 l1 (Ssw hs nx (by rw [ehs, va_up_s, ev1]) (by rw [enx, va_up_s, eo1])) D1 (by rw [← eR]; exact H2) (by rw [← eR]; exact ero2) fa1, fun w => absurd rfl w⟩
      · rw [if_neg (by omega), if_pos le] at eR
        exact hK1 a1 r1 ro mX1_hashes mX1_next s1 t1 hp pi1 l1 S1 D1 (by rw [← eR]; exact H1) (by rw [← eR]; exact ero2) fa1
    · have n2 : ¬ n < 2 := fun w => by
        rw [cnDf_2 ⟨hn.1, w⟩, cnDf_2 ⟨hn.1, w⟩] at le
        omega
      rw [if_neg n2, if_neg le] at eR
      unfold wCN_X1_makeHashes_130
      refine ⟨fun w => absurd w (by decide), fun _ o1 eo1 v1 ev1 hs ehs nx enx => ?_⟩
      exact CCN_h68 L G hK1 hK2 p _ (q + 1) a1 r1 ro hs nx s1 t1 (1 - hp) pi1 l1 (Ssw hs nx (by rw [ehs, va_up_s, ev1]) (by rw [enx, va_up_s, eo1])) D1 H2 ero2 fa1 (by omega) (by omega) (by omega) eR
theorem CCN_makeHashes {post : (Nat → Int → Int) → (Nat → Int → Option Nat) → (Nat → Int) → (Nat → Int) → (Nat → Option Nat) → (Nat → Option Nat) → (Nat → Int) → (Nat → Int) → (Nat → Int) → Prop} (L : Lab chK chLn kd an A g (chN gn)) (Sh : chS ar mX1_graph mX1_kept mX1_digest mX1_hashes mX1_next mX1_descriptions mX1_order mX1_begins mX1_numbers mX1_best mX1_row mX1_leastRow mX1_given mX1_form mX1_octets mX2_keys mX3_words mX3_block mX4_bytes A hp pi gn) (G : chG kd an al mX2_blanks mX2_count mX2_keys (A 14 gn) (A 13 gn) n m) (Dg : chD kd an ai mX3_words mX3_block mX3_size (A 2 0) (A 3 0) (A 4 0) l) (hd : (mX1_hashed (A 0 0) = 0 ∨ (mX1_hashed (A 0 0) = 1 ∧ chHd ai A hp (mX1_rounds (A 0 0)) (mX1_groups (A 0 0)) n (chL (al (A 13 gn)) m)))) (hp_ : ∀ ai' ar' hd' ro' hs' nx' g' s3 s4 hp' pi' l', chS ar' mX1_graph mX1_kept mX1_digest hs' nx' mX1_descriptions mX1_order mX1_begins mX1_numbers mX1_best mX1_row mX1_leastRow mX1_given mX1_form mX1_octets mX2_keys mX3_words mX3_block mX4_bytes A hp' pi' gn → chD kd an ai' mX3_words mX3_block s3 (A 2 0) (A 3 0) (A 4 0) l' → hd' (A 0 0) = 1 → chHd ai' A hp' (ro' (A 0 0)) (g' (A 0 0)) n (chL (al (A 13 gn)) m) → (∀ a, chQ A gn a → ai' a = ai a) → post ai' ar' hd' ro' hs' nx' g' s3 s4) : wpCN_X1_makeHashes post kd an ai al ar mX1_graph mX1_digest mX1_hashed mX1_rounds mX1_hashes mX1_next mX1_descriptions mX1_order mX1_begins mX1_groups mX2_blanks mX2_count mX2_keys mX3_words mX3_block mX3_size mX4_bytes mX4_size (A 0 0) := by
  have hn := G.2.1.2
  have eb := G.2.1.1
  have hhp := Sh.2.2.2.2.2.1
  have q10 : ∀ a, chQ A gn a → ∀ j, 0 ≤ j → j < 18 → a ≠ A 10 j := fun a ha j j0 j1 => ha.1 10 j (by decide) j0 j1
  unfold wpCN_X1_makeHashes
  refine ⟨fun h0 => kOn_of Sh.1.2.2.1 ⟨chX2 L, CCN_begin Dg (fun a1 s1 D1 f1 g1 => CCN_end D1 (by decide) (fun a2 s2 D2 f2 g2 => CCN_h24 L Sh eb hn D2 (fun a3 H3 f3 => fun ro ero => ?_)))⟩, fun h0 => ?_⟩
  · have D3 : chD kd an a3 mX3_words mX3_block s2 (A 2 0) (A 3 0) (A 4 0) (shPad []) := by
      obtain ⟨d1, d2, d3, d4, d5, d6⟩ := D2
      refine ⟨d1, d2, d3, d4, fun i i0 i1 => ?_, fun t t0 t1 => ?_⟩
      · rw [f3 (A 3 0) (fun j j0 j1 => L.ne ⟨Int.le_refl 0, show (0 : Int) < 1 by decide⟩ ⟨j0, show j < (18 : Int) from j1⟩ (Or.inl (by decide)))]; exact d5 i i0 i1
      · rw [f3 (A 4 0) (fun j j0 j1 => L.ne ⟨Int.le_refl 0, show (0 : Int) < 1 by decide⟩ ⟨j0, show j < (18 : Int) from j1⟩ (Or.inl (by decide)))]; exact d6 t t0 t1
    have fa3 : ∀ a, chQ A gn a → a3 a = ai a := fun a ha => by
      have n3 := ha.1 3 0 (by decide) (Int.le_refl 0) (show (0 : Int) < 1 by decide)
      have n4 := ha.1 4 0 (by decide) (Int.le_refl 0) (show (0 : Int) < 1 by decide)
      rw [f3 a (q10 a ha), f2 a n3 n4, f1 a n3 n4]
    have fin : ∀ ai' ar' ro' hs' nx' s3 s4 hp' pi' l', chS ar' mX1_graph mX1_kept mX1_digest hs' nx' mX1_descriptions mX1_order mX1_begins mX1_numbers mX1_best mX1_row mX1_leastRow mX1_given mX1_form mX1_octets mX2_keys mX3_words mX3_block mX4_bytes A hp' pi' gn → chD kd an ai' mX3_words mX3_block s3 (A 2 0) (A 3 0) (A 4 0) l' → chH ai' A hp' n (cnHa (chL (al (A 13 gn)) m) n).1 → ro' (A 0 0) = (cnHa (chL (al (A 13 gn)) m) n).2 → (∀ a, chQ A gn a → ai' a = ai a) → (fun a r o h x u v => wpCN_X1_makeGroups (fun a' g' => ∀ hd', hd' = va_up mX1_hashed (A 0 0) 1 → post a' r hd' o h x g' u v) kd an a r mX1_graph h mX1_order mX1_begins mX1_groups mX2_blanks (A 0 0)) ai' ar' ro' hs' nx' s3 s4 := fun ai' ar' ro' hs' nx' s3 s4 hp' pi' l' S' D' H' er fa => by
      refine CCN_makeGroups L S' eb hn H' (fun a5 g5 f5 _ O5 hd' ehd => ?_)
      have hhp' := S'.2.2.2.2.2.1
      have o10 : ∀ j, (0 ≤ j ∧ j < 18) → a5 (A 10 j) = ai' (A 10 j) := fun j hj => f5 _ (L.ne ⟨hj.1, show j < (18 : Int) from hj.2⟩ ⟨Int.le_refl 0, show (0 : Int) < 1 by decide⟩ (Or.inl (by decide))) (L.ne ⟨hj.1, show j < (18 : Int) from hj.2⟩ ⟨Int.le_refl 0, show (0 : Int) < 4 by decide⟩ (Or.inl (by decide)))
      have o34 : ∀ i, (i = 3 ∨ i = 4) → a5 (A i 0) = ai' (A i 0) := fun i hi => by
        rcases hi with y | y <;> subst y
        · exact f5 _ (L.ne ⟨Int.le_refl 0, show (0 : Int) < 1 by decide⟩ ⟨Int.le_refl 0, show (0 : Int) < 1 by decide⟩ (Or.inl (by decide))) (L.ne ⟨Int.le_refl 0, show (0 : Int) < 1 by decide⟩ ⟨Int.le_refl 0, show (0 : Int) < 4 by decide⟩ (Or.inl (by decide)))
        · exact f5 _ (L.ne ⟨Int.le_refl 0, show (0 : Int) < 1 by decide⟩ ⟨Int.le_refl 0, show (0 : Int) < 1 by decide⟩ (Or.inl (by decide))) (L.ne ⟨Int.le_refl 0, show (0 : Int) < 1 by decide⟩ ⟨Int.le_refl 0, show (0 : Int) < 4 by decide⟩ (Or.inl (by decide)))
      refine hp_ a5 ar' hd' ro' hs' nx' g5 s3 s4 hp' pi' l' S' ?_ (by rw [ehd, va_up_s]) ⟨fun c c0 c1 => ?_, er, O5⟩ (fun a ha => ?_)
      · obtain ⟨d1, d2, d3, d4, d5, d6⟩ := D'
        refine ⟨d1, d2, d3, d4, fun i i0 i1 => ?_, fun t t0 t1 => ?_⟩
        · rw [o34 3 (Or.inl rfl)]; exact d5 i i0 i1
        · rw [o34 4 (Or.inr rfl)]; exact d6 t t0 t1
      · rw [o10 _ (by omega)]; exact H' c c0 c1
      · rw [f5 a (ha.1 6 0 (by decide) (Int.le_refl 0) (show (0 : Int) < 1 by decide)) ha.2]; exact fa a ha
    exact ⟨_, CCN_h68 L G (R := cnHa (chL (al (A 13 gn)) m) n) fin fin 10 (fun _ => shDl []) 0 a3 ar ro mX1_hashes mX1_next s2 mX4_size hp pi (shPad []) Sh D3 H3 (by rw [ero, va_up_s]) fa3 (by have := cnDf_b (H := fun _ => shDl []) hn.1; omega) (by decide) (by decide) rfl⟩
  · rcases hd with w | ⟨w, h⟩
    · exact absurd w h0
    · exact hp_ ai ar mX1_hashed mX1_rounds mX1_hashes mX1_next mX1_groups mX3_size mX4_size hp pi l Sh Dg w h (fun _ _ => rfl)
end
