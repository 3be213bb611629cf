/-! CanonNames (room CN): how many namings; hash, rounds, first -/
section
variable {kd an : Nat → Nat} {ai ai' al al' : Nat → Int → Int} {ar ar' : Nat → Int → Option Nat} {mX1_graph mX1_kept mX1_digest mX1_hashes mX1_next mX1_descriptions mX1_order mX1_begins mX1_numbers mX1_best mX1_row mX1_leastRow mX1_given mX1_form mX1_octets mX2_keys mX3_words mX3_block mX4_bytes : Nat → Option Nat} {mX1_rounds mX1_hashed mX1_groups mX1_keptCount mX1_found mX1_many mX1_namedBlanks mX1_formCount mX1_ways mX1_wanted mX1_taken mX2_blanks mX2_count mX3_size mX4_size : Nat → Int} {A : Nat → Int → Nat} {g : Nat → Nat × Int} {gn hp n m b k c s i j x v r y z : Int} {pi : Int → Int} {D : Int → List Int} {H : Int → List Int} {l : List Int} {gc : Int}
theorem cnDf_n {H : Int → List Int} (hn : 0 ≤ n) : cnDf H n ≤ n := by
  have := cntI_ler (p := cnF H) (q := fun b => 1 ≤ b) (n + 1).toNat (fun i _ _ h => h.1)
  rw [cntI_1n hn] at this
  exact this
theorem cnSz_e {H : Int → List Int} (hb : 1 ≤ b ∧ b ≤ n) : cnHi H n b = cnLo H n b + cnSz H n (cnG H n b) := by
  unfold cnHi cnLo cnSz
  rw [← cntI_or _ (fun c c0 c1 w => by
    have e := cnG_i (H := H) (a := c) (b := b) ⟨w.1.1, by omega⟩ hb w.2.2
    exact w.1.2.2 e)]
  refine cntI_c (fun c c0 c1 => ⟨fun w => ?_, fun w => ?_⟩)
  · by_cases e : H c = H b
    · exact Or.inr ⟨w.1, (cnG_h e).1⟩
    · exact Or.inl ⟨w.1, w.2, e⟩
  · rcases w with w | w
    · exact ⟨w.1, w.2.1⟩
    · have e := cnG_i (H := H) (a := c) (b := b) ⟨w.1, by omega⟩ hb w.2
      exact ⟨w.1, by rw [e]; exact qLx_r _⟩
theorem cnE8_m : ∀ (d k : Nat), cnE8 k ≤ cnE8 (k + d) ∧ 1 ≤ cnE8 k
  | 0, k => ⟨Int.le_refl _, by
    induction k with
    | zero => decide
    | succ k ih => rw [cnE8]; omega⟩
  | d + 1, k => by
    obtain ⟨h1, h2⟩ := cnE8_m d k
    refine ⟨?_, h2⟩
    rw [show k + (d + 1) = (k + d) + 1 by omega, cnE8]
    omega
theorem CCN_ng15 {K : Int → Prop} {q w : Int} (e7 : mX1_begins (A 0 0) = some (A 7 0)) (k7 : kd (A 7 0) = 5 ∧ (an (A 7 0) : Int) = 9) (hq : 0 ≤ q ∧ q < 8) (hw : 0 ≤ w ∧ w ≤ 8) (ew : ai (A 7 0) (q + 1) - ai (A 7 0) q = w) (hc : 0 ≤ c ∧ c + w ≤ 8) (hx : 1 ≤ x ∧ x ≤ cnE8 c.toNat) (hK : 1 ≤ x * cnFc w.toNat → x * cnFc w.toNat ≤ cnE8 (c + w).toNat → K (x * cnFc w.toNat)) : ∃ fu : Nat, wCN_X1_namings_15 K (A 0 0) q kd an ai mX1_begins fu x 2 := by
  by_cases w0 : w = 0
  · refine ⟨1, ?_⟩
    rw [wCN_X1_namings_15]
    refine kOn_of e7 ⟨k7.1, by omega, by omega, by omega, by omega, fun _ => ?_, fun z => by omega⟩
    rw [w0] at hK
    have e : x * cnFc (0 : Int).toNat = x := Int.mul_one x
    rw [e] at hK
    exact hK hx.1 (by rw [Int.add_zero]; exact hx.2)
  refine wl2 (fun fu y t => wCN_X1_namings_15 K (A 0 0) q kd an ai mX1_begins fu y t) (fun y t => (2 ≤ t ∧ t ≤ w + 1) ∧ y = x * cnFc (t - 1).toNat ∧ 1 ≤ y ∧ y ≤ cnE8 (c + (t - 1)).toNat) (fun _ t => (w + 2 - t).toNat) ?_ x 2 ⟨by omega, ?_, hx.1, ?_⟩
  · rintro y t ⟨ht, ey, y0, y1⟩ fu ih
    rw [wCN_X1_namings_15]
    refine kOn_of e7 ⟨k7.1, by omega, by omega, by omega, by omega, fun z => ?_, fun z => ?_⟩
    · have et : t - 1 = w := by omega
      rw [et] at ey y1
      rw [ey] at y0 y1 ⊢
      exact hK y0 y1
    · have e8 := cnE8_8 (c + (t - 1)).toNat (by omega)
      have le : y * t ≤ y * 8 := Int.mul_le_mul_of_nonneg_left (by omega) (by omega)
      have ge : y * 1 ≤ y * t := Int.mul_le_mul_of_nonneg_left (by omega) (by omega)
      refine ⟨by unfold zL; omega, fun y' ey' => ⟨by omega, fun t' et' => ?_⟩⟩
      rw [ey', et']
      refine ih (y * t) (t + 1) ⟨by omega, ?_, by omega, ?_⟩ (by omega)
      · rw [show (t + 1 - 1).toNat = (t - 1).toNat + 1 by omega, cnFc, ← Int.mul_assoc, ← ey, show (((t - 1).toNat : Nat) : Int) + 1 = t by omega]
      · rw [show (c + (t + 1 - 1)).toNat = (c + (t - 1)).toNat + 1 by omega, cnE8]
        omega
  · show x = x * cnFc ((2 : Int) - 1).toNat
    have : cnFc ((2 : Int) - 1).toNat = 1 := by decide
    rw [this, Int.mul_one]
  · have := (cnE8_m 1 c.toNat).1
    rw [show (c + (2 - 1)).toNat = c.toNat + 1 by omega]
    omega
theorem CCN_namings {post : Int → Prop} (e7 : mX1_begins (A 0 0) = some (A 7 0)) (k7 : kd (A 7 0) = 5 ∧ (an (A 7 0) : Int) = 9) (hn : 0 ≤ n ∧ n ≤ 8) {o : Int → Int} (O : chO H n o (ai (A 7 0)) (mX1_groups (A 0 0))) (hp_ : post (cnNs H n)) : wpCN_X1_namings post kd an ai mX1_begins mX1_groups (A 0 0) := by
  obtain ⟨_, eg, O3, O4⟩ := O
  have gn8 := cnDf_n (H := H) hn.1
  have g0 := (cnDf_b (H := H) hn.1).1
  -- sizes and places of a group
  have grp : ∀ q, 0 ≤ q → q < mX1_groups (A 0 0) → ai (A 7 0) (q + 1) - ai (A 7 0) q = cnSz H n q ∧ 0 ≤ ai (A 7 0) q ∧ 0 ≤ cnSz H n q ∧ ai (A 7 0) (q + 1) ≤ n := fun q q0 q1 => by
    obtain ⟨b, hb, e⟩ := O4 q q0 q1
    obtain ⟨a1, a2⟩ := O3 b hb.1 hb.2
    have s := cnSz_e (H := H) hb
    rw [e] at a1 a2 s
    have l0 := (cntI_b (fun c => 1 ≤ c ∧ cnL H c b) (n + 1).toNat).1
    have s0 := (cntI_b (fun c => 1 ≤ c ∧ cnG H n c = q) (n + 1).toNat).1
    have hi := cntI_ler (p := fun c => 1 ≤ c ∧ qLx (H c) (H b)) (q := fun c => 1 ≤ c) (n + 1).toNat (fun i _ _ h => h.1)
    rw [cntI_1n hn.1] at hi
    have hi2 : cnHi H n b ≤ n := hi
    have l02 : 0 ≤ cnLo H n b := l0
    have s02 : 0 ≤ cnSz H n q := s0
    omega
  unfold wpCN_X1_namings
  refine wl2 (fun fu x q => wCN_X1_namings_4 (fun x => post x) (A 0 0) kd an ai mX1_begins mX1_groups fu x q) (fun x q => (0 ≤ q ∧ q ≤ mX1_groups (A 0 0)) ∧ x = cnPd (fun g => cnFc (cnSz H n g).toNat) q.toNat ∧ 1 ≤ x ∧ ((q = 0 ∧ x = 1) ∨ (0 < q ∧ x ≤ cnE8 (ai (A 7 0) (q - 1 + 1)).toNat))) (fun _ q => (mX1_groups (A 0 0) - q).toNat) ?_ 1 0 ⟨by omega, rfl, by decide, Or.inl ⟨rfl, rfl⟩⟩
  rintro x q ⟨hq, ex, x0, x1⟩ fu ih
  rw [wCN_X1_namings_4]
  refine ⟨fun z => ?_, fun z => ?_⟩
  · have e : q = cnDf H n := by omega
    rw [ex, e]
    exact hp_
  · obtain ⟨a1, a2, a3, a4⟩ := grp q hq.1 (by omega)
    have hx : x ≤ cnE8 (ai (A 7 0) q).toNat := by
      rcases x1 with ⟨_, y⟩ | ⟨y, y2⟩
      · have := (cnE8_m 0 (ai (A 7 0) q).toNat).2
        omega
      · rw [show q - 1 + 1 = q by omega] at y2
        exact y2
    refine CCN_ng15 (c := ai (A 7 0) q) (w := cnSz H n q) e7 k7 (by omega) (by omega) a1 (by omega) ⟨x0, hx⟩ (fun y0 y1 => ⟨by omega, fun q' eq => ?_⟩)
    rw [eq]
    refine ih _ (q + 1) ⟨by omega, ?_, y0, Or.inr ⟨by omega, ?_⟩⟩ (by omega)
    · rw [show (q + 1).toNat = q.toNat + 1 by omega, cnPd, ← ex, show ((q.toNat : Nat) : Int) = q by omega]
    · rw [show q + 1 - 1 + 1 = q + 1 by omega]
      rw [show ai (A 7 0) q + cnSz H n q = ai (A 7 0) (q + 1) by omega] at y1
      exact y1
theorem CCN_hash {post : Int → (Nat → Int → Int) → (Nat → Int → Option Nat) → (Nat → Int) → (Nat → Int) → (Nat → Option Nat) → (Nat → Option Nat) → (Nat → Int) → (Nat → Int) → (Nat → Int) → Prop} (L : Lab chK chLn kd an A g (chN gn)) (Sh : chS ar mX1_graph mX1_kept mX1_digest mX1_hashes mX1_next mX1_descriptions mX1_order mX1_begins mX1_numbers mX1_best mX1_row mX1_leastRow mX1_given mX1_form mX1_octets mX2_keys mX3_words mX3_block mX4_bytes A hp pi gn) (G : chG kd an al mX2_blanks mX2_count mX2_keys (A 14 gn) (A 13 gn) n m) (Dg : chD kd an ai mX3_words mX3_block mX3_size (A 2 0) (A 3 0) (A 4 0) l) (hd : (mX1_hashed (A 0 0) = 0 ∨ (mX1_hashed (A 0 0) = 1 ∧ chHd ai A hp (mX1_rounds (A 0 0)) (mX1_groups (A 0 0)) n (chL (al (A 13 gn)) m)))) (h0 : ¬ ((1 ≤ b ∧ b ≤ n) ∧ (0 ≤ i ∧ i ≤ 7)) → post 0 ai ar mX1_hashed mX1_rounds mX1_hashes mX1_next mX1_groups mX3_size mX4_size) (h1 : ((1 ≤ b ∧ b ≤ n) ∧ (0 ≤ i ∧ i ≤ 7)) → ∀ ai' ar' hd' ro' hs' nx' g' s3 s4 hp' pi' l', chS ar' mX1_graph mX1_kept mX1_digest hs' nx' mX1_descriptions mX1_order mX1_begins mX1_numbers mX1_best mX1_row mX1_leastRow mX1_given mX1_form mX1_octets mX2_keys mX3_words mX3_block mX4_bytes A hp' pi' gn → chD kd an ai' mX3_words mX3_block s3 (A 2 0) (A 3 0) (A 4 0) l' → hd' (A 0 0) = 1 → chHd ai' A hp' (ro' (A 0 0)) (g' (A 0 0)) n (chL (al (A 13 gn)) m) → (∀ a, chQ A gn a → ai' a = ai a) → post (w32 (((cnHa (chL (al (A 13 gn)) m) n).1 b).getD i.toNat 0)) ai' ar' hd' ro' hs' nx' g' s3 s4) : wpCN_X1_hash post kd an ai al ar mX1_graph mX1_digest mX1_hashed mX1_rounds mX1_hashes mX1_next mX1_descriptions mX1_order mX1_begins mX1_groups mX2_blanks mX2_count mX2_keys mX3_words mX3_block mX3_size mX4_bytes mX4_size (A 0 0) b i := by
  have hn := G.2.1.2
  have eb := G.2.1.1
  have k14 := chX14 L (j := gn) ⟨Sh.2.2.2.2.2.2.1, by omega⟩
  unfold wpCN_X1_hash
  refine ⟨fun w => h0 (by omega), fun w => kOn_of Sh.1.1 ⟨k14, ?_⟩⟩
  rw [eb]
  refine ⟨fun w2 => h0 (by omega), fun w2 => ⟨fun w3 => h0 (by omega), fun w3 => ⟨fun w4 => ?_, fun w4 => h0 (by omega)⟩⟩⟩
  refine CCN_makeHashes L Sh G Dg hd (fun ai' ar' hd' ro' hs' nx' g' s3 s4 hp' pi' l' S' D' e' H' f' => ?_)
  have hhp := S'.2.2.2.2.2.1
  obtain ⟨k9, l9⟩ := chX9 L (j := hp') (by omega)
  have hc : 0 ≤ 9 * hp' + b ∧ 9 * hp' + b < 18 := by omega
  obtain ⟨kr, lr⟩ := chX10 L hc
  refine kOn_of S'.1.2.2.2.1 ⟨k9, by omega, fun r er => ?_⟩
  rw [er, S'.2.2.2.1.2.1 hp' b (by omega) (by omega)]
  refine kOn_of rfl ⟨kr, by omega, ?_⟩
  rw [((H'.1 b (by omega) (by omega)).2 i (by omega) (by omega)).1]
  exact h1 (by omega) ai' ar' hd' ro' hs' nx' g' s3 s4 hp' pi' l' S' D' e' H' f'
theorem CCN_rounds {post : Int → (Nat → Int → Int) → (Nat → Int → Option Nat) → (Nat → Int) → (Nat → Int) → (Nat → Option Nat) → (Nat → Option Nat) → (Nat → Int) → (Nat → Int) → (Nat → Int) → Prop} (L : Lab chK chLn kd an A g (chN gn)) (Sh : chS ar mX1_graph mX1_kept mX1_digest mX1_hashes mX1_next mX1_descriptions mX1_order mX1_begins mX1_numbers mX1_best mX1_row mX1_leastRow mX1_given mX1_form mX1_octets mX2_keys mX3_words mX3_block mX4_bytes A hp pi gn) (G : chG kd an al mX2_blanks mX2_count mX2_keys (A 14 gn) (A 13 gn) n m) (Dg : chD kd an ai mX3_words mX3_block mX3_size (A 2 0) (A 3 0) (A 4 0) l) (hd : (mX1_hashed (A 0 0) = 0 ∨ (mX1_hashed (A 0 0) = 1 ∧ chHd ai A hp (mX1_rounds (A 0 0)) (mX1_groups (A 0 0)) n (chL (al (A 13 gn)) m)))) (h1 : ∀ ai' ar' hd' ro' hs' nx' g' s3 s4 hp' pi' l', chS ar' mX1_graph mX1_kept mX1_digest hs' nx' mX1_descriptions mX1_order mX1_begins mX1_numbers mX1_best mX1_row mX1_leastRow mX1_given mX1_form mX1_octets mX2_keys mX3_words mX3_block mX4_bytes A hp' pi' gn → chD kd an ai' mX3_words mX3_block s3 (A 2 0) (A 3 0) (A 4 0) l' → hd' (A 0 0) = 1 → chHd ai' A hp' (ro' (A 0 0)) (g' (A 0 0)) n (chL (al (A 13 gn)) m) → (∀ a, chQ A gn a → ai' a = ai a) → post (cnHa (chL (al (A 13 gn)) m) n).2 ai' ar' hd' ro' hs' nx' g' s3 s4) : wpCN_X1_rounds post kd an ai al ar mX1_graph mX1_digest mX1_hashed mX1_rounds mX1_hashes mX1_next mX1_descriptions mX1_order mX1_begins mX1_groups mX2_blanks mX2_count mX2_keys mX3_words mX3_block mX3_size mX4_bytes mX4_size (A 0 0) := by
  unfold wpCN_X1_rounds
  refine CCN_makeHashes L Sh G Dg hd (fun ai' ar' hd' ro' hs' nx' g' s3 s4 hp' pi' l' S' D' e' H' f' => ?_)
  rw [H'.2.1]
  exact h1 ai' ar' hd' ro' hs' nx' g' s3 s4 hp' pi' l' S' D' e' H' f'
theorem chO.at (hn : 0 ≤ n) {o bg : Int → Int} (O : chO H n o bg gc) {q : Int} (hq : 0 ≤ q ∧ q < gc) (hi : 0 ≤ i ∧ i < bg (q + 1) - bg q) : (0 ≤ bg q + i ∧ bg q + i < n) ∧ cnFi H n q i (o (bg q + i)) := by
  obtain ⟨O1, eg, O3, O4⟩ := O
  obtain ⟨b, hb, e⟩ := O4 q hq.1 hq.2
  obtain ⟨a1, a2⟩ := O3 b hb.1 hb.2
  have s := cnSz_e (H := H) hb
  rw [e] at a1 a2 s
  have l0 : 0 ≤ cnLo H n b := (cntI_b (fun c => 1 ≤ c ∧ cnL H c b) (n + 1).toNat).1
  have hin := cntI_ler (p := fun c => 1 ≤ c ∧ qLx (H c) (H b)) (q := fun c => 1 ≤ c) (n + 1).toNat (fun i _ _ h => h.1)
  rw [cntI_1n hn] at hin
  have hi2 : cnHi H n b ≤ n := hin
  have hk : 0 ≤ bg q + i ∧ bg q + i < n := by omega
  refine ⟨hk, Or.inl ?_⟩
  have pv := O1.1.1 (bg q + i + 1) (by omega) (by omega)
  have ct := O1.ct (i := bg q + i + 1) ⟨by omega, by omega⟩
  dsimp only at pv ct
  rw [show bg q + i + 1 - 1 = bg q + i by omega] at pv ct
  -- v lies in the group: as many come before it
  have eH : H (o (bg q + i)) = H b := by
    by_cases y : H (o (bg q + i)) = H b
    · exact y
    · exfalso
      rcases qLx_tot (H (o (bg q + i))) (H b) with w | w
      · have le := cntI_ltr (p := fun c => 1 ≤ c ∧ cnB H c (o (bg q + i))) (q := fun c => 1 ≤ c ∧ cnL H c b) (j := o (bg q + i)) (n + 1).toNat (fun c _ _ z => ⟨z.1, qLx_t (cnB_q z.2) w, fun e2 => by
          have := cnB_q z.2
          rw [e2] at this
          exact y (qLx_a w this)⟩) (by omega) (by omega) ⟨pv.1, w, y⟩ (fun z => cnB_n z.2)
        have le2 : cntI (fun c => 1 ≤ c ∧ cnB H c (o (bg q + i))) (n + 1).toNat + 1 ≤ cnLo H n b := le
        omega
      · have le := cntI_ler (p := fun c => 1 ≤ c ∧ qLx (H c) (H b)) (q := fun c => 1 ≤ c ∧ cnB H c (o (bg q + i))) (n + 1).toNat (fun c _ _ z => ⟨z.1, Or.inl ⟨qLx_t z.2 w, fun e2 => by
          have := z.2
          rw [e2] at this
          exact y (qLx_a this w)⟩⟩)
        have le2 : cnHi H n b ≤ cntI (fun c => 1 ≤ c ∧ cnB H c (o (bg q + i))) (n + 1).toNat := le
        omega
  obtain ⟨eg1, el1, _⟩ := cnG_h (n := n) eH
  refine ⟨pv, eg1.trans e, ?_⟩
  have sp : cntI (fun c => 1 ≤ c ∧ cnB H c (o (bg q + i))) (n + 1).toNat = cnLo H n (o (bg q + i)) + cntI (fun c => (1 ≤ c ∧ cnG H n c = q) ∧ c < o (bg q + i)) (n + 1).toNat := by
    unfold cnLo
    rw [← cntI_or _ (fun c c0 c1 w => by
      have e2 := cnG_i (H := H) (a := c) (b := b) ⟨w.1.1, by omega⟩ hb (w.2.1.2.trans e.symm)
      exact w.1.2.2 (e2.trans eH.symm))]
    refine cntI_c (fun c c0 c1 => ⟨fun w => ?_, fun w => ?_⟩)
    · rcases w.2 with z | z
      · exact Or.inl ⟨w.1, z⟩
      · exact Or.inr ⟨⟨w.1, ((cnG_h z.1).1.trans eg1).trans e⟩, z.2⟩
    · rcases w with z | z
      · exact ⟨z.1, Or.inl z.2⟩
      · have e2 := cnG_i (H := H) (a := c) (b := b) ⟨z.1.1, by omega⟩ hb (z.1.2.trans e.symm)
        exact ⟨z.1.1, Or.inr ⟨e2.trans eH.symm, z.2⟩⟩
  have cut : cntI (fun c => 1 ≤ c ∧ cnG H n c = q) (o (bg q + i)).toNat = cntI (fun c => (1 ≤ c ∧ cnG H n c = q) ∧ c < o (bg q + i)) (n + 1).toNat := by
    rw [← cntI_up (p := fun c => (1 ≤ c ∧ cnG H n c = q) ∧ c < o (bg q + i)) (n := (o (bg q + i)).toNat) (m := (n + 1).toNat) (by omega) (fun c c0 c1 w => by omega)]
    exact cntI_c (fun c c0 c1 => ⟨fun w => ⟨w, by omega⟩, fun w => w.1⟩)
  rw [cut]
  omega
theorem CCN_first {post : Int → (Nat → Int → Int) → (Nat → Int → Option Nat) → (Nat → Int) → (Nat → Int) → (Nat → Option Nat) → (Nat → Option Nat) → (Nat → Int) → (Nat → Int) → (Nat → Int) → Prop} (L : Lab chK chLn kd an A g (chN gn)) (Sh : chS ar mX1_graph mX1_kept mX1_digest mX1_hashes mX1_next mX1_descriptions mX1_order mX1_begins mX1_numbers mX1_best mX1_row mX1_leastRow mX1_given mX1_form mX1_octets mX2_keys mX3_words mX3_block mX4_bytes A hp pi gn) (G : chG kd an al mX2_blanks mX2_count mX2_keys (A 14 gn) (A 13 gn) n m) (Dg : chD kd an ai mX3_words mX3_block mX3_size (A 2 0) (A 3 0) (A 4 0) l) (hd : (mX1_hashed (A 0 0) = 0 ∨ (mX1_hashed (A 0 0) = 1 ∧ chHd ai A hp (mX1_rounds (A 0 0)) (mX1_groups (A 0 0)) n (chL (al (A 13 gn)) m)))) (hr : zR k) (h1 : ∀ v, cnFi (cnHa (chL (al (A 13 gn)) m) n).1 n k i v → ∀ ai' ar' hd' ro' hs' nx' g' s3 s4 hp' pi' l', chS ar' mX1_graph mX1_kept mX1_digest hs' nx' mX1_descriptions mX1_order mX1_begins mX1_numbers mX1_best mX1_row mX1_leastRow mX1_given mX1_form mX1_octets mX2_keys mX3_words mX3_block mX4_bytes A hp' pi' gn → chD kd an ai' mX3_words mX3_block s3 (A 2 0) (A 3 0) (A 4 0) l' → hd' (A 0 0) = 1 → chHd ai' A hp' (ro' (A 0 0)) (g' (A 0 0)) n (chL (al (A 13 gn)) m) → (∀ a, chQ A gn a → ai' a = ai a) → post v ai' ar' hd' ro' hs' nx' g' s3 s4) : wpCN_X1_first post kd an ai al ar mX1_graph mX1_digest mX1_hashed mX1_rounds mX1_hashes mX1_next mX1_descriptions mX1_order mX1_begins mX1_groups mX2_blanks mX2_count mX2_keys mX3_words mX3_block mX3_size mX4_bytes mX4_size (A 0 0) k i := by
  have hn := G.2.1.2
  unfold wpCN_X1_first
  refine CCN_makeHashes L Sh G Dg hd (fun ai' ar' hd' ro' hs' nx' g' s3 s4 hp' pi' l' S' D' e' H' f' => ?_)
  have h2 := fun v hv => h1 v hv ai' ar' hd' ro' hs' nx' g' s3 s4 hp' pi' l' S' D' e' H' f'
  obtain ⟨H1, H2, H3⟩ := H'
  have eg := H3.2.1
  have no : ¬ (0 ≤ i ∧ i < cnSz (cnHa (chL (al (A 13 gn)) m) n).1 n k) → cnFi (cnHa (chL (al (A 13 gn)) m) n).1 n k i (-1) := fun w => Or.inr ⟨rfl, w⟩
  have out : ¬ (0 ≤ k ∧ k < g' (A 0 0)) → ¬ (0 ≤ i ∧ i < cnSz (cnHa (chL (al (A 13 gn)) m) n).1 n k) := fun w => by
    rw [cnSz_0 hn.1 (by rw [← eg]; exact w)]
    omega
  obtain ⟨k6, l6⟩ := chX6 L
  obtain ⟨k7, l7⟩ := chX7 L (j := 0) (by decide)
  have gn8 := cnDf_n (H := (cnHa (chL (al (A 13 gn)) m) n).1) hn.1
  refine ⟨fun w => h2 (-1) (no (out (by omega))), fun w => ⟨fun w2 => h2 (-1) (no (out (by omega))), fun w2 => ⟨fun w3 => h2 (-1) (no (by omega)), fun w3 => ?_⟩⟩⟩
  obtain ⟨b, hb, e⟩ := H3.2.2.2 k (by omega) (by omega)
  obtain ⟨a1, a2⟩ := H3.2.2.1 b hb.1 hb.2
  have s := cnSz_e (H := (cnHa (chL (al (A 13 gn)) m) n).1) hb
  rw [e] at a1 a2 s
  have l0 : 0 ≤ cnLo (cnHa (chL (al (A 13 gn)) m) n).1 n b := (cntI_b _ (n + 1).toNat).1
  have hin := cntI_ler (p := fun c => 1 ≤ c ∧ qLx ((cnHa (chL (al (A 13 gn)) m) n).1 c) ((cnHa (chL (al (A 13 gn)) m) n).1 b)) (q := fun c => 1 ≤ c) (n + 1).toNat (fun i _ _ h => h.1)
  rw [cntI_1n hn.1] at hin
  have hi2 : cnHi (cnHa (chL (al (A 13 gn)) m) n).1 n b ≤ n := hin
  have hi0 : 0 ≤ cnHi (cnHa (chL (al (A 13 gn)) m) n).1 n b := (cntI_b _ (n + 1).toNat).1
  have lo2 : cnLo (cnHa (chL (al (A 13 gn)) m) n).1 n b ≤ n := by
    have s0 : 0 ≤ cnSz (cnHa (chL (al (A 13 gn)) m) n).1 n k := (cntI_b _ (n + 1).toNat).1
    omega
  refine kOn_of S'.2.1.2.1 ⟨k7, by omega, by omega, by omega, by omega, fun w4 => ?_, fun w4 => h2 (-1) (no (by omega))⟩
  obtain ⟨hk, F⟩ := H3.at hn.1 (q := k) (i := i) (by omega) (by omega)
  exact kOn_of S'.2.1.1 ⟨k6, by omega, by omega, h2 _ F⟩
end
