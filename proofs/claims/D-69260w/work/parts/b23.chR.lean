/-! CanonNames (room CN): the name of a graph -/
section
variable {kd an : Nat → Nat} {ai ai' al al' : Nat → Int → Int} {ar ar' : Nat → Int → Option Nat} {mX1_graph mX1_kept mX1_digest mX1_hashes mX1_next mX1_descriptions mX1_order mX1_begins mX1_numbers mX1_best mX1_row mX1_leastRow mX1_given mX1_form mX1_octets mX2_keys mX3_words mX3_block mX4_bytes : Nat → Option Nat} {mX1_rounds mX1_hashed mX1_groups mX1_keptCount mX1_found mX1_many mX1_namedBlanks mX1_formCount mX1_ways mX1_wanted mX1_taken mX2_blanks mX2_count mX3_size mX4_size : Nat → Int} {A : Nat → Int → Nat} {g : Nat → Nat × Int} {gn hp n m b k c s i j x v r y z : Int} {pi : Int → Int} {D : Int → List Int} {H : Int → List Int} {l : List Int} {gc : Int} {o bg f : Int → Int}
/-- there is a naming: the blanks in order -/
theorem chO.ex (hn : 0 ≤ n) (O : chO H n o bg gc) : ∃ t, cnPm n t ∧ cnNa H n (cnAt t) := by
  have ch : ∀ b : Int, ∃ j : Int, (1 ≤ b ∧ b ≤ n) → (0 ≤ j ∧ j < n) ∧ o j = b := fun b => by
    by_cases hb : 1 ≤ b ∧ b ≤ n
    · obtain ⟨j, hj⟩ := O.on hb
      exact ⟨j, fun _ => hj⟩
    · exact ⟨0, fun w => absurd w hb⟩
  have key : ∀ b, 1 ≤ b → b ≤ n → (0 ≤ Classical.choose (ch b) ∧ Classical.choose (ch b) < n) ∧ o (Classical.choose (ch b)) = b := fun b b0 b1 => Classical.choose_spec (ch b) ⟨b0, b1⟩
  have I : cnIn n (fun b => Classical.choose (ch b) + 1) := ⟨fun b b0 b1 => by
    have := key b b0 b1
    dsimp only
    omega, fun b c b0 bc c1 e => by
    have k1 := key b b0 (by omega)
    have k2 := key c (by omega) c1
    dsimp only at e
    have e2 : Classical.choose (ch b) = Classical.choose (ch c) := by omega
    have e3 := k1.2
    rw [e2, k2.2] at e3
    omega⟩
  refine ⟨aF (fun b => Classical.choose (ch b) + 1) 1 n.toNat, (cnPm_f hn).2 I, fun b b0 b1 => ?_⟩
  rw [cnAt_f ⟨b0, b1⟩]
  obtain ⟨k1, k2⟩ := key b b0 b1
  have p := (O.pos k1).2
  rw [k2] at p
  omega
theorem CCN_n27 {K : (Nat → Int → Int) → Prop} (e7 : mX1_numbers (A 0 0) = some (A 7 1)) (k7 : kd (A 7 1) = 5 ∧ (an (A 7 1) : Int) = 9) (hK : ∀ ai', (∀ a, a ≠ A 7 1 → ai' a = ai a) → (∀ b, 0 ≤ b → b ≤ 8 → ai' (A 7 1) b = 0) → K ai') : ∃ fu : Nat, wCN_X1_name_27 K (A 0 0) kd an mX1_numbers fu 0 ai := by
  refine wl2 (fun fu i q => wCN_X1_name_27 K (A 0 0) kd an mX1_numbers fu i q) (fun i q => (0 ≤ i ∧ i ≤ 9) ∧ (∀ a, a ≠ A 7 1 → q a = ai a) ∧ ∀ b, 0 ≤ b → b < i → q (A 7 1) b = 0) (fun i _ => (9 - i).toNat) ?_ 0 ai ⟨by omega, fun _ _ => rfl, fun b b0 b1 => by omega⟩
  rintro i q ⟨hi, q0, q1⟩ fu ih
  rw [wCN_X1_name_27]
  refine ⟨fun z => hK q q0 (fun b b0 b1 => q1 b b0 (by omega)), fun z => kOn_of e7 ⟨k7.1, by omega, fun a2 ea => ⟨by omega, fun i' ei => ?_⟩⟩⟩
  rw [ei]
  refine ih (i + 1) a2 ⟨by omega, fun a na => by rw [ea, va_up_n na]; exact q0 a na, fun b b0 b1 => ?_⟩ (by omega)
  rw [ea, va_up_s, updI_e]
  by_cases y : b = i
  · rw [if_pos y]
  · rw [if_neg y]; exact q1 b b0 (by omega)
theorem CCN_n115 {K : (Nat → Int → Int) → (Nat → Int) → Prop} (e2 : mX1_digest (A 0 0) = some (A 2 0)) (k2 : kd (A 2 0) = 3) (e8 : mX1_form (A 0 0) = some (A 8 2)) (k8 : kd (A 8 2) = 6 ∧ (an (A 8 2) : Int) = 40) (ec : mX1_formCount (A 0 0) = m) (hm : 0 ≤ m ∧ m ≤ 40) (hn : n ≤ 8) (ok : ∀ j, 0 ≤ j → j < m → cnOk n (al (A 8 2) j)) (Dg : chD kd an ai mX3_words mX3_block mX3_size (A 2 0) (A 3 0) (A 4 0) []) (hK : ∀ ai' s' l', chD kd an ai' mX3_words mX3_block s' (A 2 0) (A 3 0) (A 4 0) l' → l'.length ≤ 480 → (∀ a, a ≠ A 3 0 → a ≠ A 4 0 → ai' a = ai a) → K ai' s') : ∃ fu : Nat, wCN_X1_name_115 K (A 0 0) kd an al mX1_digest mX1_formCount mX1_form mX3_words mX3_block fu 0 ai mX3_size := by
  refine wl3 (fun fu i a s => wCN_X1_name_115 K (A 0 0) kd an al mX1_digest mX1_formCount mX1_form mX3_words mX3_block fu i a s) (fun i a s => (0 ≤ i ∧ i ≤ m) ∧ (∀ c, c ≠ A 3 0 → c ≠ A 4 0 → a c = ai c) ∧ ∃ l', chD kd an a mX3_words mX3_block s (A 2 0) (A 3 0) (A 4 0) l' ∧ (l'.length : Int) = 12 * i) (fun i _ _ => (m - i).toNat) ?_ 0 ai mX3_size ⟨by omega, fun _ _ _ => rfl, [], Dg, rfl⟩
  rintro i a s ⟨hi, fa, l', D, el⟩ fu ih
  rw [wCN_X1_name_115, ec]
  refine ⟨fun z => hK a s l' D (by omega) fa, fun z => ?_⟩
  refine wl3 (fun fu k a s => wCN_X1_name_126 _ (A 0 0) i kd an al mX1_digest mX1_form mX3_words mX3_block fu k a s) (fun k a s => (0 ≤ k ∧ k ≤ 3) ∧ (∀ c, c ≠ A 3 0 → c ≠ A 4 0 → a c = ai c) ∧ ∃ l', chD kd an a mX3_words mX3_block s (A 2 0) (A 3 0) (A 4 0) l' ∧ (l'.length : Int) = 12 * i + 4 * k) (fun k _ _ => (3 - k).toNat) ?_ 0 a s ⟨by omega, fa, l', D, by omega⟩
  rintro k a s ⟨hk, fa, l', D, el⟩ fu2 ih2
  rw [wCN_X1_name_126]
  refine ⟨fun w => ⟨by omega, fun i' ei => ?_⟩, fun w => kOn_of e8 ⟨k8.1, by omega, CCN_point hn (ok i hi.1 (by omega)) (by omega) (kOn_of e2 ⟨k2, ?_⟩)⟩⟩
  · rw [ei]
    exact ih (i + 1) a s ⟨by omega, fa, l', D, by omega⟩ (by omega)
  · have okp := ok i hi.1 (by omega)
    have b : zR ((cnQ3 (cnDk (al (A 8 2) i))).getD k.toNat 0) := by
      obtain ⟨t1, t2, t3⟩ := okp.2
      have b1 := cnPt_b hn t1
      have b2 := cnPt_b hn t2
      have b3 := cnPt_b hn t3
      have : k = 0 ∨ k = 1 ∨ k = 2 := by omega
      rcases this with y | y | y <;> subst y
      · show zR (cnDk (al (A 8 2) i)).1
        omega
      · show zR (cnDk (al (A 8 2) i)).2.1
        omega
      · show zR (cnDk (al (A 8 2) i)).2.2
        omega
    have e : (cnQ3 (cnDk (al (A 8 2) i))).getD k.toNat 0 = w32 ((cnQ3 (cnDk (al (A 8 2) i))).getD k.toNat 0 % 4294967296) := by
      rw [w32_mod, w32_id b]
    rw [e]
    refine CCN_addWord D (by omega) (zU_md _) (fun a2 s2 D2 f2 _ => ⟨by omega, fun k' ek => ?_⟩)
    rw [ek]
    refine ih2 (k + 1) a2 s2 ⟨by omega, fun c n3 n4 => by rw [f2 c n3 n4]; exact fa c n3 n4, _, D2, ?_⟩ (by omega)
    rw [List.length_append, shWd_len]
    omega
theorem CCN_n171 {K : (Nat → Int → Int) → Prop} (e2 : mX1_digest (A 0 0) = some (A 2 0)) (k2 : kd (A 2 0) = 3) (e3 : mX3_words (A 2 0) = some (A 3 0)) (k3 : kd (A 3 0) = 5 ∧ (an (A 3 0) : Int) = 8) (e15 : mX1_octets (A 0 0) = some (A 15 0)) (k15 : kd (A 15 0) = 7 ∧ (an (A 15 0) : Int) = 32) (hK : ∀ ai', (∀ a, a ≠ A 15 0 → ai' a = ai a) → K ai') : ∃ fu : Nat, wCN_X1_name_171 K (A 0 0) kd an mX1_digest mX1_octets mX3_words fu 0 ai := by
  refine wl2 (fun fu i q => wCN_X1_name_171 K (A 0 0) kd an mX1_digest mX1_octets mX3_words fu i q) (fun i q => (0 ≤ i ∧ i ≤ 32) ∧ ∀ a, a ≠ A 15 0 → q a = ai a) (fun i _ => (32 - i).toNat) ?_ 0 ai ⟨by omega, fun _ _ => rfl⟩
  rintro i q ⟨hi, q0⟩ fu ih
  rw [wCN_X1_name_171]
  refine ⟨fun z => hK q q0, fun z => kOn_of e2 ⟨k2, kOn_of e3 ⟨k3.1, by omega, by omega, by omega, fun v ev => kOn_of e15 ⟨k15.1, by omega, by rw [ev]; exact (w8_m _).2, fun a2 ea => ⟨by omega, fun i' ei => ?_⟩⟩⟩⟩⟩
  rw [ei]
  exact ih (i + 1) a2 ⟨by omega, fun a na => by rw [ea, va_up_n na]; exact q0 a na⟩ (by omega)
theorem CCN_name {post : Int → (Nat → Int → Int) → (Nat → Int → Int) → (Nat → Int → Option Nat) → (Nat → Int) → (Nat → Int) → (Nat → Option Nat) → (Nat → Option Nat) → (Nat → Int) → (Nat → Int) → (Nat → Int) → (Nat → Int) → (Nat → Int) → (Nat → Int) → (Nat → Int) → Prop} (L : Lab chK chLn kd an A g (chN gn)) (Sh : chS ar mX1_graph mX1_kept mX1_digest mX1_hashes mX1_next mX1_descriptions mX1_order mX1_begins mX1_numbers mX1_best mX1_row mX1_leastRow mX1_given mX1_form mX1_octets mX2_keys mX3_words mX3_block mX4_bytes A hp pi gn) (G : chG kd an al mX2_blanks mX2_count mX2_keys (A 14 gn) (A 13 gn) n m) (Dg : chD kd an ai mX3_words mX3_block mX3_size (A 2 0) (A 3 0) (A 4 0) l) (hd : (mX1_hashed (A 0 0) = 0 ∨ (mX1_hashed (A 0 0) = 1 ∧ chHd ai A hp (mX1_rounds (A 0 0)) (mX1_groups (A 0 0)) n (chL (al (A 13 gn)) m))))
  (h0 : x < cnNs (cnHa (chL (al (A 13 gn)) m) n).1 n → ∀ ai' ar' hd' ro' hs' nx' g' s3 s4 hp' pi' l', chS ar' mX1_graph mX1_kept mX1_digest hs' nx' mX1_descriptions mX1_order mX1_begins mX1_numbers mX1_best mX1_row mX1_leastRow mX1_given mX1_form mX1_octets mX2_keys mX3_words mX3_block mX4_bytes A hp' pi' gn → chD kd an ai' mX3_words mX3_block s3 (A 2 0) (A 3 0) (A 4 0) l' → hd' (A 0 0) = 1 → chHd ai' A hp' (ro' (A 0 0)) (g' (A 0 0)) n (chL (al (A 13 gn)) m) → (∀ a, chQ A gn a → ai' a = ai a) → post (-1) ai' al ar' hd' ro' hs' nx' g' mX1_found mX1_many mX1_namedBlanks mX1_formCount s3 s4)
  (h1 : cnNs (cnHa (chL (al (A 13 gn)) m) n).1 n ≤ x → ∀ y ai' al' ar' hd' ro' hs' nx' g' f' k' nb' fc' s3 s4 hp' pi' l' Bs, chS ar' mX1_graph mX1_kept mX1_digest hs' nx' mX1_descriptions mX1_order mX1_begins mX1_numbers mX1_best mX1_row mX1_leastRow mX1_given mX1_form mX1_octets mX2_keys mX3_words mX3_block mX4_bytes A hp' pi' gn → chD kd an ai' mX3_words mX3_block s3 (A 2 0) (A 3 0) (A 4 0) l' → hd' (A 0 0) = 1 → chHd ai' A hp' (ro' (A 0 0)) (g' (A 0 0)) n (chL (al (A 13 gn)) m) → (∀ a, chQ A gn a → a ≠ A 7 1 → a ≠ A 7 2 → a ≠ A 7 3 → a ≠ A 15 0 → ai' a = ai a) → (∀ a, a ≠ A 8 0 → a ≠ A 8 1 → a ≠ A 8 2 → al' a = al a) → nb' (A 0 0) = n → fc' (A 0 0) = m → (∀ b, 1 ≤ b → b ≤ 8 → 0 ≤ ai' (A 7 1) b ∧ ai' (A 7 1) b ≤ 8) → Bs.Nodup → (∀ t, t ∈ Bs ↔ cnPm n t ∧ cnNa (cnHa (chL (al (A 13 gn)) m) n).1 n (cnAt t)) → cnBest Bs (cnFl (chL (al (A 13 gn)) m)) (aF (ai' (A 7 3)) 1 n.toNat) (chFl (al' (A 8 2)) m) y → (∀ j, 0 ≤ j → j < m → cnOk n (al' (A 8 2) j)) → post y ai' al' ar' hd' ro' hs' nx' g' f' k' nb' fc' s3 s4) : wpCN_X1_name post kd an ai al ar mX1_graph mX1_digest mX1_hashed mX1_rounds mX1_hashes mX1_next mX1_descriptions mX1_order mX1_begins mX1_groups mX1_numbers mX1_best mX1_row mX1_leastRow mX1_found mX1_many mX1_namedBlanks mX1_formCount mX1_given mX1_form mX1_octets mX2_blanks mX2_count mX2_keys mX3_words mX3_block mX3_size mX4_bytes mX4_size (A 0 0) x := by
  have hn := G.2.1.2
  have eb := G.2.1.1
  have hm := G.2.2.1.2
  have ec := G.2.2.1.1
  have hgn := Sh.2.2.2.2.2.2
  have k14 := chX14 L (j := gn) ⟨hgn.1, by omega⟩
  have k71 := chX7 L (j := 1) (by decide)
  have k72 := chX7 L (j := 2) (by decide)
  have k73 := chX7 L (j := 3) (by decide)
  have k81 := chX8 L (j := 1) (by decide)
  have k82 := chX8 L (j := 2) (by decide)
  have n7 : ∀ i j, (0 ≤ i ∧ i < 4) → (0 ≤ j ∧ j < 4) → ¬ i = j → A 7 i ≠ A 7 j := fun i j hi hj ne => L.ne ⟨hi.1, show i < (4 : Int) from hi.2⟩ ⟨hj.1, show j < (4 : Int) from hj.2⟩ (Or.inr ne)
  have n1 : ∀ (i : Nat) j, ¬ i = 7 → chN gn i = 1 → (0 ≤ j ∧ j < 4) → A i 0 ≠ A 7 j := fun i j ni e hj => L.ne ⟨Int.le_refl 0, by rw [e]; decide⟩ ⟨hj.1, show j < (4 : Int) from hj.2⟩ (Or.inl ni)
  have n8 : ∀ i j, (0 ≤ i ∧ i < 3) → (0 ≤ j ∧ j < 3) → ¬ i = j → A 8 i ≠ A 8 j := fun i j hi hj ne => L.ne ⟨hi.1, show i < (3 : Int) from hi.2⟩ ⟨hj.1, show j < (3 : Int) from hj.2⟩ (Or.inr ne)
  have n10 : ∀ i j, (0 ≤ i ∧ i < 18) → (0 ≤ j ∧ j < 4) → A 10 i ≠ A 7 j := fun i j hi hj => L.ne ⟨hi.1, show i < (18 : Int) from hi.2⟩ ⟨hj.1, show j < (4 : Int) from hj.2⟩ (Or.inl (by decide))
  have m1 : ∀ (i j : Nat), ¬ i = j → chN gn i = 1 → chN gn j = 1 → A i 0 ≠ A j 0 := fun i j ne e1 e2 => L.ne ⟨Int.le_refl 0, by rw [e1]; decide⟩ ⟨Int.le_refl 0, by rw [e2]; decide⟩ (Or.inl ne)
  have m10 : ∀ (i : Nat) j, (0 ≤ j ∧ j < 18) → ¬ i = 10 → chN gn i = 1 → A 10 j ≠ A i 0 := fun i j hj ne e => L.ne ⟨hj.1, show j < (18 : Int) from hj.2⟩ ⟨Int.le_refl 0, by rw [e]; decide⟩ (Or.inl (fun y => ne y.symm))
  have p7 : ∀ (i : Nat) j, (0 ≤ j ∧ j < 4) → ¬ i = 7 → chN gn i = 1 → A 7 j ≠ A i 0 := fun i j hj ne e => L.ne ⟨hj.1, show j < (4 : Int) from hj.2⟩ ⟨Int.le_refl 0, by rw [e]; decide⟩ (Or.inl (fun y => ne y.symm))
  unfold wpCN_X1_name
  refine CCN_makeHashes L Sh G Dg hd (fun ai1 ar1 hd1 ro1 hs1 nx1 g1 s31 s41 hp1 pi1 l1 S1 D1 e1 H1 fa1 => ?_)
  refine CCN_namings (H := (cnHa (chL (al (A 13 gn)) m) n).1) S1.2.1.2.1 (chX7 L (j := 0) (by decide)) hn H1.2.2 ⟨fun le fo0 efo many0 emany => ?_, fun le => h0 (by omega) ai1 ar1 hd1 ro1 hs1 nx1 g1 s31 s41 hp1 pi1 l1 S1 D1 e1 H1 fa1⟩
  refine CCN_n27 S1.2.1.2.2.1 k71 (fun ai2 f2 z2 => ?_)
  have O2 : chO (cnHa (chL (al (A 13 gn)) m) n).1 n (ai2 (A 6 0)) (ai2 (A 7 0)) (g1 (A 0 0)) := by
    rw [f2 _ (n1 6 1 (by decide) rfl (by decide)), f2 _ (n7 0 1 (by decide) (by decide) (by decide))]
    exact H1.2.2
  have PF : chPf (cnHa (chL (al (A 13 gn)) m) n).1 n 0 (ai2 (A 7 1)) := by
    refine ⟨fun b b0 b1 => by rw [z2 b (by omega) (by omega)]; omega, fun b c hb hc nz e => absurd (z2 b (by omega) (by omega)) nz, cntI_0 (fun b b0 b1 w => w.2 (z2 b b0 (by omega))), fun b b0 b1 nz => absurd (z2 b (by omega) (by omega)) nz, fun b b0 b1 => z2 b (by omega) b1⟩
  have PQ : (0 : Int) < n → (0 ≤ (0 : Int) ∧ 0 < g1 (A 0 0)) ∧ ai2 (A 7 0) 0 ≤ 0 ∧ 0 ≤ ai2 (A 7 0) (0 + 1) := fun n0 => by
    have od := O2.1.df (by omega)
    have eg := O2.2.1
    have g0 : 0 ≤ cnG (cnHa (chL (al (A 13 gn)) m) n).1 n (ai2 (A 6 0) (n - 1)) := (cntI_b _ (n + 1).toNat).1
    have gp : 0 < g1 (A 0 0) := by
      omega
    obtain ⟨r, hr, gr, er1, er2, b0, b1, b2, b3⟩ := O2.grp hn.1 ⟨Int.le_refl 0, gp⟩
    have lz : cnLo (cnHa (chL (al (A 13 gn)) m) n).1 n r ≤ 0 := Classical.byContradiction (fun nl => by
      have ex : ∃ c, (1 ≤ c ∧ c ≤ n) ∧ cnL (cnHa (chL (al (A 13 gn)) m) n).1 c r := Classical.byContradiction (fun no => by
        have : cnLo (cnHa (chL (al (A 13 gn)) m) n).1 n r = 0 := cntI_0 (fun c c0 c1 w => no ⟨c, ⟨w.1, by omega⟩, w.2⟩)
        omega)
      obtain ⟨c, hc, lc⟩ := ex
      have := cnG_lt (n := n) hc lc
      have : 0 ≤ cnG (cnHa (chL (al (A 13 gn)) m) n).1 n c := (cntI_b _ (n + 1).toNat).1
      omega)
    omega
  refine CCN_search L S1 G rfl O2 n.toNat 0 0 (ai2 (A 7 1)) ai2 al fo0 many0 [] 9 _ (by omega) (Int.le_refl 0) (by omega) rfl rfl rfl rfl PF PQ (Or.inl ⟨by rw [efo, va_up_s], rfl⟩) ?_ (fun ai3 al3 f3 k3 Cs nC mC lC J3 d1 d2 d3 => ?_)
  · have b9 : ∀ k : Nat, k < 9 → cn9 k ≤ 43046721 := by decide
    have := b9 n.toNat (by omega)
    show ((0 : Nat) : Int) + cn9 n.toNat ≤ 1000000000
    omega
  have mem : ∀ t, t ∈ Cs ↔ cnPm n t ∧ cnNa (cnHa (chL (al (A 13 gn)) m) n).1 n (cnAt t) := fun t => by
    rw [mC t]
    refine ⟨fun w => ⟨w.1, w.2.1⟩, fun w => ⟨w.1, w.2, fun b b0 b1 => ⟨fun nz => absurd (z2 b (by omega) (by omega)) nz, fun _ => ?_⟩⟩⟩
    exact ((cnPm_at w.1).2.1 b b0 b1).1
  rw [List.nil_append] at J3
  obtain ⟨_, J, Jok, J0⟩ := J3.resolve_left (fun w => by
    obtain ⟨t, ht⟩ := O2.ex hn.1
    have := (mem t).2 ht
    rw [w.2] at this
    exact absurd this (by simp))
  refine kOn_of S1.1.1 ⟨k14, fun v1 ev1 nb enb v2 ev2 fc efc => kOn_of S1.2.1.2.2.2.2.1 (kOn_of S1.2.1.2.2.2.1 ⟨k73.1, k72.1, by omega, fun ai4 e4 => ?_⟩)⟩
  have enb2 : nb (A 0 0) = n := by rw [enb, va_up_s, ev1, eb]
  have efc2 : fc (A 0 0) = m := by rw [efc, va_up_s, ev2, ec]
  refine kOn_of S1.2.1.2.2.2.2.2.2.2.1 (kOn_of S1.2.1.2.2.2.2.2.2.1 ⟨k82.1, k81.1, by rw [efc2]; omega, fun al4 el4 => ?_⟩)
  have r4 : ∀ b, 0 ≤ b → b < 9 → ai4 (A 7 3) b = ai3 (A 7 2) b := fun b b0 b1 => by
    rw [e4, va_up_s]
    unfold zcpy
    rw [if_pos (by omega), show (0 : Int) + (b - 0) = b by omega]
  have l4 : ∀ j, 0 ≤ j → j < m → al4 (A 8 2) j = al3 (A 8 1) j := fun j j0 j1 => by
    rw [el4, va_up_s]
    unfold zcpy
    rw [efc2, if_pos (by omega), show (0 : Int) + (j - 0) = j by omega]
  have o4 : ∀ a, a ≠ A 7 1 → a ≠ A 7 2 → a ≠ A 7 3 → ai4 a = ai1 a := fun a n1 n2 n3 => by rw [e4, va_up_n n3, d2 a n1 n2, f2 a n1]
  have D4 : chD kd an ai4 mX3_words mX3_block s31 (A 2 0) (A 3 0) (A 4 0) l1 := by
    obtain ⟨d1, d2, d3, d4, d5, d6⟩ := D1
    refine ⟨d1, d2, d3, d4, fun i i0 i1 => ?_, fun t t0 t1 => ?_⟩
    · rw [o4 _ (n1 3 1 (by decide) rfl (by decide)) (n1 3 2 (by decide) rfl (by decide)) (n1 3 3 (by decide) rfl (by decide))]; exact d5 i i0 i1
    · rw [o4 _ (n1 4 1 (by decide) rfl (by decide)) (n1 4 2 (by decide) rfl (by decide)) (n1 4 3 (by decide) rfl (by decide))]; exact d6 t t0 t1
  have ok4 : ∀ j, 0 ≤ j → j < m → cnOk n (al4 (A 8 2) j) := fun j j0 j1 => by rw [l4 j j0 j1]; exact Jok j j0 j1
  refine kOn_of S1.1.2.2.1 ⟨chX2 L, CCN_begin D4 (fun ai5 s5 D5 f5 _ => ?_)⟩
  refine CCN_n115 S1.1.2.2.1 (chX2 L) S1.2.1.2.2.2.2.2.2.2.1 k82 efc2 hm hn.2 ok4 D5 (fun ai6 s6 l6 D6 ll f6 => kOn_of S1.1.2.2.1 ⟨chX2 L, ?_⟩)
  refine CCN_end D6 (by omega) (fun ai7 s7 D7 f7 _ => ?_)
  refine CCN_n171 S1.1.2.2.1 (chX2 L) S1.2.2.1.2.1 (chX3 L) S1.2.1.2.2.2.2.2.2.2.2 (chX15 L) (fun ai8 f8 => ?_)
  have o8 : ∀ a, a ≠ A 15 0 → a ≠ A 3 0 → a ≠ A 4 0 → ai8 a = ai4 a := fun a n15 n3 n4 => by rw [f8 a n15, f7 a n3 n4, f6 a n3 n4, f5 a n3 n4]
  have o9 : ∀ a, a ≠ A 15 0 → a ≠ A 3 0 → a ≠ A 4 0 → a ≠ A 7 1 → a ≠ A 7 2 → a ≠ A 7 3 → ai8 a = ai1 a := fun a n15 n3 n4 n1 n2 n3' => by rw [o8 a n15 n3 n4, o4 a n1 n2 n3']
  have o7 : ∀ j, (0 ≤ j ∧ j < 4) → ai8 (A 7 j) = ai4 (A 7 j) := fun j hj => o8 _ (p7 15 j hj (by decide) rfl) (p7 3 j hj (by decide) rfl) (p7 4 j hj (by decide) rfl)
  refine h1 (by omega) (k3 (A 0 0)) ai8 al4 ar1 hd1 ro1 hs1 nx1 g1 f3 k3 nb fc s7 s41 hp1 pi1 (shPad l6) Cs S1 ?_ e1 ?_ (fun a ha n1 n2 n3 n15 => ?_) (fun a m0 m1 m2 => by rw [el4, va_up_n m2]; exact d3 a m0 m1) enb2 efc2 (fun b b0 b1 => ?_) nC mem ?_ ok4
  · obtain ⟨d1, d2, d3, d4, d5, d6⟩ := D7
    refine ⟨d1, d2, d3, d4, fun i i0 i1 => ?_, fun t t0 t1 => ?_⟩
    · rw [f8 _ (m1 3 15 (by decide) rfl rfl)]; exact d5 i i0 i1
    · rw [f8 _ (m1 4 15 (by decide) rfl rfl)]; exact d6 t t0 t1
  · have hhp1 := S1.2.2.2.2.2.1
    refine ⟨fun c c0 c1 => ?_, H1.2.1, ?_⟩
    · have hj : 0 ≤ 9 * hp1 + c ∧ 9 * hp1 + c < 18 := by omega
      rw [o9 _ (m10 15 _ hj (by decide) rfl) (m10 3 _ hj (by decide) rfl) (m10 4 _ hj (by decide) rfl) (n10 _ 1 hj (by decide)) (n10 _ 2 hj (by decide)) (n10 _ 3 hj (by decide))]
      exact H1.1 c c0 c1
    · rw [o9 _ (m1 6 15 (by decide) rfl rfl) (m1 6 3 (by decide) rfl rfl) (m1 6 4 (by decide) rfl rfl) (n1 6 1 (by decide) rfl (by decide)) (n1 6 2 (by decide) rfl (by decide)) (n1 6 3 (by decide) rfl (by decide)), o9 _ (p7 15 0 (by decide) (by decide) rfl) (p7 3 0 (by decide) (by decide) rfl) (p7 4 0 (by decide) (by decide) rfl) (n7 0 1 (by decide) (by decide) (by decide)) (n7 0 2 (by decide) (by decide) (by decide)) (n7 0 3 (by decide) (by decide) (by decide))]
      exact H1.2.2
  · rw [o9 a n15 (ha.1 3 0 (by decide) (Int.le_refl 0) (show (0 : Int) < 1 by decide)) (ha.1 4 0 (by decide) (Int.le_refl 0) (show (0 : Int) < 1 by decide)) n1 n2 n3]
    exact fa1 a ha
  · rw [o7 1 (by decide), e4, va_up_n (n7 1 3 (by decide) (by decide) (by decide)), d1, z2 b (by omega) b1]
    omega
  · rw [o7 3 (by decide), chFl_c l4, show aF (ai4 (A 7 3)) 1 n.toNat = aF (ai3 (A 7 2)) 1 n.toNat from aF_c _ _ (fun b b0 b1 => r4 b (by omega) (by omega))]
    exact J
end

/-! CanonNames (room CN): matches with a kept graph -/
section
variable {kd an : Nat → Nat} {ai ai' al al' : Nat → Int → Int} {ar ar' : Nat → Int → Option Nat} {mX1_graph mX1_kept mX1_digest mX1_hashes mX1_next mX1_descriptions mX1_order mX1_begins mX1_numbers mX1_best mX1_row mX1_leastRow mX1_given mX1_form mX1_octets mX2_keys mX3_words mX3_block mX4_bytes : Nat → Option Nat} {mX1_rounds mX1_hashed mX1_groups mX1_keptCount mX1_found mX1_many mX1_namedBlanks mX1_formCount mX1_ways mX1_wanted mX1_taken mX2_blanks mX2_count mX3_size mX4_size : Nat → Int} {A : Nat → Int → Nat} {g : Nat → Nat × Int} {gn hp n m b k c s i j x v r y z : Int} {pi : Int → Int} {D : Int → List Int} {H : Int → List Int} {l : List Int} {g2 K2 : Nat} {f : Int → Int} {Aq B : Prop}
theorem mS_xor {P Q : Int → Prop} {u w : Int} (h : mS u P) (h2 : mS w Q) : mS (zxor u w) (fun k => ¬ (P k ↔ Q k)) := ⟨zr_xor32 _ _, fun k a b => by rw [zb_xor32 h.1 h2.1 (by omega), h.2 k a b, h2.2 k a b]⟩
/-- a triple whose blanks are below b -/
def chWh (b : Int) (t : qA) : Prop := (0 < t.1 ∨ -t.1 ≤ b) ∧ (0 < t.2.1 ∨ -t.2.1 ≤ b) ∧ (0 < t.2.2 ∨ -t.2.2 ≤ b)
/-- numbers told apart for the blanks up to b -/
def chIn (n b : Int) (f : Int → Int) : Prop := (∀ c, 1 ≤ c → c ≤ b → 1 ≤ f c ∧ f c ≤ n) ∧ ∀ c d, 1 ≤ c → c < d → d ≤ b → ¬ f c = f d
theorem CCN_t22 {K : Int → Int → Prop} (s1 : mX1_graph (A 0 0) = some (A 14 gn)) (k14 : kd (A 14 gn) = 2) (G : chG kd an al mX2_blanks mX2_count mX2_keys (A 14 gn) (A 13 gn) n m) (e7 : mX1_numbers (A 0 0) = some (A 7 1)) (k7 : kd (A 7 1) = 5 ∧ (an (A 7 1) : Int) = 9) (hi : 0 ≤ i ∧ i < m) (hb : 0 ≤ b) (nb : ∀ c, 1 ≤ c → c ≤ 8 → 0 ≤ ai (A 7 1) c ∧ ai (A 7 1) c ≤ 8) (hI : ∀ c, 1 ≤ c → c ≤ b → c ≤ n → 1 ≤ ai (A 7 1) c ∧ ai (A 7 1) c ≤ n) (h1 : chWh b (cnDk (al (A 13 gn) i)) → cnTp n (cnRn (ai (A 7 1)) (cnDk (al (A 13 gn) i))) → K (cnKy (cnRn (ai (A 7 1)) (cnDk (al (A 13 gn) i)))) 1) (h0 : ¬ chWh b (cnDk (al (A 13 gn) i)) → ∀ x, K x 0) : ∃ fu : Nat, wCN_X1_isThere_22 K (A 0 0) b i kd an ai al mX1_graph mX1_numbers mX2_keys fu 0 1 0 := by
  obtain ⟨⟨eK, kK, lK⟩, ⟨_, hn⟩, ⟨ec, hm⟩, ok, _⟩ := G
  have okk := ok i hi.1 hi.2
  obtain ⟨t1, t2, t3⟩ := okk.2
  have z11 : zand 1 1 = 1 := by decide
  have z10 : zand 1 0 = 0 := by decide
  have z01 : zand 0 1 = 0 := by decide
  have z00 : zand 0 0 = 0 := by decide
  -- one point: how the key and the mark go on
  have step : ∀ (j v x w : Int) (fu : Nat), (j = 0 ∨ j = 1 ∨ j = 2) → (cnQ3 (cnDk (al (A 13 gn) i))).getD j.toNat 0 = v → cnPt n v → (w = 0 ∨ w = 1) → (∀ x' w', (w' = 0 ∨ w' = 1) → (w' = 1 → w = 1 ∧ (0 < v ∨ -v ≤ b) ∧ cnPt n (cnNu (ai (A 7 1)) v) ∧ ((0 ≤ x ∧ x < 1048576) → x' = x * 1024 + (cnNu (ai (A 7 1)) v + 8))) → (w' = 0 → w = 0 ∨ ¬ (0 < v ∨ -v ≤ b)) → wCN_X1_isThere_22 K (A 0 0) b i kd an ai al mX1_graph mX1_numbers mX2_keys fu x' w' (j + 1)) → wCN_X1_isThere_22 K (A 0 0) b i kd an ai al mX1_graph mX1_numbers mX2_keys (fu + 1) x w j := fun j v x w fu hj ev hv hw nx => by
    have hv2 := hv
    unfold cnPt at hv2
    have fin : ∀ y1 : Int, ((y1 = 1 ∧ (0 < v ∨ -v ≤ b)) ∨ (y1 = 0 ∧ ¬ (0 < v ∨ -v ≤ b))) → wCN_X1_isThere_63 (wCN_X1_isThere_22 K (A 0 0) b i kd an ai al mX1_graph mX1_numbers mX2_keys fu) (A 0 0) x j v w y1 kd an ai mX1_numbers := fun y1 hy => by
      have key : ∀ nu : Int, (-8 ≤ nu ∧ nu ≤ 1000) → nu = cnNu (ai (A 7 1)) v → ∀ w' : Int, w' = zand w y1 → wCN_X1_isThere_22 K (A 0 0) b i kd an ai al mX1_graph mX1_numbers mX2_keys fu (zLor (x * 1024) (nu + 8)) w' (j + 1) := fun nu hnu en w' ew => by
        refine nx _ w' ?_ (fun w1 => ?_) (fun w0 => ?_)
        · rw [ew]
          rcases hw with a | a <;> rcases hy with ⟨c, _⟩ | ⟨c, _⟩ <;> rw [a, c] <;> first | exact Or.inl z00 | exact Or.inl z01 | exact Or.inl z10 | exact Or.inr z11
        · rw [ew] at w1
          rcases hw with a | a
          · exfalso
            rcases hy with ⟨c, _⟩ | ⟨c, _⟩
            · rw [a, c, z01] at w1; exact absurd w1 (by decide)
            · rw [a, c, z00] at w1; exact absurd w1 (by decide)
          · rcases hy with ⟨c, y2⟩ | ⟨c, y2⟩
            · refine ⟨a, y2, ?_, fun hx => ?_⟩
              · unfold cnNu
                by_cases z : v ≤ 0
                · rw [if_pos z]
                  have := hI (-v) (by omega) (by omega) (by omega)
                  unfold cnPt
                  omega
                · rw [if_neg z]; exact hv
              · rw [← en]
                exact zLor_add (x := x * 1024) (y := nu + 8) (s := 10) (q := x) (by have p10 : (2 : Int) ^ 10 = 1024 := by decide
                                                                                    omega) (by omega) (by have p10 : (2 : Int) ^ 10 = 1024 := by decide
                                                                                                          omega) (by decide)
            · exfalso
              rw [a, c, z10] at w1; exact absurd w1 (by decide)
        · rw [ew] at w0
          rcases hw with a | a
          · exact Or.inl a
          · rcases hy with ⟨c, y2⟩ | ⟨c, y2⟩
            · rw [a, c, z11] at w0; exact absurd w0 (by decide)
            · exact Or.inr y2
      unfold wCN_X1_isThere_63
      intro w' ew
      refine ⟨fun z => ⟨by omega, fun x' ex => ⟨by omega, fun j' ej => ?_⟩⟩, fun z => ?_⟩
      · rw [ex, ej]
        exact key v (by omega) (by unfold cnNu; rw [if_neg (by omega)]) w' ew
      · have := nb (-v) (by omega) (by omega)
        refine kOn_of e7 ⟨k7.1, by omega, by omega, by omega, fun x' ex => ⟨by omega, fun j' ej => ?_⟩⟩
        rw [ex, ej]
        exact key _ (by omega) (by unfold cnNu; rw [if_pos (by omega)]) w' ew
    rw [wCN_X1_isThere_22]
    refine ⟨fun z => by omega, fun _ => kOn_of s1 ⟨k14, kOn_of eK ⟨kK, by omega, CCN_point hn.2 okk hj ?_⟩⟩⟩
    rw [ev]
    exact ⟨fun z => fin 1 (Or.inl ⟨rfl, Or.inl z⟩), fun z => ⟨by omega, fun z2 => fin 0 (Or.inr ⟨rfl, by omega⟩), fun z2 => fin 1 (Or.inl ⟨rfl, by omega⟩)⟩⟩
  refine ⟨4, step 0 (cnDk (al (A 13 gn) i)).1 0 1 3 (by omega) rfl t1 (Or.inr rfl) (fun x1 w1 hw1 a1 b1 => ?_)⟩
  refine step (0 + 1) (cnDk (al (A 13 gn) i)).2.1 x1 w1 2 (by omega) rfl t2 hw1 (fun x2 w2 hw2 a2 b2 => ?_)
  refine step (0 + 1 + 1) (cnDk (al (A 13 gn) i)).2.2 x2 w2 1 (by omega) rfl t3 hw2 (fun x3 w3 hw3 a3 b3 => ?_)
  rw [wCN_X1_isThere_22]
  refine ⟨fun _ => ?_, fun w => absurd (by decide) w⟩
  rcases hw3 with e3 | e3
  · rw [e3]
    refine h0 (fun W => ?_) x3
    rcases b3 e3 with y | y
    · rcases b2 y with y | y
      · rcases b1 y with y | y
        · exact absurd y (by decide)
        · exact y W.1
      · exact y W.2.1
    · exact y W.2.2
  · obtain ⟨c2, d3, p3, f3⟩ := a3 e3
    obtain ⟨c1, d2, p2, f2⟩ := a2 c2
    obtain ⟨_, d1, p1, f1⟩ := a1 c1
    have q1 := cnPt_b hn.2 p1
    have q2 := cnPt_b hn.2 p2
    have q3 := cnPt_b hn.2 p3
    have e1 := f1 (by decide)
    have e2 := f2 (by omega)
    have e4 := f3 (by omega)
    rw [e3]
    have ek : x3 = cnKy (cnRn (ai (A 7 1)) (cnDk (al (A 13 gn) i))) := by
      unfold cnKy cnRn
      dsimp only
      omega
    rw [ek]
    exact h1 ⟨d1, d2, d3⟩ ⟨p1, p2, p3⟩
/-- whether each whole triple is there -/
theorem CCN_isThereB (s1 : mX1_graph (A 0 0) = some (A 14 gn)) (k14 : kd (A 14 gn) = 2) (G : chG kd an al mX2_blanks mX2_count mX2_keys (A 14 gn) (A 13 gn) n m) {m2 : Int} (G2 : chG kd an al mX2_blanks mX2_count mX2_keys g2 K2 n m2) (kg2 : kd g2 = 2) (e7 : mX1_numbers (A 0 0) = some (A 7 1)) (k7 : kd (A 7 1) = 5 ∧ (an (A 7 1) : Int) = 9) (hb : 0 ≤ b) (nb : ∀ c, 1 ≤ c → c ≤ 8 → 0 ≤ ai (A 7 1) c ∧ ai (A 7 1) c ≤ 8) (hI : ∀ c, 1 ≤ c → c ≤ b → c ≤ n → 1 ≤ ai (A 7 1) c ∧ ai (A 7 1) c ≤ n)
  (h1 : (∀ t ∈ chL (al (A 13 gn)) m, chWh b t → cnRn (ai (A 7 1)) t ∈ chL (al K2) m2) → B) (h0 : (∃ t ∈ chL (al (A 13 gn)) m, chWh b t ∧ ¬ cnRn (ai (A 7 1)) t ∈ chL (al K2) m2) → Aq) : wpCN_X1_isThere (fun r => (r = 0 → Aq) ∧ (¬ r = 0 → B)) kd an ai al mX1_graph mX1_numbers mX2_count mX2_keys (A 0 0) (some g2) b := by
  have ec := G.2.2.1.1
  unfold wpCN_X1_isThere
  refine wloop (fun fu i => wCN_X1_isThere_2 _ _ (A 0 0) (some g2) b kd an ai al mX1_graph mX1_numbers mX2_count mX2_keys fu i) (fun i => (0 ≤ i ∧ i ≤ m) ∧ ∀ j, 0 ≤ j → j < i → chWh b (cnDk (al (A 13 gn) j)) → cnRn (ai (A 7 1)) (cnDk (al (A 13 gn) j)) ∈ chL (al K2) m2) (fun i => (m - i).toNat) ?_ 0 ⟨by have := G.2.2.1.2; omega, fun j j0 j1 => by omega⟩
  rintro i ⟨hi, h⟩ fu ih
  rw [wCN_X1_isThere_2]
  refine kOn_of s1 ⟨k14, ?_⟩
  rw [ec]
  have m40 := G.2.2.1.2.2
  have nxt : (chWh b (cnDk (al (A 13 gn) i)) → cnRn (ai (A 7 1)) (cnDk (al (A 13 gn) i)) ∈ chL (al K2) m2) → i < m → ∀ i' : Int, i' = i + 1 → wCN_X1_isThere_2 _ _ (A 0 0) (some g2) b kd an ai al mX1_graph mX1_numbers mX2_count mX2_keys fu i' := fun hx hlt i' ei => by
    rw [ei]
    refine ih (i + 1) ⟨by omega, fun j j0 j1 => ?_⟩ (by omega)
    by_cases y : j = i
    · rw [y]; exact hx
    · exact h j j0 (by omega)
  refine ⟨fun z => ⟨fun w => absurd w (by decide), fun _ => h1 (fun t ht => ?_)⟩, fun z => ?_⟩
  · obtain ⟨j, hj, e⟩ := chL_mem.1 ht
    rw [e]; exact h j hj.1 (by omega)
  · refine CCN_t22 s1 k14 G e7 k7 ⟨hi.1, by omega⟩ hb nb hI (fun W TP => ⟨fun w => absurd w (by decide), fun _ => kOn_of rfl ⟨kg2, CCN_hasB G2 TP (fun M => ⟨by omega, nxt (fun _ => M) (by omega)⟩) (fun M => ⟨fun _ => h0 ⟨_, chL_mem.2 ⟨i, ⟨hi.1, by omega⟩, rfl⟩, W, M⟩, fun w => absurd rfl w⟩)⟩⟩) (fun W x => ⟨fun _ => ⟨by omega, nxt (fun w => absurd w W) (by omega)⟩, fun w => absurd rfl w⟩)
end
