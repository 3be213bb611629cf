/-! CanonNames (room CN): what a call answers, over the room (1) -/
section
variable {kd : Nat → Nat} {an : Nat → Nat} {ai : Nat → Int → Int} {al : Nat → Int → Int} {ar : Nat → Int → Option Nat} {mX1_graph : Nat → Option Nat} {mX1_kept : Nat → Option Nat} {mX1_keptCount : Nat → Int} {mX1_digest : Nat → Option Nat} {mX1_hashed : Nat → Int} {mX1_rounds : Nat → Int} {mX1_hashes : Nat → Option Nat} {mX1_next : Nat → Option Nat} {mX1_descriptions : Nat → Option Nat} {mX1_order : Nat → Option Nat} {mX1_begins : Nat → Option Nat} {mX1_groups : Nat → Int} {mX1_numbers : Nat → Option Nat} {mX1_best : Nat → Option Nat} {mX1_row : Nat → Option Nat} {mX1_leastRow : Nat → Option Nat} {mX1_found : Nat → Int} {mX1_many : Nat → Int} {mX1_namedBlanks : Nat → Int} {mX1_formCount : Nat → Int} {mX1_given : Nat → Option Nat} {mX1_form : Nat → Option Nat} {mX1_octets : Nat → Option Nat} {mX1_ways : Nat → Int} {mX1_wanted : Nat → Int} {mX1_taken : Nat → Int} {mX2_blanks : Nat → Int} {mX2_count : Nat → Int} {mX2_keys : Nat → Option Nat} {mX3_words : Nat → Option Nat} {mX3_block : Nat → Option Nat} {mX3_size : Nat → Int} {mX4_bytes : Nat → Option Nat} {mX4_size : Nat → Int} {x : Nat} {nn : Int → Int} {LL : Int → List qA} {gn nbk fc : Int} {P F : List Int} {b s p o k i v st : Int} {MC MS : Nat} {A : Nat → Int → Nat} {g : Nat → Nat × Int} {hp : Int} {pi : Int → Int} {l : List Int} {m n : Int} {Aq Bq : Prop}
theorem chRm.hash (L : Lab chK chLn kd an A g (chN gn)) (G : chGs kd an al mX2_blanks mX2_count mX2_keys A nn LL gn) (ek : mX1_keptCount (A 0 0) = gn) (NU : chNu ai A) (NM : chNm ai al A (mX1_namedBlanks (A 0 0)) (mX1_formCount (A 0 0)) nbk fc P F) {ai' : Nat → Int → Int} {ar' : Nat → Int → Option Nat} {hd' ro' g' s3 s4 : Nat → Int} {hs' nx' : Nat → Option Nat} {hp' : Int} {pi' : Int → Int} {l' : List Int} (S' : chS ar' mX1_graph mX1_kept mX1_digest hs' nx' mX1_descriptions mX1_order mX1_begins mX1_numbers mX1_best mX1_row mX1_leastRow mX1_given mX1_form mX1_octets mX2_keys mX3_words mX3_block mX4_bytes A hp' pi' gn) (D' : chD kd an ai' mX3_words mX3_block s3 (A 2 0) (A 3 0) (A 4 0) l') (e1 : hd' (A 0 0) = 1) (H' : chHd ai' A hp' (ro' (A 0 0)) (g' (A 0 0)) (nn gn) (LL gn)) (fa : ∀ a, chQ A gn a → ai' a = ai a) : chRm kd an (ai') al (ar') mX1_graph mX1_kept mX1_keptCount mX1_digest (hd') (ro') (hs') (nx') mX1_descriptions mX1_order mX1_begins (g') mX1_numbers mX1_best mX1_row mX1_leastRow mX1_found mX1_many mX1_namedBlanks mX1_formCount mX1_given mX1_form mX1_octets mX1_ways mX1_wanted mX1_taken mX2_blanks mX2_count mX2_keys mX3_words mX3_block s3 mX4_bytes s4 (A 0 0) nn LL gn nbk fc P F := by
  have q7 : ∀ j, 1 ≤ j → j < 4 → ai' (A 7 j) = ai (A 7 j) := fun j j0 j1 => fa _ (chQ.of L (i := 7) (j := j) (by decide) ⟨by omega, show j < (4 : Int) from j1⟩ (fun _ => by omega))
  refine ⟨A, g, hp', pi', l', rfl, L, S', G, ek, D', Or.inr ⟨e1, H'⟩, fun b b0 b1 => by rw [q7 1 (by decide) (by decide)]; exact NU b b0 b1, ?_⟩
  unfold chNm
  rw [q7 3 (by decide) (by decide)]
  exact NM
theorem CCN_Rhash {post : Int → (Nat → Int → Int) → (Nat → Int → Option Nat) → (Nat → Int) → (Nat → Int) → (Nat → Option Nat) → (Nat → Option Nat) → (Nat → Int) → (Nat → Int) → (Nat → Int) → Prop} (R : chRm kd an ai al ar mX1_graph mX1_kept mX1_keptCount mX1_digest mX1_hashed mX1_rounds mX1_hashes mX1_next mX1_descriptions mX1_order mX1_begins mX1_groups mX1_numbers mX1_best mX1_row mX1_leastRow mX1_found mX1_many mX1_namedBlanks mX1_formCount mX1_given mX1_form mX1_octets mX1_ways mX1_wanted mX1_taken mX2_blanks mX2_count mX2_keys mX3_words mX3_block mX3_size mX4_bytes mX4_size x nn LL gn nbk fc P F) (h : ∀ ai' ar' hd' ro' hs' nx' g' s3 s4, chRm kd an (ai') al (ar') mX1_graph mX1_kept mX1_keptCount mX1_digest (hd') (ro') (hs') (nx') mX1_descriptions mX1_order mX1_begins (g') mX1_numbers mX1_best mX1_row mX1_leastRow mX1_found mX1_many mX1_namedBlanks mX1_formCount mX1_given mX1_form mX1_octets mX1_ways mX1_wanted mX1_taken mX2_blanks mX2_count mX2_keys mX3_words mX3_block s3 mX4_bytes s4 x nn LL gn nbk fc P F → post (if (1 ≤ b ∧ b ≤ nn gn) ∧ (0 ≤ i ∧ i ≤ 7) then w32 (((cnHa (LL gn) (nn gn)).1 b).getD i.toNat 0) else 0) ai' ar' hd' ro' hs' nx' g' s3 s4) : wpCN_X1_hash post kd an ai al ar mX1_graph mX1_digest mX1_hashed mX1_rounds mX1_hashes mX1_next mX1_descriptions mX1_order mX1_begins mX1_groups mX2_blanks mX2_count mX2_keys mX3_words mX3_block mX3_size mX4_bytes mX4_size x b i := by
  have R0 := R
  obtain ⟨A, g, hp, pi, l, rfl, L, Sh, G, ek, D, H, NU, NM⟩ := R
  have hgn := Sh.2.2.2.2.2.2
  obtain ⟨Gg, Gl⟩ := G gn hgn.1 (Int.le_refl _)
  refine CCN_hash L Sh Gg D (by rw [Gl]; exact H) (fun w => ?_) (fun w ai' ar' hd' ro' hs' nx' g' s3 s4 hp' pi' l' S' D' e' H' f' => ?_)
  · have := h _ _ _ _ _ _ _ _ _ R0
    rw [if_neg w] at this
    exact this
  · rw [Gl] at H'
    have := h ai' ar' hd' ro' hs' nx' g' s3 s4 (chRm.hash (s4 := s4) L G ek NU NM S' D' e' H' f')
    rw [if_pos w] at this
    rw [Gl]
    exact this
theorem CCN_Rrounds {post : Int → (Nat → Int → Int) → (Nat → Int → Option Nat) → (Nat → Int) → (Nat → Int) → (Nat → Option Nat) → (Nat → Option Nat) → (Nat → Int) → (Nat → Int) → (Nat → Int) → Prop} (R : chRm kd an ai al ar mX1_graph mX1_kept mX1_keptCount mX1_digest mX1_hashed mX1_rounds mX1_hashes mX1_next mX1_descriptions mX1_order mX1_begins mX1_groups mX1_numbers mX1_best mX1_row mX1_leastRow mX1_found mX1_many mX1_namedBlanks mX1_formCount mX1_given mX1_form mX1_octets mX1_ways mX1_wanted mX1_taken mX2_blanks mX2_count mX2_keys mX3_words mX3_block mX3_size mX4_bytes mX4_size x nn LL gn nbk fc P F) (h : ∀ ai' ar' hd' ro' hs' nx' g' s3 s4, chRm kd an (ai') al (ar') mX1_graph mX1_kept mX1_keptCount mX1_digest (hd') (ro') (hs') (nx') mX1_descriptions mX1_order mX1_begins (g') mX1_numbers mX1_best mX1_row mX1_leastRow mX1_found mX1_many mX1_namedBlanks mX1_formCount mX1_given mX1_form mX1_octets mX1_ways mX1_wanted mX1_taken mX2_blanks mX2_count mX2_keys mX3_words mX3_block s3 mX4_bytes s4 x nn LL gn nbk fc P F → post (cnHa (LL gn) (nn gn)).2 ai' ar' hd' ro' hs' nx' g' s3 s4) : wpCN_X1_rounds post kd an ai al ar mX1_graph mX1_digest mX1_hashed mX1_rounds mX1_hashes mX1_next mX1_descriptions mX1_order mX1_begins mX1_groups mX2_blanks mX2_count mX2_keys mX3_words mX3_block mX3_size mX4_bytes mX4_size x := by
  obtain ⟨A, g, hp, pi, l, rfl, L, Sh, G, ek, D, H, NU, NM⟩ := R
  have hgn := Sh.2.2.2.2.2.2
  obtain ⟨Gg, Gl⟩ := G gn hgn.1 (Int.le_refl _)
  refine CCN_rounds L Sh Gg D (by rw [Gl]; exact H) (fun ai' ar' hd' ro' hs' nx' g' s3 s4 hp' pi' l' S' D' e' H' f' => ?_)
  rw [Gl] at H' ⊢
  exact h _ _ _ _ _ _ _ _ _ (chRm.hash L G ek NU NM S' D' e' H' f')
theorem CCN_Rfirst {post : Int → (Nat → Int → Int) → (Nat → Int → Option Nat) → (Nat → Int) → (Nat → Int) → (Nat → Option Nat) → (Nat → Option Nat) → (Nat → Int) → (Nat → Int) → (Nat → Int) → Prop} (R : chRm kd an ai al ar mX1_graph mX1_kept mX1_keptCount mX1_digest mX1_hashed mX1_rounds mX1_hashes mX1_next mX1_descriptions mX1_order mX1_begins mX1_groups mX1_numbers mX1_best mX1_row mX1_leastRow mX1_found mX1_many mX1_namedBlanks mX1_formCount mX1_given mX1_form mX1_octets mX1_ways mX1_wanted mX1_taken mX2_blanks mX2_count mX2_keys mX3_words mX3_block mX3_size mX4_bytes mX4_size x nn LL gn nbk fc P F) (hr : zR k) (h : ∀ v ai' ar' hd' ro' hs' nx' g' s3 s4, cnFi (cnHa (LL gn) (nn gn)).1 (nn gn) k i v → chRm kd an (ai') al (ar') mX1_graph mX1_kept mX1_keptCount mX1_digest (hd') (ro') (hs') (nx') mX1_descriptions mX1_order mX1_begins (g') mX1_numbers mX1_best mX1_row mX1_leastRow mX1_found mX1_many mX1_namedBlanks mX1_formCount mX1_given mX1_form mX1_octets mX1_ways mX1_wanted mX1_taken mX2_blanks mX2_count mX2_keys mX3_words mX3_block s3 mX4_bytes s4 x nn LL gn nbk fc P F → post v ai' ar' hd' ro' hs' nx' g' s3 s4) : wpCN_X1_first post kd an ai al ar mX1_graph mX1_digest mX1_hashed mX1_rounds mX1_hashes mX1_next mX1_descriptions mX1_order mX1_begins mX1_groups mX2_blanks mX2_count mX2_keys mX3_words mX3_block mX3_size mX4_bytes mX4_size x k i := by
  obtain ⟨A, g, hp, pi, l, rfl, L, Sh, G, ek, D, H, NU, NM⟩ := R
  have hgn := Sh.2.2.2.2.2.2
  obtain ⟨Gg, Gl⟩ := G gn hgn.1 (Int.le_refl _)
  refine CCN_first L Sh Gg D (by rw [Gl]; exact H) hr (fun v hv ai' ar' hd' ro' hs' nx' g' s3 s4 hp' pi' l' S' D' e' H' f' => ?_)
  rw [Gl] at H' hv
  exact h v _ _ _ _ _ _ _ _ _ hv (chRm.hash L G ek NU NM S' D' e' H' f')
/-- what a call of name tells -/
def chNe (L : List qA) (n y : Int) (P F : List Int) : Prop := ∃ Bs : List (List Int), Bs.Nodup ∧ (∀ t, t ∈ Bs ↔ cnPm n t ∧ cnNa (cnHa L n).1 n (cnAt t)) ∧ cnBest Bs (cnFl L) P F y
theorem CCN_Rname {post : Int → (Nat → Int → Int) → (Nat → Int → Int) → (Nat → Int → Option Nat) → (Nat → Int) → (Nat → Int) → (Nat → Option Nat) → (Nat → Option Nat) → (Nat → Int) → (Nat → Int) → (Nat → Int) → (Nat → Int) → (Nat → Int) → (Nat → Int) → (Nat → Int) → Prop} (R : chRm kd an ai al ar mX1_graph mX1_kept mX1_keptCount mX1_digest mX1_hashed mX1_rounds mX1_hashes mX1_next mX1_descriptions mX1_order mX1_begins mX1_groups mX1_numbers mX1_best mX1_row mX1_leastRow mX1_found mX1_many mX1_namedBlanks mX1_formCount mX1_given mX1_form mX1_octets mX1_ways mX1_wanted mX1_taken mX2_blanks mX2_count mX2_keys mX3_words mX3_block mX3_size mX4_bytes mX4_size x nn LL gn nbk fc P F)
  (h0 : st < cnNs (cnHa (LL gn) (nn gn)).1 (nn gn) → ∀ ai' ar' hd' ro' hs' nx' g' s3 s4, chRm kd an (ai') al (ar') mX1_graph mX1_kept mX1_keptCount mX1_digest (hd') (ro') (hs') (nx') mX1_descriptions mX1_order mX1_begins (g') mX1_numbers mX1_best mX1_row mX1_leastRow mX1_found mX1_many mX1_namedBlanks mX1_formCount mX1_given mX1_form mX1_octets mX1_ways mX1_wanted mX1_taken mX2_blanks mX2_count mX2_keys mX3_words mX3_block s3 mX4_bytes s4 x nn LL gn nbk fc P F → post (-1) ai' al ar' hd' ro' hs' nx' g' mX1_found mX1_many mX1_namedBlanks mX1_formCount s3 s4)
  (h1 : cnNs (cnHa (LL gn) (nn gn)).1 (nn gn) ≤ st → ∀ y P' F' ai' al' ar' hd' ro' hs' nx' g' f' k' nb' fc' s3 s4, chNe (LL gn) (nn gn) y P' F' → chRm kd an (ai') (al') (ar') mX1_graph mX1_kept mX1_keptCount mX1_digest (hd') (ro') (hs') (nx') mX1_descriptions mX1_order mX1_begins (g') mX1_numbers mX1_best mX1_row mX1_leastRow (f') (k') (nb') (fc') mX1_given mX1_form mX1_octets mX1_ways mX1_wanted mX1_taken mX2_blanks mX2_count mX2_keys mX3_words mX3_block s3 mX4_bytes s4 x nn LL gn (nn gn) ((LL gn).length : Int) P' F' → post y ai' al' ar' hd' ro' hs' nx' g' f' k' nb' fc' s3 s4) : wpCN_X1_name post kd an ai al ar mX1_graph mX1_digest mX1_hashed mX1_rounds mX1_hashes mX1_next mX1_descriptions mX1_order mX1_begins mX1_groups mX1_numbers mX1_best mX1_row mX1_leastRow mX1_found mX1_many mX1_namedBlanks mX1_formCount mX1_given mX1_form mX1_octets mX2_blanks mX2_count mX2_keys mX3_words mX3_block mX3_size mX4_bytes mX4_size x st := by
  obtain ⟨A, g, hp, pi, l, rfl, L, Sh, G, ek, D, H, NU, NM⟩ := R
  have hgn := Sh.2.2.2.2.2.2
  have GL := G.len ⟨hgn.1, Int.le_refl _⟩
  obtain ⟨Gg, Gl⟩ := G gn hgn.1 (Int.le_refl _)
  refine CCN_name L Sh Gg D (by rw [Gl]; exact H) (fun w ai' ar' hd' ro' hs' nx' g' s3 s4 hp' pi' l' S' D' e' H' f' => ?_) (fun w y ai' al' ar' hd' ro' hs' nx' g' f' k' nb' fc' s3 s4 hp' pi' l' Bs S' D' e' H' fa fl enb efc NB nB mB J ok => ?_)
  · rw [Gl] at H' w
    exact h0 w _ _ _ _ _ _ _ _ _ (chRm.hash L G ek NU NM S' D' e' H' f')
  · rw [Gl] at H' w J mB
    refine h1 w y _ _ ai' al' ar' hd' ro' hs' nx' g' f' k' nb' fc' s3 s4 ⟨Bs, nB, mB, J⟩ ⟨A, g, hp', pi', l', rfl, L, S', fun j j0 j1 => ?_, ek, D', Or.inr ⟨e', H'⟩, NB, ⟨enb, GL.1⟩, rfl, ⟨efc, by omega, GL.2.1⟩, rfl, fun j j0 j1 => cnOk_m GL.1.2 (ok j j0 j1)⟩
    have n13 : ∀ t, (0 ≤ t ∧ t < 3) → A 13 j ≠ A 8 t := fun t ht => L.ne ⟨j0, show j < gn + 1 by omega⟩ ⟨ht.1, show t < (3 : Int) from ht.2⟩ (Or.inl (by decide))
    unfold chG
    rw [fl _ (n13 0 (by decide)) (n13 1 (by decide)) (n13 2 (by decide))]
    exact G j j0 j1
theorem CCN_isKeptB (e : mX1_keptCount x = gn) (h1 : 0 ≤ o ∧ o < gn → Bq) (h0 : ¬ (0 ≤ o ∧ o < gn) → Aq) : wpCN_X1_isKept (fun r => (r = 0 → Aq) ∧ (¬ r = 0 → Bq)) mX1_keptCount x o := by
  unfold wpCN_X1_isKept
  rw [e]
  exact ⟨fun z => ⟨fun _ => h0 (by omega), fun w => absurd rfl w⟩, fun z => ⟨fun w => ⟨fun _ => h0 (by omega), fun w => absurd rfl w⟩, fun w => ⟨fun w => absurd w (by decide), fun _ => h1 (by omega)⟩⟩⟩
theorem CCN_match {post : Int → (Nat → Int → Int) → (Nat → Int) → (Nat → Int) → (Nat → Int) → Prop} (R : chRm kd an ai al ar mX1_graph mX1_kept mX1_keptCount mX1_digest mX1_hashed mX1_rounds mX1_hashes mX1_next mX1_descriptions mX1_order mX1_begins mX1_groups mX1_numbers mX1_best mX1_row mX1_leastRow mX1_found mX1_many mX1_namedBlanks mX1_formCount mX1_given mX1_form mX1_octets mX1_ways mX1_wanted mX1_taken mX2_blanks mX2_count mX2_keys mX3_words mX3_block mX3_size mX4_bytes mX4_size x nn LL gn nbk fc P F) (ho : 0 ≤ o ∧ o < gn) (hm : 1 ≤ k) (h0 : ¬ (nn o = nn gn ∧ (LL o).length = (LL gn).length) → ∀ ai' w' wa' t', chRm kd an (ai') al ar mX1_graph mX1_kept mX1_keptCount mX1_digest mX1_hashed mX1_rounds mX1_hashes mX1_next mX1_descriptions mX1_order mX1_begins mX1_groups mX1_numbers mX1_best mX1_row mX1_leastRow mX1_found mX1_many mX1_namedBlanks mX1_formCount mX1_given mX1_form mX1_octets (w') (wa') (t') mX2_blanks mX2_count mX2_keys mX3_words mX3_block mX3_size mX4_bytes mX4_size x nn LL gn nbk fc P F → post 0 ai' w' wa' t') (h1 : nn o = nn gn → (LL o).length = (LL gn).length → ∀ ai' w' wa' t' y (Cs : List (List Int)), Cs.Nodup → (∀ t, t ∈ Cs → cnPm (nn gn) t ∧ cnTo (cnAt t) (LL gn) (LL o)) → y = (Cs.length : Int) → y ≤ k → (y < k → ∀ t, cnPm (nn gn) t → cnTo (cnAt t) (LL gn) (LL o) → t ∈ Cs) → y ≤ 43046721 → chRm kd an (ai') al ar mX1_graph mX1_kept mX1_keptCount mX1_digest mX1_hashed mX1_rounds mX1_hashes mX1_next mX1_descriptions mX1_order mX1_begins mX1_groups mX1_numbers mX1_best mX1_row mX1_leastRow mX1_found mX1_many mX1_namedBlanks mX1_formCount mX1_given mX1_form mX1_octets (w') (wa') (t') mX2_blanks mX2_count mX2_keys mX3_words mX3_block mX3_size mX4_bytes mX4_size x nn LL gn nbk fc P F → post y ai' w' wa' t') : wpCN_X1_match post kd an ai al ar mX1_graph mX1_kept mX1_numbers mX1_ways mX1_wanted mX1_taken mX2_blanks mX2_count mX2_keys x o k := by
  obtain ⟨A, g, hp, pi, l, rfl, L, Sh, G, ek, D, H, NU, NM⟩ := R
  have hgn := Sh.2.2.2.2.2.2
  obtain ⟨k1, l1⟩ := chX1 L
  have k14 := chX14 L (j := gn) ⟨hgn.1, by omega⟩
  have k14o := chX14 L (j := o) ⟨ho.1, by omega⟩
  obtain ⟨Gg, Gl⟩ := G gn hgn.1 (Int.le_refl _)
  obtain ⟨Go, Glo⟩ := G o ho.1 (by omega)
  have hn := Gg.2.1.2
  have nn7 : ∀ (i : Nat) j, (0 ≤ j ∧ j < chN gn i) → (i = 7 → ¬ j = 1) → A i j ≠ A 7 1 := fun i j hj h7 => by
    by_cases y : i = 7
    · exact L.ne hj ⟨by decide, show (1 : Int) < 4 by decide⟩ (Or.inr (h7 y))
    · exact L.ne hj ⟨by decide, show (1 : Int) < 4 by decide⟩ (Or.inl y)
  -- only the numbers at hand changed
  have keep : ∀ (ai' : Nat → Int → Int) (w' wa' t' : Nat → Int), (∀ a, a ≠ A 7 1 → ai' a = ai a) → chNu ai' A → chRm kd an (ai') al ar mX1_graph mX1_kept mX1_keptCount mX1_digest mX1_hashed mX1_rounds mX1_hashes mX1_next mX1_descriptions mX1_order mX1_begins mX1_groups mX1_numbers mX1_best mX1_row mX1_leastRow mX1_found mX1_many mX1_namedBlanks mX1_formCount mX1_given mX1_form mX1_octets (w') (wa') (t') mX2_blanks mX2_count mX2_keys mX3_words mX3_block mX3_size mX4_bytes mX4_size (A 0 0) nn LL gn nbk fc P F := fun ai' w' wa' t' fa nu => by
    have f1 : ∀ i : Nat, chN gn i = 1 → ¬ i = 7 → ai' (A i 0) = ai (A i 0) := fun i e ne => fa _ (nn7 i 0 ⟨Int.le_refl 0, by rw [e]; decide⟩ (fun y => absurd y ne))
    have f10 : ∀ j, (0 ≤ j ∧ j < 18) → ai' (A 10 j) = ai (A 10 j) := fun j hj => fa _ (nn7 10 j ⟨hj.1, show j < (18 : Int) from hj.2⟩ (fun y => absurd y (by decide)))
    have f7 : ∀ j, (0 ≤ j ∧ j < 4) → ¬ j = 1 → ai' (A 7 j) = ai (A 7 j) := fun j hj ne => fa _ (nn7 7 j ⟨hj.1, show j < (4 : Int) from hj.2⟩ (fun _ => ne))
    refine ⟨A, g, hp, pi, l, rfl, L, Sh, G, ek, ?_, ?_, nu, ?_⟩
    · obtain ⟨d1, d2, d3, d4, d5, d6⟩ := D
      refine ⟨d1, d2, d3, d4, fun i i0 i1 => ?_, fun t t0 t1 => ?_⟩
      · rw [f1 3 rfl (by decide)]; exact d5 i i0 i1
      · rw [f1 4 rfl (by decide)]; exact d6 t t0 t1
    · refine H.imp id (fun h => ⟨h.1, fun c c0 c1 => ?_, h.2.2.1, ?_⟩)
      · have hhp := Sh.2.2.2.2.2.1
        rw [f10 _ (by omega)]; exact h.2.1 c c0 c1
      · rw [f1 6 rfl (by decide), f7 0 (by decide) (by decide)]; exact h.2.2.2
    · unfold chNm
      rw [f7 3 (by decide) (by decide)]
      exact NM
  unfold wpCN_X1_match
  refine kOn_of Sh.1.2.1 ⟨k1, by omega, fun r er w1 ew1 wa1 ewa t1 et1 => ?_⟩
  rw [er, Sh.2.2.2.1.1 o ho.1 ho.2]
  refine kOn_of rfl ⟨k14o, kOn_of Sh.1.1 ⟨k14, ?_⟩⟩
  rw [Gg.2.1.1, Go.2.1.1, Gg.2.2.1.1, Go.2.2.1.1]
  have zero : w1 (A 0 0) = 0 := by rw [ew1, va_up_s]
  refine ⟨fun e1 => ⟨fun e2 => ?_, fun e2 => ?_⟩, fun e1 => ?_⟩
  · have e2' : (LL o).length = (LL gn).length := by omega
    rw [e1] at Go
    have b9 : ∀ k : Nat, k < 9 → cn9 k ≤ 43046721 := by decide
    have c9 := b9 (nn gn).toNat (by omega)
    refine CCN_pair (mX1_wanted := wa1) L Sh Gg Go k14o Gl Glo (nn gn).toNat 1 (ai (A 7 1)) ai w1 t1 10 _ (by omega) (by decide) (by omega) (fun _ _ _ => rfl) ⟨fun c c0 c1 => by omega, fun c d c0 cd d1 => by omega⟩ NU (by rw [et1, va_up_s]; exact mS_c mS_0 (fun k _ _ => ⟨fun h => h.elim, fun ⟨c, hc, _⟩ => by omega⟩)) (by rw [zero]; exact Int.le_refl 0) (by rw [zero, ewa, va_up_s]; omega) (by rw [zero]; omega) (fun ai' w' t' Cs nC mC ew lw cC lC _ _ NU' fa => ?_)
    rw [zero, Int.zero_add] at ew
    rw [ewa, va_up_s] at lw cC
    exact h1 e1 e2' ai' w' wa1 t' _ Cs nC (fun t ht => ⟨(mC t ht).1, (mC t ht).2.2⟩) ew lw (fun lt t t1 t2 => cC lt t ⟨t1, fun c c0 c1 => by omega, t2⟩) (by omega) (keep ai' w' wa1 t' fa NU')
  · rw [zero]
    exact h0 (fun w => e2 (by omega)) ai w1 wa1 t1 (keep ai w1 wa1 t1 (fun _ _ => rfl) NU)
  · rw [zero]
    exact h0 (fun w => e1 w.1) ai w1 wa1 t1 (keep ai w1 wa1 t1 (fun _ _ => rfl) NU)
theorem CCN_ways {post : Int → (Nat → Int → Int) → (Nat → Int) → (Nat → Int) → (Nat → Int) → Prop} (R : chRm kd an ai al ar mX1_graph mX1_kept mX1_keptCount mX1_digest mX1_hashed mX1_rounds mX1_hashes mX1_next mX1_descriptions mX1_order mX1_begins mX1_groups mX1_numbers mX1_best mX1_row mX1_leastRow mX1_found mX1_many mX1_namedBlanks mX1_formCount mX1_given mX1_form mX1_octets mX1_ways mX1_wanted mX1_taken mX2_blanks mX2_count mX2_keys mX3_words mX3_block mX3_size mX4_bytes mX4_size x nn LL gn nbk fc P F) (h0 : ¬ (0 ≤ o ∧ o < gn) → post (-1) ai mX1_ways mX1_wanted mX1_taken) (h1 : (0 ≤ o ∧ o < gn) → ¬ (nn o = nn gn ∧ (LL o).length = (LL gn).length) → ∀ ai' w' wa' t', chRm kd an (ai') al ar mX1_graph mX1_kept mX1_keptCount mX1_digest mX1_hashed mX1_rounds mX1_hashes mX1_next mX1_descriptions mX1_order mX1_begins mX1_groups mX1_numbers mX1_best mX1_row mX1_leastRow mX1_found mX1_many mX1_namedBlanks mX1_formCount mX1_given mX1_form mX1_octets (w') (wa') (t') mX2_blanks mX2_count mX2_keys mX3_words mX3_block mX3_size mX4_bytes mX4_size x nn LL gn nbk fc P F → post 0 ai' w' wa' t') (h2 : (0 ≤ o ∧ o < gn) → nn o = nn gn → (LL o).length = (LL gn).length → ∀ y ai' w' wa' t', cnWy (LL gn) (LL o) (nn gn) y → chRm kd an (ai') al ar mX1_graph mX1_kept mX1_keptCount mX1_digest mX1_hashed mX1_rounds mX1_hashes mX1_next mX1_descriptions mX1_order mX1_begins mX1_groups mX1_numbers mX1_best mX1_row mX1_leastRow mX1_found mX1_many mX1_namedBlanks mX1_formCount mX1_given mX1_form mX1_octets (w') (wa') (t') mX2_blanks mX2_count mX2_keys mX3_words mX3_block mX3_size mX4_bytes mX4_size x nn LL gn nbk fc P F → post y ai' w' wa' t') : wpCN_X1_ways post kd an ai al ar mX1_graph mX1_kept mX1_keptCount mX1_numbers mX1_ways mX1_wanted mX1_taken mX2_blanks mX2_count mX2_keys x o := by
  have ek : mX1_keptCount x = gn := by
    obtain ⟨A, g, hp, pi, l, rfl, L, Sh, G, ek, _⟩ := R
    exact ek
  unfold wpCN_X1_ways
  refine CCN_isKeptB ek (fun ho => CCN_match R ho (by decide) (h1 ho) (fun e1 e2 ai' w' wa' t' y Cs nC mC ey ly cC l4 R' => ?_)) h0
  exact h2 ho e1 e2 y ai' w' wa' t' ⟨Cs, nC, fun t => ⟨mC t, fun w => cC (by omega) t w.1 w.2⟩, ey⟩ R'
theorem CCN_isomorphic {post : Int → (Nat → Int → Int) → (Nat → Int) → (Nat → Int) → (Nat → Int) → Prop} (R : chRm kd an ai al ar mX1_graph mX1_kept mX1_keptCount mX1_digest mX1_hashed mX1_rounds mX1_hashes mX1_next mX1_descriptions mX1_order mX1_begins mX1_groups mX1_numbers mX1_best mX1_row mX1_leastRow mX1_found mX1_many mX1_namedBlanks mX1_formCount mX1_given mX1_form mX1_octets mX1_ways mX1_wanted mX1_taken mX2_blanks mX2_count mX2_keys mX3_words mX3_block mX3_size mX4_bytes mX4_size x nn LL gn nbk fc P F) (h0 : ¬ (0 ≤ o ∧ o < gn) → post (-1) ai mX1_ways mX1_wanted mX1_taken) (h1 : (0 ≤ o ∧ o < gn) → ¬ ((nn o = nn gn ∧ (LL o).length = (LL gn).length) ∧ ∃ t, cnPm (nn gn) t ∧ cnTo (cnAt t) (LL gn) (LL o)) → ∀ ai' w' wa' t', chRm kd an (ai') al ar mX1_graph mX1_kept mX1_keptCount mX1_digest mX1_hashed mX1_rounds mX1_hashes mX1_next mX1_descriptions mX1_order mX1_begins mX1_groups mX1_numbers mX1_best mX1_row mX1_leastRow mX1_found mX1_many mX1_namedBlanks mX1_formCount mX1_given mX1_form mX1_octets (w') (wa') (t') mX2_blanks mX2_count mX2_keys mX3_words mX3_block mX3_size mX4_bytes mX4_size x nn LL gn nbk fc P F → post 0 ai' w' wa' t') (h2 : (0 ≤ o ∧ o < gn) → ((nn o = nn gn ∧ (LL o).length = (LL gn).length) ∧ ∃ t, cnPm (nn gn) t ∧ cnTo (cnAt t) (LL gn) (LL o)) → ∀ ai' w' wa' t', chRm kd an (ai') al ar mX1_graph mX1_kept mX1_keptCount mX1_digest mX1_hashed mX1_rounds mX1_hashes mX1_next mX1_descriptions mX1_order mX1_begins mX1_groups mX1_numbers mX1_best mX1_row mX1_leastRow mX1_found mX1_many mX1_namedBlanks mX1_formCount mX1_given mX1_form mX1_octets (w') (wa') (t') mX2_blanks mX2_count mX2_keys mX3_words mX3_block mX3_size mX4_bytes mX4_size x nn LL gn nbk fc P F → post 1 ai' w' wa' t') : wpCN_X1_isomorphic post kd an ai al ar mX1_graph mX1_kept mX1_keptCount mX1_numbers mX1_ways mX1_wanted mX1_taken mX2_blanks mX2_count mX2_keys x o := by
  have ek : mX1_keptCount x = gn := by
    obtain ⟨A, g, hp, pi, l, rfl, L, Sh, G, ek, _⟩ := R
    exact ek
  unfold wpCN_X1_isomorphic
  refine CCN_isKeptB ek (fun ho => CCN_match R ho (by decide) (fun w => h1 ho (fun u => w u.1)) (fun e1 e2 ai' w' wa' t' y Cs nC mC ey ly cC l4 R' => ?_)) h0
  by_cases z : y = 0
  · have eC : Cs = [] := List.eq_nil_of_length_eq_zero (by omega)
    rw [z]
    refine h1 ho (fun u => ?_) ai' w' wa' t' R'
    obtain ⟨t, t1, t2⟩ := u.2
    have := cC (by omega) t t1 t2
    rw [eC] at this
    exact absurd this (by simp)
  · have y1 : y = 1 := by omega
    rw [y1]
    match Cs, ey, mC with
    | [], ey, _ => exact absurd ey z
    | t :: _, _, mC => exact h2 ho ⟨⟨e1, e2⟩, t, mC t (List.mem_cons_self ..)⟩ ai' w' wa' t' R'
/-- rising keys, all among the other's: the same -/
theorem chKe {a c : Int → Int} {m : Int} (ha : ∀ i j, 0 ≤ i → i < j → j < m → a i < a j) (hc : ∀ i j, 0 ≤ i → i < j → j < m → c i < c j) (sub : ∀ i, 0 ≤ i → i < m → ∃ j, (0 ≤ j ∧ j < m) ∧ a i = c j) : ∀ i, 0 ≤ i → i < m → a i = c i := by
  have up : ∀ (k : Nat) (j : Int), (k : Int) < m → (0 ≤ j ∧ j < m) → a k = c j → (k : Int) ≤ j := fun k => by
    induction k with
    | zero => intro j _ hj _; omega
    | succ k ih =>
      intro j hk hj e
      obtain ⟨j', hj', e'⟩ := sub k (by omega) (by omega)
      have := ih j' (by omega) hj' e'
      have l := ha k ((k : Int) + 1) (by omega) (by omega) (by omega)
      rw [show (((k + 1 : Nat) : Int)) = (k : Int) + 1 by omega] at e
      by_cases w : j' < j
      · omega
      · exfalso
        by_cases w2 : j = j'
        · rw [w2] at e; omega
        · have := hc j j' hj.1 (by omega) hj'.2
          omega
  have dn : ∀ (k : Nat) (j : Int), (k : Int) < m → (0 ≤ j ∧ j < m) → a (m - 1 - k) = c j → j ≤ m - 1 - k := fun k => by
    induction k with
    | zero => intro j _ hj _; omega
    | succ k ih =>
      intro j hk hj e
      obtain ⟨j', hj', e'⟩ := sub (m - 1 - k) (by omega) (by omega)
      have := ih j' (by omega) hj' e'
      have l := ha (m - 1 - ((k + 1 : Nat) : Int)) (m - 1 - k) (by omega) (by omega) (by omega)
      by_cases w : j < j'
      · omega
      · exfalso
        by_cases w2 : j = j'
        · rw [w2] at e; omega
        · have := hc j' j hj'.1 (by omega) hj.2
          omega
  intro i i0 i1
  obtain ⟨j, hj, e⟩ := sub i i0 i1
  have u := up i.toNat j (by omega) hj (by rw [show (i.toNat : Int) = i by omega]; exact e)
  have d := dn (m - 1 - i).toNat j (by omega) hj (by rw [show m - 1 - ((m - 1 - i).toNat : Int) = i by omega]; exact e)
  have : j = i := by omega
  rw [this] at e
  exact e
theorem CCN_equal {post : Int → Prop} (R : chRm kd an ai al ar mX1_graph mX1_kept mX1_keptCount mX1_digest mX1_hashed mX1_rounds mX1_hashes mX1_next mX1_descriptions mX1_order mX1_begins mX1_groups mX1_numbers mX1_best mX1_row mX1_leastRow mX1_found mX1_many mX1_namedBlanks mX1_formCount mX1_given mX1_form mX1_octets mX1_ways mX1_wanted mX1_taken mX2_blanks mX2_count mX2_keys mX3_words mX3_block mX3_size mX4_bytes mX4_size x nn LL gn nbk fc P F) (h0 : ¬ (0 ≤ o ∧ o < gn) → post (-1)) (h1 : (0 ≤ o ∧ o < gn) → ¬ (nn o = nn gn ∧ (LL o).length = (LL gn).length ∧ ∀ t ∈ LL gn, t ∈ LL o) → post 0) (h2 : (0 ≤ o ∧ o < gn) → (nn o = nn gn ∧ (LL o).length = (LL gn).length ∧ ∀ t ∈ LL gn, t ∈ LL o) → post 1) : wpCN_X1_equal post kd an al ar mX1_graph mX1_kept mX1_keptCount mX2_blanks mX2_count mX2_keys x o := by
  obtain ⟨A, g, hp, pi, l, rfl, L, Sh, G, ek, D, H, NU, NM⟩ := R
  have hgn := Sh.2.2.2.2.2.2
  obtain ⟨k1, l1⟩ := chX1 L
  have k14 := chX14 L (j := gn) ⟨hgn.1, by omega⟩
  unfold wpCN_X1_equal
  refine CCN_isKeptB ek (fun ho => kOn_of Sh.1.2.1 ⟨k1, by omega, fun r er => kOn_of Sh.1.1 ⟨k14, ?_⟩⟩) h0
  have k14o := chX14 L (j := o) ⟨ho.1, by omega⟩
  obtain ⟨Gg, Gl⟩ := G gn hgn.1 (Int.le_refl _)
  obtain ⟨Go, Glo⟩ := G o ho.1 (by omega)
  have lm := Gg.2.2.1.2.2
  rw [er, Sh.2.2.2.1.1 o ho.1 ho.2]
  unfold wpCN_X2_isSame
  refine kOn_of rfl ⟨k14o, ?_⟩
  rw [Gg.2.1.1, Go.2.1.1, Gg.2.2.1.1, Go.2.2.1.1]
  have no : ¬ (nn o = nn gn ∧ (LL o).length = (LL gn).length ∧ ∀ t ∈ LL gn, t ∈ LL o) → ((0 : Int) = 0 ∨ (0 : Int) = 1) ∧ (((0 : Int) = 0 → post 0) ∧ (¬ (0 : Int) = 0 → post 1)) := fun w => ⟨Or.inl rfl, fun _ => h1 ho w, fun w => absurd rfl w⟩
  have zero : ∀ K : Int → Prop, K 0 → ∃ fu : Nat, wCN_X2_isSame_30 K (A 14 gn) (some (A 14 o)) kd an al mX2_count mX2_keys fu 0 0 := fun K hK => ⟨1, by
    rw [wCN_X2_isSame_30]
    exact ⟨fun _ => hK, fun _ => ⟨fun _ => hK, fun w => absurd rfl w⟩⟩⟩
  refine ⟨fun e1 => ⟨fun e2 => ?_, fun e2 => zero _ (no (fun w => e2 (by omega)))⟩, fun e1 => zero _ (no (fun w => e1 w.1.symm))⟩
  have key : (∀ i, 0 ≤ i → i < ((LL gn).length : Int) → al (A 13 gn) i = al (A 13 o) i) ↔ ∀ t ∈ LL gn, t ∈ LL o := by
    constructor
    · intro h t ht
      rw [← Gl] at ht
      obtain ⟨i, hi, e⟩ := chL_mem.1 ht
      rw [← Glo]
      exact chL_mem.2 ⟨i, by omega, by rw [e, h i hi.1 hi.2]⟩
    · intro h
      refine chKe Gg.2.2.2.2 (fun i j i0 ij j1 => Go.2.2.2.2 i j i0 ij (by omega)) (fun i i0 i1 => ?_)
      have m1 : cnDk (al (A 13 gn) i) ∈ LL gn := by rw [← Gl]; exact chL_mem.2 ⟨i, ⟨i0, i1⟩, rfl⟩
      have m2 := h _ m1
      rw [← Glo] at m2
      obtain ⟨j, hj, e⟩ := chL_mem.1 m2
      exact ⟨j, by omega, by rw [(Gg.2.2.2.1 i i0 i1).1, e, ← (Go.2.2.2.1 j hj.1 hj.2).1]⟩
  refine wl2 (fun fu y i => wCN_X2_isSame_30 _ (A 14 gn) (some (A 14 o)) kd an al mX2_count mX2_keys fu y i) (fun y i => (0 ≤ i ∧ i ≤ ((LL gn).length : Int)) ∧ ((y = 1 ∧ ∀ j, 0 ≤ j → j < i → al (A 13 gn) j = al (A 13 o) j) ∨ (y = 0 ∧ ¬ ∀ j, 0 ≤ j → j < ((LL gn).length : Int) → al (A 13 gn) j = al (A 13 o) j))) (fun _ i => ((LL gn).length - i).toNat) ?_ 1 0 ⟨by omega, Or.inl ⟨rfl, fun j j0 j1 => by omega⟩⟩
  rintro y i ⟨hi, h⟩ fu ih
  rw [wCN_X2_isSame_30, Gg.2.2.1.1]
  have done0 : y = 0 → ¬ (∀ j, 0 ≤ j → j < ((LL gn).length : Int) → al (A 13 gn) j = al (A 13 o) j) → (y = 0 ∨ y = 1) ∧ ((y = 0 → post 0) ∧ (¬ y = 0 → post 1)) := fun ey w => ⟨Or.inl ey, fun _ => h1 ho (fun u => w (key.2 u.2.2)), fun z => absurd ey z⟩
  refine ⟨fun z => ?_, fun z => ⟨fun y0 => ?_, fun y0 => ?_⟩⟩
  · rcases h with ⟨ey, h⟩ | ⟨ey, h⟩
    · exact ⟨Or.inr ey, fun w => by omega, fun _ => h2 ho ⟨e1.symm, by omega, key.1 (fun j j0 j1 => h j j0 (by omega))⟩⟩
    · exact done0 ey h
  · rcases h with ⟨ey, h⟩ | ⟨ey, h⟩
    · omega
    · exact done0 ey h
  · rcases h with ⟨ey, h⟩ | ⟨ey, h⟩
    · refine kOn_of Gg.1.1 ⟨Gg.1.2.1, by have := Gg.1.2.2; omega, kOn_of rfl ⟨k14o, kOn_of Go.1.1 ⟨Go.1.2.1, by have := Go.1.2.2; omega, fun e => ⟨by omega, fun i' ei => ?_⟩, fun e => ⟨by omega, fun i' ei => ?_⟩⟩⟩⟩
      · rw [ei]
        refine ih 1 (i + 1) ⟨by omega, Or.inl ⟨rfl, fun j j0 j1 => ?_⟩⟩ (by omega)
        by_cases w : j = i
        · rw [w]; exact e
        · exact h j j0 (by omega)
      · rw [ei]
        exact ih 0 (i + 1) ⟨by omega, Or.inr ⟨rfl, fun w => e (w i hi.1 (by omega))⟩⟩ (by omega)
    · exact absurd ey y0
end
