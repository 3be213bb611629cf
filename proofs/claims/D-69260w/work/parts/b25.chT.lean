/-! CanonNames (room CN): the room; graphs at hand and kept -/
theorem cnTp_m {n n' : Int} {t : qA} (h : n ≤ n') (ht : cnTp n t) : cnTp n' t := by
  unfold cnTp cnPt at ht ⊢
  omega
theorem cnOk_m {n n' k : Int} (h : n ≤ n') (hk : cnOk n k) : cnOk n' k := ⟨hk.1, cnTp_m h hk.2⟩
/-- the graphs: the one at hand is number gn -/
def chGs (kd an : Nat → Nat) (al : Nat → Int → Int) (gb gc : Nat → Int) (gk : Nat → Option Nat) (A : Nat → Int → Nat) (nn : Int → Int) (LL : Int → List qA) (gn : Int) : Prop := ∀ j, 0 ≤ j → j ≤ gn → chG kd an al gb gc gk (A 14 j) (A 13 j) (nn j) ((LL j).length : Int) ∧ chL (al (A 13 j)) ((LL j).length : Int) = LL j
/-- what was named latest -/
def chNm (ai al : Nat → Int → Int) (A : Nat → Int → Nat) (nb fo nbk fc : Int) (P F : List Int) : Prop := (nb = nbk ∧ 0 ≤ nbk ∧ nbk ≤ 8) ∧ aF (ai (A 7 3)) 1 nbk.toNat = P ∧ (fo = fc ∧ 0 ≤ fc ∧ fc ≤ 40) ∧ chFl (al (A 8 2)) fc = F ∧ ∀ j, 0 ≤ j → j < fc → cnOk 8 (al (A 8 2) j)
def chNu (ai : Nat → Int → Int) (A : Nat → Int → Nat) : Prop := ∀ b, 1 ≤ b → b ≤ 8 → 0 ≤ ai (A 7 1) b ∧ ai (A 7 1) b ≤ 8
/-- THE ROOM: nn LL the graphs (number gn at hand), nbk fc P F what was named latest -/
def chRm (kd : Nat → Nat) (an : Nat → Nat) (ai : Nat → Int → Int) (al : Nat → Int → Int) (ar : Nat → Int → Option Nat) (mX1_graph : Nat → Option Nat) (mX1_kept : Nat → Option Nat) (mX1_keptCount : Nat → Int) (mX1_digest : Nat → Option Nat) (mX1_hashed : Nat → Int) (mX1_rounds : Nat → Int) (mX1_hashes : Nat → Option Nat) (mX1_next : Nat → Option Nat) (mX1_descriptions : Nat → Option Nat) (mX1_order : Nat → Option Nat) (mX1_begins : Nat → Option Nat) (mX1_groups : Nat → Int) (mX1_numbers : Nat → Option Nat) (mX1_best : Nat → Option Nat) (mX1_row : Nat → Option Nat) (mX1_leastRow : Nat → Option Nat) (mX1_found : Nat → Int) (mX1_many : Nat → Int) (mX1_namedBlanks : Nat → Int) (mX1_formCount : Nat → Int) (mX1_given : Nat → Option Nat) (mX1_form : Nat → Option Nat) (mX1_octets : Nat → Option Nat) (mX1_ways : Nat → Int) (mX1_wanted : Nat → Int) (mX1_taken : Nat → Int) (mX2_blanks : Nat → Int) (mX2_count : Nat → Int) (mX2_keys : Nat → Option Nat) (mX3_words : Nat → Option Nat) (mX3_block : Nat → Option Nat) (mX3_size : Nat → Int) (mX4_bytes : Nat → Option Nat) (mX4_size : Nat → Int) (x : Nat) (nn : Int → Int) (LL : Int → List qA) (gn nbk fc : Int) (P F : List Int) : Prop := ∃ A g hp pi l, A 0 0 = x ∧ Lab chK chLn kd an A g (chN gn) ∧ chS ar mX1_graph mX1_kept mX1_digest mX1_hashes mX1_next mX1_descriptions mX1_order mX1_begins mX1_numbers mX1_best mX1_row mX1_leastRow mX1_given mX1_form mX1_octets mX2_keys mX3_words mX3_block mX4_bytes A hp pi gn ∧ chGs kd an al mX2_blanks mX2_count mX2_keys A nn LL gn ∧ mX1_keptCount (A 0 0) = gn ∧ chD kd an ai mX3_words mX3_block mX3_size (A 2 0) (A 3 0) (A 4 0) l ∧ (mX1_hashed (A 0 0) = 0 ∨ (mX1_hashed (A 0 0) = 1 ∧ chHd ai A hp (mX1_rounds (A 0 0)) (mX1_groups (A 0 0)) (nn gn) (LL gn))) ∧ chNu ai A ∧ chNm ai al A (mX1_namedBlanks (A 0 0)) (mX1_formCount (A 0 0)) nbk fc P F
section
variable {kd : Nat → Nat} {an : Nat → Nat} {ai : Nat → Int → Int} {al : Nat → Int → Int} {ar : Nat → Int → Option Nat} {mX1_graph : Nat → Option Nat} {mX1_kept : Nat → Option Nat} {mX1_keptCount : Nat → Int} {mX1_digest : Nat → Option Nat} {mX1_hashed : Nat → Int} {mX1_rounds : Nat → Int} {mX1_hashes : Nat → Option Nat} {mX1_next : Nat → Option Nat} {mX1_descriptions : Nat → Option Nat} {mX1_order : Nat → Option Nat} {mX1_begins : Nat → Option Nat} {mX1_groups : Nat → Int} {mX1_numbers : Nat → Option Nat} {mX1_best : Nat → Option Nat} {mX1_row : Nat → Option Nat} {mX1_leastRow : Nat → Option Nat} {mX1_found : Nat → Int} {mX1_many : Nat → Int} {mX1_namedBlanks : Nat → Int} {mX1_formCount : Nat → Int} {mX1_given : Nat → Option Nat} {mX1_form : Nat → Option Nat} {mX1_octets : Nat → Option Nat} {mX1_ways : Nat → Int} {mX1_wanted : Nat → Int} {mX1_taken : Nat → Int} {mX2_blanks : Nat → Int} {mX2_count : Nat → Int} {mX2_keys : Nat → Option Nat} {mX3_words : Nat → Option Nat} {mX3_block : Nat → Option Nat} {mX3_size : Nat → Int} {mX4_bytes : Nat → Option Nat} {mX4_size : Nat → Int} {x : Nat} {nn : Int → Int} {LL : Int → List qA} {gn nbk fc : Int} {P F : List Int} {b s p o k i v : Int} {MC MS : Nat} {A : Nat → Int → Nat} {g : Nat → Nat × Int} {hp : Int} {pi : Int → Int} {l : List Int} {m n : Int} {Aq Bq : Prop}
theorem chGs.len (G : chGs kd an al mX2_blanks mX2_count mX2_keys A nn LL gn) {j : Int} (hj : 0 ≤ j ∧ j ≤ gn) : (0 ≤ nn j ∧ nn j ≤ 8) ∧ ((LL j).length : Int) ≤ 40 ∧ (∀ t ∈ LL j, cnTp (nn j) t) ∧ (LL j).Nodup := by
  obtain ⟨g1, g2⟩ := G j hj.1 hj.2
  refine ⟨g1.2.1.2, g1.2.2.1.2.2, fun t ht => ?_, ?_⟩
  · rw [← g2] at ht
    exact g1.ok ht
  · rw [← g2]
    exact g1.nd
theorem CCN_areB {k_ : Nat} (s1 : mX1_graph x = some k_) (kk : kd k_ = 2) (eb : mX2_blanks k_ = n) (hn : 0 ≤ n ∧ n ≤ 8) (h1 : cnTp n (s, p, o) → Bq) (h0 : ¬ cnTp n (s, p, o) → Aq) : wpCN_X1_are (fun r => (r = 0 → Aq) ∧ (¬ r = 0 → Bq)) kd mX1_graph mX2_blanks x s p o := by
  have no : ¬ cnTp n (s, p, o) → ((0 : Int) = 0 → Aq) ∧ (¬ (0 : Int) = 0 → Bq) := fun w => ⟨fun _ => h0 w, fun y => absurd rfl y⟩
  unfold wpCN_X1_are
  exact kOn_of s1 ⟨kk, CCN_isPointB eb hn (fun c1 => CCN_isPointB eb hn (fun c2 => CCN_isPointB eb hn (fun c3 => ⟨fun y => absurd y (by decide), fun _ => h1 ⟨c1, c2, c3⟩⟩) (fun w => no (fun C => w C.2.2))) (fun w => no (fun C => w C.2.1))) (fun w => no (fun C => w C.1))⟩
theorem CCN_blank {post : Int → (Nat → Int) → (Nat → Int) → Prop} (R : chRm kd an ai al ar mX1_graph mX1_kept mX1_keptCount mX1_digest mX1_hashed mX1_rounds mX1_hashes mX1_next mX1_descriptions mX1_order mX1_begins mX1_groups mX1_numbers mX1_best mX1_row mX1_leastRow mX1_found mX1_many mX1_namedBlanks mX1_formCount mX1_given mX1_form mX1_octets mX1_ways mX1_wanted mX1_taken mX2_blanks mX2_count mX2_keys mX3_words mX3_block mX3_size mX4_bytes mX4_size x nn LL gn nbk fc P F) (h1 : nn gn = 8 → post (-2) mX1_hashed mX2_blanks) (h0 : nn gn < 8 → ∀ hd' bl', chRm kd an ai al ar mX1_graph mX1_kept mX1_keptCount mX1_digest (hd') mX1_rounds mX1_hashes mX1_next mX1_descriptions mX1_order mX1_begins mX1_groups mX1_numbers mX1_best mX1_row mX1_leastRow mX1_found mX1_many mX1_namedBlanks mX1_formCount mX1_given mX1_form mX1_octets mX1_ways mX1_wanted mX1_taken (bl') mX2_count mX2_keys mX3_words mX3_block mX3_size mX4_bytes mX4_size x (updI nn gn (nn gn + 1)) LL gn nbk fc P F → post (nn gn + 1) hd' bl') : wpCN_X1_blank post kd mX1_graph mX1_hashed mX2_blanks x := by
  obtain ⟨A, g, hp, pi, l, rfl, L, Sh, G, ek, D, H, NU, NM⟩ := R
  have hgn := Sh.2.2.2.2.2.2
  have k14 := chX14 L (j := gn) ⟨hgn.1, by omega⟩
  obtain ⟨Gg, Gl⟩ := G gn hgn.1 (Int.le_refl _)
  obtain ⟨_, ⟨eb, hn⟩, _⟩ := Gg
  unfold wpCN_X1_blank
  refine kOn_of Sh.1.1 ⟨k14, ?_⟩
  rw [eb]
  refine ⟨h1, fun z r er => ?_⟩
  rw [er]
  refine kOn_of Sh.1.1 ⟨k14, ?_⟩
  rw [eb]
  refine ⟨by omega, fun v ev b2 eb2 h2 eh2 => ?_⟩
  have e1 : b2 (A 14 gn) = nn gn + 1 := by rw [eb2, va_up_s, ev]
  rw [e1]
  refine h0 (by omega) h2 b2 ⟨A, g, hp, pi, l, rfl, L, Sh, fun j j0 j1 => ?_, ek, D, Or.inl (by rw [eh2, va_up_s]), NU, NM⟩
  obtain ⟨⟨g1, g2, g3, g4, g5⟩, gl⟩ := G j j0 j1
  by_cases y : j = gn
  · rw [y] at g1 g3 g4 g5 gl ⊢
    rw [updI_s]
    exact ⟨⟨g1, ⟨e1, by omega, by omega⟩, g3, fun i i0 i1 => cnOk_m (by omega) (g4 i i0 i1), g5⟩, gl⟩
  · have ne : A 14 j ≠ A 14 gn := L.ne ⟨j0, show j < gn + 1 by omega⟩ ⟨hgn.1, show gn < gn + 1 by omega⟩ (Or.inr y)
    rw [updI_n y]
    exact ⟨⟨g1, ⟨by rw [eb2, va_up_n ne]; exact g2.1, g2.2⟩, g3, g4, g5⟩, gl⟩
theorem chNm.w {al' : Nat → Int → Int} {a1 a2 : Int} (N : chNm ai al A a1 a2 nbk fc P F) (e : al' (A 8 2) = al (A 8 2)) : chNm ai al' A a1 a2 nbk fc P F := by
  unfold chNm
  rw [e]
  exact N
/-- the keys of the graph at hand changed -/
theorem chRm.keys {al' : Nat → Int → Int} {cu' hd' : Nat → Int} {L1 : List qA} (L : Lab chK chLn kd an A g (chN gn)) (Sh : chS ar mX1_graph mX1_kept mX1_digest mX1_hashes mX1_next mX1_descriptions mX1_order mX1_begins mX1_numbers mX1_best mX1_row mX1_leastRow mX1_given mX1_form mX1_octets mX2_keys mX3_words mX3_block mX4_bytes A hp pi gn) (G : chGs kd an al mX2_blanks mX2_count mX2_keys A nn LL gn) (ek : mX1_keptCount (A 0 0) = gn) (D : chD kd an ai mX3_words mX3_block mX3_size (A 2 0) (A 3 0) (A 4 0) l) (NU : chNu ai A) (NM : chNm ai al A (mX1_namedBlanks (A 0 0)) (mX1_formCount (A 0 0)) nbk fc P F) (Gg : chG kd an al' mX2_blanks cu' mX2_keys (A 14 gn) (A 13 gn) (nn gn) (L1.length : Int)) (eL : chL (al' (A 13 gn)) (L1.length : Int) = L1) (fa : ∀ a, a ≠ A 13 gn → al' a = al a) (fc' : ∀ a, a ≠ A 14 gn → cu' a = mX2_count a) (eh : hd' (A 0 0) = 0) : chRm kd an ai (al') ar mX1_graph mX1_kept mX1_keptCount mX1_digest (hd') mX1_rounds mX1_hashes mX1_next mX1_descriptions mX1_order mX1_begins mX1_groups mX1_numbers mX1_best mX1_row mX1_leastRow mX1_found mX1_many mX1_namedBlanks mX1_formCount mX1_given mX1_form mX1_octets mX1_ways mX1_wanted mX1_taken mX2_blanks (cu') mX2_keys mX3_words mX3_block mX3_size mX4_bytes mX4_size (A 0 0) nn (updI LL gn L1) gn nbk fc P F := by
  have hgn := Sh.2.2.2.2.2.2
  refine ⟨A, g, hp, pi, l, rfl, L, Sh, fun j j0 j1 => ?_, ek, D, Or.inl eh, NU, NM.w (fa _ (L.ne ⟨by decide, show (2 : Int) < 3 by decide⟩ ⟨hgn.1, show gn < gn + 1 by omega⟩ (Or.inl (by decide))))⟩
  by_cases y : j = gn
  · rw [y, updI_s]; exact ⟨Gg, eL⟩
  · obtain ⟨⟨g1, g2, g3, g4, g5⟩, gl⟩ := G j j0 j1
    have n14 : A 14 j ≠ A 14 gn := L.ne ⟨j0, show j < gn + 1 by omega⟩ ⟨hgn.1, show gn < gn + 1 by omega⟩ (Or.inr y)
    have n13 : A 13 j ≠ A 13 gn := L.ne ⟨j0, show j < gn + 1 by omega⟩ ⟨hgn.1, show gn < gn + 1 by omega⟩ (Or.inr y)
    rw [updI_n y]
    unfold chG
    rw [fa _ n13, fc' _ n14]
    exact ⟨⟨g1, g2, g3, g4, g5⟩, gl⟩
theorem CCN_triple {post : Int → (Nat → Int → Int) → (Nat → Int) → (Nat → Int) → Prop} (R : chRm kd an ai al ar mX1_graph mX1_kept mX1_keptCount mX1_digest mX1_hashed mX1_rounds mX1_hashes mX1_next mX1_descriptions mX1_order mX1_begins mX1_groups mX1_numbers mX1_best mX1_row mX1_leastRow mX1_found mX1_many mX1_namedBlanks mX1_formCount mX1_given mX1_form mX1_octets mX1_ways mX1_wanted mX1_taken mX2_blanks mX2_count mX2_keys mX3_words mX3_block mX3_size mX4_bytes mX4_size x nn LL gn nbk fc P F) (h1 : ¬ cnTp (nn gn) (s, p, o) → post (-1) al mX1_hashed mX2_count) (h2 : cnTp (nn gn) (s, p, o) → (s, p, o) ∈ LL gn → post 0 al mX1_hashed mX2_count) (h3 : cnTp (nn gn) (s, p, o) → ¬ (s, p, o) ∈ LL gn → (LL gn).length = 40 → post (-2) al mX1_hashed mX2_count) (h4 : cnTp (nn gn) (s, p, o) → ¬ (s, p, o) ∈ LL gn → (LL gn).length < 40 → ∀ al' hd' cu' L1, L1.Perm ((s, p, o) :: LL gn) → chRm kd an ai (al') ar mX1_graph mX1_kept mX1_keptCount mX1_digest (hd') mX1_rounds mX1_hashes mX1_next mX1_descriptions mX1_order mX1_begins mX1_groups mX1_numbers mX1_best mX1_row mX1_leastRow mX1_found mX1_many mX1_namedBlanks mX1_formCount mX1_given mX1_form mX1_octets mX1_ways mX1_wanted mX1_taken mX2_blanks (cu') mX2_keys mX3_words mX3_block mX3_size mX4_bytes mX4_size x nn (updI LL gn L1) gn nbk fc P F → post 1 al' hd' cu') : wpCN_X1_triple post kd an al mX1_graph mX1_hashed mX2_blanks mX2_count mX2_keys x s p o := by
  obtain ⟨A, g, hp, pi, l, rfl, L, Sh, G, ek, D, H, NU, NM⟩ := R
  have hgn := Sh.2.2.2.2.2.2
  have k14 := chX14 L (j := gn) ⟨hgn.1, by omega⟩
  obtain ⟨Gg, Gl⟩ := G gn hgn.1 (Int.le_refl _)
  obtain ⟨eb, hn⟩ := Gg.2.1
  have ec := Gg.2.2.1.1
  unfold wpCN_X1_triple
  refine CCN_areB Sh.1.1 k14 eb hn (fun t => ?_) h1
  refine CCN_key hn.2 t (kOn_of Sh.1.1 ⟨k14, CCN_hasB Gg t (fun M => h2 t (by rw [← Gl]; exact M)) (fun M => ?_)⟩)
  rw [ec]
  refine ⟨fun z => h3 t (fun w => M (by rw [Gl]; exact w)) (by omega), fun z => ?_⟩
  refine CCN_gadd Gg t M (by have := Gg.2.2.1.2.2; omega) (fun al' cu' G' PM fa fc' hd' eh => ?_)
  have e1 : ((chL (al' (A 13 gn)) ((LL gn).length + 1)).length : Int) = (LL gn).length + 1 := by
    unfold chL
    rw [aF_len]; omega
  refine h4 t (fun w => M (by rw [Gl]; exact w)) (by have := Gg.2.2.1.2.2; omega) al' hd' cu' (chL (al' (A 13 gn)) ((LL gn).length + 1)) (by rw [Gl] at PM; exact PM) (chRm.keys L Sh G ek D NU NM (by rw [e1]; exact G') (by rw [e1]) fa fc' (by rw [eh, va_up_s]))
theorem CCN_drop {post : Int → (Nat → Int → Int) → (Nat → Int) → (Nat → Int) → Prop} (R : chRm kd an ai al ar mX1_graph mX1_kept mX1_keptCount mX1_digest mX1_hashed mX1_rounds mX1_hashes mX1_next mX1_descriptions mX1_order mX1_begins mX1_groups mX1_numbers mX1_best mX1_row mX1_leastRow mX1_found mX1_many mX1_namedBlanks mX1_formCount mX1_given mX1_form mX1_octets mX1_ways mX1_wanted mX1_taken mX2_blanks mX2_count mX2_keys mX3_words mX3_block mX3_size mX4_bytes mX4_size x nn LL gn nbk fc P F) (h0 : ¬ (s, p, o) ∈ LL gn → post 0 al mX1_hashed mX2_count) (h1 : (s, p, o) ∈ LL gn → ∀ al' hd' cu' L1, (LL gn).Perm ((s, p, o) :: L1) → chRm kd an ai (al') ar mX1_graph mX1_kept mX1_keptCount mX1_digest (hd') mX1_rounds mX1_hashes mX1_next mX1_descriptions mX1_order mX1_begins mX1_groups mX1_numbers mX1_best mX1_row mX1_leastRow mX1_found mX1_many mX1_namedBlanks mX1_formCount mX1_given mX1_form mX1_octets mX1_ways mX1_wanted mX1_taken mX2_blanks (cu') mX2_keys mX3_words mX3_block mX3_size mX4_bytes mX4_size x nn (updI LL gn L1) gn nbk fc P F → post 1 al' hd' cu') : wpCN_X1_drop post kd an al mX1_graph mX1_hashed mX2_blanks mX2_count mX2_keys x s p o := by
  obtain ⟨A, g, hp, pi, l, rfl, L, Sh, G, ek, D, H, NU, NM⟩ := R
  have hgn := Sh.2.2.2.2.2.2
  have k14 := chX14 L (j := gn) ⟨hgn.1, by omega⟩
  have GL := G.len ⟨hgn.1, Int.le_refl _⟩
  obtain ⟨Gg, Gl⟩ := G gn hgn.1 (Int.le_refl _)
  obtain ⟨eb, hn⟩ := Gg.2.1
  unfold wpCN_X1_drop
  refine CCN_areB Sh.1.1 k14 eb hn (fun t => ?_) (fun nt => h0 (fun w => nt (GL.2.2.1 _ w)))
  refine CCN_key hn.2 t (kOn_of Sh.1.1 ⟨k14, CCN_hasB Gg t (fun M => ?_) (fun M => h0 (by rw [← Gl]; exact M))⟩)
  refine CCN_key hn.2 t (CCN_remove Gg t M (fun al' cu' G' PM fa fc' hd' eh => ?_))
  have m1 : 1 ≤ ((LL gn).length : Int) := by
    have := List.length_pos_of_mem M
    rw [Gl] at this
    omega
  have e1 : ((chL (al' (A 13 gn)) ((LL gn).length - 1)).length : Int) = (LL gn).length - 1 := by
    unfold chL
    rw [aF_len]; omega
  refine h1 (by rw [← Gl]; exact M) al' hd' cu' (chL (al' (A 13 gn)) ((LL gn).length - 1)) (by rw [Gl] at PM; exact PM) (chRm.keys L Sh G ek D NU NM (by rw [e1]; exact G') (by rw [e1]) fa fc' (by rw [eh, va_up_s]))
theorem CCN_blanks {post : Int → Prop} (R : chRm kd an ai al ar mX1_graph mX1_kept mX1_keptCount mX1_digest mX1_hashed mX1_rounds mX1_hashes mX1_next mX1_descriptions mX1_order mX1_begins mX1_groups mX1_numbers mX1_best mX1_row mX1_leastRow mX1_found mX1_many mX1_namedBlanks mX1_formCount mX1_given mX1_form mX1_octets mX1_ways mX1_wanted mX1_taken mX2_blanks mX2_count mX2_keys mX3_words mX3_block mX3_size mX4_bytes mX4_size x nn LL gn nbk fc P F) (h : post (nn gn)) : wpCN_X1_blanks post kd mX1_graph mX2_blanks x := by
  obtain ⟨A, g, hp, pi, l, rfl, L, Sh, G, _⟩ := R
  have hgn := Sh.2.2.2.2.2.2
  unfold wpCN_X1_blanks
  refine kOn_of Sh.1.1 ⟨chX14 L (j := gn) ⟨hgn.1, by omega⟩, ?_⟩
  rw [(G gn hgn.1 (Int.le_refl _)).1.2.1.1]
  exact h
theorem CCN_triples {post : Int → Prop} (R : chRm kd an ai al ar mX1_graph mX1_kept mX1_keptCount mX1_digest mX1_hashed mX1_rounds mX1_hashes mX1_next mX1_descriptions mX1_order mX1_begins mX1_groups mX1_numbers mX1_best mX1_row mX1_leastRow mX1_found mX1_many mX1_namedBlanks mX1_formCount mX1_given mX1_form mX1_octets mX1_ways mX1_wanted mX1_taken mX2_blanks mX2_count mX2_keys mX3_words mX3_block mX3_size mX4_bytes mX4_size x nn LL gn nbk fc P F) (h : post ((LL gn).length : Int)) : wpCN_X1_triples post kd mX1_graph mX2_count x := by
  obtain ⟨A, g, hp, pi, l, rfl, L, Sh, G, _⟩ := R
  have hgn := Sh.2.2.2.2.2.2
  unfold wpCN_X1_triples
  refine kOn_of Sh.1.1 ⟨chX14 L (j := gn) ⟨hgn.1, by omega⟩, ?_⟩
  rw [(G gn hgn.1 (Int.le_refl _)).1.2.2.1.1]
  exact h
theorem CCN_named {post : Int → Prop} (R : chRm kd an ai al ar mX1_graph mX1_kept mX1_keptCount mX1_digest mX1_hashed mX1_rounds mX1_hashes mX1_next mX1_descriptions mX1_order mX1_begins mX1_groups mX1_numbers mX1_best mX1_row mX1_leastRow mX1_found mX1_many mX1_namedBlanks mX1_formCount mX1_given mX1_form mX1_octets mX1_ways mX1_wanted mX1_taken mX2_blanks mX2_count mX2_keys mX3_words mX3_block mX3_size mX4_bytes mX4_size x nn LL gn nbk fc P F) (h : post (if 1 ≤ b ∧ b ≤ nbk then P.getD (b - 1).toNat 0 else -1)) : wpCN_X1_named post kd an ai mX1_namedBlanks mX1_given x b := by
  obtain ⟨A, g, hp, pi, l, rfl, L, Sh, G, ek, D, H, NU, ⟨⟨e1, n0, n8⟩, e2, _⟩⟩ := R
  have k73 := chX7 L (j := 3) (by decide)
  unfold wpCN_X1_named
  rw [e1]
  refine ⟨fun w => by rw [if_neg (by omega)] at h; exact h, fun w => ⟨fun w2 => by rw [if_neg (by omega)] at h; exact h, fun w2 => kOn_of Sh.2.1.2.2.2.2.1 ⟨k73.1, by omega, ?_⟩⟩⟩
  rw [if_pos (by omega), ← e2, aF_get _ _ _ (by omega), show 1 + ((b - 1).toNat : Int) = b by omega] at h
  exact h
theorem chFl_at {a : Int → Int} {m : Int} (hi : 0 ≤ i ∧ i < m) (hk : 0 ≤ k ∧ k ≤ 2) : (chFl a m).getD (3 * i + k).toNat 0 = (cnQ3 (cnDk (a i))).getD k.toNat 0 := by
  have e : chFl a m = aF (fun j => (cnQ3 (cnDk (a (j / 3)))).getD (j % 3).toNat 0) 0 (3 * m.toNat) := by
    unfold chFl
    rw [← cnR3_fl]
    congr 1
    refine aF_c _ _ (fun j j0 j1 => ?_)
    unfold cnR3
    have q : ∀ r : Int, (r = 0 ∨ r = 1 ∨ r = 2) → (3 * j + r) / 3 = j ∧ (3 * j + r) % 3 = r := fun r hr => by omega
    rw [aF, aF, aF, aF, Int.add_zero, Int.zero_add, show (1 : Int) + 1 = 2 by decide]
    have q0 := q 0 (by omega)
    have q1 := q 1 (by omega)
    have q2 := q 2 (by omega)
    rw [Int.add_zero] at q0
    dsimp only
    rw [q0.1, q0.2, q1.1, q1.2, q2.1, q2.2]
    rfl
  rw [e, aF_get _ _ _ (by omega), show (0 : Int) + ((3 * i + k).toNat : Int) = 3 * i + k by omega, show (3 * i + k) / 3 = i by omega, show (3 * i + k) % 3 = k by omega]
theorem CCN_form {post : Int → Prop} (R : chRm kd an ai al ar mX1_graph mX1_kept mX1_keptCount mX1_digest mX1_hashed mX1_rounds mX1_hashes mX1_next mX1_descriptions mX1_order mX1_begins mX1_groups mX1_numbers mX1_best mX1_row mX1_leastRow mX1_found mX1_many mX1_namedBlanks mX1_formCount mX1_given mX1_form mX1_octets mX1_ways mX1_wanted mX1_taken mX2_blanks mX2_count mX2_keys mX3_words mX3_block mX3_size mX4_bytes mX4_size x nn LL gn nbk fc P F) (h : post (if (0 ≤ i ∧ i < fc) ∧ (0 ≤ k ∧ k ≤ 2) then F.getD (3 * i + k).toNat 0 else 0)) : wpCN_X1_form post kd an al mX1_formCount mX1_form x i k := by
  obtain ⟨A, g, hp, pi, l, rfl, L, Sh, G, ek, D, H, NU, ⟨_, _, ⟨e1, f0, f40⟩, e2, ok⟩⟩ := R
  have k82 := chX8 L (j := 2) (by decide)
  unfold wpCN_X1_form
  rw [e1]
  refine ⟨fun w => by rw [if_neg (by omega)] at h; exact h, fun w => ⟨fun w2 => by rw [if_neg (by omega)] at h; exact h, fun w2 => ⟨fun w3 => by rw [if_neg (by omega)] at h; exact h, fun w3 => ⟨fun w4 => ?_, fun w4 => by rw [if_neg (by omega)] at h; exact h⟩⟩⟩⟩
  refine kOn_of Sh.2.1.2.2.2.2.2.2.2.1 ⟨k82.1, by omega, CCN_point (Int.le_refl 8) (ok i (by omega) (by omega)) (by omega) ?_⟩
  rw [if_pos (by omega), ← e2, chFl_at (by omega) (by omega)] at h
  exact h
end
