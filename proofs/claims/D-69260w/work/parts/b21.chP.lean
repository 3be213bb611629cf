/-! CanonNames (room CN): namings weighed, all namings searched -/
section
variable {kd an : Nat → Nat} {ai ai' al al' : Nat → Int → Int} {ar ar' : Nat → Int → Option Nat} {mX1_graph mX1_kept mX1_digest mX1_hashes mX1_next mX1_descriptions mX1_order mX1_begins mX1_numbers mX1_best mX1_row mX1_leastRow mX1_given mX1_form mX1_octets mX2_keys mX3_words mX3_block mX4_bytes : Nat → Option Nat} {mX1_rounds mX1_hashed mX1_groups mX1_keptCount mX1_found mX1_many mX1_namedBlanks mX1_formCount mX1_ways mX1_wanted mX1_taken mX2_blanks mX2_count mX3_size mX4_size : Nat → Int} {A : Nat → Int → Nat} {g : Nat → Nat × Int} {gn hp n m b k c s i j x v r y z : Int} {pi : Int → Int} {D : Int → List Int} {H : Int → List Int} {l : List Int} {Bs : List (List Int)}
/-- the best so far of the namings Bs -/
def chJ (ai al : Nat → Int → Int) (A : Nat → Int → Nat) (fo many : Int) (L : List qA) (n m : Int) (Bs : List (List Int)) : Prop :=
  (fo = 0 ∧ Bs = []) ∨ (fo = 1 ∧ cnBest Bs (cnFl L) (aF (ai (A 7 2)) 1 n.toNat) (chFl (al (A 8 1)) m) many ∧ (∀ j, 0 ≤ j → j < m → cnOk n (al (A 8 1) j)) ∧ ∀ b, n < b → b ≤ 8 → ai (A 7 2) b = 0)
theorem CCN_w155 {K : Int → Prop} (s1 : mX1_graph (A 0 0) = some (A 14 gn)) (k14 : kd (A 14 gn) = 2) (ec : mX2_count (A 14 gn) = m) (hm : 0 ≤ m ∧ m ≤ 40) (e8 : mX1_row (A 0 0) = some (A 8 0)) (k8 : kd (A 8 0) = 6 ∧ (an (A 8 0) : Int) = 40) (e81 : mX1_leastRow (A 0 0) = some (A 8 1)) (k81 : kd (A 8 1) = 6 ∧ (an (A 8 1) : Int) = 40)
  (h0 : (∀ j, 0 ≤ j → j < m → al (A 8 0) j = al (A 8 1) j) → K 0) (h1 : ∀ k, 0 ≤ k → k < m → (∀ j, 0 ≤ j → j < k → al (A 8 0) j = al (A 8 1) j) → al (A 8 0) k < al (A 8 1) k → K (-1)) (h2 : ∀ k, 0 ≤ k → k < m → (∀ j, 0 ≤ j → j < k → al (A 8 0) j = al (A 8 1) j) → al (A 8 1) k < al (A 8 0) k → K 1) : ∃ fu : Nat, wCN_X1_weigh_155 K (A 0 0) kd an al mX1_graph mX1_row mX1_leastRow mX2_count fu 0 0 := by
  refine wl2 (fun fu y i => wCN_X1_weigh_155 K (A 0 0) kd an al mX1_graph mX1_row mX1_leastRow mX2_count fu y i) (fun y i => (0 ≤ i ∧ i ≤ m) ∧ ((y = 0 ∧ ∀ j, 0 ≤ j → j < i → al (A 8 0) j = al (A 8 1) j) ∨ (y ≠ 0 ∧ K y))) (fun _ i => (m - i).toNat) ?_ 0 0 ⟨by omega, Or.inl ⟨rfl, fun j j0 j1 => by omega⟩⟩
  rintro y i ⟨hi, h⟩ fu ih
  rw [wCN_X1_weigh_155]
  refine kOn_of s1 ⟨k14, ?_⟩
  rw [ec]
  refine ⟨fun z => ?_, fun z => ⟨fun y0 => ?_, fun y0 => ?_⟩⟩
  · rcases h with ⟨ey, h⟩ | ⟨_, h⟩
    · rw [ey]; exact h0 (fun j j0 j1 => h j j0 (by omega))
    · exact h
  · rcases h with ⟨ey, h⟩ | ⟨ny, _⟩
    · refine kOn_of e8 ⟨k8.1, by omega, kOn_of e81 ⟨k81.1, by omega, ?_⟩⟩
      have nxt : ∀ r : Int, ((r = 0 ∧ al (A 8 0) i = al (A 8 1) i) ∨ (r ≠ 0 ∧ K r)) → (zR (i + 1) ∧ ∀ i' : Int, i' = i + 1 → wCN_X1_weigh_155 K (A 0 0) kd an al mX1_graph mX1_row mX1_leastRow mX2_count fu r i') := fun r hr => ⟨by omega, fun i' ei => by
        rw [ei]
        refine ih r (i + 1) ⟨by omega, ?_⟩ (by omega)
        rcases hr with ⟨e, e2⟩ | e
        · refine Or.inl ⟨e, fun j j0 j1 => ?_⟩
          by_cases w : j = i
          · rw [w]; exact e2
          · exact h j j0 (by omega)
        · exact Or.inr e⟩
      unfold wpCN_J21_compare
      exact ⟨fun w => ⟨fun w2 => nxt 0 (Or.inl ⟨rfl, w2⟩), fun w2 => nxt 1 (Or.inr ⟨by decide, h2 i hi.1 (by omega) h (by omega)⟩)⟩, fun w => nxt (-1) (Or.inr ⟨by decide, h1 i hi.1 (by omega) h (by omega)⟩)⟩
    · exact absurd y0 ny
  · rcases h with ⟨ey, _⟩ | ⟨_, h⟩
    · exact absurd ey y0
    · exact h
theorem CCN_w217 {K : Int → Prop} (e7 : mX1_numbers (A 0 0) = some (A 7 1)) (k7 : kd (A 7 1) = 5 ∧ (an (A 7 1) : Int) = 9) (e72 : mX1_best (A 0 0) = some (A 7 2)) (k72 : kd (A 7 2) = 5 ∧ (an (A 7 2) : Int) = 9)
  (h0 : (∀ j, 1 ≤ j → j ≤ 8 → ai (A 7 1) j = ai (A 7 2) j) → K 0) (h1 : ∀ k, 1 ≤ k → k ≤ 8 → (∀ j, 1 ≤ j → j < k → ai (A 7 1) j = ai (A 7 2) j) → ai (A 7 1) k < ai (A 7 2) k → K (-1)) (h2 : ∀ k, 1 ≤ k → k ≤ 8 → (∀ j, 1 ≤ j → j < k → ai (A 7 1) j = ai (A 7 2) j) → ai (A 7 2) k < ai (A 7 1) k → K 1) : ∃ fu : Nat, wCN_X1_weigh_217 K (A 0 0) kd an ai mX1_numbers mX1_best fu 0 1 := by
  refine wl2 (fun fu y i => wCN_X1_weigh_217 K (A 0 0) kd an ai mX1_numbers mX1_best fu y i) (fun y i => (1 ≤ i ∧ i ≤ 9) ∧ ((y = 0 ∧ ∀ j, 1 ≤ j → j < i → ai (A 7 1) j = ai (A 7 2) j) ∨ (y ≠ 0 ∧ K y))) (fun _ i => (9 - i).toNat) ?_ 0 1 ⟨by omega, Or.inl ⟨rfl, fun j j0 j1 => by omega⟩⟩
  rintro y i ⟨hi, h⟩ fu ih
  rw [wCN_X1_weigh_217]
  refine ⟨fun z => ?_, fun z => ⟨fun y0 => ?_, fun y0 => ?_⟩⟩
  · rcases h with ⟨ey, h⟩ | ⟨_, h⟩
    · rw [ey]; exact h0 (fun j j0 j1 => h j j0 (by omega))
    · exact h
  · rcases h with ⟨ey, h⟩ | ⟨ny, _⟩
    · refine kOn_of e7 ⟨k7.1, by omega, kOn_of e72 ⟨k72.1, by omega, ?_⟩⟩
      have nxt : ∀ r : Int, ((r = 0 ∧ ai (A 7 1) i = ai (A 7 2) i) ∨ (r ≠ 0 ∧ K r)) → (zR (i + 1) ∧ ∀ i' : Int, i' = i + 1 → wCN_X1_weigh_217 K (A 0 0) kd an ai mX1_numbers mX1_best fu r i') := fun r hr => ⟨by omega, fun i' ei => by
        rw [ei]
        refine ih r (i + 1) ⟨by omega, ?_⟩ (by omega)
        rcases hr with ⟨e, e2⟩ | e
        · refine Or.inl ⟨e, fun j j0 j1 => ?_⟩
          by_cases w : j = i
          · rw [w]; exact e2
          · exact h j j0 (by omega)
        · exact Or.inr e⟩
      unfold wpCN_J3_compare
      exact ⟨fun w => ⟨fun w2 => nxt 0 (Or.inl ⟨rfl, w2⟩), fun w2 => nxt 1 (Or.inr ⟨by decide, h2 i hi.1 (by omega) h (by omega)⟩)⟩, fun w => nxt (-1) (Or.inr ⟨by decide, h1 i hi.1 (by omega) h (by omega)⟩)⟩
    · exact absurd y0 ny
  · rcases h with ⟨ey, _⟩ | ⟨_, h⟩
    · exact absurd ey y0
    · exact h
theorem CCN_weigh {post : (Nat → Int → Int) → (Nat → Int → Int) → (Nat → Int) → (Nat → Int) → Prop} (L : Lab chK chLn kd an A g (chN gn)) (Sh : chS ar mX1_graph mX1_kept mX1_digest mX1_hashes mX1_next mX1_descriptions mX1_order mX1_begins mX1_numbers mX1_best mX1_row mX1_leastRow mX1_given mX1_form mX1_octets mX2_keys mX3_words mX3_block mX4_bytes A hp pi gn) (G : chG kd an al mX2_blanks mX2_count mX2_keys (A 14 gn) (A 13 gn) n m) (hp_ : cnIn n (ai (A 7 1))) (hz : ∀ b, n < b → b ≤ 8 → ai (A 7 1) b = 0) (J : chJ ai al A (mX1_found (A 0 0)) (mX1_many (A 0 0)) (chL (al (A 13 gn)) m) n m Bs) (hB : Bs.length ≤ 1000000000)
  (hK : ∀ ai' al' f' k', chJ ai' al' A (f' (A 0 0)) (k' (A 0 0)) (chL (al (A 13 gn)) m) n m (Bs ++ [aF (ai (A 7 1)) 1 n.toNat]) → (∀ a, a ≠ A 7 2 → ai' a = ai a) → (∀ a, a ≠ A 8 0 → a ≠ A 8 1 → al' a = al a) → post ai' al' f' k') : wpCN_X1_weigh post kd an ai al mX1_graph mX1_numbers mX1_best mX1_row mX1_leastRow mX1_found mX1_many mX2_count mX2_keys (A 0 0) := by
  have k14 := chX14 L (j := gn) ⟨Sh.2.2.2.2.2.2.1, by omega⟩
  have s1 := Sh.1.1
  have hn := G.2.1.2
  obtain ⟨ec, hm⟩ := G.2.2.1
  have k8 := chX8 L (j := 0) (by decide)
  have k81 := chX8 L (j := 1) (by decide)
  have k7 := chX7 L (j := 1) (by decide)
  have k72 := chX7 L (j := 2) (by decide)
  obtain ⟨_, _, e7, e72, _, e8, e81, _, _⟩ := Sh.2.1
  have n8 : A 8 1 ≠ A 8 0 := L.ne ⟨by decide, show (1 : Int) < 3 by decide⟩ ⟨by decide, show (0 : Int) < 3 by decide⟩ (Or.inr (by decide))
  have n7 : A 7 1 ≠ A 7 2 := L.ne ⟨by decide, show (1 : Int) < 4 by decide⟩ ⟨by decide, show (2 : Int) < 4 by decide⟩ (Or.inr (by decide))
  have okL : ∀ t ∈ (chL (al (A 13 gn)) m), cnTp n t := fun t ht => G.ok ht
  unfold wpCN_X1_weigh
  refine CCN_w2 L Sh G hp_ (fun a1 f1 eF OK => ?_)
  have eR : chFl (a1 (A 8 0)) m = cnFl (chL (al (A 13 gn)) m) (aF (ai (A 7 1)) 1 n.toNat) := by
    rw [eF]
    unfold cnFl
    rw [cnRS_c (n := n) (fun i i0 i1 => (cnAt_f ⟨i0, i1⟩).symm) okL]
  -- copied: the naming at hand is the best
  have copy : ∀ many : Nat → Int, (∀ (ai' al' : Nat → Int → Int), aF (ai' (A 7 2)) 1 n.toNat = aF (ai (A 7 1)) 1 n.toNat → chFl (al' (A 8 1)) m = chFl (a1 (A 8 0)) m → cnBest (Bs ++ [aF (ai (A 7 1)) 1 n.toNat]) (cnFl (chL (al (A 13 gn)) m)) (aF (ai' (A 7 2)) 1 n.toNat) (chFl (al' (A 8 1)) m) (many (A 0 0))) → wCN_X1_weigh_249 post (A 0 0) (-1) kd an ai a1 mX1_graph mX1_numbers mX1_best mX1_row mX1_leastRow mX1_found many mX2_count := fun many hb => by
    unfold wCN_X1_weigh_249
    refine ⟨fun _ fo efo => kOn_of s1 ⟨k14, kOn_of e81 (kOn_of e8 ⟨k81.1, k8.1, by rw [ec]; omega, fun a2 ea => kOn_of e72 (kOn_of e7 ⟨k72.1, k7.1, by omega, fun i2 ei => ?_⟩)⟩)⟩, fun w => absurd (by decide) w⟩
    have r1 : ∀ j, 0 ≤ j → j < 9 → i2 (A 7 2) j = ai (A 7 1) j := fun j j0 j1 => by
      rw [ei, va_up_s]
      unfold zcpy
      rw [if_pos (by omega), show (0 : Int) + (j - 0) = j by omega]
    have r2 : ∀ j, 0 ≤ j → j < m → a2 (A 8 1) j = a1 (A 8 0) j := fun j j0 j1 => by
      rw [ea, va_up_s]
      unfold zcpy
      rw [ec, if_pos (by omega), show (0 : Int) + (j - 0) = j by omega]
    have c1 : aF (i2 (A 7 2)) 1 n.toNat = aF (ai (A 7 1)) 1 n.toNat := aF_c _ _ (fun j j0 j1 => r1 j (by omega) (by omega))
    refine hK i2 a2 fo many (Or.inr ⟨by rw [efo, va_up_s], hb i2 a2 c1 (chFl_c r2), fun j j0 j1 => by rw [r2 j j0 j1]; exact OK j j0 j1, fun b b0 b1 => by rw [r1 b (by omega) (by omega)]; exact hz b b0 b1⟩) (fun a na => by rw [ei, va_up_n na]) (fun a n0 n1 => by rw [ea, va_up_n n1]; exact f1 a n0)
  have first : (Bs = [] ∨ ∃ P F k, cnBest Bs (cnFl (chL (al (A 13 gn)) m)) P F k ∧ ¬ qLx F (cnFl (chL (al (A 13 gn)) m) (aF (ai (A 7 1)) 1 n.toNat))) → wCN_X1_weigh_192 post (A 0 0) (-1) kd an ai a1 mX1_graph mX1_numbers mX1_best mX1_row mX1_leastRow mX1_found mX1_many mX2_count := fun h => by
    unfold wCN_X1_weigh_192
    refine ⟨fun _ => ⟨fun w => absurd w (by decide), fun _ k2 ek => ⟨1, ?_⟩⟩, fun w => absurd (by decide) w⟩
    rw [wCN_X1_weigh_217]
    have go := copy k2 (fun ai' al' c1 c2 => by
      rw [c1, c2, ek, va_up_s, eR]
      rcases h with h | ⟨P, F, k, b, l⟩
      · rw [h, List.nil_append]; exact cnBest_1
      · exact cnBest_lt b l)
    exact ⟨fun _ => go, fun _ => ⟨fun w => absurd w (by decide), fun _ => go⟩⟩
  refine ⟨fun fo0 => ⟨1, ?_⟩, fun fo0 => ?_⟩
  · have eB : Bs = [] := by
      rcases J with J | J
      · exact J.2
      · rw [J.1] at fo0; exact absurd fo0 (by decide)
    rw [wCN_X1_weigh_155]
    refine kOn_of s1 ⟨k14, ?_⟩
    rw [ec]
    exact ⟨fun _ => first (Or.inl eB), fun _ => ⟨fun w => absurd w (by decide), fun _ => first (Or.inl eB)⟩⟩
  · obtain ⟨J1, J2, J3, J4⟩ := J.resolve_left (fun w => fo0 w.1)
    have e81' : a1 (A 8 1) = al (A 8 1) := f1 _ n8
    have cF : chFl (a1 (A 8 1)) m = chFl (al (A 8 1)) m := by rw [e81']
    have OK1 : ∀ j, 0 ≤ j → j < m → cnOk n (a1 (A 8 1) j) := fun j j0 j1 => by rw [e81']; exact J3 j j0 j1
    have kb := cnBest_n J2
    have kp := J2.pos
    have z9 : ∀ j, n < j → j ≤ 8 → ai (A 7 1) j = ai (A 7 2) j := fun j j0 j1 => by rw [hz j j0 j1, J4 j j0 j1]
    refine CCN_w155 s1 k14 ec hm e8 k8 e81 k81 (fun eq => ?_) (fun k k0 k1 he l => ?_) (fun k k0 k1 he l => ?_)
    · have eF2 : cnFl (chL (al (A 13 gn)) m) (aF (ai (A 7 1)) 1 n.toNat) = chFl (al (A 8 1)) m := by rw [← eR, ← cF]; exact chFl_c eq
      unfold wCN_X1_weigh_192
      refine ⟨fun _ => ⟨fun _ => ⟨by omega, fun v ev k2 ek => ?_⟩, fun w => absurd (by decide) w⟩, fun w => absurd (by decide) w⟩
      have ek2 : k2 (A 0 0) = mX1_many (A 0 0) + 1 := by rw [ek, va_up_s, ev]
      have keep : ∀ r : Int, ¬ r < 0 → qLx (aF (ai (A 7 2)) 1 n.toNat) (aF (ai (A 7 1)) 1 n.toNat) → wCN_X1_weigh_249 post (A 0 0) r kd an ai a1 mX1_graph mX1_numbers mX1_best mX1_row mX1_leastRow mX1_found k2 mX2_count := fun r nr hq => by
        unfold wCN_X1_weigh_249
        refine ⟨fun w => absurd w nr, fun _ => hK ai a1 mX1_found k2 (Or.inr ⟨J1, ?_, OK1, J4⟩) (fun _ _ => rfl) (fun a n0 _ => f1 a n0)⟩
        rw [cF, ek2]
        exact cnBest_le J2 hq eF2
      refine CCN_w217 e7 k7 e72 k72 (fun eq2 => ?_) (fun k k0 k1 he l => ?_) (fun k k0 k1 he l => ?_)
      · refine keep 0 (by decide) ?_
        rw [show aF (ai (A 7 2)) 1 n.toNat = aF (ai (A 7 1)) 1 n.toNat from aF_c _ _ (fun j j0 j1 => (eq2 j j0 (by omega)).symm)]
        exact qLx_r _
      · refine copy k2 (fun ai' al' c1 c2 => ?_)
        have kn : k ≤ n := by
          by_cases y : k ≤ n
          · exact y
          · have := z9 k (by omega) k1
            omega
        rw [c1, c2, ek2, eR, eF2]
        refine cnBest_ge J2 ((qLx_tot _ _).resolve_right ((cnLt_f _ _).2 ⟨k, by omega, fun j j0 j1 => he j j0 j1, l⟩)) eF2
      · have kn : k ≤ n := by
          by_cases y : k ≤ n
          · exact y
          · have := z9 k (by omega) k1
            omega
        exact keep 1 (by decide) ((qLx_tot _ _).resolve_right ((cnLt_f _ _).2 ⟨k, by omega, fun j j0 j1 => (he j j0 j1).symm, l⟩))
    · refine first (Or.inr ⟨_, _, _, J2, ?_⟩)
      rw [← eR, ← cF]
      exact chFl_lt hn.2 ⟨k0, k1⟩ he (OK k k0 k1) (OK1 k k0 k1) l
    · unfold wCN_X1_weigh_192
      refine ⟨fun w => absurd w (by decide), fun _ => hK ai a1 mX1_found mX1_many (Or.inr ⟨J1, ?_, OK1, J4⟩) (fun _ _ => rfl) (fun a n0 _ => f1 a n0)⟩
      rw [cF]
      refine cnBest_gt J2 ?_
      rw [← eR, ← cF]
      exact chFl_lt hn.2 ⟨k0, k1⟩ (fun j j0 j1 => (he j j0 j1).symm) (OK1 k k0 k1) (OK k k0 k1) l
end
