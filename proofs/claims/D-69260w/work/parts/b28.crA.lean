/-! CanonNames: what a call does, as functions on one state; the component (room CN) does them -/
/-- number of the graph at hand, blanks, triples; what was named: how many blanks, their numbers, how many triples, the form -/
abbrev cnT : Type := (Int × (Int → Int) × (Int → qA → Prop)) × (Int × List Int × Int × List Int)
def cnAb (gn : Int) (nn : Int → Int) (LL : Int → List qA) (nbk : Int) (P : List Int) (fc : Int) (F : List Int) : cnT := ((gn, fun j => if 0 ≤ j ∧ j ≤ gn then nn j else 0, fun j t => (0 ≤ j ∧ j ≤ gn) ∧ t ∈ LL j), nbk, P, fc, F)
/-- a set's members in a row -/
noncomputable def cnLi (Q : qA → Prop) : List qA := Classical.epsilon (fun L : List qA => L.Nodup ∧ ∀ t, t ∈ L ↔ Q t)
theorem cnLi_p {Q : qA → Prop} {L : List qA} (h : L.Nodup) (e : ∀ t, Q t ↔ t ∈ L) : (cnLi Q).Perm L := by
  have s : (cnLi Q).Nodup ∧ ∀ t, t ∈ cnLi Q ↔ Q t := Classical.epsilon_spec (p := fun L : List qA => L.Nodup ∧ ∀ t, t ∈ L ↔ Q t) ⟨L, h, fun t => (e t).symm⟩
  exact (List.perm_ext_iff_of_nodup s.1 h).2 (fun t => (s.2 t).trans (e t))
def cnqBlank : cnT → Int × cnT
  | ((gn, nn, Ls), N) => if nn gn = 8 then (-2, ((gn, nn, Ls), N)) else (nn gn + 1, ((gn, updI nn gn (nn gn + 1), Ls), N))
noncomputable def cnqTriple (t : qA) : cnT → Int × cnT
  | ((gn, nn, Ls), N) => pif (cnTp (nn gn) t) (pif (Ls gn t) (0, ((gn, nn, Ls), N)) (if (cnLi (Ls gn)).length = 40 then (-2, ((gn, nn, Ls), N)) else (1, ((gn, nn, updI Ls gn (fun u => u = t ∨ Ls gn u)), N)))) (-1, ((gn, nn, Ls), N))
noncomputable def cnqDrop (t : qA) : cnT → Int × cnT
  | ((gn, nn, Ls), N) => pif (Ls gn t) (1, ((gn, nn, updI Ls gn (fun u => Ls gn u ∧ ¬ u = t)), N)) (0, ((gn, nn, Ls), N))
def cnqKeep : cnT → Int × cnT
  | ((gn, nn, Ls), N) => if gn = 8 then (-2, ((gn, nn, Ls), N)) else (gn, ((gn + 1, updI nn (gn + 1) 0, updI Ls (gn + 1) (fun _ => False)), N))
def cnqBlanks : cnT → Int
  | ((gn, nn, _), _) => nn gn
noncomputable def cnqTriples : cnT → Int
  | ((gn, _, Ls), _) => ((cnLi (Ls gn)).length : Int)
def cnqNamed (b : Int) : cnT → Int
  | (_, nbk, P, _, _) => if 1 ≤ b ∧ b ≤ nbk then P.getD (b - 1).toNat 0 else -1
def cnqForm (i k : Int) : cnT → Int
  | (_, _, _, fc, F) => if (0 ≤ i ∧ i < fc) ∧ (0 ≤ k ∧ k ≤ 2) then F.getD (3 * i + k).toNat 0 else 0
noncomputable def cnqHash (b i : Int) : cnT → Int
  | ((gn, nn, Ls), _) => if (1 ≤ b ∧ b ≤ nn gn) ∧ (0 ≤ i ∧ i ≤ 7) then w32 (((cnHa (cnLi (Ls gn)) (nn gn)).1 b).getD i.toNat 0) else 0
noncomputable def cnqRounds : cnT → Int
  | ((gn, nn, Ls), _) => (cnHa (cnLi (Ls gn)) (nn gn)).2
noncomputable def cnqFirst (k i : Int) : cnT → Int
  | ((gn, nn, Ls), _) => Classical.epsilon (fun v => cnFi (cnHa (cnLi (Ls gn)) (nn gn)).1 (nn gn) k i v)
noncomputable def cnEn (L : List qA) (n : Int) : Int × List Int × List Int := Classical.epsilon (fun r : Int × List Int × List Int => chNe L n r.1 r.2.1 r.2.2)
noncomputable def cnqName (st : Int) : cnT → Int × cnT
  | ((gn, nn, Ls), N) => if st < cnNs (cnHa (cnLi (Ls gn)) (nn gn)).1 (nn gn) then (-1, ((gn, nn, Ls), N)) else ((cnEn (cnLi (Ls gn)) (nn gn)).1, ((gn, nn, Ls), nn gn, (cnEn (cnLi (Ls gn)) (nn gn)).2.1, ((cnLi (Ls gn)).length : Int), (cnEn (cnLi (Ls gn)) (nn gn)).2.2))
noncomputable def cnqWays (o : Int) : cnT → Int
  | ((gn, nn, Ls), _) => if 0 ≤ o ∧ o < gn then (if nn o = nn gn ∧ (cnLi (Ls o)).length = (cnLi (Ls gn)).length then Classical.epsilon (fun y => cnWy (cnLi (Ls gn)) (cnLi (Ls o)) (nn gn) y) else 0) else -1
noncomputable def cnqIso (o : Int) : cnT → Int
  | ((gn, nn, Ls), _) => if 0 ≤ o ∧ o < gn then pif ((nn o = nn gn ∧ (cnLi (Ls o)).length = (cnLi (Ls gn)).length) ∧ ∃ t, cnPm (nn gn) t ∧ cnTo (cnAt t) (cnLi (Ls gn)) (cnLi (Ls o))) 1 0 else -1
noncomputable def cnqEqual (o : Int) : cnT → Int
  | ((gn, nn, Ls), _) => if 0 ≤ o ∧ o < gn then pif (nn o = nn gn ∧ (cnLi (Ls o)).length = (cnLi (Ls gn)).length ∧ ∀ t, Ls gn t → Ls o t) 1 0 else -1
section
variable {L L' G G' : List qA} {n y y' k i v v' : Int} {P P' F F' : List Int} {H : Int → List Int} {tr : Int → Int}
theorem cnTo_p (hL : ∀ t, t ∈ L ↔ t ∈ L') (hG : ∀ t, t ∈ G ↔ t ∈ G') : cnTo tr L G ↔ cnTo tr L' G' := ⟨fun h t ht => (hG _).1 (h t ((hL t).2 ht)), fun h t ht => (hG _).2 (h t ((hL t).1 ht))⟩
theorem cnWy_u (hL : ∀ t, t ∈ L ↔ t ∈ L') (hG : ∀ t, t ∈ G ↔ t ∈ G') (h : cnWy L G n y) (h' : cnWy L' G' n y') : y = y' := by
  obtain ⟨B, b1, b2, b3⟩ := h
  obtain ⟨C, c1, c2, c3⟩ := h'
  have p : B.Perm C := (List.perm_ext_iff_of_nodup b1 c1).2 (fun t => by rw [b2, c2, cnTo_p hL hG])
  rw [b3, c3, p.length_eq]
theorem cnWy_e (hL : ∀ t, t ∈ L ↔ t ∈ L') (hG : ∀ t, t ∈ G ↔ t ∈ G') (h : cnWy L G n y) : Classical.epsilon (fun y => cnWy L' G' n y) = y := by
  have ex : cnWy L' G' n y := by
    obtain ⟨B, b1, b2, b3⟩ := h
    exact ⟨B, b1, fun t => by rw [b2, cnTo_p hL hG], b3⟩
  have s := Classical.epsilon_spec (p := fun y => cnWy L' G' n y) ⟨y, ex⟩
  exact cnWy_u (fun _ => Iff.rfl) (fun _ => Iff.rfl) s ex
theorem chNe_p (h : L.Perm L') (N : chNe L n y P F) : chNe L' n y P F := by
  obtain ⟨B, b1, b2, b3⟩ := N
  refine ⟨B, b1, fun t => by rw [b2, cnHa_p h], ?_⟩
  have e : cnFl L = cnFl L' := funext (fun q => cnFl_p h)
  rw [← e]
  exact b3
theorem chNe_e (h : L.Perm L') (N : chNe L n y P F) : cnEn L' n = (y, P, F) := by
  have N' := chNe_p h N
  have s : chNe L' n (cnEn L' n).1 (cnEn L' n).2.1 (cnEn L' n).2.2 := Classical.epsilon_spec (p := fun r : Int × List Int × List Int => chNe L' n r.1 r.2.1 r.2.2) ⟨(y, P, F), N'⟩
  obtain ⟨B, b1, b2, b3⟩ := N'
  obtain ⟨C, c1, c2, c3⟩ := s
  obtain ⟨e1, e2, e3⟩ := cnBest_u c1 b1 (fun q => (c2 q).trans (b2 q).symm) c3 b3
  refine Prod.ext e3 (Prod.ext e1 e2)
theorem cnFi_u (h : cnFi H n k i v) (h' : cnFi H n k i v') : v = v' := by
  have lt : ∀ a b : Int, (1 ≤ a ∧ a ≤ n) → (1 ≤ b ∧ b ≤ n) → cnG H n a = k → cntI (fun b => 1 ≤ b ∧ cnG H n b = k) a.toNat = cntI (fun b => 1 ≤ b ∧ cnG H n b = k) b.toNat → ¬ a < b := fun a b ha hb e1 e2 l => by
    have a1 := cntI_t (p := fun b => 1 ≤ b ∧ cnG H n b = k) (n := a) (by omega) ⟨ha.1, e1⟩
    have a2 := cntI_add (p := fun b => 1 ≤ b ∧ cnG H n b = k) (a + 1).toNat (b.toNat - (a + 1).toNat)
    have a3 := (cntI_b (fun i => (fun b => 1 ≤ b ∧ cnG H n b = k) (((a + 1).toNat : Int) + i)) (b.toNat - (a + 1).toNat)).1
    rw [show (a + 1).toNat + (b.toNat - (a + 1).toNat) = b.toNat by omega] at a2
    have a4 : 0 ≤ cntI (fun i => 1 ≤ ((a + 1).toNat : Int) + i ∧ cnG H n (((a + 1).toNat : Int) + i) = k) (b.toNat - (a + 1).toNat) := a3
    omega
  have bd : ∀ a : Int, (1 ≤ a ∧ a ≤ n) → cnG H n a = k → 0 ≤ cntI (fun b => 1 ≤ b ∧ cnG H n b = k) a.toNat ∧ cntI (fun b => 1 ≤ b ∧ cnG H n b = k) a.toNat < cnSz H n k := fun a ha e => by
    refine ⟨(cntI_b _ _).1, ?_⟩
    have a1 := cntI_t (p := fun b => 1 ≤ b ∧ cnG H n b = k) (n := a) (by omega) ⟨ha.1, e⟩
    have a2 := cntI_add (p := fun b => 1 ≤ b ∧ cnG H n b = k) (a + 1).toNat ((n + 1).toNat - (a + 1).toNat)
    rw [show (a + 1).toNat + ((n + 1).toNat - (a + 1).toNat) = (n + 1).toNat by omega] at a2
    have a4 : 0 ≤ cntI (fun i => 1 ≤ ((a + 1).toNat : Int) + i ∧ cnG H n (((a + 1).toNat : Int) + i) = k) ((n + 1).toNat - (a + 1).toNat) := (cntI_b _ _).1
    have a5 : cnSz H n k = cntI (fun b => 1 ≤ b ∧ cnG H n b = k) (n + 1).toNat := rfl
    omega
  rcases h with ⟨h1, h2, h3⟩ | ⟨h1, h2⟩
  · rcases h' with ⟨g1, g2, g3⟩ | ⟨g1, g2⟩
    · have a := lt v v' h1 g1 h2 (by rw [h3, g3])
      have b := lt v' v g1 h1 g2 (by rw [h3, g3])
      omega
    · have := bd v h1 h2
      rw [h3] at this
      exact absurd this g2
  · rcases h' with ⟨g1, g2, g3⟩ | ⟨g1, g2⟩
    · have := bd v' g1 g2
      rw [g3] at this
      exact absurd this h2
    · rw [h1, g1]
theorem cnFi_e (h : cnFi H n k i v) : Classical.epsilon (fun v => cnFi H n k i v) = v := cnFi_u (Classical.epsilon_spec (p := fun v => cnFi H n k i v) ⟨v, h⟩) h
/-- a graph's triples as its row -/
theorem cnAb_l {gn j nbk fc : Int} {nn : Int → Int} {LL : Int → List qA} (hj : 0 ≤ j ∧ j ≤ gn) (h : (LL j).Nodup) : (cnLi ((cnAb gn nn LL nbk P fc F).1.2.2 j)).Perm (LL j) := cnLi_p h (fun t => ⟨fun w => w.2, fun w => ⟨hj, w⟩⟩)
theorem cnAb_n {gn j nbk fc : Int} {nn : Int → Int} {LL : Int → List qA} (hj : 0 ≤ j ∧ j ≤ gn) : (cnAb gn nn LL nbk P fc F).1.2.1 j = nn j := if_pos hj
end
section
variable {gn nbk fc v y o st : Int} {nn nn' : Int → Int} {LL LL' : Int → List qA} {P F P' F' : List Int} {t : qA} {b i k : Int}
theorem cnAb_cg (h1 : ∀ j, 0 ≤ j → j ≤ gn → nn j = nn' j) (h2 : ∀ j, 0 ≤ j → j ≤ gn → ∀ t, t ∈ LL j ↔ t ∈ LL' j) : cnAb gn nn LL nbk P fc F = cnAb gn nn' LL' nbk P fc F := by
  have e1 : (fun j => if 0 ≤ j ∧ j ≤ gn then nn j else 0) = (fun j => if 0 ≤ j ∧ j ≤ gn then nn' j else 0) := funext (fun j => by
    by_cases y : 0 ≤ j ∧ j ≤ gn
    · rw [if_pos y, if_pos y, h1 j y.1 y.2]
    · rw [if_neg y, if_neg y])
  have e2 : (fun (j : Int) (t : qA) => (0 ≤ j ∧ j ≤ gn) ∧ t ∈ LL j) = (fun (j : Int) (t : qA) => (0 ≤ j ∧ j ≤ gn) ∧ t ∈ LL' j) := funext (fun j => funext (fun t => propext (and_congr_right (fun y => h2 j y.1 y.2 t))))
  unfold cnAb
  rw [e1, e2]
theorem cnAb_j {j : Int} (h : 0 ≤ j ∧ j ≤ gn) : (cnAb gn nn LL nbk P fc F).1.2.2 j t ↔ t ∈ LL j := ⟨fun w => w.2, fun w => ⟨h, w⟩⟩
theorem cnqBlank_1 (h0 : 0 ≤ gn) (z : nn gn = 8) : cnqBlank (cnAb gn nn LL nbk P fc F) = (-2, cnAb gn nn LL nbk P fc F) := by
  have en := cnAb_n (nbk := nbk) (P := P) (fc := fc) (F := F) (nn := nn) (LL := LL) ⟨h0, Int.le_refl gn⟩
  exact if_pos (en.trans z)
theorem cnqBlank_2 (h0 : 0 ≤ gn) (z : ¬ nn gn = 8) : cnqBlank (cnAb gn nn LL nbk P fc F) = (nn gn + 1, cnAb gn (updI nn gn (nn gn + 1)) LL nbk P fc F) := by
  have en := cnAb_n (nbk := nbk) (P := P) (fc := fc) (F := F) (nn := nn) (LL := LL) ⟨h0, Int.le_refl gn⟩
  have e0 : cnqBlank (cnAb gn nn LL nbk P fc F) = ((cnAb gn nn LL nbk P fc F).1.2.1 gn + 1, ((gn, updI (cnAb gn nn LL nbk P fc F).1.2.1 gn ((cnAb gn nn LL nbk P fc F).1.2.1 gn + 1), (cnAb gn nn LL nbk P fc F).1.2.2), nbk, P, fc, F)) := if_neg (fun w => z (en.symm.trans w))
  rw [e0, en]
  have e : updI (fun j => if 0 ≤ j ∧ j ≤ gn then nn j else 0) gn (nn gn + 1) = fun j => if 0 ≤ j ∧ j ≤ gn then updI nn gn (nn gn + 1) j else 0 := funext (fun j => by
    rw [updI_e, updI_e]
    by_cases y : j = gn
    · rw [if_pos y, if_pos y, if_pos (by omega)]
    · rw [if_neg y, if_neg y])
  show (nn gn + 1, ((gn, updI (fun j => if 0 ≤ j ∧ j ≤ gn then nn j else 0) gn (nn gn + 1), _), nbk, P, fc, F)) = _
  rw [e]
  rfl
theorem cnqTriple_1 (h0 : 0 ≤ gn) (z : ¬ cnTp (nn gn) t) : cnqTriple t (cnAb gn nn LL nbk P fc F) = (-1, cnAb gn nn LL nbk P fc F) := by
  have en := cnAb_n (nbk := nbk) (P := P) (fc := fc) (F := F) (nn := nn) (LL := LL) ⟨h0, Int.le_refl gn⟩
  exact pif_f (fun w => z (by rw [← en]; exact w))
theorem cnqTriple_2 (h0 : 0 ≤ gn) (z : cnTp (nn gn) t) (m : t ∈ LL gn) : cnqTriple t (cnAb gn nn LL nbk P fc F) = (0, cnAb gn nn LL nbk P fc F) := by
  have en := cnAb_n (nbk := nbk) (P := P) (fc := fc) (F := F) (nn := nn) (LL := LL) ⟨h0, Int.le_refl gn⟩
  exact (pif_t (show cnTp ((cnAb gn nn LL nbk P fc F).1.2.1 gn) t by rw [en]; exact z)).trans (pif_t ⟨⟨h0, Int.le_refl gn⟩, m⟩)
theorem cnqTriple_3 (h0 : 0 ≤ gn) (nd : (LL gn).Nodup) (z : cnTp (nn gn) t) (m : ¬ t ∈ LL gn) (l : (LL gn).length = 40) : cnqTriple t (cnAb gn nn LL nbk P fc F) = (-2, cnAb gn nn LL nbk P fc F) := by
  have en := cnAb_n (nbk := nbk) (P := P) (fc := fc) (F := F) (nn := nn) (LL := LL) ⟨h0, Int.le_refl gn⟩
  have el := cnAb_l (nbk := nbk) (P := P) (fc := fc) (F := F) (nn := nn) (LL := LL) ⟨h0, Int.le_refl gn⟩ nd
  exact (pif_t (show cnTp ((cnAb gn nn LL nbk P fc F).1.2.1 gn) t by rw [en]; exact z)).trans ((pif_f (fun w => m w.2)).trans (if_pos (el.length_eq.trans l)))
theorem cnqTriple_4 (h0 : 0 ≤ gn) (nd : (LL gn).Nodup) (z : cnTp (nn gn) t) (m : ¬ t ∈ LL gn) (l : (LL gn).length < 40) (e1 : ∀ j, 0 ≤ j → j ≤ gn → nn' j = nn j) (e2 : ∀ j, 0 ≤ j → j ≤ gn → ∀ u, u ∈ LL' j ↔ (j = gn ∧ u = t) ∨ u ∈ LL j) : cnqTriple t (cnAb gn nn LL nbk P fc F) = (1, cnAb gn nn' LL' nbk P fc F) := by
  have en := cnAb_n (nbk := nbk) (P := P) (fc := fc) (F := F) (nn := nn) (LL := LL) ⟨h0, Int.le_refl gn⟩
  have el := cnAb_l (nbk := nbk) (P := P) (fc := fc) (F := F) (nn := nn) (LL := LL) ⟨h0, Int.le_refl gn⟩ nd
  have e0 : cnqTriple t (cnAb gn nn LL nbk P fc F) = (1, ((gn, (cnAb gn nn LL nbk P fc F).1.2.1, updI (cnAb gn nn LL nbk P fc F).1.2.2 gn (fun u => u = t ∨ (cnAb gn nn LL nbk P fc F).1.2.2 gn u)), nbk, P, fc, F)) := (pif_t (show cnTp ((cnAb gn nn LL nbk P fc F).1.2.1 gn) t by rw [en]; exact z)).trans ((pif_f (fun w => m w.2)).trans (if_neg (fun w => by have := el.length_eq.symm.trans w; omega)))
  rw [e0, cnAb_cg (nn := nn') (nn' := nn) (LL := LL') (LL' := LL') e1 (fun _ _ _ _ => Iff.rfl)]
  have e3 : updI (cnAb gn nn LL nbk P fc F).1.2.2 gn (fun u => u = t ∨ (cnAb gn nn LL nbk P fc F).1.2.2 gn u) = (cnAb gn nn LL' nbk P fc F).1.2.2 := funext (fun j => funext (fun u => propext (by
    rw [updI_e]
    by_cases y : j = gn
    · rw [if_pos y, y, cnAb_j ⟨h0, Int.le_refl gn⟩, cnAb_j ⟨h0, Int.le_refl gn⟩, e2 gn h0 (Int.le_refl gn)]
      exact ⟨fun w => w.imp (fun z => ⟨rfl, z⟩) id, fun w => w.imp (fun z => z.2) id⟩
    · rw [if_neg y]
      refine ⟨fun w => ⟨w.1, (e2 j w.1.1 w.1.2 u).2 (Or.inr w.2)⟩, fun w => ⟨w.1, ((e2 j w.1.1 w.1.2 u).1 w.2).resolve_left (fun z => y z.1)⟩⟩)))
  rw [e3]
  rfl
theorem cnqDrop_1 (h0 : 0 ≤ gn) (m : ¬ t ∈ LL gn) : cnqDrop t (cnAb gn nn LL nbk P fc F) = (0, cnAb gn nn LL nbk P fc F) := pif_f (fun w => m w.2)
theorem cnqDrop_2 (h0 : 0 ≤ gn) (m : t ∈ LL gn) (e1 : ∀ j, 0 ≤ j → j ≤ gn → nn' j = nn j) (e2 : ∀ j, 0 ≤ j → j ≤ gn → ∀ u, u ∈ LL' j ↔ ¬ (j = gn ∧ u = t) ∧ u ∈ LL j) : cnqDrop t (cnAb gn nn LL nbk P fc F) = (1, cnAb gn nn' LL' nbk P fc F) := by
  have e0 : cnqDrop t (cnAb gn nn LL nbk P fc F) = (1, ((gn, (cnAb gn nn LL nbk P fc F).1.2.1, updI (cnAb gn nn LL nbk P fc F).1.2.2 gn (fun u => (cnAb gn nn LL nbk P fc F).1.2.2 gn u ∧ ¬ u = t)), nbk, P, fc, F)) := pif_t ⟨⟨h0, Int.le_refl gn⟩, m⟩
  rw [e0, cnAb_cg (nn := nn') (nn' := nn) (LL := LL') (LL' := LL') e1 (fun _ _ _ _ => Iff.rfl)]
  have e3 : updI (cnAb gn nn LL nbk P fc F).1.2.2 gn (fun u => (cnAb gn nn LL nbk P fc F).1.2.2 gn u ∧ ¬ u = t) = (cnAb gn nn LL' nbk P fc F).1.2.2 := funext (fun j => funext (fun u => propext (by
    rw [updI_e]
    by_cases y : j = gn
    · rw [if_pos y, y, cnAb_j ⟨h0, Int.le_refl gn⟩, cnAb_j ⟨h0, Int.le_refl gn⟩, e2 gn h0 (Int.le_refl gn)]
      exact ⟨fun w => ⟨fun z => w.2 z.2, w.1⟩, fun w => ⟨w.2, fun z => w.1 ⟨rfl, z⟩⟩⟩
    · rw [if_neg y]
      refine ⟨fun w => ⟨w.1, (e2 j w.1.1 w.1.2 u).2 ⟨fun z => y z.1, w.2⟩⟩, fun w => ⟨w.1, ((e2 j w.1.1 w.1.2 u).1 w.2).2⟩⟩)))
  rw [e3]
  rfl
theorem cnqKeep_1 (z : gn = 8) : cnqKeep (cnAb gn nn LL nbk P fc F) = (-2, cnAb gn nn LL nbk P fc F) := if_pos z
theorem cnqKeep_2 (h0 : 0 ≤ gn) (z : ¬ gn = 8) (e1 : ∀ j, 0 ≤ j → j ≤ gn → nn' j = nn j) (e3 : nn' (gn + 1) = 0) (e2 : ∀ j, 0 ≤ j → j ≤ gn → ∀ u, u ∈ LL' j ↔ u ∈ LL j) (e4 : LL' (gn + 1) = []) : cnqKeep (cnAb gn nn LL nbk P fc F) = (gn, cnAb (gn + 1) nn' LL' nbk P fc F) := by
  have e0 : cnqKeep (cnAb gn nn LL nbk P fc F) = (gn, ((gn + 1, updI (cnAb gn nn LL nbk P fc F).1.2.1 (gn + 1) 0, updI (cnAb gn nn LL nbk P fc F).1.2.2 (gn + 1) (fun _ => False)), nbk, P, fc, F)) := if_neg z
  have a1 : updI (fun j => if 0 ≤ j ∧ j ≤ gn then nn j else 0) (gn + 1) 0 = fun j => if 0 ≤ j ∧ j ≤ gn + 1 then nn' j else 0 := funext (fun j => by
    rw [updI_e]
    by_cases y : j = gn + 1
    · rw [if_pos y, y, if_pos (by omega), e3]
    · rw [if_neg y]
      by_cases y2 : 0 ≤ j ∧ j ≤ gn
      · rw [if_pos y2, if_pos (by omega), e1 j y2.1 y2.2]
      · rw [if_neg y2, if_neg (by omega)])
  have a2 : updI (fun (j : Int) (t : qA) => (0 ≤ j ∧ j ≤ gn) ∧ t ∈ LL j) (gn + 1) (fun _ => False) = fun (j : Int) (t : qA) => (0 ≤ j ∧ j ≤ gn + 1) ∧ t ∈ LL' j := funext (fun j => funext (fun u => by
    rw [updI_e]
    by_cases y : j = gn + 1
    · rw [if_pos y, y, e4]
      exact propext ⟨fun w => w.elim, fun w => absurd w.2 (by simp)⟩
    · rw [if_neg y]
      exact propext ⟨fun w => ⟨by omega, (e2 j w.1.1 w.1.2 u).2 w.2⟩, fun w => ⟨by omega, (e2 j w.1.1 (by omega) u).1 w.2⟩⟩))
  rw [e0]
  show (gn, ((gn + 1, updI (fun j => if 0 ≤ j ∧ j ≤ gn then nn j else 0) (gn + 1) 0, updI (fun (j : Int) (t : qA) => (0 ≤ j ∧ j ≤ gn) ∧ t ∈ LL j) (gn + 1) (fun _ => False)), nbk, P, fc, F)) = _
  rw [a1, a2]
  rfl
theorem cnqBlanks_e (h0 : 0 ≤ gn) : cnqBlanks (cnAb gn nn LL nbk P fc F) = nn gn := cnAb_n (nbk := nbk) (P := P) (fc := fc) (F := F) (nn := nn) (LL := LL) ⟨h0, Int.le_refl gn⟩
theorem cnqTriples_e (h0 : 0 ≤ gn) (nd : (LL gn).Nodup) : cnqTriples (cnAb gn nn LL nbk P fc F) = ((LL gn).length : Int) := congrArg (fun m : Nat => (m : Int)) (cnAb_l (nbk := nbk) (P := P) (fc := fc) (F := F) (nn := nn) (LL := LL) ⟨h0, Int.le_refl gn⟩ nd).length_eq
theorem cnqHash_e (h0 : 0 ≤ gn) (nd : (LL gn).Nodup) : cnqHash b i (cnAb gn nn LL nbk P fc F) = if (1 ≤ b ∧ b ≤ nn gn) ∧ (0 ≤ i ∧ i ≤ 7) then w32 (((cnHa (LL gn) (nn gn)).1 b).getD i.toNat 0) else 0 := by
  rw [← cnHa_p (cnAb_l (nbk := nbk) (P := P) (fc := fc) (F := F) (nn := nn) (LL := LL) ⟨h0, Int.le_refl gn⟩ nd), ← cnAb_n (nbk := nbk) (P := P) (fc := fc) (F := F) (nn := nn) (LL := LL) ⟨h0, Int.le_refl gn⟩]
  rfl
theorem cnqRounds_e (h0 : 0 ≤ gn) (nd : (LL gn).Nodup) : cnqRounds (cnAb gn nn LL nbk P fc F) = (cnHa (LL gn) (nn gn)).2 := by
  rw [← cnHa_p (cnAb_l (nbk := nbk) (P := P) (fc := fc) (F := F) (nn := nn) (LL := LL) ⟨h0, Int.le_refl gn⟩ nd), ← cnAb_n (nbk := nbk) (P := P) (fc := fc) (F := F) (nn := nn) (LL := LL) ⟨h0, Int.le_refl gn⟩]
  rfl
theorem cnqFirst_e (h0 : 0 ≤ gn) (nd : (LL gn).Nodup) (hv : cnFi (cnHa (LL gn) (nn gn)).1 (nn gn) k i v) : cnqFirst k i (cnAb gn nn LL nbk P fc F) = v := by
  rw [← cnHa_p (cnAb_l (nbk := nbk) (P := P) (fc := fc) (F := F) (nn := nn) (LL := LL) ⟨h0, Int.le_refl gn⟩ nd), ← cnAb_n (nbk := nbk) (P := P) (fc := fc) (F := F) (nn := nn) (LL := LL) ⟨h0, Int.le_refl gn⟩] at hv
  exact cnFi_e hv
theorem cnqName_s (h0 : 0 ≤ gn) (nd : (LL gn).Nodup) : cnNs (cnHa (cnLi ((cnAb gn nn LL nbk P fc F).1.2.2 gn)) ((cnAb gn nn LL nbk P fc F).1.2.1 gn)).1 ((cnAb gn nn LL nbk P fc F).1.2.1 gn) = cnNs (cnHa (LL gn) (nn gn)).1 (nn gn) := by
  rw [cnHa_p (cnAb_l (nbk := nbk) (P := P) (fc := fc) (F := F) (nn := nn) (LL := LL) ⟨h0, Int.le_refl gn⟩ nd), cnAb_n (nbk := nbk) (P := P) (fc := fc) (F := F) (nn := nn) (LL := LL) ⟨h0, Int.le_refl gn⟩]
theorem cnqName_1 (h0 : 0 ≤ gn) (nd : (LL gn).Nodup) (w : st < cnNs (cnHa (LL gn) (nn gn)).1 (nn gn)) : cnqName st (cnAb gn nn LL nbk P fc F) = (-1, cnAb gn nn LL nbk P fc F) := if_pos (Int.lt_of_lt_of_le w (Int.le_of_eq (cnqName_s (nbk := nbk) (P := P) (fc := fc) (F := F) h0 nd).symm))
theorem cnqName_2 (h0 : 0 ≤ gn) (nd : (LL gn).Nodup) (w : cnNs (cnHa (LL gn) (nn gn)).1 (nn gn) ≤ st) (N : chNe (LL gn) (nn gn) y P' F') : cnqName st (cnAb gn nn LL nbk P fc F) = (y, cnAb gn nn LL (nn gn) P' ((LL gn).length : Int) F') := by
  have en := cnAb_n (nbk := nbk) (P := P) (fc := fc) (F := F) (nn := nn) (LL := LL) ⟨h0, Int.le_refl gn⟩
  have el := cnAb_l (nbk := nbk) (P := P) (fc := fc) (F := F) (nn := nn) (LL := LL) ⟨h0, Int.le_refl gn⟩ nd
  have eN : cnEn (cnLi ((cnAb gn nn LL nbk P fc F).1.2.2 gn)) ((cnAb gn nn LL nbk P fc F).1.2.1 gn) = (y, P', F') := by
    rw [en]
    exact chNe_e el.symm N
  have e0 : cnqName st (cnAb gn nn LL nbk P fc F) = ((cnEn (cnLi ((cnAb gn nn LL nbk P fc F).1.2.2 gn)) ((cnAb gn nn LL nbk P fc F).1.2.1 gn)).1, ((gn, (cnAb gn nn LL nbk P fc F).1.2.1, (cnAb gn nn LL nbk P fc F).1.2.2), (cnAb gn nn LL nbk P fc F).1.2.1 gn, (cnEn (cnLi ((cnAb gn nn LL nbk P fc F).1.2.2 gn)) ((cnAb gn nn LL nbk P fc F).1.2.1 gn)).2.1, ((cnLi ((cnAb gn nn LL nbk P fc F).1.2.2 gn)).length : Int), (cnEn (cnLi ((cnAb gn nn LL nbk P fc F).1.2.2 gn)) ((cnAb gn nn LL nbk P fc F).1.2.1 gn)).2.2)) := if_neg (fun z => by
    have z2 : st < cnNs (cnHa (LL gn) (nn gn)).1 (nn gn) := Int.lt_of_lt_of_le z (Int.le_of_eq (cnqName_s (nbk := nbk) (P := P) (fc := fc) (F := F) h0 nd))
    omega)
  rw [e0, eN, en, el.length_eq]
  rfl
theorem cnqWays_1 (w : ¬ (0 ≤ o ∧ o < gn)) : cnqWays o (cnAb gn nn LL nbk P fc F) = -1 := if_neg w
theorem cnqWays_2 (ho : 0 ≤ o ∧ o < gn) (n1 : (LL o).Nodup) (n2 : (LL gn).Nodup) (w : ¬ (nn o = nn gn ∧ (LL o).length = (LL gn).length)) : cnqWays o (cnAb gn nn LL nbk P fc F) = 0 := by
  have g1 := cnAb_l (nbk := nbk) (P := P) (fc := fc) (F := F) (nn := nn) (LL := LL) (gn := gn) (j := o) ⟨ho.1, by omega⟩ n1
  have g2 := cnAb_n (nbk := nbk) (P := P) (fc := fc) (F := F) (nn := nn) (LL := LL) (gn := gn) (j := o) ⟨ho.1, by omega⟩
  have en := cnAb_n (nbk := nbk) (P := P) (fc := fc) (F := F) (nn := nn) (LL := LL) (gn := gn) (j := gn) ⟨by omega, by omega⟩
  have el := cnAb_l (nbk := nbk) (P := P) (fc := fc) (F := F) (nn := nn) (LL := LL) (gn := gn) (j := gn) ⟨by omega, by omega⟩ n2
  exact (if_pos ho).trans (if_neg (fun z => w (by
    have z1 : (cnAb gn nn LL nbk P fc F).1.2.1 o = (cnAb gn nn LL nbk P fc F).1.2.1 gn := z.1
    have z2 : (cnLi ((cnAb gn nn LL nbk P fc F).1.2.2 o)).length = (cnLi ((cnAb gn nn LL nbk P fc F).1.2.2 gn)).length := z.2
    rw [g2, en] at z1
    rw [g1.length_eq, el.length_eq] at z2
    exact ⟨z1, z2⟩)))
theorem cnqWays_3 (ho : 0 ≤ o ∧ o < gn) (n1 : (LL o).Nodup) (n2 : (LL gn).Nodup) (w : nn o = nn gn ∧ (LL o).length = (LL gn).length) (Y : cnWy (LL gn) (LL o) (nn gn) y) : cnqWays o (cnAb gn nn LL nbk P fc F) = y := by
  have g1 := cnAb_l (nbk := nbk) (P := P) (fc := fc) (F := F) (nn := nn) (LL := LL) (gn := gn) (j := o) ⟨ho.1, by omega⟩ n1
  have g2 := cnAb_n (nbk := nbk) (P := P) (fc := fc) (F := F) (nn := nn) (LL := LL) (gn := gn) (j := o) ⟨ho.1, by omega⟩
  have en := cnAb_n (nbk := nbk) (P := P) (fc := fc) (F := F) (nn := nn) (LL := LL) (gn := gn) (j := gn) ⟨by omega, by omega⟩
  have el := cnAb_l (nbk := nbk) (P := P) (fc := fc) (F := F) (nn := nn) (LL := LL) (gn := gn) (j := gn) ⟨by omega, by omega⟩ n2
  have c : (cnAb gn nn LL nbk P fc F).1.2.1 o = (cnAb gn nn LL nbk P fc F).1.2.1 gn ∧ (cnLi ((cnAb gn nn LL nbk P fc F).1.2.2 o)).length = (cnLi ((cnAb gn nn LL nbk P fc F).1.2.2 gn)).length := by
    rw [g2, en, g1.length_eq, el.length_eq]
    exact w
  have s : Classical.epsilon (fun y => cnWy (cnLi ((cnAb gn nn LL nbk P fc F).1.2.2 gn)) (cnLi ((cnAb gn nn LL nbk P fc F).1.2.2 o)) ((cnAb gn nn LL nbk P fc F).1.2.1 gn) y) = y := by
    rw [en]
    exact cnWy_e (fun t => el.symm.mem_iff) (fun t => g1.symm.mem_iff) Y
  exact (if_pos ho).trans ((if_pos c).trans s)
theorem cnqIso_1 (w : ¬ (0 ≤ o ∧ o < gn)) : cnqIso o (cnAb gn nn LL nbk P fc F) = -1 := if_neg w
theorem cnqIso_c (ho : 0 ≤ o ∧ o < gn) (n1 : (LL o).Nodup) (n2 : (LL gn).Nodup) : cnqIso o (cnAb gn nn LL nbk P fc F) = pif ((nn o = nn gn ∧ (LL o).length = (LL gn).length) ∧ ∃ t, cnPm (nn gn) t ∧ cnTo (cnAt t) (LL gn) (LL o)) 1 0 := by
  have g1 := cnAb_l (nbk := nbk) (P := P) (fc := fc) (F := F) (nn := nn) (LL := LL) (gn := gn) (j := o) ⟨ho.1, by omega⟩ n1
  have g2 := cnAb_n (nbk := nbk) (P := P) (fc := fc) (F := F) (nn := nn) (LL := LL) (gn := gn) (j := o) ⟨ho.1, by omega⟩
  have en := cnAb_n (nbk := nbk) (P := P) (fc := fc) (F := F) (nn := nn) (LL := LL) (gn := gn) (j := gn) ⟨by omega, by omega⟩
  have el := cnAb_l (nbk := nbk) (P := P) (fc := fc) (F := F) (nn := nn) (LL := LL) (gn := gn) (j := gn) ⟨by omega, by omega⟩ n2
  refine (show cnqIso o (cnAb gn nn LL nbk P fc F) = pif (((cnAb gn nn LL nbk P fc F).1.2.1 o = (cnAb gn nn LL nbk P fc F).1.2.1 gn ∧ (cnLi ((cnAb gn nn LL nbk P fc F).1.2.2 o)).length = (cnLi ((cnAb gn nn LL nbk P fc F).1.2.2 gn)).length) ∧ ∃ t, cnPm ((cnAb gn nn LL nbk P fc F).1.2.1 gn) t ∧ cnTo (cnAt t) (cnLi ((cnAb gn nn LL nbk P fc F).1.2.2 gn)) (cnLi ((cnAb gn nn LL nbk P fc F).1.2.2 o))) 1 0 from if_pos ho).trans (pif_c ?_)
  rw [g2, en, g1.length_eq, el.length_eq]
  refine and_congr_right (fun _ => exists_congr (fun t => and_congr_right (fun _ => cnTo_p (fun u => el.mem_iff) (fun u => g1.mem_iff))))
theorem cnqEqual_1 (w : ¬ (0 ≤ o ∧ o < gn)) : cnqEqual o (cnAb gn nn LL nbk P fc F) = -1 := if_neg w
theorem cnqEqual_c (ho : 0 ≤ o ∧ o < gn) (n1 : (LL o).Nodup) (n2 : (LL gn).Nodup) : cnqEqual o (cnAb gn nn LL nbk P fc F) = pif (nn o = nn gn ∧ (LL o).length = (LL gn).length ∧ ∀ t ∈ LL gn, t ∈ LL o) 1 0 := by
  have g1 := cnAb_l (nbk := nbk) (P := P) (fc := fc) (F := F) (nn := nn) (LL := LL) (gn := gn) (j := o) ⟨ho.1, by omega⟩ n1
  have g2 := cnAb_n (nbk := nbk) (P := P) (fc := fc) (F := F) (nn := nn) (LL := LL) (gn := gn) (j := o) ⟨ho.1, by omega⟩
  have en := cnAb_n (nbk := nbk) (P := P) (fc := fc) (F := F) (nn := nn) (LL := LL) (gn := gn) (j := gn) ⟨by omega, by omega⟩
  have el := cnAb_l (nbk := nbk) (P := P) (fc := fc) (F := F) (nn := nn) (LL := LL) (gn := gn) (j := gn) ⟨by omega, by omega⟩ n2
  refine (show cnqEqual o (cnAb gn nn LL nbk P fc F) = pif ((cnAb gn nn LL nbk P fc F).1.2.1 o = (cnAb gn nn LL nbk P fc F).1.2.1 gn ∧ (cnLi ((cnAb gn nn LL nbk P fc F).1.2.2 o)).length = (cnLi ((cnAb gn nn LL nbk P fc F).1.2.2 gn)).length ∧ ∀ t, (cnAb gn nn LL nbk P fc F).1.2.2 gn t → (cnAb gn nn LL nbk P fc F).1.2.2 o t) 1 0 from if_pos ho).trans (pif_c ?_)
  rw [g2, en, g1.length_eq, el.length_eq]
  refine and_congr_right (fun _ => and_congr_right (fun _ => ⟨fun w t ht => (w t ⟨⟨by omega, by omega⟩, ht⟩).2, fun w t ht => ⟨⟨by omega, by omega⟩, w t ht.2⟩⟩))
end
/-- the component is in state S -/
def cnIC (kd : Nat → Nat) (an : Nat → Nat) (ai : Nat → Int → Int) (al : Nat → Int → Int) (ar : Nat → Int → Option Nat) (mX1_graph : Nat → Option Nat) (mX1_kept : Nat → Option Nat) (mX1_keptCount : Nat → Int) (mX1_digest : Nat → Option Nat) (mX1_hashed : Nat → Int) (mX1_rounds : Nat → Int) (mX1_hashes : Nat → Option Nat) (mX1_next : Nat → Option Nat) (mX1_descriptions : Nat → Option Nat) (mX1_order : Nat → Option Nat) (mX1_begins : Nat → Option Nat) (mX1_groups : Nat → Int) (mX1_numbers : Nat → Option Nat) (mX1_best : Nat → Option Nat) (mX1_row : Nat → Option Nat) (mX1_leastRow : Nat → Option Nat) (mX1_found : Nat → Int) (mX1_many : Nat → Int) (mX1_namedBlanks : Nat → Int) (mX1_formCount : Nat → Int) (mX1_given : Nat → Option Nat) (mX1_form : Nat → Option Nat) (mX1_octets : Nat → Option Nat) (mX1_ways : Nat → Int) (mX1_wanted : Nat → Int) (mX1_taken : Nat → Int) (mX2_blanks : Nat → Int) (mX2_count : Nat → Int) (mX2_keys : Nat → Option Nat) (mX3_words : Nat → Option Nat) (mX3_block : Nat → Option Nat) (mX3_size : Nat → Int) (mX4_bytes : Nat → Option Nat) (mX4_size : Nat → Int) (x : Nat) (S : cnT) : Prop := ∃ gn nn LL nbk P fc F, chRm kd an ai al ar mX1_graph mX1_kept mX1_keptCount mX1_digest mX1_hashed mX1_rounds mX1_hashes mX1_next mX1_descriptions mX1_order mX1_begins mX1_groups mX1_numbers mX1_best mX1_row mX1_leastRow mX1_found mX1_many mX1_namedBlanks mX1_formCount mX1_given mX1_form mX1_octets mX1_ways mX1_wanted mX1_taken mX2_blanks mX2_count mX2_keys mX3_words mX3_block mX3_size mX4_bytes mX4_size x nn LL gn nbk fc P F ∧ S = cnAb gn nn LL nbk P fc F
section
variable {kd : Nat → Nat} {an : Nat → Nat} {ai : Nat → Int → Int} {al : Nat → Int → Int} {ar : Nat → Int → Option Nat} {mX1_graph : Nat → Option Nat} {mX1_kept : Nat → Option Nat} {mX1_keptCount : Nat → Int} {mX1_digest : Nat → Option Nat} {mX1_hashed : Nat → Int} {mX1_rounds : Nat → Int} {mX1_hashes : Nat → Option Nat} {mX1_next : Nat → Option Nat} {mX1_descriptions : Nat → Option Nat} {mX1_order : Nat → Option Nat} {mX1_begins : Nat → Option Nat} {mX1_groups : Nat → Int} {mX1_numbers : Nat → Option Nat} {mX1_best : Nat → Option Nat} {mX1_row : Nat → Option Nat} {mX1_leastRow : Nat → Option Nat} {mX1_found : Nat → Int} {mX1_many : Nat → Int} {mX1_namedBlanks : Nat → Int} {mX1_formCount : Nat → Int} {mX1_given : Nat → Option Nat} {mX1_form : Nat → Option Nat} {mX1_octets : Nat → Option Nat} {mX1_ways : Nat → Int} {mX1_wanted : Nat → Int} {mX1_taken : Nat → Int} {mX2_blanks : Nat → Int} {mX2_count : Nat → Int} {mX2_keys : Nat → Option Nat} {mX3_words : Nat → Option Nat} {mX3_block : Nat → Option Nat} {mX3_size : Nat → Int} {mX4_bytes : Nat → Option Nat} {mX4_size : Nat → Int} {x : Nat} {S : cnT} {b s p o k i v st : Int} {MC MS : Nat}
theorem QCN_blank {post : Int → (Nat → Int) → (Nat → Int) → Prop} (R : cnIC kd an ai al ar mX1_graph mX1_kept mX1_keptCount mX1_digest mX1_hashed mX1_rounds mX1_hashes mX1_next mX1_descriptions mX1_order mX1_begins mX1_groups mX1_numbers mX1_best mX1_row mX1_leastRow mX1_found mX1_many mX1_namedBlanks mX1_formCount mX1_given mX1_form mX1_octets mX1_ways mX1_wanted mX1_taken mX2_blanks mX2_count mX2_keys mX3_words mX3_block mX3_size mX4_bytes mX4_size x S) (h : ∀ hd' bl', cnIC kd an ai al ar mX1_graph mX1_kept mX1_keptCount mX1_digest (hd') mX1_rounds mX1_hashes mX1_next mX1_descriptions mX1_order mX1_begins mX1_groups mX1_numbers mX1_best mX1_row mX1_leastRow mX1_found mX1_many mX1_namedBlanks mX1_formCount mX1_given mX1_form mX1_octets mX1_ways mX1_wanted mX1_taken (bl') mX2_count mX2_keys mX3_words mX3_block mX3_size mX4_bytes mX4_size x (cnqBlank S).2 → post (cnqBlank S).1 hd' bl') : wpCN_X1_blank post kd mX1_graph mX1_hashed mX2_blanks x := by
  obtain ⟨gn, nn, LL, nbk, P, fc, F, R, rfl⟩ := R
  have hR := R
  obtain ⟨A, g, hp, pi, l, ex, L, Sh, G, _⟩ := hR
  have hgn := Sh.2.2.2.2.2.2.1
  have nd : ∀ j, 0 ≤ j → j ≤ gn → (LL j).Nodup := fun j j0 j1 => (G.len ⟨j0, j1⟩).2.2.2
  have ndg := nd gn hgn (Int.le_refl _)
  refine CCN_blank R (fun z => ?_) (fun z hd' bl' R' => ?_)
  · rw [cnqBlank_1 hgn z] at h
    exact h _ _ ⟨gn, nn, LL, nbk, P, fc, F, R, rfl⟩
  · rw [cnqBlank_2 hgn (by omega)] at h
    exact h _ _ ⟨gn, _, LL, nbk, P, fc, F, R', rfl⟩
theorem QCN_triple {post : Int → (Nat → Int → Int) → (Nat → Int) → (Nat → Int) → Prop} (R : cnIC kd an ai al ar mX1_graph mX1_kept mX1_keptCount mX1_digest mX1_hashed mX1_rounds mX1_hashes mX1_next mX1_descriptions mX1_order mX1_begins mX1_groups mX1_numbers mX1_best mX1_row mX1_leastRow mX1_found mX1_many mX1_namedBlanks mX1_formCount mX1_given mX1_form mX1_octets mX1_ways mX1_wanted mX1_taken mX2_blanks mX2_count mX2_keys mX3_words mX3_block mX3_size mX4_bytes mX4_size x S) (h : ∀ al' hd' cu', cnIC kd an ai (al') ar mX1_graph mX1_kept mX1_keptCount mX1_digest (hd') mX1_rounds mX1_hashes mX1_next mX1_descriptions mX1_order mX1_begins mX1_groups mX1_numbers mX1_best mX1_row mX1_leastRow mX1_found mX1_many mX1_namedBlanks mX1_formCount mX1_given mX1_form mX1_octets mX1_ways mX1_wanted mX1_taken mX2_blanks (cu') mX2_keys mX3_words mX3_block mX3_size mX4_bytes mX4_size x (cnqTriple (s, p, o) S).2 → post (cnqTriple (s, p, o) S).1 al' hd' cu') : wpCN_X1_triple post kd an al mX1_graph mX1_hashed mX2_blanks mX2_count mX2_keys x s p o := by
  obtain ⟨gn, nn, LL, nbk, P, fc, F, R, rfl⟩ := R
  have hR := R
  obtain ⟨A, g, hp, pi, l, ex, L, Sh, G, _⟩ := hR
  have hgn := Sh.2.2.2.2.2.2.1
  have nd : ∀ j, 0 ≤ j → j ≤ gn → (LL j).Nodup := fun j j0 j1 => (G.len ⟨j0, j1⟩).2.2.2
  have ndg := nd gn hgn (Int.le_refl _)
  refine CCN_triple R (fun nt => ?_) (fun t m => ?_) (fun t nm l => ?_) (fun t nm l al' hd' cu' L1 PM R' => ?_)
  · rw [cnqTriple_1 hgn nt] at h
    exact h _ _ _ ⟨gn, nn, LL, nbk, P, fc, F, R, rfl⟩
  · rw [cnqTriple_2 hgn t m] at h
    exact h _ _ _ ⟨gn, nn, LL, nbk, P, fc, F, R, rfl⟩
  · rw [cnqTriple_3 hgn ndg t nm l] at h
    exact h _ _ _ ⟨gn, nn, LL, nbk, P, fc, F, R, rfl⟩
  · have e := cnqTriple_4 (nbk := nbk) (P := P) (fc := fc) (F := F) (nn := nn) (nn' := nn) (LL := LL) (LL' := updI LL gn L1) hgn ndg t nm l (fun _ _ _ => rfl) (fun j j0 j1 u => by
      by_cases y : j = gn
      · rw [y, updI_s, PM.mem_iff, List.mem_cons]
        exact ⟨fun w => w.imp (fun z => ⟨rfl, z⟩) id, fun w => w.imp (fun z => z.2) id⟩
      · rw [updI_n y]
        exact ⟨Or.inr, fun w => w.resolve_left (fun z => y z.1)⟩)
    rw [e] at h
    exact h _ _ _ ⟨gn, nn, _, nbk, P, fc, F, R', rfl⟩
theorem QCN_drop {post : Int → (Nat → Int → Int) → (Nat → Int) → (Nat → Int) → Prop} (R : cnIC kd an ai al ar mX1_graph mX1_kept mX1_keptCount mX1_digest mX1_hashed mX1_rounds mX1_hashes mX1_next mX1_descriptions mX1_order mX1_begins mX1_groups mX1_numbers mX1_best mX1_row mX1_leastRow mX1_found mX1_many mX1_namedBlanks mX1_formCount mX1_given mX1_form mX1_octets mX1_ways mX1_wanted mX1_taken mX2_blanks mX2_count mX2_keys mX3_words mX3_block mX3_size mX4_bytes mX4_size x S) (h : ∀ al' hd' cu', cnIC kd an ai (al') ar mX1_graph mX1_kept mX1_keptCount mX1_digest (hd') mX1_rounds mX1_hashes mX1_next mX1_descriptions mX1_order mX1_begins mX1_groups mX1_numbers mX1_best mX1_row mX1_leastRow mX1_found mX1_many mX1_namedBlanks mX1_formCount mX1_given mX1_form mX1_octets mX1_ways mX1_wanted mX1_taken mX2_blanks (cu') mX2_keys mX3_words mX3_block mX3_size mX4_bytes mX4_size x (cnqDrop (s, p, o) S).2 → post (cnqDrop (s, p, o) S).1 al' hd' cu') : wpCN_X1_drop post kd an al mX1_graph mX1_hashed mX2_blanks mX2_count mX2_keys x s p o := by
  obtain ⟨gn, nn, LL, nbk, P, fc, F, R, rfl⟩ := R
  have hR := R
  obtain ⟨A, g, hp, pi, l, ex, L, Sh, G, _⟩ := hR
  have hgn := Sh.2.2.2.2.2.2.1
  have nd : ∀ j, 0 ≤ j → j ≤ gn → (LL j).Nodup := fun j j0 j1 => (G.len ⟨j0, j1⟩).2.2.2
  have ndg := nd gn hgn (Int.le_refl _)
  refine CCN_drop R (fun nm => ?_) (fun m al' hd' cu' L1 PM R' => ?_)
  · rw [cnqDrop_1 hgn nm] at h
    exact h _ _ _ ⟨gn, nn, LL, nbk, P, fc, F, R, rfl⟩
  · have nd1 := PM.nodup_iff.1 ndg
    rw [List.nodup_cons] at nd1
    have e := cnqDrop_2 (nbk := nbk) (P := P) (fc := fc) (F := F) (nn := nn) (nn' := nn) (LL := LL) (LL' := updI LL gn L1) hgn m (fun _ _ _ => rfl) (fun j j0 j1 u => by
      by_cases y : j = gn
      · rw [y, updI_s, PM.mem_iff, List.mem_cons]
        exact ⟨fun w => ⟨fun z => nd1.1 (by rw [← z.2]; exact w), Or.inr w⟩, fun w => w.2.resolve_left (fun z => w.1 ⟨rfl, z⟩)⟩
      · rw [updI_n y]
        exact ⟨fun w => ⟨fun z => y z.1, w⟩, fun w => w.2⟩)
    rw [e] at h
    exact h _ _ _ ⟨gn, nn, _, nbk, P, fc, F, R', rfl⟩
theorem QCN_keep {post : Int → (Nat → Nat) → (Nat → Nat) → (Nat → Int → Int) → (Nat → Int → Option Nat) → (Nat → Option Nat) → (Nat → Int) → (Nat → Int) → (Nat → Int) → (Nat → Int) → (Nat → Option Nat) → Prop} (R : cnIC kd an ai al ar mX1_graph mX1_kept mX1_keptCount mX1_digest mX1_hashed mX1_rounds mX1_hashes mX1_next mX1_descriptions mX1_order mX1_begins mX1_groups mX1_numbers mX1_best mX1_row mX1_leastRow mX1_found mX1_many mX1_namedBlanks mX1_formCount mX1_given mX1_form mX1_octets mX1_ways mX1_wanted mX1_taken mX2_blanks mX2_count mX2_keys mX3_words mX3_block mX3_size mX4_bytes mX4_size x S) (bC : 2 ≤ MC) (bS : 43 ≤ MS) (h : ∀ kd' an' al' ar' gr' kc' hd' bl' cu' ky', cnIC (kd') (an') ai (al') (ar') (gr') mX1_kept (kc') mX1_digest (hd') mX1_rounds mX1_hashes mX1_next mX1_descriptions mX1_order mX1_begins mX1_groups mX1_numbers mX1_best mX1_row mX1_leastRow mX1_found mX1_many mX1_namedBlanks mX1_formCount mX1_given mX1_form mX1_octets mX1_ways mX1_wanted mX1_taken (bl') (cu') (ky') mX3_words mX3_block mX3_size mX4_bytes mX4_size x (cnqKeep S).2 → post (cnqKeep S).1 kd' an' al' ar' gr' kc' hd' bl' cu' ky') : wpCN_X1_keep MC MS post kd an al ar mX1_graph mX1_kept mX1_keptCount mX1_hashed mX2_blanks mX2_count mX2_keys x := by
  obtain ⟨gn, nn, LL, nbk, P, fc, F, R, rfl⟩ := R
  have hR := R
  obtain ⟨A, g, hp, pi, l, ex, L, Sh, G, _⟩ := hR
  have hgn := Sh.2.2.2.2.2.2.1
  have nd : ∀ j, 0 ≤ j → j ≤ gn → (LL j).Nodup := fun j j0 j1 => (G.len ⟨j0, j1⟩).2.2.2
  have ndg := nd gn hgn (Int.le_refl _)
  refine CCN_keep R bC bS (fun z => ?_) (fun z kd' an' al' ar' gr' kc' hd' bl' cu' ky' R' => ?_)
  · rw [cnqKeep_1 z] at h
    exact h _ _ _ _ _ _ _ _ _ _ ⟨gn, nn, LL, nbk, P, fc, F, R, rfl⟩
  · have e := cnqKeep_2 (nbk := nbk) (P := P) (fc := fc) (F := F) (nn := nn) (nn' := updI nn (gn + 1) 0) (LL := LL) (LL' := updI LL (gn + 1) []) hgn (by omega) (fun j j0 j1 => updI_n (by omega)) updI_s (fun j j0 j1 u => by rw [updI_n (show ¬ j = gn + 1 by omega)]) updI_s
    rw [e] at h
    exact h _ _ _ _ _ _ _ _ _ _ ⟨gn + 1, _, _, nbk, P, fc, F, R', rfl⟩
theorem QCN_blanks {post : Int → Prop} (R : cnIC kd an ai al ar mX1_graph mX1_kept mX1_keptCount mX1_digest mX1_hashed mX1_rounds mX1_hashes mX1_next mX1_descriptions mX1_order mX1_begins mX1_groups mX1_numbers mX1_best mX1_row mX1_leastRow mX1_found mX1_many mX1_namedBlanks mX1_formCount mX1_given mX1_form mX1_octets mX1_ways mX1_wanted mX1_taken mX2_blanks mX2_count mX2_keys mX3_words mX3_block mX3_size mX4_bytes mX4_size x S) (h : post (cnqBlanks S)) : wpCN_X1_blanks post kd mX1_graph mX2_blanks x := by
  obtain ⟨gn, nn, LL, nbk, P, fc, F, R, rfl⟩ := R
  have hR := R
  obtain ⟨A, g, hp, pi, l, ex, L, Sh, G, _⟩ := hR
  have hgn := Sh.2.2.2.2.2.2.1
  have nd : ∀ j, 0 ≤ j → j ≤ gn → (LL j).Nodup := fun j j0 j1 => (G.len ⟨j0, j1⟩).2.2.2
  have ndg := nd gn hgn (Int.le_refl _)
  rw [cnqBlanks_e hgn] at h
  exact CCN_blanks R h
theorem QCN_triples {post : Int → Prop} (R : cnIC kd an ai al ar mX1_graph mX1_kept mX1_keptCount mX1_digest mX1_hashed mX1_rounds mX1_hashes mX1_next mX1_descriptions mX1_order mX1_begins mX1_groups mX1_numbers mX1_best mX1_row mX1_leastRow mX1_found mX1_many mX1_namedBlanks mX1_formCount mX1_given mX1_form mX1_octets mX1_ways mX1_wanted mX1_taken mX2_blanks mX2_count mX2_keys mX3_words mX3_block mX3_size mX4_bytes mX4_size x S) (h : post (cnqTriples S)) : wpCN_X1_triples post kd mX1_graph mX2_count x := by
  obtain ⟨gn, nn, LL, nbk, P, fc, F, R, rfl⟩ := R
  have hR := R
  obtain ⟨A, g, hp, pi, l, ex, L, Sh, G, _⟩ := hR
  have hgn := Sh.2.2.2.2.2.2.1
  have nd : ∀ j, 0 ≤ j → j ≤ gn → (LL j).Nodup := fun j j0 j1 => (G.len ⟨j0, j1⟩).2.2.2
  have ndg := nd gn hgn (Int.le_refl _)
  rw [cnqTriples_e hgn ndg] at h
  exact CCN_triples R h
theorem QCN_named {post : Int → Prop} (R : cnIC kd an ai al ar mX1_graph mX1_kept mX1_keptCount mX1_digest mX1_hashed mX1_rounds mX1_hashes mX1_next mX1_descriptions mX1_order mX1_begins mX1_groups mX1_numbers mX1_best mX1_row mX1_leastRow mX1_found mX1_many mX1_namedBlanks mX1_formCount mX1_given mX1_form mX1_octets mX1_ways mX1_wanted mX1_taken mX2_blanks mX2_count mX2_keys mX3_words mX3_block mX3_size mX4_bytes mX4_size x S) (h : post (cnqNamed b S)) : wpCN_X1_named post kd an ai mX1_namedBlanks mX1_given x b := by
  obtain ⟨gn, nn, LL, nbk, P, fc, F, R, rfl⟩ := R
  have hR := R
  obtain ⟨A, g, hp, pi, l, ex, L, Sh, G, _⟩ := hR
  have hgn := Sh.2.2.2.2.2.2.1
  have nd : ∀ j, 0 ≤ j → j ≤ gn → (LL j).Nodup := fun j j0 j1 => (G.len ⟨j0, j1⟩).2.2.2
  have ndg := nd gn hgn (Int.le_refl _)
  exact CCN_named R h
theorem QCN_form {post : Int → Prop} (R : cnIC kd an ai al ar mX1_graph mX1_kept mX1_keptCount mX1_digest mX1_hashed mX1_rounds mX1_hashes mX1_next mX1_descriptions mX1_order mX1_begins mX1_groups mX1_numbers mX1_best mX1_row mX1_leastRow mX1_found mX1_many mX1_namedBlanks mX1_formCount mX1_given mX1_form mX1_octets mX1_ways mX1_wanted mX1_taken mX2_blanks mX2_count mX2_keys mX3_words mX3_block mX3_size mX4_bytes mX4_size x S) (h : post (cnqForm i k S)) : wpCN_X1_form post kd an al mX1_formCount mX1_form x i k := by
  obtain ⟨gn, nn, LL, nbk, P, fc, F, R, rfl⟩ := R
  have hR := R
  obtain ⟨A, g, hp, pi, l, ex, L, Sh, G, _⟩ := hR
  have hgn := Sh.2.2.2.2.2.2.1
  have nd : ∀ j, 0 ≤ j → j ≤ gn → (LL j).Nodup := fun j j0 j1 => (G.len ⟨j0, j1⟩).2.2.2
  have ndg := nd gn hgn (Int.le_refl _)
  exact CCN_form R h
theorem QCN_hash {post : Int → (Nat → Int → Int) → (Nat → Int → Option Nat) → (Nat → Int) → (Nat → Int) → (Nat → Option Nat) → (Nat → Option Nat) → (Nat → Int) → (Nat → Int) → (Nat → Int) → Prop} (R : cnIC kd an ai al ar mX1_graph mX1_kept mX1_keptCount mX1_digest mX1_hashed mX1_rounds mX1_hashes mX1_next mX1_descriptions mX1_order mX1_begins mX1_groups mX1_numbers mX1_best mX1_row mX1_leastRow mX1_found mX1_many mX1_namedBlanks mX1_formCount mX1_given mX1_form mX1_octets mX1_ways mX1_wanted mX1_taken mX2_blanks mX2_count mX2_keys mX3_words mX3_block mX3_size mX4_bytes mX4_size x S) (h : ∀ ai' ar' hd' ro' hs' nx' g' s3 s4, cnIC kd an (ai') al (ar') mX1_graph mX1_kept mX1_keptCount mX1_digest (hd') (ro') (hs') (nx') mX1_descriptions mX1_order mX1_begins (g') mX1_numbers mX1_best mX1_row mX1_leastRow mX1_found mX1_many mX1_namedBlanks mX1_formCount mX1_given mX1_form mX1_octets mX1_ways mX1_wanted mX1_taken mX2_blanks mX2_count mX2_keys mX3_words mX3_block s3 mX4_bytes s4 x S → post (cnqHash b i S) ai' ar' hd' ro' hs' nx' g' s3 s4) : wpCN_X1_hash post kd an ai al ar mX1_graph mX1_digest mX1_hashed mX1_rounds mX1_hashes mX1_next mX1_descriptions mX1_order mX1_begins mX1_groups mX2_blanks mX2_count mX2_keys mX3_words mX3_block mX3_size mX4_bytes mX4_size x b i := by
  obtain ⟨gn, nn, LL, nbk, P, fc, F, R, rfl⟩ := R
  have hR := R
  obtain ⟨A, g, hp, pi, l, ex, L, Sh, G, _⟩ := hR
  have hgn := Sh.2.2.2.2.2.2.1
  have nd : ∀ j, 0 ≤ j → j ≤ gn → (LL j).Nodup := fun j j0 j1 => (G.len ⟨j0, j1⟩).2.2.2
  have ndg := nd gn hgn (Int.le_refl _)
  rw [cnqHash_e hgn ndg] at h
  exact CCN_Rhash R (fun ai' ar' hd' ro' hs' nx' g' s3 s4 R' => h _ _ _ _ _ _ _ _ _ ⟨gn, nn, LL, nbk, P, fc, F, R', rfl⟩)
theorem QCN_rounds {post : Int → (Nat → Int → Int) → (Nat → Int → Option Nat) → (Nat → Int) → (Nat → Int) → (Nat → Option Nat) → (Nat → Option Nat) → (Nat → Int) → (Nat → Int) → (Nat → Int) → Prop} (R : cnIC kd an ai al ar mX1_graph mX1_kept mX1_keptCount mX1_digest mX1_hashed mX1_rounds mX1_hashes mX1_next mX1_descriptions mX1_order mX1_begins mX1_groups mX1_numbers mX1_best mX1_row mX1_leastRow mX1_found mX1_many mX1_namedBlanks mX1_formCount mX1_given mX1_form mX1_octets mX1_ways mX1_wanted mX1_taken mX2_blanks mX2_count mX2_keys mX3_words mX3_block mX3_size mX4_bytes mX4_size x S) (h : ∀ ai' ar' hd' ro' hs' nx' g' s3 s4, cnIC kd an (ai') al (ar') mX1_graph mX1_kept mX1_keptCount mX1_digest (hd') (ro') (hs') (nx') mX1_descriptions mX1_order mX1_begins (g') mX1_numbers mX1_best mX1_row mX1_leastRow mX1_found mX1_many mX1_namedBlanks mX1_formCount mX1_given mX1_form mX1_octets mX1_ways mX1_wanted mX1_taken mX2_blanks mX2_count mX2_keys mX3_words mX3_block s3 mX4_bytes s4 x S → post (cnqRounds S) ai' ar' hd' ro' hs' nx' g' s3 s4) : wpCN_X1_rounds post kd an ai al ar mX1_graph mX1_digest mX1_hashed mX1_rounds mX1_hashes mX1_next mX1_descriptions mX1_order mX1_begins mX1_groups mX2_blanks mX2_count mX2_keys mX3_words mX3_block mX3_size mX4_bytes mX4_size x := by
  obtain ⟨gn, nn, LL, nbk, P, fc, F, R, rfl⟩ := R
  have hR := R
  obtain ⟨A, g, hp, pi, l, ex, L, Sh, G, _⟩ := hR
  have hgn := Sh.2.2.2.2.2.2.1
  have nd : ∀ j, 0 ≤ j → j ≤ gn → (LL j).Nodup := fun j j0 j1 => (G.len ⟨j0, j1⟩).2.2.2
  have ndg := nd gn hgn (Int.le_refl _)
  rw [cnqRounds_e hgn ndg] at h
  exact CCN_Rrounds R (fun ai' ar' hd' ro' hs' nx' g' s3 s4 R' => h _ _ _ _ _ _ _ _ _ ⟨gn, nn, LL, nbk, P, fc, F, R', rfl⟩)
theorem QCN_first {post : Int → (Nat → Int → Int) → (Nat → Int → Option Nat) → (Nat → Int) → (Nat → Int) → (Nat → Option Nat) → (Nat → Option Nat) → (Nat → Int) → (Nat → Int) → (Nat → Int) → Prop} (R : cnIC kd an ai al ar mX1_graph mX1_kept mX1_keptCount mX1_digest mX1_hashed mX1_rounds mX1_hashes mX1_next mX1_descriptions mX1_order mX1_begins mX1_groups mX1_numbers mX1_best mX1_row mX1_leastRow mX1_found mX1_many mX1_namedBlanks mX1_formCount mX1_given mX1_form mX1_octets mX1_ways mX1_wanted mX1_taken mX2_blanks mX2_count mX2_keys mX3_words mX3_block mX3_size mX4_bytes mX4_size x S) (hr : zR k) (h : ∀ ai' ar' hd' ro' hs' nx' g' s3 s4, cnIC kd an (ai') al (ar') mX1_graph mX1_kept mX1_keptCount mX1_digest (hd') (ro') (hs') (nx') mX1_descriptions mX1_order mX1_begins (g') mX1_numbers mX1_best mX1_row mX1_leastRow mX1_found mX1_many mX1_namedBlanks mX1_formCount mX1_given mX1_form mX1_octets mX1_ways mX1_wanted mX1_taken mX2_blanks mX2_count mX2_keys mX3_words mX3_block s3 mX4_bytes s4 x S → post (cnqFirst k i S) ai' ar' hd' ro' hs' nx' g' s3 s4) : wpCN_X1_first post kd an ai al ar mX1_graph mX1_digest mX1_hashed mX1_rounds mX1_hashes mX1_next mX1_descriptions mX1_order mX1_begins mX1_groups mX2_blanks mX2_count mX2_keys mX3_words mX3_block mX3_size mX4_bytes mX4_size x k i := by
  obtain ⟨gn, nn, LL, nbk, P, fc, F, R, rfl⟩ := R
  have hR := R
  obtain ⟨A, g, hp, pi, l, ex, L, Sh, G, _⟩ := hR
  have hgn := Sh.2.2.2.2.2.2.1
  have nd : ∀ j, 0 ≤ j → j ≤ gn → (LL j).Nodup := fun j j0 j1 => (G.len ⟨j0, j1⟩).2.2.2
  have ndg := nd gn hgn (Int.le_refl _)
  refine CCN_Rfirst R hr (fun v ai' ar' hd' ro' hs' nx' g' s3 s4 hv R' => ?_)
  rw [cnqFirst_e hgn ndg hv] at h
  exact h _ _ _ _ _ _ _ _ _ ⟨gn, nn, LL, nbk, P, fc, F, R', rfl⟩
theorem QCN_name {post : Int → (Nat → Int → Int) → (Nat → Int → Int) → (Nat → Int → Option Nat) → (Nat → Int) → (Nat → Int) → (Nat → Option Nat) → (Nat → Option Nat) → (Nat → Int) → (Nat → Int) → (Nat → Int) → (Nat → Int) → (Nat → Int) → (Nat → Int) → (Nat → Int) → Prop} (R : cnIC kd an ai al ar mX1_graph mX1_kept mX1_keptCount mX1_digest mX1_hashed mX1_rounds mX1_hashes mX1_next mX1_descriptions mX1_order mX1_begins mX1_groups mX1_numbers mX1_best mX1_row mX1_leastRow mX1_found mX1_many mX1_namedBlanks mX1_formCount mX1_given mX1_form mX1_octets mX1_ways mX1_wanted mX1_taken mX2_blanks mX2_count mX2_keys mX3_words mX3_block mX3_size mX4_bytes mX4_size x S) (h : ∀ ai' al' ar' hd' ro' hs' nx' g' f' k' nb' fc' s3 s4, cnIC kd an (ai') (al') (ar') mX1_graph mX1_kept mX1_keptCount mX1_digest (hd') (ro') (hs') (nx') mX1_descriptions mX1_order mX1_begins (g') mX1_numbers mX1_best mX1_row mX1_leastRow (f') (k') (nb') (fc') mX1_given mX1_form mX1_octets mX1_ways mX1_wanted mX1_taken mX2_blanks mX2_count mX2_keys mX3_words mX3_block s3 mX4_bytes s4 x (cnqName st S).2 → post (cnqName st S).1 ai' al' ar' hd' ro' hs' nx' g' f' k' nb' fc' s3 s4) : wpCN_X1_name post kd an ai al ar mX1_graph mX1_digest mX1_hashed mX1_rounds mX1_hashes mX1_next mX1_descriptions mX1_order mX1_begins mX1_groups mX1_numbers mX1_best mX1_row mX1_leastRow mX1_found mX1_many mX1_namedBlanks mX1_formCount mX1_given mX1_form mX1_octets mX2_blanks mX2_count mX2_keys mX3_words mX3_block mX3_size mX4_bytes mX4_size x st := by
  obtain ⟨gn, nn, LL, nbk, P, fc, F, R, rfl⟩ := R
  have hR := R
  obtain ⟨A, g, hp, pi, l, ex, L, Sh, G, _⟩ := hR
  have hgn := Sh.2.2.2.2.2.2.1
  have nd : ∀ j, 0 ≤ j → j ≤ gn → (LL j).Nodup := fun j j0 j1 => (G.len ⟨j0, j1⟩).2.2.2
  have ndg := nd gn hgn (Int.le_refl _)
  refine CCN_Rname R (fun w ai' ar' hd' ro' hs' nx' g' s3 s4 R' => ?_) (fun w y P' F' ai' al' ar' hd' ro' hs' nx' g' f' k' nb' fc' s3 s4 N R' => ?_)
  · rw [cnqName_1 hgn ndg w] at h
    exact h _ _ _ _ _ _ _ _ _ _ _ _ _ _ ⟨gn, nn, LL, nbk, P, fc, F, R', rfl⟩
  · rw [cnqName_2 hgn ndg w N] at h
    exact h _ _ _ _ _ _ _ _ _ _ _ _ _ _ ⟨gn, nn, LL, nn gn, P', _, F', R', rfl⟩
theorem QCN_ways {post : Int → (Nat → Int → Int) → (Nat → Int) → (Nat → Int) → (Nat → Int) → Prop} (R : cnIC kd an ai al ar mX1_graph mX1_kept mX1_keptCount mX1_digest mX1_hashed mX1_rounds mX1_hashes mX1_next mX1_descriptions mX1_order mX1_begins mX1_groups mX1_numbers mX1_best mX1_row mX1_leastRow mX1_found mX1_many mX1_namedBlanks mX1_formCount mX1_given mX1_form mX1_octets mX1_ways mX1_wanted mX1_taken mX2_blanks mX2_count mX2_keys mX3_words mX3_block mX3_size mX4_bytes mX4_size x S) (h : ∀ ai' w' wa' t', cnIC kd an (ai') al ar mX1_graph mX1_kept mX1_keptCount mX1_digest mX1_hashed mX1_rounds mX1_hashes mX1_next mX1_descriptions mX1_order mX1_begins mX1_groups mX1_numbers mX1_best mX1_row mX1_leastRow mX1_found mX1_many mX1_namedBlanks mX1_formCount mX1_given mX1_form mX1_octets (w') (wa') (t') mX2_blanks mX2_count mX2_keys mX3_words mX3_block mX3_size mX4_bytes mX4_size x S → post (cnqWays o S) ai' w' wa' t') : wpCN_X1_ways post kd an ai al ar mX1_graph mX1_kept mX1_keptCount mX1_numbers mX1_ways mX1_wanted mX1_taken mX2_blanks mX2_count mX2_keys x o := by
  obtain ⟨gn, nn, LL, nbk, P, fc, F, R, rfl⟩ := R
  have hR := R
  obtain ⟨A, g, hp, pi, l, ex, L, Sh, G, _⟩ := hR
  have hgn := Sh.2.2.2.2.2.2.1
  have nd : ∀ j, 0 ≤ j → j ≤ gn → (LL j).Nodup := fun j j0 j1 => (G.len ⟨j0, j1⟩).2.2.2
  have ndg := nd gn hgn (Int.le_refl _)
  refine CCN_ways R (fun w => ?_) (fun ho w ai' w' wa' t' R' => ?_) (fun ho e1 e2 y ai' w' wa' t' Y R' => ?_)
  · rw [cnqWays_1 w] at h
    exact h _ _ _ _ ⟨gn, nn, LL, nbk, P, fc, F, R, rfl⟩
  · rw [cnqWays_2 ho (nd o ho.1 (by omega)) ndg w] at h
    exact h _ _ _ _ ⟨gn, nn, LL, nbk, P, fc, F, R', rfl⟩
  · rw [cnqWays_3 ho (nd o ho.1 (by omega)) ndg ⟨e1, e2⟩ Y] at h
    exact h _ _ _ _ ⟨gn, nn, LL, nbk, P, fc, F, R', rfl⟩
theorem QCN_isomorphic {post : Int → (Nat → Int → Int) → (Nat → Int) → (Nat → Int) → (Nat → Int) → Prop} (R : cnIC kd an ai al ar mX1_graph mX1_kept mX1_keptCount mX1_digest mX1_hashed mX1_rounds mX1_hashes mX1_next mX1_descriptions mX1_order mX1_begins mX1_groups mX1_numbers mX1_best mX1_row mX1_leastRow mX1_found mX1_many mX1_namedBlanks mX1_formCount mX1_given mX1_form mX1_octets mX1_ways mX1_wanted mX1_taken mX2_blanks mX2_count mX2_keys mX3_words mX3_block mX3_size mX4_bytes mX4_size x S) (h : ∀ ai' w' wa' t', cnIC kd an (ai') al ar mX1_graph mX1_kept mX1_keptCount mX1_digest mX1_hashed mX1_rounds mX1_hashes mX1_next mX1_descriptions mX1_order mX1_begins mX1_groups mX1_numbers mX1_best mX1_row mX1_leastRow mX1_found mX1_many mX1_namedBlanks mX1_formCount mX1_given mX1_form mX1_octets (w') (wa') (t') mX2_blanks mX2_count mX2_keys mX3_words mX3_block mX3_size mX4_bytes mX4_size x S → post (cnqIso o S) ai' w' wa' t') : wpCN_X1_isomorphic post kd an ai al ar mX1_graph mX1_kept mX1_keptCount mX1_numbers mX1_ways mX1_wanted mX1_taken mX2_blanks mX2_count mX2_keys x o := by
  obtain ⟨gn, nn, LL, nbk, P, fc, F, R, rfl⟩ := R
  have hR := R
  obtain ⟨A, g, hp, pi, l, ex, L, Sh, G, _⟩ := hR
  have hgn := Sh.2.2.2.2.2.2.1
  have nd : ∀ j, 0 ≤ j → j ≤ gn → (LL j).Nodup := fun j j0 j1 => (G.len ⟨j0, j1⟩).2.2.2
  have ndg := nd gn hgn (Int.le_refl _)
  refine CCN_isomorphic R (fun w => ?_) (fun ho w ai' w' wa' t' R' => ?_) (fun ho w ai' w' wa' t' R' => ?_)
  · rw [cnqIso_1 w] at h
    exact h _ _ _ _ ⟨gn, nn, LL, nbk, P, fc, F, R, rfl⟩
  · rw [cnqIso_c ho (nd o ho.1 (by omega)) ndg, pif_f w] at h
    exact h _ _ _ _ ⟨gn, nn, LL, nbk, P, fc, F, R', rfl⟩
  · rw [cnqIso_c ho (nd o ho.1 (by omega)) ndg, pif_t w] at h
    exact h _ _ _ _ ⟨gn, nn, LL, nbk, P, fc, F, R', rfl⟩
theorem QCN_equal {post : Int → Prop} (R : cnIC kd an ai al ar mX1_graph mX1_kept mX1_keptCount mX1_digest mX1_hashed mX1_rounds mX1_hashes mX1_next mX1_descriptions mX1_order mX1_begins mX1_groups mX1_numbers mX1_best mX1_row mX1_leastRow mX1_found mX1_many mX1_namedBlanks mX1_formCount mX1_given mX1_form mX1_octets mX1_ways mX1_wanted mX1_taken mX2_blanks mX2_count mX2_keys mX3_words mX3_block mX3_size mX4_bytes mX4_size x S) (h : post (cnqEqual o S)) : wpCN_X1_equal post kd an al ar mX1_graph mX1_kept mX1_keptCount mX2_blanks mX2_count mX2_keys x o := by
  obtain ⟨gn, nn, LL, nbk, P, fc, F, R, rfl⟩ := R
  have hR := R
  obtain ⟨A, g, hp, pi, l, ex, L, Sh, G, _⟩ := hR
  have hgn := Sh.2.2.2.2.2.2.1
  have nd : ∀ j, 0 ≤ j → j ≤ gn → (LL j).Nodup := fun j j0 j1 => (G.len ⟨j0, j1⟩).2.2.2
  have ndg := nd gn hgn (Int.le_refl _)
  refine CCN_equal R (fun w => ?_) (fun ho w => ?_) (fun ho w => ?_)
  · rw [cnqEqual_1 w] at h
    exact h
  · rw [cnqEqual_c ho (nd o ho.1 (by omega)) ndg, pif_f w] at h
    exact h
  · rw [cnqEqual_c ho (nd o ho.1 (by omega)) ndg, pif_t w] at h
    exact h
end

/-! CanonNames: the reference (X47) does what a call does -/
/-- there is a naming: the blanks by hash and number -/
theorem cnNa_ex {H : Int → List Int} {n : Int} (hn : 0 ≤ n) : ∃ t, cnPm n t ∧ cnNa H n (cnAt t) := by
  have lt : ∀ b c : Int, (1 ≤ b ∧ b ≤ n) → (1 ≤ c ∧ c ≤ n) → (cnL H b c ∨ (H b = H c ∧ b < c)) → cntI (fun i => 1 ≤ i ∧ (cnL H i b ∨ (H i = H b ∧ i < b))) (n + 1).toNat + 1 ≤ cntI (fun i => 1 ≤ i ∧ (cnL H i c ∨ (H i = H c ∧ i < c))) (n + 1).toNat := fun b c hb hc r => by
    refine cntI_ltr (j := b) (n + 1).toNat (fun i _ _ w => ⟨w.1, ?_⟩) (by omega) (by omega) ⟨hb.1, r⟩ (fun w => ?_)
    · rcases w.2 with u | u
      · rcases r with z | z
        · exact Or.inl (cnL_t u z.1)
        · exact Or.inl ⟨by rw [← z.1]; exact u.1, by rw [← z.1]; exact u.2⟩
      · rcases r with z | z
        · exact Or.inl ⟨by rw [u.1]; exact z.1, by rw [u.1]; exact z.2⟩
        · exact Or.inr ⟨u.1.trans z.1, by omega⟩
    · rcases w.2 with u | u
      · exact u.2 rfl
      · omega
  have tot : ∀ b c : Int, b < c → (cnL H b c ∨ (H b = H c ∧ b < c)) ∨ (cnL H c b ∨ (H c = H b ∧ c < b)) := fun b c l => by
    by_cases h : cnL H b c
    · exact Or.inl (Or.inl h)
    · have g := cnL_n.1 h
      by_cases e : H c = H b
      · exact Or.inl (Or.inr ⟨e.symm, l⟩)
      · exact Or.inr (Or.inl ⟨g, e⟩)
  have top : ∀ q : Int → Prop, ¬ q 0 → cntI q (n + 1).toNat ≤ n := fun q nq => by
    have a := cntI_ltr (p := q) (q := fun _ => True) (j := 0) (n + 1).toNat (fun _ _ _ _ => trivial) (Int.le_refl 0) (by omega) trivial nq
    have b := (cntI_b (fun _ => True) (n + 1).toNat).2
    omega
  have hi : ∀ b : Int, (1 ≤ b ∧ b ≤ n) → cntI (fun i => 1 ≤ i ∧ (cnL H i b ∨ (H i = H b ∧ i < b))) (n + 1).toNat + 1 ≤ cnHi H n b := fun b hb => by
    refine cntI_ltr (j := b) (n + 1).toNat (fun i _ _ w => ⟨w.1, ?_⟩) (by omega) (by omega) ⟨hb.1, qLx_r _⟩ (fun w => ?_)
    · rcases w.2 with u | u
      · exact u.1
      · rw [u.1]; exact qLx_r _
    · rcases w.2 with u | u
      · exact u.2 rfl
      · omega
  have lo : ∀ b : Int, cnLo H n b ≤ cntI (fun i => 1 ≤ i ∧ (cnL H i b ∨ (H i = H b ∧ i < b))) (n + 1).toNat := fun b => cntI_ler (n + 1).toNat (fun i _ _ w => ⟨w.1, Or.inl w.2⟩)
  have lo0 : ∀ b : Int, 0 ≤ cnLo H n b := fun b => (cntI_b _ _).1
  have hin : ∀ b : Int, cnHi H n b ≤ n := fun b => top _ (fun w => by omega)
  have I : cnIn n (fun b => cntI (fun i => 1 ≤ i ∧ (cnL H i b ∨ (H i = H b ∧ i < b))) (n + 1).toNat + 1) := ⟨fun b b0 b1 => by
    have a1 := hi b ⟨b0, b1⟩
    have a2 := lo b
    have a3 := lo0 b
    have a4 := hin b
    try dsimp only
    omega, fun b c b0 bc c1 e => by
    dsimp only at e
    rcases tot b c bc with r | r
    · have := lt b c ⟨b0, by omega⟩ ⟨by omega, c1⟩ r
      omega
    · have := lt c b ⟨by omega, c1⟩ ⟨b0, by omega⟩ r
      omega⟩
  refine ⟨aF (fun b => cntI (fun i => 1 ≤ i ∧ (cnL H i b ∨ (H i = H b ∧ i < b))) (n + 1).toNat + 1) 1 n.toNat, (cnPm_f hn).2 I, fun b b0 b1 => ?_⟩
  rw [cnAt_f ⟨b0, b1⟩]
  have a1 := hi b ⟨b0, b1⟩
  have a2 := lo b
  try dsimp only
  omega
theorem cnNm_ne {L : List qA} {n y : Int} {na fo : Int → Int} (hn : 0 ≤ n) (h : cnNm L n y na fo) : chNe L n y (aF na 1 n.toNat) (aF fo 0 (3 * L.length)) := by
  obtain ⟨B, b1, b2, b3⟩ := h
  obtain ⟨t, ht⟩ := cnNa_ex (H := (cnHa L n).1) hn
  rcases b3 with ⟨e, _⟩ | b3
  · rw [e] at b2
    exact absurd ((b2 t).2 ht) (by simp)
  · exact ⟨B, b1, b2, b3⟩
theorem cnEr {L : List qA} {u : qA} {k : Nat} (nd : L.Nodup) (hk : k < L.length) : u ∈ L.eraseIdx k ↔ ¬ u = L[k] ∧ u ∈ L := by
  rw [List.mem_eraseIdx_iff_getElem]
  constructor
  · rintro ⟨i, hi, ne, e⟩
    exact ⟨fun z => ne ((List.getElem_inj nd).1 (e.trans z)), by rw [← e]; exact List.getElem_mem hi⟩
  · rintro ⟨ne, m⟩
    obtain ⟨i, hi, e⟩ := List.mem_iff_getElem.1 m
    exact ⟨i, hi, fun z => ne (by rw [← e]; simp only [z]), e⟩
def cnrj (nk j : Int) : Int := if j = nk then 8 else j
def cnrS (bl cu pt na : Int → Int) (nbk : Int) (fo : Int → Int) (fc nk : Int) : cnT := cnAb nk (fun j => bl (cnrj nk j)) (fun j => cnGr pt (cnrj nk j) (cu (cnrj nk j))) nbk (aF na 1 nbk.toNat) fc (aF fo 0 (3 * fc.toNat))
/-- graph j of the reference is sound -/
def cnrG (bl cu pt : Int → Int) (j : Int) : Prop := (0 ≤ bl j ∧ bl j ≤ 8) ∧ (0 ≤ cu j ∧ cu j ≤ 40) ∧ (∀ t ∈ cnGr pt j (cu j), cnTp (bl j) t) ∧ (cnGr pt j (cu j)).Nodup
def cnrI (kc bl cu pt hs : Int → Int) (rn hd : Int) (gr go : Int → Int) (gc nbk fc nk : Int) : Prop := (∀ t, 0 ≤ t → t < 64 → kc t = shK t) ∧ (0 ≤ nk ∧ nk ≤ 8) ∧ (∀ j, 0 ≤ j → (j < nk ∨ j = 8) → cnrG bl cu pt j) ∧ (hd = 0 ∨ (hd = 1 ∧ cnHd (cnGr pt 8 (cu 8)) (bl 8) hs rn gr go gc)) ∧ (0 ≤ nbk ∧ nbk ≤ 8) ∧ (0 ≤ fc ∧ fc ≤ 40)
/-- the reference is in state S -/
def cnIR (kc bl cu pt hs : Int → Int) (rn hd : Int) (gr go : Int → Int) (gc : Int) (na : Int → Int) (nbk : Int) (fo : Int → Int) (fc nk : Int) (S : cnT) : Prop := cnrI kc bl cu pt hs rn hd gr go gc nbk fc nk ∧ S = cnrS bl cu pt na nbk fo fc nk
section
variable {kc bl bl' cu cu' pt pt' hs nw gr go tr ro na fo oc de ms wd sc sd : Int → Int} {rn hd gc nbk fc d z nk g k n s p o b i x st y j : Int} {S : cnT} {t : qA}
theorem cnrj_8 : cnrj nk nk = 8 := if_pos rfl
theorem cnrj_n (h : ¬ j = nk) : cnrj nk j = j := if_neg h
theorem cnrj_r (hk : 0 ≤ nk ∧ nk ≤ 8) (h0 : 0 ≤ j) (h1 : j ≤ nk) : 0 ≤ cnrj nk j ∧ (cnrj nk j < nk ∨ cnrj nk j = 8) := by
  by_cases e : j = nk
  · rw [e, cnrj_8]; omega
  · rw [cnrj_n e]; omega
theorem Q47_blank {post : Int → (Int → Int) → Int → Int → Prop} (R : cnIR kc bl cu pt hs rn hd gr go gc na nbk fo fc nk S) (h : ∀ bl' hd', cnIR kc bl' cu pt hs rn hd' gr go gc na nbk fo fc nk ((cnqBlank S).2) → post (cnqBlank S).1 bl' hd' 0) : wpX47_blank post bl hd := by
  obtain ⟨⟨hkc, hnk, hG, hH, hnb, hfc⟩, rfl⟩ := R
  have g8 : cnrG bl cu pt 8 := hG 8 (by decide) (Or.inr rfl)
  obtain ⟨b8, c8, t8, n8⟩ := hG 8 (by decide) (Or.inr rfl)
  have nl : ((cnGr pt 8 (cu 8)).length : Int) = cu 8 := cnGr_len c8.1
  have ndg : (cnGr pt (cnrj nk nk) (cu (cnrj nk nk))).Nodup := by rw [cnrj_8]; exact n8
  refine T47_blank b8 (fun z => ?_) (fun z => ?_)
  · have e : cnqBlank (cnrS bl cu pt na nbk fo fc nk) = (-2, cnrS bl cu pt na nbk fo fc nk) := cnqBlank_1 hnk.1 (by show bl (cnrj nk nk) = 8; rw [cnrj_8]; exact z)
    rw [e] at h
    exact h _ _ ⟨⟨hkc, hnk, hG, hH, hnb, hfc⟩, rfl⟩
  · have e := cnqBlank_2 (nn := fun j => bl (cnrj nk j)) (LL := fun j => cnGr pt (cnrj nk j) (cu (cnrj nk j))) (nbk := nbk) (P := aF na 1 nbk.toNat) (fc := fc) (F := aF fo 0 (3 * fc.toNat)) hnk.1 (by show ¬ bl (cnrj nk nk) = 8; rw [cnrj_8]; omega)
    have e2 : cnqBlank (cnrS bl cu pt na nbk fo fc nk) = (bl 8 + 1, cnrS (updI bl 8 (bl 8 + 1)) cu pt na nbk fo fc nk) := by
      refine e.trans ?_
      try dsimp only
      rw [cnrj_8]
      refine congrArg (Prod.mk _) (cnAb_cg (fun j j0 j1 => ?_) (fun _ _ _ _ => Iff.rfl))
      try dsimp only
      by_cases y : j = nk
      · rw [y, updI_s, cnrj_8, updI_s]
      · rw [updI_n y, cnrj_n y, updI_n (by omega)]
    rw [e2] at h
    refine h _ _ ⟨⟨hkc, hnk, fun j j0 j1 => ?_, Or.inl rfl, hnb, hfc⟩, rfl⟩
    by_cases y : j = 8
    · rw [y]
      refine ⟨by rw [updI_s]; omega, c8, fun t ht => ?_, n8⟩
      rw [updI_s]
      exact cnTp_m (by omega) (t8 t ht)
    · obtain ⟨a1, a2, a3, a4⟩ := hG j j0 j1
      refine ⟨by rw [updI_n y]; exact a1, a2, fun t ht => ?_, a4⟩
      rw [updI_n y]
      exact a3 t ht
theorem Q47_triple {post : Int → (Int → Int) → (Int → Int) → Int → Int → Prop} (R : cnIR kc bl cu pt hs rn hd gr go gc na nbk fo fc nk S) (h : ∀ cu' pt' hd', cnIR kc bl cu' pt' hs rn hd' gr go gc na nbk fo fc nk ((cnqTriple (s, p, o) S).2) → post (cnqTriple (s, p, o) S).1 cu' pt' hd' 0) : wpX47_triple post bl cu pt hd s p o := by
  obtain ⟨⟨hkc, hnk, hG, hH, hnb, hfc⟩, rfl⟩ := R
  have g8 : cnrG bl cu pt 8 := hG 8 (by decide) (Or.inr rfl)
  obtain ⟨b8, c8, t8, n8⟩ := hG 8 (by decide) (Or.inr rfl)
  have nl : ((cnGr pt 8 (cu 8)).length : Int) = cu 8 := cnGr_len c8.1
  have ndg : (cnGr pt (cnrj nk nk) (cu (cnrj nk nk))).Nodup := by rw [cnrj_8]; exact n8
  refine T47_triple b8 c8 (fun z => ?_) (fun z m => ?_) (fun z m l => ?_) (fun z m l pt' e1 e2 => ?_)
  · have e : cnqTriple (s, p, o) (cnrS bl cu pt na nbk fo fc nk) = (-1, cnrS bl cu pt na nbk fo fc nk) := cnqTriple_1 hnk.1 (by show ¬ cnTp (bl (cnrj nk nk)) _; rw [cnrj_8]; exact z)
    rw [e] at h
    exact h _ _ _ ⟨⟨hkc, hnk, hG, hH, hnb, hfc⟩, rfl⟩
  · have e : cnqTriple (s, p, o) (cnrS bl cu pt na nbk fo fc nk) = (0, cnrS bl cu pt na nbk fo fc nk) := cnqTriple_2 hnk.1 (by show cnTp (bl (cnrj nk nk)) _; rw [cnrj_8]; exact z) (by show _ ∈ cnGr pt (cnrj nk nk) (cu (cnrj nk nk)); rw [cnrj_8]; exact m)
    rw [e] at h
    exact h _ _ _ ⟨⟨hkc, hnk, hG, hH, hnb, hfc⟩, rfl⟩
  · have e : cnqTriple (s, p, o) (cnrS bl cu pt na nbk fo fc nk) = (-2, cnrS bl cu pt na nbk fo fc nk) := cnqTriple_3 hnk.1 ndg (by show cnTp (bl (cnrj nk nk)) _; rw [cnrj_8]; exact z) (by show ¬ _ ∈ cnGr pt (cnrj nk nk) (cu (cnrj nk nk)); rw [cnrj_8]; exact m) (by show (cnGr pt (cnrj nk nk) (cu (cnrj nk nk))).length = 40; rw [cnrj_8]; omega)
    rw [e] at h
    exact h _ _ _ ⟨⟨hkc, hnk, hG, hH, hnb, hfc⟩, rfl⟩
  · have e : cnqTriple (s, p, o) (cnrS bl cu pt na nbk fo fc nk) = (1, cnrS bl (updI cu 8 (cu 8 + 1)) pt' na nbk fo fc nk) := cnqTriple_4 hnk.1 ndg (by show cnTp (bl (cnrj nk nk)) _; rw [cnrj_8]; exact z) (by show ¬ _ ∈ cnGr pt (cnrj nk nk) (cu (cnrj nk nk)); rw [cnrj_8]; exact m) (by show (cnGr pt (cnrj nk nk) (cu (cnrj nk nk))).length < 40; rw [cnrj_8]; omega) (fun _ _ _ => rfl) (fun j j0 j1 u => by
      try dsimp only
      by_cases y : j = nk
      · rw [y, cnrj_8, updI_s, e1, List.mem_append, List.mem_singleton]
        exact ⟨fun w => w.elim Or.inr (fun z => Or.inl ⟨rfl, z⟩), fun w => w.elim (fun z => Or.inr z.2) Or.inl⟩
      · rw [cnrj_n y, updI_n (show ¬ j = 8 by omega), e2 j (cu j) (by omega) (hG j j0 (Or.inl (by omega))).2.1.2]
        exact ⟨Or.inr, fun w => w.resolve_left (fun z => y z.1)⟩)
    rw [e] at h
    refine h _ _ _ ⟨⟨hkc, hnk, fun j j0 j1 => ?_, Or.inl rfl, hnb, hfc⟩, rfl⟩
    by_cases y : j = 8
    · rw [y]
      unfold cnrG
      rw [updI_s, e1]
      refine ⟨b8, by omega, fun t ht => ?_, ?_⟩
      · rcases List.mem_append.1 ht with w | w
        · exact t8 t w
        · rw [List.mem_singleton.1 w]; exact z
      · rw [List.nodup_append]
        refine ⟨n8, by simp, fun a ha c hc e => m ?_⟩
        rw [List.mem_singleton.1 hc] at e
        rw [← e]
        exact ha
    · have w := hG j j0 j1
      unfold cnrG
      rw [updI_n y, e2 j (cu j) y w.2.1.2]
      exact w
theorem Q47_drop {post : Int → (Int → Int) → (Int → Int) → Int → Int → Prop} (R : cnIR kc bl cu pt hs rn hd gr go gc na nbk fo fc nk S) (h : ∀ cu' pt' hd', cnIR kc bl cu' pt' hs rn hd' gr go gc na nbk fo fc nk ((cnqDrop (s, p, o) S).2) → post (cnqDrop (s, p, o) S).1 cu' pt' hd' 0) : wpX47_drop post cu pt hd s p o := by
  obtain ⟨⟨hkc, hnk, hG, hH, hnb, hfc⟩, rfl⟩ := R
  have g8 : cnrG bl cu pt 8 := hG 8 (by decide) (Or.inr rfl)
  obtain ⟨b8, c8, t8, n8⟩ := hG 8 (by decide) (Or.inr rfl)
  have nl : ((cnGr pt 8 (cu 8)).length : Int) = cu 8 := cnGr_len c8.1
  have ndg : (cnGr pt (cnrj nk nk) (cu (cnrj nk nk))).Nodup := by rw [cnrj_8]; exact n8
  refine T47_drop c8 (fun m => ?_) (fun k k0 k1 ek pt' e1 e2 => ?_)
  · have e : cnqDrop (s, p, o) (cnrS bl cu pt na nbk fo fc nk) = (0, cnrS bl cu pt na nbk fo fc nk) := cnqDrop_1 hnk.1 (by show ¬ _ ∈ cnGr pt (cnrj nk nk) (cu (cnrj nk nk)); rw [cnrj_8]; exact m)
    rw [e] at h
    exact h _ _ _ ⟨⟨hkc, hnk, hG, hH, hnb, hfc⟩, rfl⟩
  · have kl : k.toNat < (cnGr pt 8 (cu 8)).length := by omega
    have gk : (cnGr pt 8 (cu 8))[k.toNat] = (s, p, o) := by
      have a := aF_get (f := cnTr pt 8) (d := (0, 0, 0)) (cu 8).toNat 0 k.toNat (by omega)
      rw [List.getD_eq_getElem?_getD, List.getElem?_eq_getElem (show k.toNat < (aF (cnTr pt 8) 0 (cu 8).toNat).length from kl), show (0 : Int) + (k.toNat : Int) = k by omega] at a
      exact a.trans ek
    have m : (s, p, o) ∈ cnGr pt 8 (cu 8) := by rw [← gk]; exact List.getElem_mem kl
    have e : cnqDrop (s, p, o) (cnrS bl cu pt na nbk fo fc nk) = (1, cnrS bl (updI cu 8 (cu 8 - 1)) pt' na nbk fo fc nk) := cnqDrop_2 hnk.1 (by show _ ∈ cnGr pt (cnrj nk nk) (cu (cnrj nk nk)); rw [cnrj_8]; exact m) (fun _ _ _ => rfl) (fun j j0 j1 u => by
      try dsimp only
      by_cases y : j = nk
      · rw [y, cnrj_8, updI_s, e1, cnEr n8 kl, gk]
        exact ⟨fun w => ⟨fun z => w.1 z.2, w.2⟩, fun w => ⟨fun z => w.1 ⟨rfl, z⟩, w.2⟩⟩
      · rw [cnrj_n y, updI_n (show ¬ j = 8 by omega), e2 j (cu j) (by omega) (hG j j0 (Or.inl (by omega))).2.1.2]
        exact ⟨fun w => ⟨fun z => y z.1, w⟩, fun w => w.2⟩)
    rw [e] at h
    refine h _ _ _ ⟨⟨hkc, hnk, fun j j0 j1 => ?_, Or.inl rfl, hnb, hfc⟩, rfl⟩
    by_cases y : j = 8
    · rw [y]
      unfold cnrG
      rw [updI_s, e1]
      exact ⟨b8, by omega, fun t ht => t8 t (List.mem_of_mem_eraseIdx ht), n8.eraseIdx _⟩
    · have w := hG j j0 j1
      unfold cnrG
      rw [updI_n y, e2 j (cu j) y w.2.1.2]
      exact w
theorem Q47_keep {post : Int → (Int → Int) → (Int → Int) → (Int → Int) → Int → Int → Int → Prop} (R : cnIR kc bl cu pt hs rn hd gr go gc na nbk fo fc nk S) (h : ∀ bl' cu' pt' nk' hd', cnIR kc bl' cu' pt' hs rn hd' gr go gc na nbk fo fc nk' ((cnqKeep S).2) → post (cnqKeep S).1 bl' cu' pt' nk' hd' 0) : wpX47_keep post bl cu pt nk hd := by
  obtain ⟨⟨hkc, hnk, hG, hH, hnb, hfc⟩, rfl⟩ := R
  have g8 : cnrG bl cu pt 8 := hG 8 (by decide) (Or.inr rfl)
  obtain ⟨b8, c8, t8, n8⟩ := hG 8 (by decide) (Or.inr rfl)
  have nl : ((cnGr pt 8 (cu 8)).length : Int) = cu 8 := cnGr_len c8.1
  have ndg : (cnGr pt (cnrj nk nk) (cu (cnrj nk nk))).Nodup := by rw [cnrj_8]; exact n8
  refine T47_keep hnk (fun z => ?_) (fun z pt' e1 e2 => ?_)
  · have e : cnqKeep (cnrS bl cu pt na nbk fo fc nk) = (-2, cnrS bl cu pt na nbk fo fc nk) := cnqKeep_1 z
    rw [e] at h
    exact h _ _ _ _ _ ⟨⟨hkc, hnk, hG, hH, hnb, hfc⟩, rfl⟩
  · have c0 : cnGr pt' 8 0 = [] := rfl
    have e : cnqKeep (cnrS bl cu pt na nbk fo fc nk) = (nk, cnrS (updI (updI bl nk (bl 8)) 8 0) (updI (updI cu nk (cu 8)) 8 0) pt' na nbk fo fc (nk + 1)) := cnqKeep_2 hnk.1 (by omega) (fun j j0 j1 => by
      try dsimp only
      rw [cnrj_n (show ¬ j = nk + 1 by omega), updI_n (show ¬ j = 8 by omega)]
      by_cases y : j = nk
      · rw [y, updI_s, cnrj_8]
      · rw [updI_n y, cnrj_n y]) (by (try dsimp only); rw [cnrj_8, updI_s]) (fun j j0 j1 u => by
      try dsimp only
      rw [cnrj_n (show ¬ j = nk + 1 by omega), updI_n (show ¬ j = 8 by omega)]
      by_cases y : j = nk
      · rw [y, updI_s, cnrj_8, e1 (cu 8) c8.2]
      · rw [updI_n y, cnrj_n y, e2 j (cu j) j0 (by omega) (hG j j0 (Or.inl (by omega))).2.1.2]) (by (try dsimp only); rw [cnrj_8, updI_s]; rfl)
    rw [e] at h
    refine h _ _ _ _ _ ⟨⟨hkc, by omega, fun j j0 j1 => ?_, Or.inl rfl, hnb, hfc⟩, rfl⟩
    unfold cnrG
    by_cases y : j = 8
    · rw [y, updI_s, updI_s, c0]
      exact ⟨by decide, by decide, fun t ht => absurd ht (by simp), by simp⟩
    · rw [updI_n y, updI_n y]
      by_cases y2 : j = nk
      · rw [y2, updI_s, updI_s, e1 (cu 8) c8.2]
        exact g8
      · have w := hG j j0 (Or.inl (by omega))
        rw [updI_n y2, updI_n y2, e2 j (cu j) j0 (by omega) w.2.1.2]
        exact w
theorem Q47_hash {post : Int → (Int → Int) → (Int → Int) → Int → Int → (Int → Int) → (Int → Int) → Int → (Int → Int) → Int → (Int → Int) → Int → (Int → Int) → (Int → Int) → Int → (Int → Int) → Prop} (R : cnIR kc bl cu pt hs rn hd gr go gc na nbk fo fc nk S) (h : ∀ hs' nw' ro' gr' go' gc' de' d' ms' z' wd' sc' sd', cnIR kc bl cu pt hs' ro' 1 gr' go' gc' na nbk fo fc nk S → post (cnqHash b i S) hs' nw' ro' 1 gr' go' gc' de' d' ms' z' wd' sc' 0 sd') : wpX47_hash post kc bl cu pt hs nw rn hd gr go gc de d ms z wd sc sd b i := by
  obtain ⟨⟨hkc, hnk, hG, hH, hnb, hfc⟩, rfl⟩ := R
  have g8 : cnrG bl cu pt 8 := hG 8 (by decide) (Or.inr rfl)
  obtain ⟨b8, c8, t8, n8⟩ := hG 8 (by decide) (Or.inr rfl)
  have nl : ((cnGr pt 8 (cu 8)).length : Int) = cu 8 := cnGr_len c8.1
  have ndg : (cnGr pt (cnrj nk nk) (cu (cnrj nk nk))).Nodup := by rw [cnrj_8]; exact n8
  have e : cnqHash b i (cnrS bl cu pt na nbk fo fc nk) = if (1 ≤ b ∧ b ≤ bl (cnrj nk nk)) ∧ (0 ≤ i ∧ i ≤ 7) then w32 (((cnHa (cnGr pt (cnrj nk nk) (cu (cnrj nk nk))) (bl (cnrj nk nk))).1 b).getD i.toNat 0) else 0 := cnqHash_e hnk.1 ndg
  rw [cnrj_8] at e
  rw [e] at h
  exact T47_hash hkc rfl rfl c8 b8 t8 hH (fun hs' nw' ro' gr' go' gc' de' d' ms' z' wd' sc' sd' H' => h _ _ _ _ _ _ _ _ _ _ _ _ _ ⟨⟨hkc, hnk, hG, Or.inr ⟨rfl, H'⟩, hnb, hfc⟩, rfl⟩)
theorem Q47_rounds {post : Int → (Int → Int) → (Int → Int) → Int → Int → (Int → Int) → (Int → Int) → Int → (Int → Int) → Int → (Int → Int) → Int → (Int → Int) → (Int → Int) → Int → (Int → Int) → Prop} (R : cnIR kc bl cu pt hs rn hd gr go gc na nbk fo fc nk S) (h : ∀ hs' nw' ro' gr' go' gc' de' d' ms' z' wd' sc' sd', cnIR kc bl cu pt hs' ro' 1 gr' go' gc' na nbk fo fc nk S → post (cnqRounds S) hs' nw' ro' 1 gr' go' gc' de' d' ms' z' wd' sc' 0 sd') : wpX47_rounds post kc bl cu pt hs nw rn hd gr go gc de d ms z wd sc sd := by
  obtain ⟨⟨hkc, hnk, hG, hH, hnb, hfc⟩, rfl⟩ := R
  have g8 : cnrG bl cu pt 8 := hG 8 (by decide) (Or.inr rfl)
  obtain ⟨b8, c8, t8, n8⟩ := hG 8 (by decide) (Or.inr rfl)
  have nl : ((cnGr pt 8 (cu 8)).length : Int) = cu 8 := cnGr_len c8.1
  have ndg : (cnGr pt (cnrj nk nk) (cu (cnrj nk nk))).Nodup := by rw [cnrj_8]; exact n8
  have e : cnqRounds (cnrS bl cu pt na nbk fo fc nk) = (cnHa (cnGr pt (cnrj nk nk) (cu (cnrj nk nk))) (bl (cnrj nk nk))).2 := cnqRounds_e hnk.1 ndg
  rw [cnrj_8] at e
  rw [e] at h
  exact T47_rounds hkc rfl rfl c8 b8 t8 hH (fun hs' nw' ro' gr' go' gc' de' d' ms' z' wd' sc' sd' H' => h _ _ _ _ _ _ _ _ _ _ _ _ _ ⟨⟨hkc, hnk, hG, Or.inr ⟨rfl, H'⟩, hnb, hfc⟩, rfl⟩)
theorem Q47_first {post : Int → (Int → Int) → (Int → Int) → Int → Int → (Int → Int) → (Int → Int) → Int → (Int → Int) → Int → (Int → Int) → Int → (Int → Int) → (Int → Int) → Int → (Int → Int) → Prop} (R : cnIR kc bl cu pt hs rn hd gr go gc na nbk fo fc nk S) (hi : i < 2147483648) (h : ∀ hs' nw' ro' gr' go' gc' de' d' ms' z' wd' sc' sd', cnIR kc bl cu pt hs' ro' 1 gr' go' gc' na nbk fo fc nk S → post (cnqFirst x i S) hs' nw' ro' 1 gr' go' gc' de' d' ms' z' wd' sc' 0 sd') : wpX47_first post kc bl cu pt hs nw rn hd gr go gc de d ms z wd sc sd x i := by
  obtain ⟨⟨hkc, hnk, hG, hH, hnb, hfc⟩, rfl⟩ := R
  have g8 : cnrG bl cu pt 8 := hG 8 (by decide) (Or.inr rfl)
  obtain ⟨b8, c8, t8, n8⟩ := hG 8 (by decide) (Or.inr rfl)
  have nl : ((cnGr pt 8 (cu 8)).length : Int) = cu 8 := cnGr_len c8.1
  have ndg : (cnGr pt (cnrj nk nk) (cu (cnrj nk nk))).Nodup := by rw [cnrj_8]; exact n8
  refine T47_first hkc rfl rfl c8 b8 t8 hH hi (fun v hs' nw' ro' gr' go' gc' de' d' ms' z' wd' sc' sd' H' hv => ?_)
  have e : cnqFirst x i (cnrS bl cu pt na nbk fo fc nk) = v := cnqFirst_e hnk.1 ndg (by (try dsimp only); rw [cnrj_8]; exact hv)
  rw [e] at h
  exact h _ _ _ _ _ _ _ _ _ _ _ _ _ ⟨⟨hkc, hnk, hG, Or.inr ⟨rfl, H'⟩, hnb, hfc⟩, rfl⟩
theorem Q47_name {post : Int → (Int → Int) → (Int → Int) → Int → Int → (Int → Int) → (Int → Int) → Int → (Int → Int) → (Int → Int) → (Int → Int) → Int → (Int → Int) → Int → (Int → Int) → (Int → Int) → Int → (Int → Int) → Int → (Int → Int) → (Int → Int) → Int → (Int → Int) → Prop} (R : cnIR kc bl cu pt hs rn hd gr go gc na nbk fo fc nk S) (h : ∀ hs' nw' ro' gr' go' gc' tr' row' na' nbk' fo' fc' oc' de' d' ms' z' wd' sc' sd', cnIR kc bl cu pt hs' ro' 1 gr' go' gc' na' nbk' fo' fc' nk ((cnqName st S).2) → post (cnqName st S).1 hs' nw' ro' 1 gr' go' gc' tr' row' na' nbk' fo' fc' oc' de' d' ms' z' wd' sc' 0 sd') : wpX47_name post kc bl cu pt hs nw rn hd gr go gc tr ro na nbk fo fc oc de d ms z wd sc sd st := by
  obtain ⟨⟨hkc, hnk, hG, hH, hnb, hfc⟩, rfl⟩ := R
  have g8 : cnrG bl cu pt 8 := hG 8 (by decide) (Or.inr rfl)
  obtain ⟨b8, c8, t8, n8⟩ := hG 8 (by decide) (Or.inr rfl)
  have nl : ((cnGr pt 8 (cu 8)).length : Int) = cu 8 := cnGr_len c8.1
  have ndg : (cnGr pt (cnrj nk nk) (cu (cnrj nk nk))).Nodup := by rw [cnrj_8]; exact n8
  refine T47_name hkc rfl rfl c8 b8 t8 hH (fun hs' nw' ro' gr' go' gc' de' d' ms' z' wd' sc' sd' H' w => ?_) (fun y hs' nw' ro' gr' go' gc' tr' row' na' fo' oc' de' d' ms' z' wd' sc' sd' H' w N => ?_)
  · have e : cnqName st (cnrS bl cu pt na nbk fo fc nk) = (-1, cnrS bl cu pt na nbk fo fc nk) := cnqName_1 hnk.1 ndg (by (try dsimp only); rw [cnrj_8]; exact w)
    rw [e] at h
    exact h _ _ _ _ _ _ _ _ _ _ _ _ _ _ _ _ _ _ _ _ ⟨⟨hkc, hnk, hG, Or.inr ⟨rfl, H'⟩, hnb, hfc⟩, rfl⟩
  · have N' := cnNm_ne b8.1 N
    have e : cnqName st (cnrS bl cu pt na nbk fo fc nk) = (y, cnAb nk (fun j => bl (cnrj nk j)) (fun j => cnGr pt (cnrj nk j) (cu (cnrj nk j))) (bl (cnrj nk nk)) (aF na' 1 (bl 8).toNat) ((cnGr pt (cnrj nk nk) (cu (cnrj nk nk))).length : Int) (aF fo' 0 (3 * (cnGr pt 8 (cu 8)).length))) := cnqName_2 hnk.1 ndg (by (try dsimp only); rw [cnrj_8]; exact w) (by (try dsimp only); rw [cnrj_8]; exact N')
    rw [cnrj_8, nl] at e
    rw [e] at h
    refine h hs' nw' ro' gr' go' gc' tr' row' na' (bl 8) fo' (cu 8) oc' de' d' ms' z' wd' sc' sd' ⟨⟨hkc, hnk, hG, Or.inr ⟨rfl, H'⟩, b8, c8⟩, ?_⟩
    show cnAb nk _ _ (bl 8) (aF na' 1 (bl 8).toNat) (cu 8) (aF fo' 0 (3 * (cnGr pt 8 (cu 8)).length)) = cnAb nk _ _ (bl 8) (aF na' 1 (bl 8).toNat) (cu 8) (aF fo' 0 (3 * (cu 8).toNat))
    rw [show (cnGr pt 8 (cu 8)).length = (cu 8).toNat by omega]
theorem Q47_blanks {post : Int → Int → Prop} (R : cnIR kc bl cu pt hs rn hd gr go gc na nbk fo fc nk S) (h : post (cnqBlanks S) 0) : wpX47_blanks post bl := by
  obtain ⟨⟨hkc, hnk, hG, hH, hnb, hfc⟩, rfl⟩ := R
  have g8 : cnrG bl cu pt 8 := hG 8 (by decide) (Or.inr rfl)
  obtain ⟨b8, c8, t8, n8⟩ := hG 8 (by decide) (Or.inr rfl)
  have nl : ((cnGr pt 8 (cu 8)).length : Int) = cu 8 := cnGr_len c8.1
  have ndg : (cnGr pt (cnrj nk nk) (cu (cnrj nk nk))).Nodup := by rw [cnrj_8]; exact n8
  have e : cnqBlanks (cnrS bl cu pt na nbk fo fc nk) = bl (cnrj nk nk) := cnqBlanks_e hnk.1
  rw [e, cnrj_8] at h
  unfold wpX47_blanks
  exact h
theorem Q47_triples {post : Int → Int → Prop} (R : cnIR kc bl cu pt hs rn hd gr go gc na nbk fo fc nk S) (h : post (cnqTriples S) 0) : wpX47_triples post cu := by
  obtain ⟨⟨hkc, hnk, hG, hH, hnb, hfc⟩, rfl⟩ := R
  have g8 : cnrG bl cu pt 8 := hG 8 (by decide) (Or.inr rfl)
  obtain ⟨b8, c8, t8, n8⟩ := hG 8 (by decide) (Or.inr rfl)
  have nl : ((cnGr pt 8 (cu 8)).length : Int) = cu 8 := cnGr_len c8.1
  have ndg : (cnGr pt (cnrj nk nk) (cu (cnrj nk nk))).Nodup := by rw [cnrj_8]; exact n8
  have e : cnqTriples (cnrS bl cu pt na nbk fo fc nk) = ((cnGr pt (cnrj nk nk) (cu (cnrj nk nk))).length : Int) := cnqTriples_e hnk.1 ndg
  rw [e, cnrj_8, nl] at h
  unfold wpX47_triples
  exact h
theorem Q47_named {post : Int → Int → Prop} (R : cnIR kc bl cu pt hs rn hd gr go gc na nbk fo fc nk S) (h : post (cnqNamed b S) 0) : wpX47_named post na nbk b := by
  obtain ⟨⟨hkc, hnk, hG, hH, hnb, hfc⟩, rfl⟩ := R
  have g8 : cnrG bl cu pt 8 := hG 8 (by decide) (Or.inr rfl)
  obtain ⟨b8, c8, t8, n8⟩ := hG 8 (by decide) (Or.inr rfl)
  have nl : ((cnGr pt 8 (cu 8)).length : Int) = cu 8 := cnGr_len c8.1
  have ndg : (cnGr pt (cnrj nk nk) (cu (cnrj nk nk))).Nodup := by rw [cnrj_8]; exact n8
  have e : cnqNamed b (cnrS bl cu pt na nbk fo fc nk) = if 1 ≤ b ∧ b ≤ nbk then na b else -1 := by
    show (if 1 ≤ b ∧ b ≤ nbk then (aF na 1 nbk.toNat).getD (b - 1).toNat 0 else -1) = _
    by_cases y : 1 ≤ b ∧ b ≤ nbk
    · rw [if_pos y, if_pos y, aF_get _ _ _ (by omega), show (1 : Int) + ((b - 1).toNat : Int) = b by omega]
    · rw [if_neg y, if_neg y]
  rw [e] at h
  exact T47_named hnb.2 h
theorem Q47_form {post : Int → Int → Prop} (R : cnIR kc bl cu pt hs rn hd gr go gc na nbk fo fc nk S) (h : post (cnqForm i k S) 0) : wpX47_form post fo fc i k := by
  obtain ⟨⟨hkc, hnk, hG, hH, hnb, hfc⟩, rfl⟩ := R
  have g8 : cnrG bl cu pt 8 := hG 8 (by decide) (Or.inr rfl)
  obtain ⟨b8, c8, t8, n8⟩ := hG 8 (by decide) (Or.inr rfl)
  have nl : ((cnGr pt 8 (cu 8)).length : Int) = cu 8 := cnGr_len c8.1
  have ndg : (cnGr pt (cnrj nk nk) (cu (cnrj nk nk))).Nodup := by rw [cnrj_8]; exact n8
  have e : cnqForm i k (cnrS bl cu pt na nbk fo fc nk) = if (0 ≤ i ∧ i < fc) ∧ (0 ≤ k ∧ k ≤ 2) then fo (3 * i + k) else 0 := by
    show (if (0 ≤ i ∧ i < fc) ∧ (0 ≤ k ∧ k ≤ 2) then (aF fo 0 (3 * fc.toNat)).getD (3 * i + k).toNat 0 else 0) = _
    by_cases y : (0 ≤ i ∧ i < fc) ∧ (0 ≤ k ∧ k ≤ 2)
    · rw [if_pos y, if_pos y, aF_get _ _ _ (by omega), show (0 : Int) + ((3 * i + k).toNat : Int) = 3 * i + k by omega]
    · rw [if_neg y, if_neg y]
  rw [e] at h
  exact T47_form hfc.2 h
theorem Q47_ways {post : Int → (Int → Int) → Int → Prop} (R : cnIR kc bl cu pt hs rn hd gr go gc na nbk fo fc nk S) (h : ∀ tr', post (cnqWays o S) tr' 0) : wpX47_ways post bl cu pt nk tr o := by
  obtain ⟨⟨hkc, hnk, hG, hH, hnb, hfc⟩, rfl⟩ := R
  have g8 : cnrG bl cu pt 8 := hG 8 (by decide) (Or.inr rfl)
  obtain ⟨b8, c8, t8, n8⟩ := hG 8 (by decide) (Or.inr rfl)
  have nl : ((cnGr pt 8 (cu 8)).length : Int) = cu 8 := cnGr_len c8.1
  have ndg : (cnGr pt (cnrj nk nk) (cu (cnrj nk nk))).Nodup := by rw [cnrj_8]; exact n8
  have go_ : (0 ≤ o ∧ o < nk) → (cnGr pt (cnrj nk o) (cu (cnrj nk o))).Nodup ∧ cnrj nk o = o ∧ ((cnGr pt o (cu o)).length : Int) = cu o := fun ho => by
    have w := hG o ho.1 (Or.inl ho.2)
    rw [cnrj_n (show ¬ o = nk by omega)]
    exact ⟨w.2.2.2, rfl, cnGr_len w.2.1.1⟩
  have hco : ∀ o, 0 ≤ o → o < nk → 0 ≤ cu o ∧ cu o ≤ 40 := fun o o0 o1 => (hG o o0 (Or.inl o1)).2.1
  refine T47_ways rfl rfl c8 b8 t8 hnk.2 hco (fun w => ?_) (fun ho w => ?_) (fun ho a1 a2 y tr' Y => ?_)
  · have e : cnqWays o (cnrS bl cu pt na nbk fo fc nk) = -1 := cnqWays_1 w
    rw [e] at h
    exact h _
  · obtain ⟨g1, g2, g3⟩ := go_ ho
    have e : cnqWays o (cnrS bl cu pt na nbk fo fc nk) = 0 := cnqWays_2 ho g1 ndg (by (try dsimp only); rw [cnrj_8, g2]; intro z; exact w ⟨z.1, by omega⟩)
    rw [e] at h
    exact h _
  · obtain ⟨g1, g2, g3⟩ := go_ ho
    have e : cnqWays o (cnrS bl cu pt na nbk fo fc nk) = y := cnqWays_3 ho g1 ndg (by (try dsimp only); rw [cnrj_8, g2]; exact ⟨a1, by omega⟩) (by (try dsimp only); rw [cnrj_8, g2]; exact Y)
    rw [e] at h
    exact h _
theorem Q47_isomorphic {post : Int → (Int → Int) → Int → Prop} (R : cnIR kc bl cu pt hs rn hd gr go gc na nbk fo fc nk S) (h : ∀ tr', post (cnqIso o S) tr' 0) : wpX47_isomorphic post bl cu pt nk tr o := by
  obtain ⟨⟨hkc, hnk, hG, hH, hnb, hfc⟩, rfl⟩ := R
  have g8 : cnrG bl cu pt 8 := hG 8 (by decide) (Or.inr rfl)
  obtain ⟨b8, c8, t8, n8⟩ := hG 8 (by decide) (Or.inr rfl)
  have nl : ((cnGr pt 8 (cu 8)).length : Int) = cu 8 := cnGr_len c8.1
  have ndg : (cnGr pt (cnrj nk nk) (cu (cnrj nk nk))).Nodup := by rw [cnrj_8]; exact n8
  have go_ : (0 ≤ o ∧ o < nk) → (cnGr pt (cnrj nk o) (cu (cnrj nk o))).Nodup ∧ cnrj nk o = o ∧ ((cnGr pt o (cu o)).length : Int) = cu o := fun ho => by
    have w := hG o ho.1 (Or.inl ho.2)
    rw [cnrj_n (show ¬ o = nk by omega)]
    exact ⟨w.2.2.2, rfl, cnGr_len w.2.1.1⟩
  have hco : ∀ o, 0 ≤ o → o < nk → 0 ≤ cu o ∧ cu o ≤ 40 := fun o o0 o1 => (hG o o0 (Or.inl o1)).2.1
  have ec : (0 ≤ o ∧ o < nk) → cnqIso o (cnrS bl cu pt na nbk fo fc nk) = pif ((bl o = bl 8 ∧ (cnGr pt o (cu o)).length = (cnGr pt 8 (cu 8)).length) ∧ ∃ t, cnPm (bl 8) t ∧ cnTo (cnAt t) (cnGr pt 8 (cu 8)) (cnGr pt o (cu o))) 1 0 := fun ho => by
    obtain ⟨g1, g2, g3⟩ := go_ ho
    have e : cnqIso o (cnrS bl cu pt na nbk fo fc nk) = pif ((bl (cnrj nk o) = bl (cnrj nk nk) ∧ (cnGr pt (cnrj nk o) (cu (cnrj nk o))).length = (cnGr pt (cnrj nk nk) (cu (cnrj nk nk))).length) ∧ ∃ t, cnPm (bl (cnrj nk nk)) t ∧ cnTo (cnAt t) (cnGr pt (cnrj nk nk) (cu (cnrj nk nk))) (cnGr pt (cnrj nk o) (cu (cnrj nk o)))) 1 0 := cnqIso_c ho g1 ndg
    rw [cnrj_8, g2] at e
    exact e
  refine T47_isomorphic rfl rfl c8 b8 t8 hnk.2 hco (fun w => ?_) (fun ho w => ?_) (fun ho a1 a2 y tr' Y => ?_)
  · have e : cnqIso o (cnrS bl cu pt na nbk fo fc nk) = -1 := cnqIso_1 w
    rw [e] at h
    exact h _
  · rw [ec ho, pif_f (fun z => w ⟨z.1.1, by have := (go_ ho).2.2; have := z.1.2; omega⟩)] at h
    exact h _
  · obtain ⟨B, q1, q2, q3⟩ := Y
    by_cases y0 : 0 < y
    · rw [if_pos y0]
      have ne : ∃ t, t ∈ B := by
        rcases B with _ | ⟨t, B⟩
        · rw [q3] at y0
          exact absurd y0 (by decide)
        · exact ⟨t, List.mem_cons_self⟩
      obtain ⟨t, ht⟩ := ne
      rw [ec ho, pif_t ⟨⟨a1, by have := (go_ ho).2.2; omega⟩, t, (q2 t).1 ht⟩] at h
      exact h _
    · rw [if_neg y0]
      rw [ec ho, pif_f (fun z => by
        obtain ⟨t, ht⟩ := z.2
        have := List.length_pos_of_mem ((q2 t).2 ht)
        omega)] at h
      exact h _
theorem Q47_equal {post : Int → (Int → Int) → Int → Prop} (R : cnIR kc bl cu pt hs rn hd gr go gc na nbk fo fc nk S) (h : ∀ tr', post (cnqEqual o S) tr' 0) : wpX47_equal post bl cu pt nk tr o := by
  obtain ⟨⟨hkc, hnk, hG, hH, hnb, hfc⟩, rfl⟩ := R
  have g8 : cnrG bl cu pt 8 := hG 8 (by decide) (Or.inr rfl)
  obtain ⟨b8, c8, t8, n8⟩ := hG 8 (by decide) (Or.inr rfl)
  have nl : ((cnGr pt 8 (cu 8)).length : Int) = cu 8 := cnGr_len c8.1
  have ndg : (cnGr pt (cnrj nk nk) (cu (cnrj nk nk))).Nodup := by rw [cnrj_8]; exact n8
  have go_ : (0 ≤ o ∧ o < nk) → (cnGr pt (cnrj nk o) (cu (cnrj nk o))).Nodup ∧ cnrj nk o = o ∧ ((cnGr pt o (cu o)).length : Int) = cu o := fun ho => by
    have w := hG o ho.1 (Or.inl ho.2)
    rw [cnrj_n (show ¬ o = nk by omega)]
    exact ⟨w.2.2.2, rfl, cnGr_len w.2.1.1⟩
  have hco : ∀ o, 0 ≤ o → o < nk → 0 ≤ cu o ∧ cu o ≤ 40 := fun o o0 o1 => (hG o o0 (Or.inl o1)).2.1
  have ec : (0 ≤ o ∧ o < nk) → cnqEqual o (cnrS bl cu pt na nbk fo fc nk) = pif (bl o = bl 8 ∧ (cnGr pt o (cu o)).length = (cnGr pt 8 (cu 8)).length ∧ ∀ t ∈ cnGr pt 8 (cu 8), t ∈ cnGr pt o (cu o)) 1 0 := fun ho => by
    obtain ⟨g1, g2, g3⟩ := go_ ho
    have e : cnqEqual o (cnrS bl cu pt na nbk fo fc nk) = pif (bl (cnrj nk o) = bl (cnrj nk nk) ∧ (cnGr pt (cnrj nk o) (cu (cnrj nk o))).length = (cnGr pt (cnrj nk nk) (cu (cnrj nk nk))).length ∧ ∀ t ∈ cnGr pt (cnrj nk nk) (cu (cnrj nk nk)), t ∈ cnGr pt (cnrj nk o) (cu (cnrj nk o))) 1 0 := cnqEqual_c ho g1 ndg
    rw [cnrj_8, g2] at e
    exact e
  refine T47_equal rfl rfl c8 b8 t8 hnk.2 hco (fun w => ?_) (fun ho w tr' => ?_) (fun ho w tr' => ?_)
  · have e : cnqEqual o (cnrS bl cu pt na nbk fo fc nk) = -1 := cnqEqual_1 w
    rw [e] at h
    exact h _
  · rw [ec ho, pif_f (fun z => w ⟨z.1, by have := (go_ ho).2.2; have := z.2.1; omega, z.2.2⟩)] at h
    exact h _
  · rw [ec ho, pif_t ⟨w.1, by have := (go_ ho).2.2; have := w.2.1; omega, w.2.2⟩] at h
    exact h _
end
