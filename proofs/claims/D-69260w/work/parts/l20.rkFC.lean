/-! facets' component: its methods as contracts of a block of the world (printed by tools/rkfc.py) -/
set_option maxRecDepth 100000
abbrev kFC : List vw_C := [(RX31, TX31, 8)]
abbrev tFC (d : Nat → ClassId) : List (ClassId × FieldType) := tX31 d
def rFC (ci : Nat → Nat) (dc : Nat → ClassId) (x0 : Nat) (S : FcS) (w : va_W) : Prop := ∃ (ad : Nat → Nat) (k0 k1 k2 : Nat → Int32), ad 0 = x0 ∧ w = wX31 (ci 0) ad dc S.1 S.2.1 S.2.2.1 k0 S.2.2.2.1 k1 k2 S.2.2.2.2 ∧ fcC S k0 k1 k2
theorem rFC_recv {ci : Nat → Nat} {dc : Nat → ClassId} {x0 : Nat} {S : FcS} {w : va_W} (h : rFC ci dc x0 S w) : ∃ fs, (x0, .inr (ci 0, fs)) ∈ w := by
  obtain ⟨ad, k0, k1, k2, rfl, rfl, -⟩ := h
  exact ⟨_, List.Mem.head _⟩
theorem kFC_row {l : Launch} {G : kGt} {dC : Nat → ClassId} {dI : Nat → Nat → Nat} {cl : List vw_C} {ci : Nat → Nat} (hc : ∀ i q, kFC[i]? = some q → cl[ci i]? = some q) {dc : Nat → ClassId} {x0 : Nat} {S : FcS} {x1 : Int32} {x2 : Int32} {x3 : Int32} : kRi l G (dC, dI) cl (tFC dc) yX31_row (ws_ yX31_row cX31_row 5 (some .int)) ({ frames := 4, cells := 0, slots := 0, locals := 94 } : Room) [.ref x0, .int x1, .int x2, .int x3] 0 0 (rFC ci dc x0 S) (fun r w' => r = ((fsRow S (Int32.ofInt x1.toInt) (Int32.ofInt x2.toInt) (Int32.ofInt x3.toInt)).1.toInt) ∧ rFC ci dc x0 (fsRow S (Int32.ofInt x1.toInt) (Int32.ofInt x2.toInt) (Int32.ofInt x3.toInt)).2 w') := by
  simp only [Int32.ofInt_toInt]
  rintro sz w ⟨ad, k0, k1, k2, rfl, rfl, h⟩
  refine q_ofCI (J := (fun r w' => r = ((fsRow S x1 x2 x3).1.toInt) ∧ rFC ci dc (ad 0) (fsRow S x1 x2 x3).2 w')) (walkX31_row (hc 0 _ rfl) (post := fun r p0 p1 p2 p3 => r = (fsRow S x1 x2 x3).1 ∧ p0 = (fsRow S x1 x2 x3).2.1 ∧ p1 = (fsRow S x1 x2 x3).2.2.1 ∧ fcC (fsRow S x1 x2 x3).2 k0 p2 p3) (C31_row h (fun j1 j2 h' => ⟨rfl, rfl, rfl, h'⟩))) (fun r u hp => ?_)
  obtain ⟨er, e0, e1, hI⟩ := hp
  exact ⟨by rw [er], ad, k0, u.2.2.1, u.2.2.2, rfl, (by rw [e0, e1] <;> rfl), hI⟩
theorem kFC_drop {l : Launch} {G : kGt} {dC : Nat → ClassId} {dI : Nat → Nat → Nat} {cl : List vw_C} {ci : Nat → Nat} (hc : ∀ i q, kFC[i]? = some q → cl[ci i]? = some q) {dc : Nat → ClassId} {x0 : Nat} {S : FcS} {x1 : Int32} {x2 : Int32} {x3 : Int32} : kRi l G (dC, dI) cl (tFC dc) yX31_drop (ws_ yX31_drop cX31_drop 5 (some .int)) ({ frames := 4, cells := 0, slots := 0, locals := 94 } : Room) [.ref x0, .int x1, .int x2, .int x3] 0 0 (rFC ci dc x0 S) (fun r w' => r = ((fsDrop S (Int32.ofInt x1.toInt) (Int32.ofInt x2.toInt) (Int32.ofInt x3.toInt)).1.toInt) ∧ rFC ci dc x0 (fsDrop S (Int32.ofInt x1.toInt) (Int32.ofInt x2.toInt) (Int32.ofInt x3.toInt)).2 w') := by
  simp only [Int32.ofInt_toInt]
  rintro sz w ⟨ad, k0, k1, k2, rfl, rfl, h⟩
  refine q_ofCI (J := (fun r w' => r = ((fsDrop S x1 x2 x3).1.toInt) ∧ rFC ci dc (ad 0) (fsDrop S x1 x2 x3).2 w')) (walkX31_drop (hc 0 _ rfl) (post := fun r p0 p1 p2 p3 => r = (fsDrop S x1 x2 x3).1 ∧ p0 = (fsDrop S x1 x2 x3).2.1 ∧ p1 = (fsDrop S x1 x2 x3).2.2.1 ∧ fcC (fsDrop S x1 x2 x3).2 k0 p2 p3) (C31_drop h (fun j1 j2 h' => ⟨rfl, rfl, rfl, h'⟩))) (fun r u hp => ?_)
  obtain ⟨er, e0, e1, hI⟩ := hp
  exact ⟨by rw [er], ad, k0, u.2.2.1, u.2.2.2, rfl, (by rw [e0, e1] <;> rfl), hI⟩
theorem kFC_above {l : Launch} {G : kGt} {dC : Nat → ClassId} {dI : Nat → Nat → Nat} {cl : List vw_C} {ci : Nat → Nat} (hc : ∀ i q, kFC[i]? = some q → cl[ci i]? = some q) {dc : Nat → ClassId} {x0 : Nat} {S : FcS} {x1 : Int32} {x2 : Int32} : kRi l G (dC, dI) cl (tFC dc) yX31_above (ws_ yX31_above cX31_above 5 (some .int)) ({ frames := 5, cells := 0, slots := 0, locals := 116 } : Room) [.ref x0, .int x1, .int x2] 0 0 (rFC ci dc x0 S) (fun r w' => r = ((fsAbove S (Int32.ofInt x1.toInt) (Int32.ofInt x2.toInt)).1.toInt) ∧ rFC ci dc x0 (fsAbove S (Int32.ofInt x1.toInt) (Int32.ofInt x2.toInt)).2 w') := by
  simp only [Int32.ofInt_toInt]
  rintro sz w ⟨ad, k0, k1, k2, rfl, rfl, h⟩
  refine q_ofCI (J := (fun r w' => r = ((fsAbove S x1 x2).1.toInt) ∧ rFC ci dc (ad 0) (fsAbove S x1 x2).2 w')) (walkX31_above (hc 0 _ rfl) (post := fun r p0 p1 p2 p3 => r = (fsAbove S x1 x2).1 ∧ p0 = (fsAbove S x1 x2).2.2.2.1 ∧ fcC (fsAbove S x1 x2).2 p1 p2 p3) (C31_above h (fun j0 j1 j2 h' => ⟨rfl, rfl, h'⟩))) (fun r u hp => ?_)
  obtain ⟨er, e0, hI⟩ := hp
  exact ⟨by rw [er], ad, u.2.1, u.2.2.1, u.2.2.2, rfl, (by rw [e0] <;> rfl), hI⟩
theorem kFC_choose {l : Launch} {G : kGt} {dC : Nat → ClassId} {dI : Nat → Nat → Nat} {cl : List vw_C} {ci : Nat → Nat} (hc : ∀ i q, kFC[i]? = some q → cl[ci i]? = some q) {dc : Nat → ClassId} {x0 : Nat} {S : FcS} {x1 : Int32} {x2 : Int32} {x3 : Int32} : kRi l G (dC, dI) cl (tFC dc) yX31_choose (ws_ yX31_choose cX31_choose 4 (some .int)) ({ frames := 5, cells := 0, slots := 0, locals := 116 } : Room) [.ref x0, .int x1, .int x2, .int x3] 0 0 (rFC ci dc x0 S) (fun r w' => r = ((fsChoose S (Int32.ofInt x1.toInt) (Int32.ofInt x2.toInt) (Int32.ofInt x3.toInt)).1.toInt) ∧ rFC ci dc x0 (fsChoose S (Int32.ofInt x1.toInt) (Int32.ofInt x2.toInt) (Int32.ofInt x3.toInt)).2 w') := by
  simp only [Int32.ofInt_toInt]
  rintro sz w ⟨ad, k0, k1, k2, rfl, rfl, h⟩
  refine q_ofCI (J := (fun r w' => r = ((fsChoose S x1 x2 x3).1.toInt) ∧ rFC ci dc (ad 0) (fsChoose S x1 x2 x3).2 w')) (walkX31_choose (hc 0 _ rfl) (post := fun r p0 p1 p2 => r = (fsChoose S x1 x2 x3).1 ∧ p0 = (fsChoose S x1 x2 x3).2.2.2.2.1 ∧ fcC (fsChoose S x1 x2 x3).2 k0 p1 p2) (C31_choose h (fun j1 j2 h' => ⟨rfl, rfl, h'⟩))) (fun r u hp => ?_)
  obtain ⟨er, e0, hI⟩ := hp
  exact ⟨by rw [er], ad, k0, u.2.1, u.2.2, rfl, (by rw [e0] <;> rfl), hI⟩
theorem kFC_kept {l : Launch} {G : kGt} {dC : Nat → ClassId} {dI : Nat → Nat → Nat} {cl : List vw_C} {ci : Nat → Nat} (hc : ∀ i q, kFC[i]? = some q → cl[ci i]? = some q) {dc : Nat → ClassId} {x0 : Nat} {S : FcS} : kRi l G (dC, dI) cl (tFC dc) yX31_kept (ws_ yX31_kept cX31_kept 3 (some .int)) ({ frames := 0, cells := 0, slots := 0, locals := 0 } : Room) [.ref x0] 0 0 (rFC ci dc x0 S) (fun r w' => r = ((fsKept S).toInt) ∧ rFC ci dc x0 S w') := by
  rintro sz w ⟨ad, k0, k1, k2, rfl, rfl, h⟩
  exact q_ofCI (J := (fun r w' => r = ((fsKept S).toInt) ∧ rFC ci dc (ad 0) S w')) (walkX31_kept (hc 0 _ rfl) (post := fun r => r = (fsKept S)) (C31_kept h rfl)) (fun r u hp => ⟨by rw [hp], ad, k0, k1, k2, rfl, rfl, h⟩)
theorem kFC_isKept {l : Launch} {G : kGt} {dC : Nat → ClassId} {dI : Nat → Nat → Nat} {cl : List vw_C} {ci : Nat → Nat} (hc : ∀ i q, kFC[i]? = some q → cl[ci i]? = some q) {dc : Nat → ClassId} {x0 : Nat} {S : FcS} {x1 : Int32} : kRi l G (dC, dI) cl (tFC dc) yX31_isKept (ws_ yX31_isKept cX31_isKept 2 (some .int)) ({ frames := 1, cells := 0, slots := 0, locals := 21 } : Room) [.ref x0, .int x1] 0 0 (rFC ci dc x0 S) (fun r w' => r = ((fsIsKept S (Int32.ofInt x1.toInt)).toInt) ∧ rFC ci dc x0 S w') := by
  simp only [Int32.ofInt_toInt]
  rintro sz w ⟨ad, k0, k1, k2, rfl, rfl, h⟩
  exact q_ofCI (J := (fun r w' => r = ((fsIsKept S x1).toInt) ∧ rFC ci dc (ad 0) S w')) (walkX31_isKept (hc 0 _ rfl) (post := fun r => r = (fsIsKept S x1)) (C31_isKept h rfl)) (fun r u hp => ⟨by rw [hp], ad, k0, k1, k2, rfl, rfl, h⟩)
theorem kFC_facet {l : Launch} {G : kGt} {dC : Nat → ClassId} {dI : Nat → Nat → Nat} {cl : List vw_C} {ci : Nat → Nat} (hc : ∀ i q, kFC[i]? = some q → cl[ci i]? = some q) {dc : Nat → ClassId} {x0 : Nat} {S : FcS} {x1 : Int32} {x2 : Int32} : kRi l G (dC, dI) cl (tFC dc) yX31_facet (ws_ yX31_facet cX31_facet 3 (some .int)) ({ frames := 1, cells := 0, slots := 0, locals := 21 } : Room) [.ref x0, .int x1, .int x2] 0 0 (rFC ci dc x0 S) (fun r w' => r = ((fsFacet S (Int32.ofInt x1.toInt) (Int32.ofInt x2.toInt)).toInt) ∧ rFC ci dc x0 S w') := by
  simp only [Int32.ofInt_toInt]
  rintro sz w ⟨ad, k0, k1, k2, rfl, rfl, h⟩
  exact q_ofCI (J := (fun r w' => r = ((fsFacet S x1 x2).toInt) ∧ rFC ci dc (ad 0) S w')) (walkX31_facet (hc 0 _ rfl) (post := fun r => r = (fsFacet S x1 x2)) (C31_facet h rfl)) (fun r u hp => ⟨by rw [hp], ad, k0, k1, k2, rfl, rfl, h⟩)
theorem kFC_top {l : Launch} {G : kGt} {dC : Nat → ClassId} {dI : Nat → Nat → Nat} {cl : List vw_C} {ci : Nat → Nat} (hc : ∀ i q, kFC[i]? = some q → cl[ci i]? = some q) {dc : Nat → ClassId} {x0 : Nat} {S : FcS} {x1 : Int32} {x2 : Int32} : kRi l G (dC, dI) cl (tFC dc) yX31_top (ws_ yX31_top cX31_top 8 (some .int)) ({ frames := 1, cells := 0, slots := 0, locals := 21 } : Room) [.ref x0, .int x1, .int x2] 0 0 (rFC ci dc x0 S) (fun r w' => r = ((fsTop S (Int32.ofInt x1.toInt) (Int32.ofInt x2.toInt)).toInt) ∧ rFC ci dc x0 S w') := by
  simp only [Int32.ofInt_toInt]
  rintro sz w ⟨ad, k0, k1, k2, rfl, rfl, h⟩
  exact q_ofCI (J := (fun r w' => r = ((fsTop S x1 x2).toInt) ∧ rFC ci dc (ad 0) S w')) (walkX31_top (hc 0 _ rfl) (post := fun r => r = (fsTop S x1 x2)) (C31_top h rfl)) (fun r u hp => ⟨by rw [hp], ad, k0, k1, k2, rfl, rfl, h⟩)
theorem kFC_range {l : Launch} {G : kGt} {dC : Nat → ClassId} {dI : Nat → Nat → Nat} {cl : List vw_C} {ci : Nat → Nat} (hc : ∀ i q, kFC[i]? = some q → cl[ci i]? = some q) {dc : Nat → ClassId} {x0 : Nat} {S : FcS} {x1 : Int32} {x2 : Int32} {x3 : Int32} : kRi l G (dC, dI) cl (tFC dc) yX31_range (ws_ yX31_range cX31_range 7 (some .int)) ({ frames := 3, cells := 0, slots := 0, locals := 69 } : Room) [.ref x0, .int x1, .int x2, .int x3] 0 0 (rFC ci dc x0 S) (fun r w' => r = ((fsRange S (Int32.ofInt x1.toInt) (Int32.ofInt x2.toInt) (Int32.ofInt x3.toInt)).toInt) ∧ rFC ci dc x0 S w') := by
  simp only [Int32.ofInt_toInt]
  rintro sz w ⟨ad, k0, k1, k2, rfl, rfl, h⟩
  exact q_ofCI (J := (fun r w' => r = ((fsRange S x1 x2 x3).toInt) ∧ rFC ci dc (ad 0) S w')) (walkX31_range (hc 0 _ rfl) (post := fun r => r = (fsRange S x1 x2 x3)) (C31_range h rfl)) (fun r u hp => ⟨by rw [hp], ad, k0, k1, k2, rfl, rfl, h⟩)
theorem kFC_sum {l : Launch} {G : kGt} {dC : Nat → ClassId} {dI : Nat → Nat → Nat} {cl : List vw_C} {ci : Nat → Nat} (hc : ∀ i q, kFC[i]? = some q → cl[ci i]? = some q) {dc : Nat → ClassId} {x0 : Nat} {S : FcS} {x1 : Int32} {x2 : Int32} {x3 : Int32} : kRi l G (dC, dI) cl (tFC dc) yX31_sum (ws_ yX31_sum cX31_sum 8 (some .int)) ({ frames := 1, cells := 0, slots := 0, locals := 25 } : Room) [.ref x0, .int x1, .int x2, .int x3] 0 0 (rFC ci dc x0 S) (fun r w' => r = ((fsSum S (Int32.ofInt x1.toInt) (Int32.ofInt x2.toInt) (Int32.ofInt x3.toInt)).toInt) ∧ rFC ci dc x0 S w') := by
  simp only [Int32.ofInt_toInt]
  rintro sz w ⟨ad, k0, k1, k2, rfl, rfl, h⟩
  exact q_ofCI (J := (fun r w' => r = ((fsSum S x1 x2 x3).toInt) ∧ rFC ci dc (ad 0) S w')) (walkX31_sum (hc 0 _ rfl) (post := fun r => r = (fsSum S x1 x2 x3)) (C31_sum h rfl)) (fun r u hp => ⟨by rw [hp], ad, k0, k1, k2, rfl, rfl, h⟩)
theorem kFC_changed {l : Launch} {G : kGt} {dC : Nat → ClassId} {dI : Nat → Nat → Nat} {cl : List vw_C} {ci : Nat → Nat} (hc : ∀ i q, kFC[i]? = some q → cl[ci i]? = some q) {dc : Nat → ClassId} {x0 : Nat} {S : FcS} : kRi l G (dC, dI) cl (tFC dc) yX31_changed (ws_ yX31_changed cX31_changed 3 (some .int)) ({ frames := 0, cells := 0, slots := 0, locals := 0 } : Room) [.ref x0] 0 0 (rFC ci dc x0 S) (fun r w' => r = ((fsChanged S).1.toInt) ∧ rFC ci dc x0 (fsChanged S).2 w') := by
  rintro sz w ⟨ad, k0, k1, k2, rfl, rfl, h⟩
  refine q_ofCI (J := (fun r w' => r = ((fsChanged S).1.toInt) ∧ rFC ci dc (ad 0) (fsChanged S).2 w')) (walkX31_changed (hc 0 _ rfl) (post := fun r p0 => r = (fsChanged S).1 ∧ p0 = (fsChanged S).2.2.2.2.2 ∧ fcC (fsChanged S).2 k0 k1 k2) (C31_changed h (fun h' => ⟨rfl, rfl, h'⟩))) (fun r u hp => ?_)
  obtain ⟨er, e0, hI⟩ := hp
  exact ⟨by rw [er], ad, k0, k1, k2, rfl, (by rw [e0] <;> rfl), hI⟩
theorem kFC_rows {l : Launch} {G : kGt} {dC : Nat → ClassId} {dI : Nat → Nat → Nat} {cl : List vw_C} {ci : Nat → Nat} (hc : ∀ i q, kFC[i]? = some q → cl[ci i]? = some q) {dc : Nat → ClassId} {x0 : Nat} {S : FcS} : kRi l G (dC, dI) cl (tFC dc) yX31_rows (ws_ yX31_rows cX31_rows 1 (some .int)) ({ frames := 0, cells := 0, slots := 0, locals := 0 } : Room) [.ref x0] 0 0 (rFC ci dc x0 S) (fun r w' => r = (S.2.1.toInt) ∧ rFC ci dc x0 S w') := by
  rintro sz w ⟨ad, k0, k1, k2, rfl, rfl, h⟩
  exact q_ofCI (J := (fun r w' => r = (S.2.1.toInt) ∧ rFC ci dc (ad 0) S w')) (walkX31_rows (hc 0 _ rfl) (post := fun r => r = S.2.1) (show wpX31_rows _ _ from rfl)) (fun r u hp => ⟨by rw [hp], ad, k0, k1, k2, rfl, rfl, h⟩)
