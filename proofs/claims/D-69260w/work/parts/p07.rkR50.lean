/-! X50: its contracts, its object at x0 (printed by tools/rkw.py) -/
set_option maxRecDepth 100000
abbrev kR50 : List vw_C := [(RX50, TX50, 17)]
abbrev tR50 (d : Nat → ClassId) : List (ClassId × FieldType) := tX50 d
def rR50 (ci : Nat → Nat) (dc : Nat → ClassId) (x0 : Nat) (S : pqT) (w : va_W) : Prop := ∃ ad : Nat → Nat, ad 0 = x0 ∧ rX50 (ci 0) ad dc S w
theorem rR50_recv {ci : Nat → Nat} {dc : Nat → ClassId} {x0 : Nat} {S : pqT} {w : va_W} (h : rR50 ci dc x0 S w) : ∃ fs, (x0, .inr (ci 0, fs)) ∈ w := by
  obtain ⟨ad, rfl, h⟩ := h
  obtain ⟨_, _, _, _, _, _, _, _, _, _, _, _, _, _, _, _, _, rfl, -⟩ := h
  exact ⟨_, List.Mem.head _⟩
theorem kR50_axiom {l : Launch} {G : kGt} {dC : Nat → ClassId} {dI : Nat → Nat → Nat} {cl : List vw_C} {ci : Nat → Nat} (hc : ∀ i q, kR50[i]? = some q → cl[ci i]? = some q) {dc : Nat → ClassId} {x0 : Nat} {S : pqT} {x1 : Int32} {x2 : Int32} {x3 : Int32}   : kRi l G (dC, dI) cl (tR50 dc) yX50_axiom (ws_ yX50_axiom cX50_axiom 5 (some .int)) ({ frames := 1, cells := 0, slots := 0, locals := 20 } : Room) [.ref x0, .int x1, .int x2, .int x3] 0 0 (rR50 ci dc x0 S) (fun r w' => r = (pqAxiom x1.toInt x2.toInt x3.toInt S).1 ∧ rR50 ci dc x0 ((pqAxiom x1.toInt x2.toInt x3.toInt S).2) w') := by
  rintro sz w ⟨ad, rfl, h⟩
  exact q_wI (kX50_axiom (hc 0 _ rfl) ) (fun r w' hJ => ⟨hJ.1, ad, rfl, hJ.2⟩) sz w h
theorem kR50_triple {l : Launch} {G : kGt} {dC : Nat → ClassId} {dI : Nat → Nat → Nat} {cl : List vw_C} {ci : Nat → Nat} (hc : ∀ i q, kR50[i]? = some q → cl[ci i]? = some q) {dc : Nat → ClassId} {x0 : Nat} {S : pqT} {x1 : Int32} {x2 : Int32} {x3 : Int32}   : kRi l G (dC, dI) cl (tR50 dc) yX50_triple (ws_ yX50_triple cX50_triple 5 (some .int)) ({ frames := 1, cells := 0, slots := 0, locals := 20 } : Room) [.ref x0, .int x1, .int x2, .int x3] 0 0 (rR50 ci dc x0 S) (fun r w' => r = (pqTriple x1.toInt x2.toInt x3.toInt S).1 ∧ rR50 ci dc x0 ((pqTriple x1.toInt x2.toInt x3.toInt S).2) w') := by
  rintro sz w ⟨ad, rfl, h⟩
  exact q_wI (kX50_triple (hc 0 _ rfl) ) (fun r w' hJ => ⟨hJ.1, ad, rfl, hJ.2⟩) sz w h
theorem kR50_row {l : Launch} {G : kGt} {dC : Nat → ClassId} {dI : Nat → Nat → Nat} {cl : List vw_C} {ci : Nat → Nat} (hc : ∀ i q, kR50[i]? = some q → cl[ci i]? = some q) {dc : Nat → ClassId} {x0 : Nat} {S : pqT} {x1 : Int32} {x2 : Int32} {x3 : Int32}   : kRi l G (dC, dI) cl (tR50 dc) yX50_row (ws_ yX50_row cX50_row 4 (some .int)) ({ frames := 2, cells := 0, slots := 0, locals := 42 } : Room) [.ref x0, .int x1, .int x2, .int x3] 0 0 (rR50 ci dc x0 S) (fun r w' => r = (pqRow x1.toInt x2.toInt x3.toInt S).1 ∧ rR50 ci dc x0 ((pqRow x1.toInt x2.toInt x3.toInt S).2) w') := by
  rintro sz w ⟨ad, rfl, h⟩
  exact q_wI (kX50_row (hc 0 _ rfl) ) (fun r w' hJ => ⟨hJ.1, ad, rfl, hJ.2⟩) sz w h
theorem kR50_premise {l : Launch} {G : kGt} {dC : Nat → ClassId} {dI : Nat → Nat → Nat} {cl : List vw_C} {ci : Nat → Nat} (hc : ∀ i q, kR50[i]? = some q → cl[ci i]? = some q) {dc : Nat → ClassId} {x0 : Nat} {S : pqT} {x1 : Int32} {x2 : Int32}   : kRi l G (dC, dI) cl (tR50 dc) yX50_premise (ws_ yX50_premise cX50_premise 3 (some .int)) ({ frames := 1, cells := 0, slots := 0, locals := 22 } : Room) [.ref x0, .int x1, .int x2] 0 0 (rR50 ci dc x0 S) (fun r w' => r = (pqPremise x1.toInt x2.toInt S).1 ∧ rR50 ci dc x0 ((pqPremise x1.toInt x2.toInt S).2) w') := by
  rintro sz w ⟨ad, rfl, h⟩
  exact q_wI (kX50_premise (hc 0 _ rfl) ) (fun r w' hJ => ⟨hJ.1, ad, rfl, hJ.2⟩) sz w h
theorem kR50_check {l : Launch} {G : kGt} {dC : Nat → ClassId} {dI : Nat → Nat → Nat} {cl : List vw_C} {ci : Nat → Nat} (hc : ∀ i q, kR50[i]? = some q → cl[ci i]? = some q) {dc : Nat → ClassId} {x0 : Nat} {S : pqT} {x1 : Int32}   : kRi l G (dC, dI) cl (tR50 dc) yX50_check (ws_ yX50_check cX50_check 5 (some .int)) ({ frames := 6, cells := 0, slots := 0, locals := 148 } : Room) [.ref x0, .int x1] 0 0 (rR50 ci dc x0 S) (fun r w' => r = (pqCheck x1.toInt S).1 ∧ rR50 ci dc x0 ((pqCheck x1.toInt S).2) w') := by
  rintro sz w ⟨ad, rfl, h⟩
  exact q_wI (kX50_check (hc 0 _ rfl) ) (fun r w' hJ => ⟨hJ.1, ad, rfl, hJ.2⟩) sz w h
theorem kR50_broken {l : Launch} {G : kGt} {dC : Nat → ClassId} {dI : Nat → Nat → Nat} {cl : List vw_C} {ci : Nat → Nat} (hc : ∀ i q, kR50[i]? = some q → cl[ci i]? = some q) {dc : Nat → ClassId} {x0 : Nat} {S : pqT}    : kRi l G (dC, dI) cl (tR50 dc) yX50_broken (ws_ yX50_broken cX50_broken 1 (some .int)) ({ frames := 0, cells := 0, slots := 0, locals := 0 } : Room) [.ref x0] 0 0 (rR50 ci dc x0 S) (fun r w' => r = (pqBroken S) ∧ rR50 ci dc x0 S w') := by
  rintro sz w ⟨ad, rfl, h⟩
  exact q_wI (kX50_broken (hc 0 _ rfl) ) (fun r w' hJ => ⟨hJ.1, ad, rfl, hJ.2⟩) sz w h
theorem kR50_rows {l : Launch} {G : kGt} {dC : Nat → ClassId} {dI : Nat → Nat → Nat} {cl : List vw_C} {ci : Nat → Nat} (hc : ∀ i q, kR50[i]? = some q → cl[ci i]? = some q) {dc : Nat → ClassId} {x0 : Nat} {S : pqT} {x1 : Int32}   : kRi l G (dC, dI) cl (tR50 dc) yX50_rows (ws_ yX50_rows cX50_rows 2 (some .int)) ({ frames := 1, cells := 0, slots := 0, locals := 24 } : Room) [.ref x0, .int x1] 0 0 (rR50 ci dc x0 S) (fun r w' => r = (pqRows x1.toInt S) ∧ rR50 ci dc x0 S w') := by
  rintro sz w ⟨ad, rfl, h⟩
  exact q_wI (kX50_rows (hc 0 _ rfl) ) (fun r w' hJ => ⟨hJ.1, ad, rfl, hJ.2⟩) sz w h
theorem kR50_size {l : Launch} {G : kGt} {dC : Nat → ClassId} {dI : Nat → Nat → Nat} {cl : List vw_C} {ci : Nat → Nat} (hc : ∀ i q, kR50[i]? = some q → cl[ci i]? = some q) {dc : Nat → ClassId} {x0 : Nat} {S : pqT} {x1 : Int32}   : kRi l G (dC, dI) cl (tR50 dc) yX50_size (ws_ yX50_size cX50_size 6 (some .int)) ({ frames := 1, cells := 0, slots := 0, locals := 21 } : Room) [.ref x0, .int x1] 0 0 (rR50 ci dc x0 S) (fun r w' => r = (pqSize x1.toInt S) ∧ rR50 ci dc x0 S w') := by
  rintro sz w ⟨ad, rfl, h⟩
  exact q_wI (kX50_size (hc 0 _ rfl) ) (fun r w' hJ => ⟨hJ.1, ad, rfl, hJ.2⟩) sz w h
theorem kR50_name {l : Launch} {G : kGt} {dC : Nat → ClassId} {dI : Nat → Nat → Nat} {cl : List vw_C} {ci : Nat → Nat} (hc : ∀ i q, kR50[i]? = some q → cl[ci i]? = some q) {dc : Nat → ClassId} {x0 : Nat} {S : pqT} {x1 : Int32}   : kRi l G (dC, dI) cl (tR50 dc) yX50_name (ws_ yX50_name cX50_name 2 (some .int)) ({ frames := 1, cells := 0, slots := 0, locals := 21 } : Room) [.ref x0, .int x1] 0 0 (rR50 ci dc x0 S) (fun r w' => r = (pqName x1.toInt S) ∧ rR50 ci dc x0 S w') := by
  rintro sz w ⟨ad, rfl, h⟩
  exact q_wI (kX50_name (hc 0 _ rfl) ) (fun r w' hJ => ⟨hJ.1, ad, rfl, hJ.2⟩) sz w h
theorem kR50_states {l : Launch} {G : kGt} {dC : Nat → ClassId} {dI : Nat → Nat → Nat} {cl : List vw_C} {ci : Nat → Nat} (hc : ∀ i q, kR50[i]? = some q → cl[ci i]? = some q) {dc : Nat → ClassId} {x0 : Nat} {S : pqT} {x1 : Int32} {x2 : Int32}   : kRi l G (dC, dI) cl (tR50 dc) yX50_states (ws_ yX50_states cX50_states 3 (some .int)) ({ frames := 6, cells := 0, slots := 0, locals := 148 } : Room) [.ref x0, .int x1, .int x2] 0 0 (rR50 ci dc x0 S) (fun r w' => r = (pqStates x1.toInt x2.toInt S) ∧ rR50 ci dc x0 S w') := by
  rintro sz w ⟨ad, rfl, h⟩
  exact q_wI (kX50_states (hc 0 _ rfl) ) (fun r w' hJ => ⟨hJ.1, ad, rfl, hJ.2⟩) sz w h
theorem kR50_concludes {l : Launch} {G : kGt} {dC : Nat → ClassId} {dI : Nat → Nat → Nat} {cl : List vw_C} {ci : Nat → Nat} (hc : ∀ i q, kR50[i]? = some q → cl[ci i]? = some q) {dc : Nat → ClassId} {x0 : Nat} {S : pqT} {x1 : Int32} {x2 : Int32}   : kRi l G (dC, dI) cl (tR50 dc) yX50_concludes (ws_ yX50_concludes cX50_concludes 5 (some .boolean)) ({ frames := 6, cells := 0, slots := 0, locals := 148 } : Room) [.ref x0, .int x1, .int x2] 0 0 (rR50 ci dc x0 S) (fun r w' => r = (pqConcludes x1.toInt x2.toInt S) ∧ rR50 ci dc x0 S w') := by
  rintro sz w ⟨ad, rfl, h⟩
  exact q_wI (kX50_concludes (hc 0 _ rfl) ) (fun r w' hJ => ⟨hJ.1, ad, rfl, hJ.2⟩) sz w h
theorem kR50_sentence {l : Launch} {G : kGt} {dC : Nat → ClassId} {dI : Nat → Nat → Nat} {cl : List vw_C} {ci : Nat → Nat} (hc : ∀ i q, kR50[i]? = some q → cl[ci i]? = some q) {dc : Nat → ClassId} {x0 : Nat} {S : pqT} {x1 : Int32}   : kRi l G (dC, dI) cl (tR50 dc) yX50_sentence (ws_ yX50_sentence cX50_sentence 3 (some .int)) ({ frames := 6, cells := 0, slots := 0, locals := 148 } : Room) [.ref x0, .int x1] 0 0 (rR50 ci dc x0 S) (fun r w' => r = (pqSentence x1.toInt S).1 ∧ rR50 ci dc x0 ((pqSentence x1.toInt S).2) w') := by
  rintro sz w ⟨ad, rfl, h⟩
  exact q_wI (kX50_sentence (hc 0 _ rfl) ) (fun r w' hJ => ⟨hJ.1, ad, rfl, hJ.2⟩) sz w h
theorem kR50_at {l : Launch} {G : kGt} {dC : Nat → ClassId} {dI : Nat → Nat → Nat} {cl : List vw_C} {ci : Nat → Nat} (hc : ∀ i q, kR50[i]? = some q → cl[ci i]? = some q) {dc : Nat → ClassId} {x0 : Nat} {S : pqT} {x1 : Int32}   : kRi l G (dC, dI) cl (tR50 dc) yX50_at (ws_ yX50_at cX50_at 2 (some .int)) ({ frames := 0, cells := 0, slots := 0, locals := 0 } : Room) [.ref x0, .int x1] 0 0 (rR50 ci dc x0 S) (fun r w' => r = (pqAt x1.toInt S) ∧ rR50 ci dc x0 S w') := by
  rintro sz w ⟨ad, rfl, h⟩
  exact q_wI (kX50_at (hc 0 _ rfl) ) (fun r w' hJ => ⟨hJ.1, ad, rfl, hJ.2⟩) sz w h
theorem kR50_drop {l : Launch} {G : kGt} {dC : Nat → ClassId} {dI : Nat → Nat → Nat} {cl : List vw_C} {ci : Nat → Nat} (hc : ∀ i q, kR50[i]? = some q → cl[ci i]? = some q) {dc : Nat → ClassId} {x0 : Nat} {S : pqT} {x1 : Int32}   : kRi l G (dC, dI) cl (tR50 dc) yX50_drop (ws_ yX50_drop cX50_drop 6 (some .int)) ({ frames := 1, cells := 0, slots := 0, locals := 24 } : Room) [.ref x0, .int x1] 0 0 (rR50 ci dc x0 S) (fun r w' => r = (pqDrop x1.toInt S).1 ∧ rR50 ci dc x0 ((pqDrop x1.toInt S).2) w') := by
  rintro sz w ⟨ad, rfl, h⟩
  exact q_wI (kX50_drop (hc 0 _ rfl) ) (fun r w' hJ => ⟨hJ.1, ad, rfl, hJ.2⟩) sz w h
