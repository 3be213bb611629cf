/-! X56: its contracts, its object at x0 (printed by tools/rkw.py) -/
set_option maxRecDepth 100000
abbrev kR56 : List vw_C := [(RX56, TX56, 37)]
abbrev tR56 (d : Nat → ClassId) : List (ClassId × FieldType) := tX56 d
def rR56 (ci : Nat → Nat) (dc : Nat → ClassId) (x0 : Nat) (S : qrT) (w : va_W) : Prop := ∃ ad : Nat → Nat, ad 0 = x0 ∧ rX56 (ci 0) ad dc S w
theorem rR56_recv {ci : Nat → Nat} {dc : Nat → ClassId} {x0 : Nat} {S : qrT} {w : va_W} (h : rR56 ci dc x0 S w) : ∃ fs, (x0, .inr (ci 0, fs)) ∈ w := by
  obtain ⟨ad, rfl, h⟩ := h
  obtain ⟨_, _, _, _, _, _, _, _, _, _, _, _, _, _, _, _, _, _, _, _, _, _, _, _, _, _, _, _, _, _, _, _, _, _, _, _, _, rfl, -⟩ := h
  exact ⟨_, List.Mem.head _⟩
theorem kR56_axiom {l : Launch} {G : kGt} {dC : Nat → ClassId} {dI : Nat → Nat → Nat} {cl : List vw_C} {ci : Nat → Nat} (hc : ∀ i q, kR56[i]? = some q → cl[ci i]? = some q) {dc : Nat → ClassId} {x0 : Nat} {S : qrT} {x1 : Int32} {x2 : Int32} {x3 : Int32}   : kRi l G (dC, dI) cl (tR56 dc) yX56_axiom (ws_ yX56_axiom cX56_axiom 5 (some .int)) ({ frames := 2, cells := 0, slots := 0, locals := 41 } : Room) [.ref x0, .int x1, .int x2, .int x3] 0 0 (rR56 ci dc x0 S) (fun r w' => r = (qqAxiom x1.toInt x2.toInt x3.toInt S).1 ∧ rR56 ci dc x0 ((qqAxiom x1.toInt x2.toInt x3.toInt S).2) w') := by
  rintro sz w ⟨ad, rfl, h⟩
  exact q_wI (kX56_axiom (hc 0 _ rfl) ) (fun r w' hJ => ⟨hJ.1, ad, rfl, hJ.2⟩) sz w h
theorem kR56_fact {l : Launch} {G : kGt} {dC : Nat → ClassId} {dI : Nat → Nat → Nat} {cl : List vw_C} {ci : Nat → Nat} (hc : ∀ i q, kR56[i]? = some q → cl[ci i]? = some q) {dc : Nat → ClassId} {x0 : Nat} {S : qrT} {x1 : Int32} {x2 : Int32} {x3 : Int32} {x4 : Int32}   : kRi l G (dC, dI) cl (tR56 dc) yX56_fact (ws_ yX56_fact cX56_fact 7 (some .int)) ({ frames := 2, cells := 0, slots := 0, locals := 44 } : Room) [.ref x0, .int x1, .int x2, .int x3, .int x4] 0 0 (rR56 ci dc x0 S) (fun r w' => r = (qqFact x1.toInt x2.toInt x3.toInt x4.toInt S).1 ∧ rR56 ci dc x0 ((qqFact x1.toInt x2.toInt x3.toInt x4.toInt S).2) w') := by
  rintro sz w ⟨ad, rfl, h⟩
  exact q_wI (kX56_fact (hc 0 _ rfl) ) (fun r w' hJ => ⟨hJ.1, ad, rfl, hJ.2⟩) sz w h
theorem kR56_forget {l : Launch} {G : kGt} {dC : Nat → ClassId} {dI : Nat → Nat → Nat} {cl : List vw_C} {ci : Nat → Nat} (hc : ∀ i q, kR56[i]? = some q → cl[ci i]? = some q) {dc : Nat → ClassId} {x0 : Nat} {S : qrT} {x1 : Int32} {x2 : Int32} {x3 : Int32} {x4 : Int32}   : kRi l G (dC, dI) cl (tR56 dc) yX56_forget (ws_ yX56_forget cX56_forget 6 (some .int)) ({ frames := 2, cells := 0, slots := 0, locals := 44 } : Room) [.ref x0, .int x1, .int x2, .int x3, .int x4] 0 0 (rR56 ci dc x0 S) (fun r w' => r = (qqForget x1.toInt x2.toInt x3.toInt x4.toInt S).1 ∧ rR56 ci dc x0 ((qqForget x1.toInt x2.toInt x3.toInt x4.toInt S).2) w') := by
  rintro sz w ⟨ad, rfl, h⟩
  exact q_wI (kX56_forget (hc 0 _ rfl) ) (fun r w' hJ => ⟨hJ.1, ad, rfl, hJ.2⟩) sz w h
theorem kR56_question {l : Launch} {G : kGt} {dC : Nat → ClassId} {dI : Nat → Nat → Nat} {cl : List vw_C} {ci : Nat → Nat} (hc : ∀ i q, kR56[i]? = some q → cl[ci i]? = some q) {dc : Nat → ClassId} {x0 : Nat} {S : qrT} {x1 : Int32}   : kRi l G (dC, dI) cl (tR56 dc) yX56_question (ws_ yX56_question cX56_question 2 (some .int)) ({ frames := 1, cells := 0, slots := 0, locals := 21 } : Room) [.ref x0, .int x1] 0 0 (rR56 ci dc x0 S) (fun r w' => r = (qqQuestion x1.toInt S).1 ∧ rR56 ci dc x0 ((qqQuestion x1.toInt S).2) w') := by
  rintro sz w ⟨ad, rfl, h⟩
  exact q_wI (kX56_question (hc 0 _ rfl) ) (fun r w' hJ => ⟨hJ.1, ad, rfl, hJ.2⟩) sz w h
theorem kR56_atom {l : Launch} {G : kGt} {dC : Nat → ClassId} {dI : Nat → Nat → Nat} {cl : List vw_C} {ci : Nat → Nat} (hc : ∀ i q, kR56[i]? = some q → cl[ci i]? = some q) {dc : Nat → ClassId} {x0 : Nat} {S : qrT} {x1 : Int32} {x2 : Int32} {x3 : Int32} {x4 : Int32} {x5 : Int32}   : kRi l G (dC, dI) cl (tR56 dc) yX56_atom (ws_ yX56_atom cX56_atom 10 (some .int)) ({ frames := 1, cells := 0, slots := 0, locals := 25 } : Room) [.ref x0, .int x1, .int x2, .int x3, .int x4, .int x5] 0 0 (rR56 ci dc x0 S) (fun r w' => r = (qqAtom x1.toInt x2.toInt x3.toInt x4.toInt x5.toInt S).1 ∧ rR56 ci dc x0 ((qqAtom x1.toInt x2.toInt x3.toInt x4.toInt x5.toInt S).2) w') := by
  rintro sz w ⟨ad, rfl, h⟩
  exact q_wI (kX56_atom (hc 0 _ rfl) ) (fun r w' hJ => ⟨hJ.1, ad, rfl, hJ.2⟩) sz w h
theorem kR56_forms {l : Launch} {G : kGt} {dC : Nat → ClassId} {dI : Nat → Nat → Nat} {cl : List vw_C} {ci : Nat → Nat} (hc : ∀ i q, kR56[i]? = some q → cl[ci i]? = some q) {dc : Nat → ClassId} {x0 : Nat} {S : qrT} {x1 : Int32}   : kRi l G (dC, dI) cl (tR56 dc) yX56_forms (ws_ yX56_forms cX56_forms 3 (some .int)) ({ frames := 6, cells := 0, slots := 0, locals := 141 } : Room) [.ref x0, .int x1] 0 0 (rR56 ci dc x0 S) (fun r w' => r = (qqForms x1.toInt S) ∧ rR56 ci dc x0 S w') := by
  rintro sz w ⟨ad, rfl, h⟩
  exact q_wI (kX56_forms (hc 0 _ rfl) ) (fun r w' hJ => ⟨hJ.1, ad, rfl, hJ.2⟩) sz w h
theorem kR56_form {l : Launch} {G : kGt} {dC : Nat → ClassId} {dI : Nat → Nat → Nat} {cl : List vw_C} {ci : Nat → Nat} (hc : ∀ i q, kR56[i]? = some q → cl[ci i]? = some q) {dc : Nat → ClassId} {x0 : Nat} {S : qrT} {x1 : Int32} {x2 : Int32} {x3 : Int32}  (hw : -2147483648 ≤ x3.toInt ∧ x3.toInt < 2147483648) : kRi l G (dC, dI) cl (tR56 dc) yX56_form (ws_ yX56_form cX56_form 5 (some .int)) ({ frames := 6, cells := 0, slots := 0, locals := 141 } : Room) [.ref x0, .int x1, .int x2, .int x3] 0 0 (rR56 ci dc x0 S) (fun r w' => r = (qqForm x1.toInt x2.toInt x3.toInt S) ∧ rR56 ci dc x0 S w') := by
  rintro sz w ⟨ad, rfl, h⟩
  exact q_wI (kX56_form (hc 0 _ rfl) hw) (fun r w' hJ => ⟨hJ.1, ad, rfl, hJ.2⟩) sz w h
theorem kR56_run {l : Launch} {G : kGt} {dC : Nat → ClassId} {dI : Nat → Nat → Nat} {cl : List vw_C} {ci : Nat → Nat} (hc : ∀ i q, kR56[i]? = some q → cl[ci i]? = some q) {dc : Nat → ClassId} {x0 : Nat} {S : qrT} {x1 : Int32}   : kRi l G (dC, dI) cl (tR56 dc) yX56_run (ws_ yX56_run cX56_run 5 (some .int)) ({ frames := 6, cells := 0, slots := 0, locals := 141 } : Room) [.ref x0, .int x1] 0 0 (rR56 ci dc x0 S) (fun r w' => r = (qqRun x1.toInt S) ∧ rR56 ci dc x0 S w') := by
  rintro sz w ⟨ad, rfl, h⟩
  exact q_wI (kX56_run (hc 0 _ rfl) ) (fun r w' hJ => ⟨hJ.1, ad, rfl, hJ.2⟩) sz w h
theorem kR56_answer {l : Launch} {G : kGt} {dC : Nat → ClassId} {dI : Nat → Nat → Nat} {cl : List vw_C} {ci : Nat → Nat} (hc : ∀ i q, kR56[i]? = some q → cl[ci i]? = some q) {dc : Nat → ClassId} {x0 : Nat} {S : qrT} {x1 : Int32} {x2 : Int32}  (hi : -2147483648 ≤ x2.toInt ∧ x2.toInt < 2147483648) : kRi l G (dC, dI) cl (tR56 dc) yX56_answer (ws_ yX56_answer cX56_answer 6 (some .int)) ({ frames := 6, cells := 0, slots := 0, locals := 141 } : Room) [.ref x0, .int x1, .int x2] 0 0 (rR56 ci dc x0 S) (fun r w' => r = (qqAnswer x1.toInt x2.toInt S) ∧ rR56 ci dc x0 S w') := by
  rintro sz w ⟨ad, rfl, h⟩
  exact q_wI (kX56_answer (hc 0 _ rfl) hi) (fun r w' hJ => ⟨hJ.1, ad, rfl, hJ.2⟩) sz w h
theorem kR56_why {l : Launch} {G : kGt} {dC : Nat → ClassId} {dI : Nat → Nat → Nat} {cl : List vw_C} {ci : Nat → Nat} (hc : ∀ i q, kR56[i]? = some q → cl[ci i]? = some q) {dc : Nat → ClassId} {x0 : Nat} {S : qrT} {x1 : Int32} {x2 : Int32}   : kRi l G (dC, dI) cl (tR56 dc) yX56_why (ws_ yX56_why cX56_why 4 (some .int)) ({ frames := 6, cells := 0, slots := 0, locals := 141 } : Room) [.ref x0, .int x1, .int x2] 0 0 (rR56 ci dc x0 S) (fun r w' => r = (qqWhy x1.toInt x2.toInt S) ∧ rR56 ci dc x0 S w') := by
  rintro sz w ⟨ad, rfl, h⟩
  exact q_wI (kX56_why (hc 0 _ rfl) ) (fun r w' hJ => ⟨hJ.1, ad, rfl, hJ.2⟩) sz w h
theorem kR56_broken {l : Launch} {G : kGt} {dC : Nat → ClassId} {dI : Nat → Nat → Nat} {cl : List vw_C} {ci : Nat → Nat} (hc : ∀ i q, kR56[i]? = some q → cl[ci i]? = some q) {dc : Nat → ClassId} {x0 : Nat} {S : qrT}    : kRi l G (dC, dI) cl (tR56 dc) yX56_broken (ws_ yX56_broken cX56_broken 2 (some .int)) ({ frames := 5, cells := 0, slots := 0, locals := 120 } : Room) [.ref x0] 0 0 (rR56 ci dc x0 S) (fun r w' => r = (qqBroken S) ∧ rR56 ci dc x0 S w') := by
  rintro sz w ⟨ad, rfl, h⟩
  exact q_wI (kX56_broken (hc 0 _ rfl) ) (fun r w' hJ => ⟨hJ.1, ad, rfl, hJ.2⟩) sz w h
theorem kR56_count {l : Launch} {G : kGt} {dC : Nat → ClassId} {dI : Nat → Nat → Nat} {cl : List vw_C} {ci : Nat → Nat} (hc : ∀ i q, kR56[i]? = some q → cl[ci i]? = some q) {dc : Nat → ClassId} {x0 : Nat} {S : qrT} {x1 : Int32}   : kRi l G (dC, dI) cl (tR56 dc) yX56_count (ws_ yX56_count cX56_count 2 (some .int)) ({ frames := 0, cells := 0, slots := 0, locals := 0 } : Room) [.ref x0, .int x1] 0 0 (rR56 ci dc x0 S) (fun r w' => r = (qqCount x1.toInt S) ∧ rR56 ci dc x0 S w') := by
  rintro sz w ⟨ad, rfl, h⟩
  exact q_wI (kX56_count (hc 0 _ rfl) ) (fun r w' hJ => ⟨hJ.1, ad, rfl, hJ.2⟩) sz w h
theorem kR56_clear {l : Launch} {G : kGt} {dC : Nat → ClassId} {dI : Nat → Nat → Nat} {cl : List vw_C} {ci : Nat → Nat} (hc : ∀ i q, kR56[i]? = some q → cl[ci i]? = some q) {dc : Nat → ClassId} {x0 : Nat} {S : qrT}    : kRi l G (dC, dI) cl (tR56 dc) yX56_clear (ws_ yX56_clear cX56_clear 2 (some .int)) ({ frames := 1, cells := 0, slots := 0, locals := 20 } : Room) [.ref x0] 0 0 (rR56 ci dc x0 S) (fun r w' => r = (qqClear S).1 ∧ rR56 ci dc x0 ((qqClear S).2) w') := by
  rintro sz w ⟨ad, rfl, h⟩
  exact q_wI (kX56_clear (hc 0 _ rfl) ) (fun r w' hJ => ⟨hJ.1, ad, rfl, hJ.2⟩) sz w h
