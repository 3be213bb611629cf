/-! X52: its contracts, its object at x0 (printed by tools/rkw.py) -/
set_option maxRecDepth 100000
abbrev kR52 : List vw_C := [(RX52, TX52, 23)]
abbrev tR52 (d : Nat → ClassId) : List (ClassId × FieldType) := tX52 d
def rR52 (ci : Nat → Nat) (dc : Nat → ClassId) (x0 : Nat) (th : Int) (u : Int) (S : ctT) (w : va_W) : Prop := ∃ ad : Nat → Nat, ad 0 = x0 ∧ rX52 (ci 0) ad dc th u S w
theorem rR52_recv {ci : Nat → Nat} {dc : Nat → ClassId} {x0 : Nat} {th : Int} {u : Int} {S : ctT} {w : va_W} (h : rR52 ci dc x0 th u S w) : ∃ fs, (x0, .inr (ci 0, fs)) ∈ w := by
  obtain ⟨ad, rfl, h⟩ := h
  obtain ⟨_, _, _, _, _, _, _, _, _, _, _, _, _, _, _, _, _, _, _, _, _, _, _, rfl, -⟩ := h
  exact ⟨_, List.Mem.head _⟩
theorem kR52_class0 {l : Launch} {G : kGt} {dC : Nat → ClassId} {dI : Nat → Nat → Nat} {cl : List vw_C} {ci : Nat → Nat} (hc : ∀ i q, kR52[i]? = some q → cl[ci i]? = some q) {dc : Nat → ClassId} {x0 : Nat} {th : Int} {u : Int} {S : ctT}    : kRi l G (dC, dI) cl (tR52 dc) yX52_class0 (ws_ yX52_class0 cX52_class0 1 (some .int)) ({ frames := 4, cells := 0, slots := 0, locals := 93 } : Room) [.ref x0] 0 0 (rR52 ci dc x0 th u S) (fun r w' => r = (ctClass0 S).1 ∧ rR52 ci dc x0 th u ((ctClass0 S).2) w') := by
  rintro sz w ⟨ad, rfl, h⟩
  exact q_wI (kX52_class0 (hc 0 _ rfl) ) (fun r w' hJ => ⟨hJ.1, ad, rfl, hJ.2⟩) sz w h
theorem kR52_thing {l : Launch} {G : kGt} {dC : Nat → ClassId} {dI : Nat → Nat → Nat} {cl : List vw_C} {ci : Nat → Nat} (hc : ∀ i q, kR52[i]? = some q → cl[ci i]? = some q) {dc : Nat → ClassId} {x0 : Nat} {th : Int} {u : Int} {S : ctT}    : kRi l G (dC, dI) cl (tR52 dc) yX52_thing (ws_ yX52_thing cX52_thing 1 (some .int)) ({ frames := 0, cells := 0, slots := 0, locals := 0 } : Room) [.ref x0] 0 0 (rR52 ci dc x0 th u S) (fun r w' => r = (ctThing S).1 ∧ rR52 ci dc x0 th u ((ctThing S).2) w') := by
  rintro sz w ⟨ad, rfl, h⟩
  exact q_wI (kX52_thing (hc 0 _ rfl) ) (fun r w' hJ => ⟨hJ.1, ad, rfl, hJ.2⟩) sz w h
theorem kR52_axiom {l : Launch} {G : kGt} {dC : Nat → ClassId} {dI : Nat → Nat → Nat} {cl : List vw_C} {ci : Nat → Nat} (hc : ∀ i q, kR52[i]? = some q → cl[ci i]? = some q) {dc : Nat → ClassId} {x0 : Nat} {th : Int} {u : Int} {S : ctT} {x1 : Int32} {x2 : Int32} {x3 : Int32}   : kRi l G (dC, dI) cl (tR52 dc) yX52_axiom (ws_ yX52_axiom cX52_axiom 4 (some .int)) ({ frames := 4, cells := 0, slots := 0, locals := 93 } : Room) [.ref x0, .int x1, .int x2, .int x3] 0 0 (rR52 ci dc x0 th u S) (fun r w' => r = (ctAxiom x1.toInt x2.toInt x3.toInt S).1 ∧ rR52 ci dc x0 th u ((ctAxiom x1.toInt x2.toInt x3.toInt S).2) w') := by
  rintro sz w ⟨ad, rfl, h⟩
  exact q_wI (kX52_axiom (hc 0 _ rfl) ) (fun r w' hJ => ⟨hJ.1, ad, rfl, hJ.2⟩) sz w h
theorem kR52_remove {l : Launch} {G : kGt} {dC : Nat → ClassId} {dI : Nat → Nat → Nat} {cl : List vw_C} {ci : Nat → Nat} (hc : ∀ i q, kR52[i]? = some q → cl[ci i]? = some q) {dc : Nat → ClassId} {x0 : Nat} {th : Int} {u : Int} {S : ctT} {x1 : Int32}   : kRi l G (dC, dI) cl (tR52 dc) yX52_remove (ws_ yX52_remove cX52_remove 4 (some .int)) ({ frames := 4, cells := 0, slots := 0, locals := 93 } : Room) [.ref x0, .int x1] 0 0 (rR52 ci dc x0 th u S) (fun r w' => r = (ctRemove x1.toInt S).1 ∧ rR52 ci dc x0 th u ((ctRemove x1.toInt S).2) w') := by
  rintro sz w ⟨ad, rfl, h⟩
  exact q_wI (kX52_remove (hc 0 _ rfl) ) (fun r w' hJ => ⟨hJ.1, ad, rfl, hJ.2⟩) sz w h
theorem kR52_fuel {l : Launch} {G : kGt} {dC : Nat → ClassId} {dI : Nat → Nat → Nat} {cl : List vw_C} {ci : Nat → Nat} (hc : ∀ i q, kR52[i]? = some q → cl[ci i]? = some q) {dc : Nat → ClassId} {x0 : Nat} {th : Int} {u : Int} {S : ctT} {x1 : Int32}   : kRi l G (dC, dI) cl (tR52 dc) yX52_fuel (ws_ yX52_fuel cX52_fuel 4 (some .int)) ({ frames := 1, cells := 0, slots := 0, locals := 22 } : Room) [.ref x0, .int x1] 0 0 (rR52 ci dc x0 th u S) (fun r w' => r = (ctFuel x1.toInt S).1 ∧ rR52 ci dc x0 th u ((ctFuel x1.toInt S).2) w') := by
  rintro sz w ⟨ad, rfl, h⟩
  exact q_wI (kX52_fuel (hc 0 _ rfl) ) (fun r w' hJ => ⟨hJ.1, ad, rfl, hJ.2⟩) sz w h
theorem kR52_known {l : Launch} {G : kGt} {dC : Nat → ClassId} {dI : Nat → Nat → Nat} {cl : List vw_C} {ci : Nat → Nat} (hc : ∀ i q, kR52[i]? = some q → cl[ci i]? = some q) {dc : Nat → ClassId} {x0 : Nat} {th : Int} {u : Int} {S : ctT} {x1 : Int32} {x2 : Int32}   : kRi l G (dC, dI) cl (tR52 dc) yX52_known (ws_ yX52_known cX52_known 4 (some .int)) ({ frames := 2, cells := 0, slots := 0, locals := 42 } : Room) [.ref x0, .int x1, .int x2] 0 0 (rR52 ci dc x0 th u S) (fun r w' => r = (ctKnown x1.toInt x2.toInt S) ∧ rR52 ci dc x0 th u S w') := by
  rintro sz w ⟨ad, rfl, h⟩
  exact q_wI (kX52_known (hc 0 _ rfl) ) (fun r w' hJ => ⟨hJ.1, ad, rfl, hJ.2⟩) sz w h
theorem kR52_ask {l : Launch} {G : kGt} {dC : Nat → ClassId} {dI : Nat → Nat → Nat} {cl : List vw_C} {ci : Nat → Nat} (hc : ∀ i q, kR52[i]? = some q → cl[ci i]? = some q) {dc : Nat → ClassId} {x0 : Nat} {th : Int} {u : Int} {S : ctT} {x1 : Int32} {x2 : Int32}   : kRi l G (dC, dI) cl (tR52 dc) yX52_ask (ws_ yX52_ask cX52_ask 4 (some .int)) ({ frames := 2, cells := 0, slots := 0, locals := 47 } : Room) [.ref x0, .int x1, .int x2] 0 0 (rR52 ci dc x0 th u S) (fun r w' => r = (ctAsk x1.toInt x2.toInt S) ∧ rR52 ci dc x0 th u S w') := by
  rintro sz w ⟨ad, rfl, h⟩
  exact q_wI (kX52_ask (hc 0 _ rfl) ) (fun r w' hJ => ⟨hJ.1, ad, rfl, hJ.2⟩) sz w h
theorem kR52_run {l : Launch} {G : kGt} {dC : Nat → ClassId} {dI : Nat → Nat → Nat} {cl : List vw_C} {ci : Nat → Nat} (hc : ∀ i q, kR52[i]? = some q → cl[ci i]? = some q) {dc : Nat → ClassId} {x0 : Nat} {th : Int} {u : Int} {S : ctT}   (hu : u ≤ 900000) : kRi l G (dC, dI) cl (tR52 dc) yX52_run (ws_ yX52_run cX52_run 2 (some .int)) ({ frames := 6, cells := 0, slots := 0, locals := 139 } : Room) [.ref x0] 0 0 (rR52 ci dc x0 th u S) (fun r w' => r = (ctRun S).1 ∧ rR52 ci dc x0 th (u + 860) ((ctRun S).2) w') := by
  rintro sz w ⟨ad, rfl, h⟩
  exact q_wI (kX52_run (hc 0 _ rfl) hu) (fun r w' hJ => ⟨hJ.1, ad, rfl, hJ.2⟩) sz w h
theorem kR52_parent {l : Launch} {G : kGt} {dC : Nat → ClassId} {dI : Nat → Nat → Nat} {cl : List vw_C} {ci : Nat → Nat} (hc : ∀ i q, kR52[i]? = some q → cl[ci i]? = some q) {dc : Nat → ClassId} {x0 : Nat} {th : Int} {u : Int} {S : ctT} {x1 : Int32} {x2 : Int32}  (hi : zR x2.toInt) : kRi l G (dC, dI) cl (tR52 dc) yX52_parent (ws_ yX52_parent cX52_parent 6 (some .int)) ({ frames := 4, cells := 0, slots := 0, locals := 91 } : Room) [.ref x0, .int x1, .int x2] 0 0 (rR52 ci dc x0 th u S) (fun r w' => r = (ctParent x1.toInt x2.toInt S) ∧ rR52 ci dc x0 th u S w') := by
  rintro sz w ⟨ad, rfl, h⟩
  exact q_wI (kX52_parent (hc 0 _ rfl) hi) (fun r w' hJ => ⟨hJ.1, ad, rfl, hJ.2⟩) sz w h
theorem kR52_child {l : Launch} {G : kGt} {dC : Nat → ClassId} {dI : Nat → Nat → Nat} {cl : List vw_C} {ci : Nat → Nat} (hc : ∀ i q, kR52[i]? = some q → cl[ci i]? = some q) {dc : Nat → ClassId} {x0 : Nat} {th : Int} {u : Int} {S : ctT} {x1 : Int32} {x2 : Int32}  (hi : zR x2.toInt) : kRi l G (dC, dI) cl (tR52 dc) yX52_child (ws_ yX52_child cX52_child 6 (some .int)) ({ frames := 3, cells := 0, slots := 0, locals := 68 } : Room) [.ref x0, .int x1, .int x2] 0 0 (rR52 ci dc x0 th u S) (fun r w' => r = (ctChild x1.toInt x2.toInt S) ∧ rR52 ci dc x0 th u S w') := by
  rintro sz w ⟨ad, rfl, h⟩
  exact q_wI (kX52_child (hc 0 _ rfl) hi) (fun r w' hJ => ⟨hJ.1, ad, rfl, hJ.2⟩) sz w h
theorem kR52_equal {l : Launch} {G : kGt} {dC : Nat → ClassId} {dI : Nat → Nat → Nat} {cl : List vw_C} {ci : Nat → Nat} (hc : ∀ i q, kR52[i]? = some q → cl[ci i]? = some q) {dc : Nat → ClassId} {x0 : Nat} {th : Int} {u : Int} {S : ctT} {x1 : Int32} {x2 : Int32}  (hi : zR x2.toInt) : kRi l G (dC, dI) cl (tR52 dc) yX52_equal (ws_ yX52_equal cX52_equal 6 (some .int)) ({ frames := 1, cells := 0, slots := 0, locals := 22 } : Room) [.ref x0, .int x1, .int x2] 0 0 (rR52 ci dc x0 th u S) (fun r w' => r = (ctEqual x1.toInt x2.toInt S) ∧ rR52 ci dc x0 th u S w') := by
  rintro sz w ⟨ad, rfl, h⟩
  exact q_wI (kX52_equal (hc 0 _ rfl) hi) (fun r w' hJ => ⟨hJ.1, ad, rfl, hJ.2⟩) sz w h
theorem kR52_empty {l : Launch} {G : kGt} {dC : Nat → ClassId} {dI : Nat → Nat → Nat} {cl : List vw_C} {ci : Nat → Nat} (hc : ∀ i q, kR52[i]? = some q → cl[ci i]? = some q) {dc : Nat → ClassId} {x0 : Nat} {th : Int} {u : Int} {S : ctT} {x1 : Int32}  (hi : zR x1.toInt) : kRi l G (dC, dI) cl (tR52 dc) yX52_empty (ws_ yX52_empty cX52_empty 4 (some .int)) ({ frames := 0, cells := 0, slots := 0, locals := 0 } : Room) [.ref x0, .int x1] 0 0 (rR52 ci dc x0 th u S) (fun r w' => r = (ctEmpty x1.toInt S) ∧ rR52 ci dc x0 th u S w') := by
  rintro sz w ⟨ad, rfl, h⟩
  exact q_wI (kX52_empty (hc 0 _ rfl) hi) (fun r w' hJ => ⟨hJ.1, ad, rfl, hJ.2⟩) sz w h
theorem kR52_open {l : Launch} {G : kGt} {dC : Nat → ClassId} {dI : Nat → Nat → Nat} {cl : List vw_C} {ci : Nat → Nat} (hc : ∀ i q, kR52[i]? = some q → cl[ci i]? = some q) {dc : Nat → ClassId} {x0 : Nat} {th : Int} {u : Int} {S : ctT} {x1 : Int32}  (hi : zR x1.toInt) : kRi l G (dC, dI) cl (tR52 dc) yX52_open (ws_ yX52_open cX52_open 5 (some .int)) ({ frames := 0, cells := 0, slots := 0, locals := 0 } : Room) [.ref x0, .int x1] 0 0 (rR52 ci dc x0 th u S) (fun r w' => r = (ctOpen x1.toInt S) ∧ rR52 ci dc x0 th u S w') := by
  rintro sz w ⟨ad, rfl, h⟩
  exact q_wI (kX52_open (hc 0 _ rfl) hi) (fun r w' hJ => ⟨hJ.1, ad, rfl, hJ.2⟩) sz w h
theorem kR52_put {l : Launch} {G : kGt} {dC : Nat → ClassId} {dI : Nat → Nat → Nat} {cl : List vw_C} {ci : Nat → Nat} (hc : ∀ i q, kR52[i]? = some q → cl[ci i]? = some q) {dc : Nat → ClassId} {x0 : Nat} {th : Int} {u : Int} {S : ctT} {x1 : Int32} {x2 : Int32}   : kRi l G (dC, dI) cl (tR52 dc) yX52_put (ws_ yX52_put cX52_put 4 (some .int)) ({ frames := 1, cells := 0, slots := 0, locals := 21 } : Room) [.ref x0, .int x1, .int x2] 0 0 (rR52 ci dc x0 th u S) (fun r w' => r = (ctPut x1.toInt x2.toInt S).1 ∧ rR52 ci dc x0 th u ((ctPut x1.toInt x2.toInt S).2) w') := by
  rintro sz w ⟨ad, rfl, h⟩
  exact q_wI (kX52_put (hc 0 _ rfl) ) (fun r w' hJ => ⟨hJ.1, ad, rfl, hJ.2⟩) sz w h
theorem kR52_type {l : Launch} {G : kGt} {dC : Nat → ClassId} {dI : Nat → Nat → Nat} {cl : List vw_C} {ci : Nat → Nat} (hc : ∀ i q, kR52[i]? = some q → cl[ci i]? = some q) {dc : Nat → ClassId} {x0 : Nat} {th : Int} {u : Int} {S : ctT} {x1 : Int32} {x2 : Int32}  (hi : zR x2.toInt) : kRi l G (dC, dI) cl (tR52 dc) yX52_type (ws_ yX52_type cX52_type 7 (some .int)) ({ frames := 3, cells := 0, slots := 0, locals := 69 } : Room) [.ref x0, .int x1, .int x2] 0 0 (rR52 ci dc x0 th u S) (fun r w' => r = (ctType x1.toInt x2.toInt S) ∧ rR52 ci dc x0 th u S w') := by
  rintro sz w ⟨ad, rfl, h⟩
  exact q_wI (kX52_type (hc 0 _ rfl) hi) (fun r w' hJ => ⟨hJ.1, ad, rfl, hJ.2⟩) sz w h
theorem kR52_trace {l : Launch} {G : kGt} {dC : Nat → ClassId} {dI : Nat → Nat → Nat} {cl : List vw_C} {ci : Nat → Nat} (hc : ∀ i q, kR52[i]? = some q → cl[ci i]? = some q) {dc : Nat → ClassId} {x0 : Nat} {th : Int} {u : Int} {S : ctT} {x1 : Int32} {x2 : Int32} {x3 : Int32}  (hi : zR x3.toInt) : kRi l G (dC, dI) cl (tR52 dc) yX52_trace (ws_ yX52_trace cX52_trace 8 (some .int)) ({ frames := 2, cells := 0, slots := 0, locals := 47 } : Room) [.ref x0, .int x1, .int x2, .int x3] 0 0 (rR52 ci dc x0 th u S) (fun r w' => r = (ctTrace x1.toInt x2.toInt x3.toInt S) ∧ rR52 ci dc x0 th u S w') := by
  rintro sz w ⟨ad, rfl, h⟩
  exact q_wI (kX52_trace (hc 0 _ rfl) hi) (fun r w' hJ => ⟨hJ.1, ad, rfl, hJ.2⟩) sz w h
theorem kR52_count {l : Launch} {G : kGt} {dC : Nat → ClassId} {dI : Nat → Nat → Nat} {cl : List vw_C} {ci : Nat → Nat} (hc : ∀ i q, kR52[i]? = some q → cl[ci i]? = some q) {dc : Nat → ClassId} {x0 : Nat} {th : Int} {u : Int} {S : ctT} {x1 : Int32}   : kRi l G (dC, dI) cl (tR52 dc) yX52_count (ws_ yX52_count cX52_count 4 (some .int)) ({ frames := 1, cells := 0, slots := 0, locals := 22 } : Room) [.ref x0, .int x1] 0 0 (rR52 ci dc x0 th u S) (fun r w' => r = (ctCount x1.toInt S) ∧ rR52 ci dc x0 th u S w') := by
  rintro sz w ⟨ad, rfl, h⟩
  exact q_wI (kX52_count (hc 0 _ rfl) ) (fun r w' hJ => ⟨hJ.1, ad, rfl, hJ.2⟩) sz w h
