/-! X47: its contracts, its object at x0 (printed by tools/rkw.py) -/
set_option maxRecDepth 100000
abbrev kR47 : List vw_C := [(RX47, TX47, 27)]
abbrev tR47 (d : Nat → ClassId) : List (ClassId × FieldType) := tX47 d
def rR47 (ci : Nat → Nat) (dc : Nat → ClassId) (x0 : Nat) (th : Int) (S : cnT) (w : va_W) : Prop := ∃ ad : Nat → Nat, ad 0 = x0 ∧ rX47 (ci 0) ad dc th S w
theorem rR47_recv {ci : Nat → Nat} {dc : Nat → ClassId} {x0 : Nat} {th : Int} {S : cnT} {w : va_W} (h : rR47 ci dc x0 th S w) : ∃ fs, (x0, .inr (ci 0, fs)) ∈ w := by
  obtain ⟨ad, rfl, h⟩ := h
  obtain ⟨_, _, _, _, _, _, _, _, _, _, _, _, _, _, _, _, _, _, _, _, _, _, _, _, _, _, _, rfl, -⟩ := h
  exact ⟨_, List.Mem.head _⟩
theorem kR47_blank {l : Launch} {G : kGt} {dC : Nat → ClassId} {dI : Nat → Nat → Nat} {cl : List vw_C} {ci : Nat → Nat} (hc : ∀ i q, kR47[i]? = some q → cl[ci i]? = some q) {dc : Nat → ClassId} {x0 : Nat} {th : Int} {S : cnT}    : kRi l G (dC, dI) cl (tR47 dc) yX47_blank (ws_ yX47_blank cX47_blank 1 (some .int)) ({ frames := 0, cells := 0, slots := 0, locals := 0 } : Room) [.ref x0] 0 0 (rR47 ci dc x0 th S) (fun r w' => r = (cnqBlank S).1 ∧ rR47 ci dc x0 0 ((cnqBlank S).2) w') := by
  rintro sz w ⟨ad, rfl, h⟩
  exact q_wI (kX47_blank (hc 0 _ rfl) ) (fun r w' hJ => ⟨hJ.1, ad, rfl, hJ.2⟩) sz w h
theorem kR47_triple {l : Launch} {G : kGt} {dC : Nat → ClassId} {dI : Nat → Nat → Nat} {cl : List vw_C} {ci : Nat → Nat} (hc : ∀ i q, kR47[i]? = some q → cl[ci i]? = some q) {dc : Nat → ClassId} {x0 : Nat} {th : Int} {S : cnT} {x1 : Int32} {x2 : Int32} {x3 : Int32}   : kRi l G (dC, dI) cl (tR47 dc) yX47_triple (ws_ yX47_triple cX47_triple 5 (some .int)) ({ frames := 2, cells := 0, slots := 0, locals := 47 } : Room) [.ref x0, .int x1, .int x2, .int x3] 0 0 (rR47 ci dc x0 th S) (fun r w' => r = (cnqTriple (x1.toInt, x2.toInt, x3.toInt) S).1 ∧ rR47 ci dc x0 0 ((cnqTriple (x1.toInt, x2.toInt, x3.toInt) S).2) w') := by
  rintro sz w ⟨ad, rfl, h⟩
  exact q_wI (kX47_triple (hc 0 _ rfl) ) (fun r w' hJ => ⟨hJ.1, ad, rfl, hJ.2⟩) sz w h
theorem kR47_drop {l : Launch} {G : kGt} {dC : Nat → ClassId} {dI : Nat → Nat → Nat} {cl : List vw_C} {ci : Nat → Nat} (hc : ∀ i q, kR47[i]? = some q → cl[ci i]? = some q) {dc : Nat → ClassId} {x0 : Nat} {th : Int} {S : cnT} {x1 : Int32} {x2 : Int32} {x3 : Int32}   : kRi l G (dC, dI) cl (tR47 dc) yX47_drop (ws_ yX47_drop cX47_drop 6 (some .int)) ({ frames := 2, cells := 0, slots := 0, locals := 47 } : Room) [.ref x0, .int x1, .int x2, .int x3] 0 0 (rR47 ci dc x0 th S) (fun r w' => r = (cnqDrop (x1.toInt, x2.toInt, x3.toInt) S).1 ∧ rR47 ci dc x0 0 ((cnqDrop (x1.toInt, x2.toInt, x3.toInt) S).2) w') := by
  rintro sz w ⟨ad, rfl, h⟩
  exact q_wI (kX47_drop (hc 0 _ rfl) ) (fun r w' hJ => ⟨hJ.1, ad, rfl, hJ.2⟩) sz w h
theorem kR47_keep {l : Launch} {G : kGt} {dC : Nat → ClassId} {dI : Nat → Nat → Nat} {cl : List vw_C} {ci : Nat → Nat} (hc : ∀ i q, kR47[i]? = some q → cl[ci i]? = some q) {dc : Nat → ClassId} {x0 : Nat} {th : Int} {S : cnT}    : kRi l G (dC, dI) cl (tR47 dc) yX47_keep (ws_ yX47_keep cX47_keep 2 (some .int)) ({ frames := 0, cells := 0, slots := 0, locals := 0 } : Room) [.ref x0] 0 0 (rR47 ci dc x0 th S) (fun r w' => r = (cnqKeep S).1 ∧ rR47 ci dc x0 0 ((cnqKeep S).2) w') := by
  rintro sz w ⟨ad, rfl, h⟩
  exact q_wI (kX47_keep (hc 0 _ rfl) ) (fun r w' hJ => ⟨hJ.1, ad, rfl, hJ.2⟩) sz w h
theorem kR47_hash {l : Launch} {G : kGt} {dC : Nat → ClassId} {dI : Nat → Nat → Nat} {cl : List vw_C} {ci : Nat → Nat} (hc : ∀ i q, kR47[i]? = some q → cl[ci i]? = some q) {dc : Nat → ClassId} {x0 : Nat} {th : Int} {S : cnT} {x1 : Int32} {x2 : Int32}   : kRi l G (dC, dI) cl (tR47 dc) yX47_hash (ws_ yX47_hash cX47_hash 3 (some .int)) ({ frames := 5, cells := 0, slots := 0, locals := 135 } : Room) [.ref x0, .int x1, .int x2] 0 0 (rR47 ci dc x0 th S) (fun r w' => r = (cnqHash x1.toInt x2.toInt S) ∧ rR47 ci dc x0 0 S w') := by
  rintro sz w ⟨ad, rfl, h⟩
  exact q_wI (kX47_hash (hc 0 _ rfl) ) (fun r w' hJ => ⟨hJ.1, ad, rfl, hJ.2⟩) sz w h
theorem kR47_rounds {l : Launch} {G : kGt} {dC : Nat → ClassId} {dI : Nat → Nat → Nat} {cl : List vw_C} {ci : Nat → Nat} (hc : ∀ i q, kR47[i]? = some q → cl[ci i]? = some q) {dc : Nat → ClassId} {x0 : Nat} {th : Int} {S : cnT}    : kRi l G (dC, dI) cl (tR47 dc) yX47_rounds (ws_ yX47_rounds cX47_rounds 1 (some .int)) ({ frames := 5, cells := 0, slots := 0, locals := 135 } : Room) [.ref x0] 0 0 (rR47 ci dc x0 th S) (fun r w' => r = (cnqRounds S) ∧ rR47 ci dc x0 0 S w') := by
  rintro sz w ⟨ad, rfl, h⟩
  exact q_wI (kX47_rounds (hc 0 _ rfl) ) (fun r w' hJ => ⟨hJ.1, ad, rfl, hJ.2⟩) sz w h
theorem kR47_first {l : Launch} {G : kGt} {dC : Nat → ClassId} {dI : Nat → Nat → Nat} {cl : List vw_C} {ci : Nat → Nat} (hc : ∀ i q, kR47[i]? = some q → cl[ci i]? = some q) {dc : Nat → ClassId} {x0 : Nat} {th : Int} {S : cnT} {x1 : Int32} {x2 : Int32}  (hi : x2.toInt < 2147483648) : kRi l G (dC, dI) cl (tR47 dc) yX47_first (ws_ yX47_first cX47_first 5 (some .int)) ({ frames := 5, cells := 0, slots := 0, locals := 135 } : Room) [.ref x0, .int x1, .int x2] 0 0 (rR47 ci dc x0 th S) (fun r w' => r = (cnqFirst x1.toInt x2.toInt S) ∧ rR47 ci dc x0 0 S w') := by
  rintro sz w ⟨ad, rfl, h⟩
  exact q_wI (kX47_first (hc 0 _ rfl) hi) (fun r w' hJ => ⟨hJ.1, ad, rfl, hJ.2⟩) sz w h
theorem kR47_name {l : Launch} {G : kGt} {dC : Nat → ClassId} {dI : Nat → Nat → Nat} {cl : List vw_C} {ci : Nat → Nat} (hc : ∀ i q, kR47[i]? = some q → cl[ci i]? = some q) {dc : Nat → ClassId} {x0 : Nat} {th : Int} {S : cnT} {x1 : Int64}   : kRi l G (dC, dI) cl (tR47 dc) yX47_name (ws_ yX47_name cX47_name 7 (some .int)) ({ frames := 5, cells := 0, slots := 0, locals := 135 } : Room) [.ref x0, .long x1] 0 0 (rR47 ci dc x0 th S) (fun r w' => r = (cnqName x1.toInt S).1 ∧ rR47 ci dc x0 0 ((cnqName x1.toInt S).2) w') := by
  rintro sz w ⟨ad, rfl, h⟩
  exact q_wI (kX47_name (hc 0 _ rfl) ) (fun r w' hJ => ⟨hJ.1, ad, rfl, hJ.2⟩) sz w h
theorem kR47_blanks {l : Launch} {G : kGt} {dC : Nat → ClassId} {dI : Nat → Nat → Nat} {cl : List vw_C} {ci : Nat → Nat} (hc : ∀ i q, kR47[i]? = some q → cl[ci i]? = some q) {dc : Nat → ClassId} {x0 : Nat} {th : Int} {S : cnT}    : kRi l G (dC, dI) cl (tR47 dc) yX47_blanks (ws_ yX47_blanks cX47_blanks 1 (some .int)) ({ frames := 0, cells := 0, slots := 0, locals := 0 } : Room) [.ref x0] 0 0 (rR47 ci dc x0 th S) (fun r w' => r = (cnqBlanks S) ∧ rR47 ci dc x0 0 S w') := by
  rintro sz w ⟨ad, rfl, h⟩
  exact q_wI (kX47_blanks (hc 0 _ rfl) ) (fun r w' hJ => ⟨hJ.1, ad, rfl, hJ.2⟩) sz w h
theorem kR47_triples {l : Launch} {G : kGt} {dC : Nat → ClassId} {dI : Nat → Nat → Nat} {cl : List vw_C} {ci : Nat → Nat} (hc : ∀ i q, kR47[i]? = some q → cl[ci i]? = some q) {dc : Nat → ClassId} {x0 : Nat} {th : Int} {S : cnT}    : kRi l G (dC, dI) cl (tR47 dc) yX47_triples (ws_ yX47_triples cX47_triples 1 (some .int)) ({ frames := 0, cells := 0, slots := 0, locals := 0 } : Room) [.ref x0] 0 0 (rR47 ci dc x0 th S) (fun r w' => r = (cnqTriples S) ∧ rR47 ci dc x0 0 S w') := by
  rintro sz w ⟨ad, rfl, h⟩
  exact q_wI (kX47_triples (hc 0 _ rfl) ) (fun r w' hJ => ⟨hJ.1, ad, rfl, hJ.2⟩) sz w h
theorem kR47_named {l : Launch} {G : kGt} {dC : Nat → ClassId} {dI : Nat → Nat → Nat} {cl : List vw_C} {ci : Nat → Nat} (hc : ∀ i q, kR47[i]? = some q → cl[ci i]? = some q) {dc : Nat → ClassId} {x0 : Nat} {th : Int} {S : cnT} {x1 : Int32}   : kRi l G (dC, dI) cl (tR47 dc) yX47_named (ws_ yX47_named cX47_named 2 (some .int)) ({ frames := 0, cells := 0, slots := 0, locals := 0 } : Room) [.ref x0, .int x1] 0 0 (rR47 ci dc x0 th S) (fun r w' => r = (cnqNamed x1.toInt S) ∧ rR47 ci dc x0 0 S w') := by
  rintro sz w ⟨ad, rfl, h⟩
  exact q_wI (kX47_named (hc 0 _ rfl) ) (fun r w' hJ => ⟨hJ.1, ad, rfl, hJ.2⟩) sz w h
theorem kR47_form {l : Launch} {G : kGt} {dC : Nat → ClassId} {dI : Nat → Nat → Nat} {cl : List vw_C} {ci : Nat → Nat} (hc : ∀ i q, kR47[i]? = some q → cl[ci i]? = some q) {dc : Nat → ClassId} {x0 : Nat} {th : Int} {S : cnT} {x1 : Int32} {x2 : Int32}   : kRi l G (dC, dI) cl (tR47 dc) yX47_form (ws_ yX47_form cX47_form 3 (some .int)) ({ frames := 0, cells := 0, slots := 0, locals := 0 } : Room) [.ref x0, .int x1, .int x2] 0 0 (rR47 ci dc x0 th S) (fun r w' => r = (cnqForm x1.toInt x2.toInt S) ∧ rR47 ci dc x0 0 S w') := by
  rintro sz w ⟨ad, rfl, h⟩
  exact q_wI (kX47_form (hc 0 _ rfl) ) (fun r w' hJ => ⟨hJ.1, ad, rfl, hJ.2⟩) sz w h
theorem kR47_ways {l : Launch} {G : kGt} {dC : Nat → ClassId} {dI : Nat → Nat → Nat} {cl : List vw_C} {ci : Nat → Nat} (hc : ∀ i q, kR47[i]? = some q → cl[ci i]? = some q) {dc : Nat → ClassId} {x0 : Nat} {th : Int} {S : cnT} {x1 : Int32}   : kRi l G (dC, dI) cl (tR47 dc) yX47_ways (ws_ yX47_ways cX47_ways 5 (some .int)) ({ frames := 3, cells := 0, slots := 0, locals := 70 } : Room) [.ref x0, .int x1] 0 0 (rR47 ci dc x0 th S) (fun r w' => r = (cnqWays x1.toInt S) ∧ rR47 ci dc x0 0 S w') := by
  rintro sz w ⟨ad, rfl, h⟩
  exact q_wI (kX47_ways (hc 0 _ rfl) ) (fun r w' hJ => ⟨hJ.1, ad, rfl, hJ.2⟩) sz w h
theorem kR47_isomorphic {l : Launch} {G : kGt} {dC : Nat → ClassId} {dI : Nat → Nat → Nat} {cl : List vw_C} {ci : Nat → Nat} (hc : ∀ i q, kR47[i]? = some q → cl[ci i]? = some q) {dc : Nat → ClassId} {x0 : Nat} {th : Int} {S : cnT} {x1 : Int32}   : kRi l G (dC, dI) cl (tR47 dc) yX47_isomorphic (ws_ yX47_isomorphic cX47_isomorphic 3 (some .int)) ({ frames := 4, cells := 0, slots := 0, locals := 94 } : Room) [.ref x0, .int x1] 0 0 (rR47 ci dc x0 th S) (fun r w' => r = (cnqIso x1.toInt S) ∧ rR47 ci dc x0 0 S w') := by
  rintro sz w ⟨ad, rfl, h⟩
  exact q_wI (kX47_isomorphic (hc 0 _ rfl) ) (fun r w' hJ => ⟨hJ.1, ad, rfl, hJ.2⟩) sz w h
theorem kR47_equal {l : Launch} {G : kGt} {dC : Nat → ClassId} {dI : Nat → Nat → Nat} {cl : List vw_C} {ci : Nat → Nat} (hc : ∀ i q, kR47[i]? = some q → cl[ci i]? = some q) {dc : Nat → ClassId} {x0 : Nat} {th : Int} {S : cnT} {x1 : Int32}   : kRi l G (dC, dI) cl (tR47 dc) yX47_equal (ws_ yX47_equal cX47_equal 2 (some .int)) ({ frames := 3, cells := 0, slots := 0, locals := 70 } : Room) [.ref x0, .int x1] 0 0 (rR47 ci dc x0 th S) (fun r w' => r = (cnqEqual x1.toInt S) ∧ rR47 ci dc x0 0 S w') := by
  rintro sz w ⟨ad, rfl, h⟩
  exact q_wI (kX47_equal (hc 0 _ rfl) ) (fun r w' hJ => ⟨hJ.1, ad, rfl, hJ.2⟩) sz w h
