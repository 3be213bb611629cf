/-! X49: its contracts, its object at x0 (printed by tools/rkw.py) -/
set_option maxRecDepth 100000
abbrev kR49 : List vw_C := [(RX49, TX49, 21)]
abbrev tR49 (d : Nat → ClassId) : List (ClassId × FieldType) := tX49 d
def rR49 (ci : Nat → Nat) (dc : Nat → ClassId) (x0 : Nat) (th : Int) (S : dvS) (w : va_W) : Prop := ∃ ad : Nat → Nat, ad 0 = x0 ∧ rX49 (ci 0) ad dc th S w
theorem rR49_recv {ci : Nat → Nat} {dc : Nat → ClassId} {x0 : Nat} {th : Int} {S : dvS} {w : va_W} (h : rR49 ci dc x0 th S w) : ∃ fs, (x0, .inr (ci 0, fs)) ∈ w := by
  obtain ⟨ad, rfl, h⟩ := h
  obtain ⟨_, _, _, _, _, _, _, _, _, _, _, _, _, _, _, _, _, _, _, _, _, rfl, -⟩ := h
  exact ⟨_, List.Mem.head _⟩
theorem kR49_type {l : Launch} {G : kGt} {dC : Nat → ClassId} {dI : Nat → Nat → Nat} {cl : List vw_C} {ci : Nat → Nat} (hc : ∀ i q, kR49[i]? = some q → cl[ci i]? = some q) {dc : Nat → ClassId} {x0 : Nat} {th : Int} {S : dvS} {x1 : Int64} {x3 : Int32}  (hn : zR x3.toInt) : kRi l G (dC, dI) cl (tR49 dc) yX49_type (ws_ yX49_type cX49_type 5 (some .int)) ({ frames := 0, cells := 0, slots := 0, locals := 0 } : Room) [.ref x0, .long x1, .int x3] 0 0 (rR49 ci dc x0 th S) (fun r w' => r = (dqType x1.toInt x3.toInt S).1 ∧ rR49 ci dc x0 0 ((dqType x1.toInt x3.toInt S).2) w') := by
  rintro sz w ⟨ad, rfl, h⟩
  exact q_wI (kX49_type (hc 0 _ rfl) hn) (fun r w' hJ => ⟨hJ.1, ad, rfl, hJ.2⟩) sz w h
theorem kR49_read {l : Launch} {G : kGt} {dC : Nat → ClassId} {dI : Nat → Nat → Nat} {cl : List vw_C} {ci : Nat → Nat} (hc : ∀ i q, kR49[i]? = some q → cl[ci i]? = some q) {dc : Nat → ClassId} {x0 : Nat} {th : Int} {S : dvS} {x1 : Int32}   : kRi l G (dC, dI) cl (tR49 dc) yX49_read (ws_ yX49_read cX49_read 2 (some .int)) ({ frames := 9, cells := 0, slots := 0, locals := 214 } : Room) [.ref x0, .int x1] 0 0 (rR49 ci dc x0 th S) (fun r w' => r = (dqRead x1.toInt S).1 ∧ rR49 ci dc x0 0 ((dqRead x1.toInt S).2) w') := by
  rintro sz w ⟨ad, rfl, h⟩
  exact q_wI (kX49_read (hc 0 _ rfl) ) (fun r w' hJ => ⟨hJ.1, ad, rfl, hJ.2⟩) sz w h
theorem kR49_values {l : Launch} {G : kGt} {dC : Nat → ClassId} {dI : Nat → Nat → Nat} {cl : List vw_C} {ci : Nat → Nat} (hc : ∀ i q, kR49[i]? = some q → cl[ci i]? = some q) {dc : Nat → ClassId} {x0 : Nat} {th : Int} {S : dvS}    : kRi l G (dC, dI) cl (tR49 dc) yX49_values (ws_ yX49_values cX49_values 1 (some .int)) ({ frames := 0, cells := 0, slots := 0, locals := 0 } : Room) [.ref x0] 0 0 (rR49 ci dc x0 th S) (fun r w' => r = (dqValues S) ∧ rR49 ci dc x0 0 S w') := by
  rintro sz w ⟨ad, rfl, h⟩
  exact q_wI (kX49_values (hc 0 _ rfl) ) (fun r w' hJ => ⟨hJ.1, ad, rfl, hJ.2⟩) sz w h
theorem kR49_kind {l : Launch} {G : kGt} {dC : Nat → ClassId} {dI : Nat → Nat → Nat} {cl : List vw_C} {ci : Nat → Nat} (hc : ∀ i q, kR49[i]? = some q → cl[ci i]? = some q) {dc : Nat → ClassId} {x0 : Nat} {th : Int} {S : dvS} {x1 : Int32}   : kRi l G (dC, dI) cl (tR49 dc) yX49_kind (ws_ yX49_kind cX49_kind 2 (some .int)) ({ frames := 1, cells := 0, slots := 0, locals := 21 } : Room) [.ref x0, .int x1] 0 0 (rR49 ci dc x0 th S) (fun r w' => r = (dqKind x1.toInt S) ∧ rR49 ci dc x0 0 S w') := by
  rintro sz w ⟨ad, rfl, h⟩
  exact q_wI (kX49_kind (hc 0 _ rfl) ) (fun r w' hJ => ⟨hJ.1, ad, rfl, hJ.2⟩) sz w h
theorem kR49_part {l : Launch} {G : kGt} {dC : Nat → ClassId} {dI : Nat → Nat → Nat} {cl : List vw_C} {ci : Nat → Nat} (hc : ∀ i q, kR49[i]? = some q → cl[ci i]? = some q) {dc : Nat → ClassId} {x0 : Nat} {th : Int} {S : dvS} {x1 : Int32} {x2 : Int32}   : kRl l G (dC, dI) cl (tR49 dc) yX49_part (ws_ yX49_part cX49_part 3 (some .long)) ({ frames := 1, cells := 0, slots := 0, locals := 21 } : Room) [.ref x0, .int x1, .int x2] 0 0 (rR49 ci dc x0 th S) (fun r w' => r = (dqPart x1.toInt x2.toInt S) ∧ rR49 ci dc x0 0 S w') := by
  rintro sz w ⟨ad, rfl, h⟩
  exact q_wL (kX49_part (hc 0 _ rfl) ) (fun r w' hJ => ⟨hJ.1, ad, rfl, hJ.2⟩) sz w h
theorem kR49_byteOf {l : Launch} {G : kGt} {dC : Nat → ClassId} {dI : Nat → Nat → Nat} {cl : List vw_C} {ci : Nat → Nat} (hc : ∀ i q, kR49[i]? = some q → cl[ci i]? = some q) {dc : Nat → ClassId} {x0 : Nat} {th : Int} {S : dvS} {x1 : Int32} {x2 : Int32}   : kRi l G (dC, dI) cl (tR49 dc) yX49_byteOf (ws_ yX49_byteOf cX49_byteOf 3 (some .int)) ({ frames := 1, cells := 0, slots := 0, locals := 21 } : Room) [.ref x0, .int x1, .int x2] 0 0 (rR49 ci dc x0 th S) (fun r w' => r = (dqByteOf x1.toInt x2.toInt S) ∧ rR49 ci dc x0 0 S w') := by
  rintro sz w ⟨ad, rfl, h⟩
  exact q_wI (kX49_byteOf (hc 0 _ rfl) ) (fun r w' hJ => ⟨hJ.1, ad, rfl, hJ.2⟩) sz w h
theorem kR49_compare {l : Launch} {G : kGt} {dC : Nat → ClassId} {dI : Nat → Nat → Nat} {cl : List vw_C} {ci : Nat → Nat} (hc : ∀ i q, kR49[i]? = some q → cl[ci i]? = some q) {dc : Nat → ClassId} {x0 : Nat} {th : Int} {S : dvS} {x1 : Int32} {x2 : Int32}   : kRi l G (dC, dI) cl (tR49 dc) yX49_compare (ws_ yX49_compare cX49_compare 3 (some .int)) ({ frames := 8, cells := 0, slots := 0, locals := 204 } : Room) [.ref x0, .int x1, .int x2] 0 0 (rR49 ci dc x0 th S) (fun r w' => r = (dqCompare x1.toInt x2.toInt S) ∧ rR49 ci dc x0 0 S w') := by
  rintro sz w ⟨ad, rfl, h⟩
  exact q_wI (kX49_compare (hc 0 _ rfl) ) (fun r w' hJ => ⟨hJ.1, ad, rfl, hJ.2⟩) sz w h
theorem kR49_tell {l : Launch} {G : kGt} {dC : Nat → ClassId} {dI : Nat → Nat → Nat} {cl : List vw_C} {ci : Nat → Nat} (hc : ∀ i q, kR49[i]? = some q → cl[ci i]? = some q) {dc : Nat → ClassId} {x0 : Nat} {th : Int} {S : dvS} {x1 : Int32}   : kRi l G (dC, dI) cl (tR49 dc) yX49_tell (ws_ yX49_tell cX49_tell 2 (some .int)) ({ frames := 7, cells := 0, slots := 0, locals := 170 } : Room) [.ref x0, .int x1] 0 0 (rR49 ci dc x0 th S) (fun r w' => r = (dqTell x1.toInt S).1 ∧ rR49 ci dc x0 0 ((dqTell x1.toInt S).2) w') := by
  rintro sz w ⟨ad, rfl, h⟩
  exact q_wI (kX49_tell (hc 0 _ rfl) ) (fun r w' hJ => ⟨hJ.1, ad, rfl, hJ.2⟩) sz w h
theorem kR49_told {l : Launch} {G : kGt} {dC : Nat → ClassId} {dI : Nat → Nat → Nat} {cl : List vw_C} {ci : Nat → Nat} (hc : ∀ i q, kR49[i]? = some q → cl[ci i]? = some q) {dc : Nat → ClassId} {x0 : Nat} {th : Int} {S : dvS} {x1 : Int32}   : kRi l G (dC, dI) cl (tR49 dc) yX49_told (ws_ yX49_told cX49_told 2 (some .int)) ({ frames := 0, cells := 0, slots := 0, locals := 0 } : Room) [.ref x0, .int x1] 0 0 (rR49 ci dc x0 th S) (fun r w' => r = (dqTold x1.toInt S) ∧ rR49 ci dc x0 0 S w') := by
  rintro sz w ⟨ad, rfl, h⟩
  exact q_wI (kX49_told (hc 0 _ rfl) ) (fun r w' hJ => ⟨hJ.1, ad, rfl, hJ.2⟩) sz w h
theorem kR49_apply {l : Launch} {G : kGt} {dC : Nat → ClassId} {dI : Nat → Nat → Nat} {cl : List vw_C} {ci : Nat → Nat} (hc : ∀ i q, kR49[i]? = some q → cl[ci i]? = some q) {dc : Nat → ClassId} {x0 : Nat} {th : Int} {S : dvS} {x1 : Int32} {x2 : Int32} {x3 : Int32}  (hop : zR x1.toInt) : kRi l G (dC, dI) cl (tR49 dc) yX49_apply (ws_ yX49_apply cX49_apply 5 (some .int)) ({ frames := 8, cells := 0, slots := 0, locals := 203 } : Room) [.ref x0, .int x1, .int x2, .int x3] 0 0 (rR49 ci dc x0 th S) (fun r w' => r = (dqApply x1.toInt x2.toInt x3.toInt S).1 ∧ rR49 ci dc x0 0 ((dqApply x1.toInt x2.toInt x3.toInt S).2) w') := by
  rintro sz w ⟨ad, rfl, h⟩
  exact q_wI (kX49_apply (hc 0 _ rfl) hop) (fun r w' hJ => ⟨hJ.1, ad, rfl, hJ.2⟩) sz w h
