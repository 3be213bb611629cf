/-! X55: its contracts, its object at x0 (printed by tools/rkw.py) -/
set_option maxRecDepth 100000
abbrev kR55 : List vw_C := [(RX55, TX55, 28)]
abbrev tR55 (d : Nat → ClassId) : List (ClassId × FieldType) := tX55 d
def rR55 (ci : Nat → Nat) (dc : Nat → ClassId) (x0 : Nat) (S : reT) (w : va_W) : Prop := ∃ ad : Nat → Nat, ad 0 = x0 ∧ rX55 (ci 0) ad dc S w
theorem rR55_recv {ci : Nat → Nat} {dc : Nat → ClassId} {x0 : Nat} {S : reT} {w : va_W} (h : rR55 ci dc x0 S w) : ∃ fs, (x0, .inr (ci 0, fs)) ∈ w := by
  obtain ⟨ad, rfl, h⟩ := h
  obtain ⟨_, _, _, _, _, _, _, _, _, _, _, _, _, _, _, _, _, _, _, _, _, _, _, _, _, _, _, _, rfl, -⟩ := h
  exact ⟨_, List.Mem.head _⟩
theorem kR55_fact {l : Launch} {G : kGt} {dC : Nat → ClassId} {dI : Nat → Nat → Nat} {cl : List vw_C} {ci : Nat → Nat} (hc : ∀ i q, kR55[i]? = some q → cl[ci i]? = some q) {dc : Nat → ClassId} {x0 : Nat} {S : reT} {x1 : Int32} {x2 : Int32} {x3 : Int32}   : kRi l G (dC, dI) cl (tR55 dc) yX55_fact (ws_ yX55_fact cX55_fact 4 (some .int)) ({ frames := 2, cells := 0, slots := 0, locals := 42 } : Room) [.ref x0, .int x1, .int x2, .int x3] 0 0 (rR55 ci dc x0 S) (fun r w' => r = (rqFact x1.toInt x2.toInt x3.toInt S).1 ∧ rR55 ci dc x0 ((rqFact x1.toInt x2.toInt x3.toInt S).2) w') := by
  rintro sz w ⟨ad, rfl, h⟩
  exact q_wI (kX55_fact (hc 0 _ rfl) ) (fun r w' hJ => ⟨hJ.1, ad, rfl, hJ.2⟩) sz w h
theorem kR55_remove {l : Launch} {G : kGt} {dC : Nat → ClassId} {dI : Nat → Nat → Nat} {cl : List vw_C} {ci : Nat → Nat} (hc : ∀ i q, kR55[i]? = some q → cl[ci i]? = some q) {dc : Nat → ClassId} {x0 : Nat} {S : reT} {x1 : Int32} {x2 : Int32} {x3 : Int32}   : kRi l G (dC, dI) cl (tR55 dc) yX55_remove (ws_ yX55_remove cX55_remove 4 (some .int)) ({ frames := 2, cells := 0, slots := 0, locals := 42 } : Room) [.ref x0, .int x1, .int x2, .int x3] 0 0 (rR55 ci dc x0 S) (fun r w' => r = (rqRemove x1.toInt x2.toInt x3.toInt S).1 ∧ rR55 ci dc x0 ((rqRemove x1.toInt x2.toInt x3.toInt S).2) w') := by
  rintro sz w ⟨ad, rfl, h⟩
  exact q_wI (kX55_remove (hc 0 _ rfl) ) (fun r w' hJ => ⟨hJ.1, ad, rfl, hJ.2⟩) sz w h
theorem kR55_rule {l : Launch} {G : kGt} {dC : Nat → ClassId} {dI : Nat → Nat → Nat} {cl : List vw_C} {ci : Nat → Nat} (hc : ∀ i q, kR55[i]? = some q → cl[ci i]? = some q) {dc : Nat → ClassId} {x0 : Nat} {S : reT} {x1 : Int32} {x2 : Int32} {x3 : Int32}   : kRi l G (dC, dI) cl (tR55 dc) yX55_rule (ws_ yX55_rule cX55_rule 4 (some .int)) ({ frames := 1, cells := 0, slots := 0, locals := 20 } : Room) [.ref x0, .int x1, .int x2, .int x3] 0 0 (rR55 ci dc x0 S) (fun r w' => r = (rqRule x1.toInt x2.toInt x3.toInt S).1 ∧ rR55 ci dc x0 ((rqRule x1.toInt x2.toInt x3.toInt S).2) w') := by
  rintro sz w ⟨ad, rfl, h⟩
  exact q_wI (kX55_rule (hc 0 _ rfl) ) (fun r w' hJ => ⟨hJ.1, ad, rfl, hJ.2⟩) sz w h
theorem kR55_body {l : Launch} {G : kGt} {dC : Nat → ClassId} {dI : Nat → Nat → Nat} {cl : List vw_C} {ci : Nat → Nat} (hc : ∀ i q, kR55[i]? = some q → cl[ci i]? = some q) {dc : Nat → ClassId} {x0 : Nat} {S : reT} {x1 : Int32} {x2 : Int32} {x3 : Int32} {x4 : Int32} {x5 : Int32}   : kRi l G (dC, dI) cl (tR55 dc) yX55_body (ws_ yX55_body cX55_body 6 (some .int)) ({ frames := 1, cells := 0, slots := 0, locals := 26 } : Room) [.ref x0, .int x1, .int x2, .int x3, .int x4, .int x5] 0 0 (rR55 ci dc x0 S) (fun r w' => r = (rqPart 16 x1.toInt (if x5.toInt = 0 then 0 else 1) x2.toInt x3.toInt x4.toInt S).1 ∧ rR55 ci dc x0 ((rqPart 16 x1.toInt (if x5.toInt = 0 then 0 else 1) x2.toInt x3.toInt x4.toInt S).2) w') := by
  rintro sz w ⟨ad, rfl, h⟩
  exact q_wI (kX55_body (hc 0 _ rfl) ) (fun r w' hJ => ⟨hJ.1, ad, rfl, hJ.2⟩) sz w h
theorem kR55_filter {l : Launch} {G : kGt} {dC : Nat → ClassId} {dI : Nat → Nat → Nat} {cl : List vw_C} {ci : Nat → Nat} (hc : ∀ i q, kR55[i]? = some q → cl[ci i]? = some q) {dc : Nat → ClassId} {x0 : Nat} {S : reT} {x1 : Int32} {x2 : Int32} {x3 : Int32} {x4 : Int32}   : kRi l G (dC, dI) cl (tR55 dc) yX55_filter (ws_ yX55_filter cX55_filter 5 (some .int)) ({ frames := 1, cells := 0, slots := 0, locals := 26 } : Room) [.ref x0, .int x1, .int x2, .int x3, .int x4] 0 0 (rR55 ci dc x0 S) (fun r w' => r = (rqPart 3 x1.toInt 2 x2.toInt x3.toInt x4.toInt S).1 ∧ rR55 ci dc x0 ((rqPart 3 x1.toInt 2 x2.toInt x3.toInt x4.toInt S).2) w') := by
  rintro sz w ⟨ad, rfl, h⟩
  exact q_wI (kX55_filter (hc 0 _ rfl) ) (fun r w' hJ => ⟨hJ.1, ad, rfl, hJ.2⟩) sz w h
theorem kR55_aggregate {l : Launch} {G : kGt} {dC : Nat → ClassId} {dI : Nat → Nat → Nat} {cl : List vw_C} {ci : Nat → Nat} (hc : ∀ i q, kR55[i]? = some q → cl[ci i]? = some q) {dc : Nat → ClassId} {x0 : Nat} {S : reT} {x1 : Int32} {x2 : Int32} {x3 : Int32}   : kRi l G (dC, dI) cl (tR55 dc) yX55_aggregate (ws_ yX55_aggregate cX55_aggregate 4 (some .int)) ({ frames := 1, cells := 0, slots := 0, locals := 21 } : Room) [.ref x0, .int x1, .int x2, .int x3] 0 0 (rR55 ci dc x0 S) (fun r w' => r = (rqAgg x1.toInt x2.toInt x3.toInt S).1 ∧ rR55 ci dc x0 ((rqAgg x1.toInt x2.toInt x3.toInt S).2) w') := by
  rintro sz w ⟨ad, rfl, h⟩
  exact q_wI (kX55_aggregate (hc 0 _ rfl) ) (fun r w' hJ => ⟨hJ.1, ad, rfl, hJ.2⟩) sz w h
theorem kR55_drop {l : Launch} {G : kGt} {dC : Nat → ClassId} {dI : Nat → Nat → Nat} {cl : List vw_C} {ci : Nat → Nat} (hc : ∀ i q, kR55[i]? = some q → cl[ci i]? = some q) {dc : Nat → ClassId} {x0 : Nat} {S : reT} {x1 : Int32}   : kRi l G (dC, dI) cl (tR55 dc) yX55_drop (ws_ yX55_drop cX55_drop 4 (some .int)) ({ frames := 1, cells := 0, slots := 0, locals := 21 } : Room) [.ref x0, .int x1] 0 0 (rR55 ci dc x0 S) (fun r w' => r = (rqDrop x1.toInt S).1 ∧ rR55 ci dc x0 ((rqDrop x1.toInt S).2) w') := by
  rintro sz w ⟨ad, rfl, h⟩
  exact q_wI (kX55_drop (hc 0 _ rfl) ) (fun r w' hJ => ⟨hJ.1, ad, rfl, hJ.2⟩) sz w h
theorem kR55_safe {l : Launch} {G : kGt} {dC : Nat → ClassId} {dI : Nat → Nat → Nat} {cl : List vw_C} {ci : Nat → Nat} (hc : ∀ i q, kR55[i]? = some q → cl[ci i]? = some q) {dc : Nat → ClassId} {x0 : Nat} {S : reT} {x1 : Int32}   : kRi l G (dC, dI) cl (tR55 dc) yX55_safe (ws_ yX55_safe cX55_safe 2 (some .int)) ({ frames := 2, cells := 0, slots := 0, locals := 49 } : Room) [.ref x0, .int x1] 0 0 (rR55 ci dc x0 S) (fun r w' => r = (rqSafe x1.toInt S) ∧ rR55 ci dc x0 S w') := by
  rintro sz w ⟨ad, rfl, h⟩
  exact q_wI (kX55_safe (hc 0 _ rfl) ) (fun r w' hJ => ⟨hJ.1, ad, rfl, hJ.2⟩) sz w h
theorem kR55_run {l : Launch} {G : kGt} {dC : Nat → ClassId} {dI : Nat → Nat → Nat} {cl : List vw_C} {ci : Nat → Nat} (hc : ∀ i q, kR55[i]? = some q → cl[ci i]? = some q) {dc : Nat → ClassId} {x0 : Nat} {S : reT}    : kRi l G (dC, dI) cl (tR55 dc) yX55_run (ws_ yX55_run cX55_run 1 (some .int)) ({ frames := 5, cells := 0, slots := 0, locals := 123 } : Room) [.ref x0] 0 0 (rR55 ci dc x0 S) (fun r w' => r = (rqRun S) ∧ rR55 ci dc x0 S w') := by
  rintro sz w ⟨ad, rfl, h⟩
  exact q_wI (kX55_run (hc 0 _ rfl) ) (fun r w' hJ => ⟨hJ.1, ad, rfl, hJ.2⟩) sz w h
theorem kR55_stratum {l : Launch} {G : kGt} {dC : Nat → ClassId} {dI : Nat → Nat → Nat} {cl : List vw_C} {ci : Nat → Nat} (hc : ∀ i q, kR55[i]? = some q → cl[ci i]? = some q) {dc : Nat → ClassId} {x0 : Nat} {S : reT} {x1 : Int32}   : kRi l G (dC, dI) cl (tR55 dc) yX55_stratum (ws_ yX55_stratum cX55_stratum 2 (some .int)) ({ frames := 5, cells := 0, slots := 0, locals := 123 } : Room) [.ref x0, .int x1] 0 0 (rR55 ci dc x0 S) (fun r w' => r = (rqStr x1.toInt S) ∧ rR55 ci dc x0 S w') := by
  rintro sz w ⟨ad, rfl, h⟩
  exact q_wI (kX55_stratum (hc 0 _ rfl) ) (fun r w' hJ => ⟨hJ.1, ad, rfl, hJ.2⟩) sz w h
theorem kR55_holds {l : Launch} {G : kGt} {dC : Nat → ClassId} {dI : Nat → Nat → Nat} {cl : List vw_C} {ci : Nat → Nat} (hc : ∀ i q, kR55[i]? = some q → cl[ci i]? = some q) {dc : Nat → ClassId} {x0 : Nat} {S : reT} {x1 : Int32} {x2 : Int32} {x3 : Int32}   : kRi l G (dC, dI) cl (tR55 dc) yX55_holds (ws_ yX55_holds cX55_holds 5 (some .int)) ({ frames := 5, cells := 0, slots := 0, locals := 123 } : Room) [.ref x0, .int x1, .int x2, .int x3] 0 0 (rR55 ci dc x0 S) (fun r w' => r = (rqHol x1.toInt x2.toInt x3.toInt S) ∧ rR55 ci dc x0 S w') := by
  rintro sz w ⟨ad, rfl, h⟩
  exact q_wI (kX55_holds (hc 0 _ rfl) ) (fun r w' hJ => ⟨hJ.1, ad, rfl, hJ.2⟩) sz w h
theorem kR55_round {l : Launch} {G : kGt} {dC : Nat → ClassId} {dI : Nat → Nat → Nat} {cl : List vw_C} {ci : Nat → Nat} (hc : ∀ i q, kR55[i]? = some q → cl[ci i]? = some q) {dc : Nat → ClassId} {x0 : Nat} {S : reT} {x1 : Int32} {x2 : Int32} {x3 : Int32}   : kRi l G (dC, dI) cl (tR55 dc) yX55_round (ws_ yX55_round cX55_round 5 (some .int)) ({ frames := 5, cells := 0, slots := 0, locals := 123 } : Room) [.ref x0, .int x1, .int x2, .int x3] 0 0 (rR55 ci dc x0 S) (fun r w' => r = (rqRou x1.toInt x2.toInt x3.toInt S) ∧ rR55 ci dc x0 S w') := by
  rintro sz w ⟨ad, rfl, h⟩
  exact q_wI (kX55_round (hc 0 _ rfl) ) (fun r w' hJ => ⟨hJ.1, ad, rfl, hJ.2⟩) sz w h
theorem kR55_counts {l : Launch} {G : kGt} {dC : Nat → ClassId} {dI : Nat → Nat → Nat} {cl : List vw_C} {ci : Nat → Nat} (hc : ∀ i q, kR55[i]? = some q → cl[ci i]? = some q) {dc : Nat → ClassId} {x0 : Nat} {S : reT} {x1 : Int32} {x2 : Int32} {x3 : Int32}   : kRi l G (dC, dI) cl (tR55 dc) yX55_counts (ws_ yX55_counts cX55_counts 4 (some .int)) ({ frames := 5, cells := 0, slots := 0, locals := 123 } : Room) [.ref x0, .int x1, .int x2, .int x3] 0 0 (rR55 ci dc x0 S) (fun r w' => r = (rqCou x1.toInt x2.toInt x3.toInt S) ∧ rR55 ci dc x0 S w') := by
  rintro sz w ⟨ad, rfl, h⟩
  exact q_wI (kX55_counts (hc 0 _ rfl) ) (fun r w' hJ => ⟨hJ.1, ad, rfl, hJ.2⟩) sz w h
theorem kR55_row {l : Launch} {G : kGt} {dC : Nat → ClassId} {dI : Nat → Nat → Nat} {cl : List vw_C} {ci : Nat → Nat} (hc : ∀ i q, kR55[i]? = some q → cl[ci i]? = some q) {dc : Nat → ClassId} {x0 : Nat} {S : reT} {x1 : Int32}   : kRi l G (dC, dI) cl (tR55 dc) yX55_row (ws_ yX55_row cX55_row 3 (some .int)) ({ frames := 5, cells := 0, slots := 0, locals := 123 } : Room) [.ref x0, .int x1] 0 0 (rR55 ci dc x0 S) (fun r w' => r = (rqRow x1.toInt S) ∧ rR55 ci dc x0 S w') := by
  rintro sz w ⟨ad, rfl, h⟩
  exact q_wI (kX55_row (hc 0 _ rfl) ) (fun r w' hJ => ⟨hJ.1, ad, rfl, hJ.2⟩) sz w h
theorem kR55_size {l : Launch} {G : kGt} {dC : Nat → ClassId} {dI : Nat → Nat → Nat} {cl : List vw_C} {ci : Nat → Nat} (hc : ∀ i q, kR55[i]? = some q → cl[ci i]? = some q) {dc : Nat → ClassId} {x0 : Nat} {S : reT}    : kRi l G (dC, dI) cl (tR55 dc) yX55_size (ws_ yX55_size cX55_size 3 (some .int)) ({ frames := 5, cells := 0, slots := 0, locals := 123 } : Room) [.ref x0] 0 0 (rR55 ci dc x0 S) (fun r w' => r = (rqSiz S) ∧ rR55 ci dc x0 S w') := by
  rintro sz w ⟨ad, rfl, h⟩
  exact q_wI (kX55_size (hc 0 _ rfl) ) (fun r w' hJ => ⟨hJ.1, ad, rfl, hJ.2⟩) sz w h
