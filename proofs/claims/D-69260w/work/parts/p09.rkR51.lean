/-! X51: its contracts, its object at x0 (printed by tools/rkw.py) -/
set_option maxRecDepth 100000
abbrev kR51 : List vw_C := [(RX51, TX51, 11)]
abbrev tR51 (d : Nat → ClassId) : List (ClassId × FieldType) := tX51 d
def rR51 (ci : Nat → Nat) (dc : Nat → ClassId) (x0 : Nat) (S : rdT) (w : va_W) : Prop := ∃ ad : Nat → Nat, ad 0 = x0 ∧ rX51 (ci 0) ad dc S w
theorem rR51_recv {ci : Nat → Nat} {dc : Nat → ClassId} {x0 : Nat} {S : rdT} {w : va_W} (h : rR51 ci dc x0 S w) : ∃ fs, (x0, .inr (ci 0, fs)) ∈ w := by
  obtain ⟨ad, rfl, h⟩ := h
  obtain ⟨_, _, _, _, _, _, _, _, _, _, _, rfl, -⟩ := h
  exact ⟨_, List.Mem.head _⟩
theorem kR51_member {l : Launch} {G : kGt} {dC : Nat → ClassId} {dI : Nat → Nat → Nat} {cl : List vw_C} {ci : Nat → Nat} (hc : ∀ i q, kR51[i]? = some q → cl[ci i]? = some q) {dc : Nat → ClassId} {x0 : Nat} {S : rdT} {x1 : Int32} {x2 : Int32} {x3 : Int32}   : kRi l G (dC, dI) cl (tR51 dc) yX51_member (ws_ yX51_member cX51_member 5 (some .int)) ({ frames := 1, cells := 0, slots := 0, locals := 21 } : Room) [.ref x0, .int x1, .int x2, .int x3] 0 0 (rR51 ci dc x0 S) (fun r w' => r = (rdqMember x1.toInt x2.toInt x3.toInt S).1 ∧ rR51 ci dc x0 ((rdqMember x1.toInt x2.toInt x3.toInt S).2) w') := by
  rintro sz w ⟨ad, rfl, h⟩
  exact q_wI (kX51_member (hc 0 _ rfl) ) (fun r w' hJ => ⟨hJ.1, ad, rfl, hJ.2⟩) sz w h
theorem kR51_condition {l : Launch} {G : kGt} {dC : Nat → ClassId} {dI : Nat → Nat → Nat} {cl : List vw_C} {ci : Nat → Nat} (hc : ∀ i q, kR51[i]? = some q → cl[ci i]? = some q) {dc : Nat → ClassId} {x0 : Nat} {S : rdT} {x1 : Int32} {x2 : Int32} {x3 : Int32} {x4 : Int32}   : kRi l G (dC, dI) cl (tR51 dc) yX51_condition (ws_ yX51_condition cX51_condition 5 (some .int)) ({ frames := 2, cells := 0, slots := 0, locals := 45 } : Room) [.ref x0, .int x1, .int x2, .int x3, .int x4] 0 0 (rR51 ci dc x0 S) (fun r w' => r = (rdqCondition x1.toInt x2.toInt x3.toInt x4.toInt S).1 ∧ rR51 ci dc x0 ((rdqCondition x1.toInt x2.toInt x3.toInt x4.toInt S).2) w') := by
  rintro sz w ⟨ad, rfl, h⟩
  exact q_wI (kX51_condition (hc 0 _ rfl) ) (fun r w' hJ => ⟨hJ.1, ad, rfl, hJ.2⟩) sz w h
theorem kR51_rule {l : Launch} {G : kGt} {dC : Nat → ClassId} {dI : Nat → Nat → Nat} {cl : List vw_C} {ci : Nat → Nat} (hc : ∀ i q, kR51[i]? = some q → cl[ci i]? = some q) {dc : Nat → ClassId} {x0 : Nat} {S : rdT} {x1 : Int32} {x2 : Int32} {x3 : Int32}  (hv : x2.toInt = 0 ∨ x2.toInt = 1) : kRi l G (dC, dI) cl (tR51 dc) yX51_rule (ws_ yX51_rule cX51_rule 4 (some .int)) ({ frames := 1, cells := 0, slots := 0, locals := 21 } : Room) [.ref x0, .int x1, .int x2, .int x3] 0 0 (rR51 ci dc x0 S) (fun r w' => r = (rdqRule x1.toInt x2.toInt x3.toInt S).1 ∧ rR51 ci dc x0 ((rdqRule x1.toInt x2.toInt x3.toInt S).2) w') := by
  rintro sz w ⟨ad, rfl, h⟩
  exact q_wI (kX51_rule (hc 0 _ rfl) hv) (fun r w' hJ => ⟨hJ.1, ad, rfl, hJ.2⟩) sz w h
theorem kR51_drop {l : Launch} {G : kGt} {dC : Nat → ClassId} {dI : Nat → Nat → Nat} {cl : List vw_C} {ci : Nat → Nat} (hc : ∀ i q, kR51[i]? = some q → cl[ci i]? = some q) {dc : Nat → ClassId} {x0 : Nat} {S : rdT} {x1 : Int32}   : kRi l G (dC, dI) cl (tR51 dc) yX51_drop (ws_ yX51_drop cX51_drop 3 (some .int)) ({ frames := 1, cells := 0, slots := 0, locals := 21 } : Room) [.ref x0, .int x1] 0 0 (rR51 ci dc x0 S) (fun r w' => r = (rdqDrop x1.toInt S).1 ∧ rR51 ci dc x0 ((rdqDrop x1.toInt S).2) w') := by
  rintro sz w ⟨ad, rfl, h⟩
  exact q_wI (kX51_drop (hc 0 _ rfl) ) (fun r w' hJ => ⟨hJ.1, ad, rfl, hJ.2⟩) sz w h
theorem kR51_may {l : Launch} {G : kGt} {dC : Nat → ClassId} {dI : Nat → Nat → Nat} {cl : List vw_C} {ci : Nat → Nat} (hc : ∀ i q, kR51[i]? = some q → cl[ci i]? = some q) {dc : Nat → ClassId} {x0 : Nat} {S : rdT} {x1 : Int32} {x2 : Int32} {x3 : Int32} {x4 : Int32} {x5 : Int32} {x6 : Int32}   : kRi l G (dC, dI) cl (tR51 dc) yX51_may (ws_ yX51_may cX51_may 8 (some .int)) ({ frames := 3, cells := 0, slots := 0, locals := 74 } : Room) [.ref x0, .int x1, .int x2, .int x3, .int x4, .int x5, .int x6] 0 0 (rR51 ci dc x0 S) (fun r w' => r = (rdqMay x1.toInt x2.toInt x3.toInt x4.toInt x5.toInt x6.toInt S) ∧ rR51 ci dc x0 S w') := by
  rintro sz w ⟨ad, rfl, h⟩
  exact q_wI (kX51_may (hc 0 _ rfl) ) (fun r w' hJ => ⟨hJ.1, ad, rfl, hJ.2⟩) sz w h
theorem kR51_asks {l : Launch} {G : kGt} {dC : Nat → ClassId} {dI : Nat → Nat → Nat} {cl : List vw_C} {ci : Nat → Nat} (hc : ∀ i q, kR51[i]? = some q → cl[ci i]? = some q) {dc : Nat → ClassId} {x0 : Nat} {S : rdT} {x1 : Int32}   : kRi l G (dC, dI) cl (tR51 dc) yX51_asks (ws_ yX51_asks cX51_asks 4 (some .int)) ({ frames := 3, cells := 0, slots := 0, locals := 74 } : Room) [.ref x0, .int x1] 0 0 (rR51 ci dc x0 S) (fun r w' => r = (rdqAsks x1.toInt S) ∧ rR51 ci dc x0 S w') := by
  rintro sz w ⟨ad, rfl, h⟩
  exact q_wI (kX51_asks (hc 0 _ rfl) ) (fun r w' hJ => ⟨hJ.1, ad, rfl, hJ.2⟩) sz w h
theorem kR51_ask {l : Launch} {G : kGt} {dC : Nat → ClassId} {dI : Nat → Nat → Nat} {cl : List vw_C} {ci : Nat → Nat} (hc : ∀ i q, kR51[i]? = some q → cl[ci i]? = some q) {dc : Nat → ClassId} {x0 : Nat} {S : rdT} {x1 : Int32} {x2 : Int32}  (hi : zR x2.toInt) : kRi l G (dC, dI) cl (tR51 dc) yX51_ask (ws_ yX51_ask cX51_ask 5 (some .int)) ({ frames := 3, cells := 0, slots := 0, locals := 74 } : Room) [.ref x0, .int x1, .int x2] 0 0 (rR51 ci dc x0 S) (fun r w' => r = (rdqAsk x1.toInt x2.toInt S) ∧ rR51 ci dc x0 S w') := by
  rintro sz w ⟨ad, rfl, h⟩
  exact q_wI (kX51_ask (hc 0 _ rfl) hi) (fun r w' hJ => ⟨hJ.1, ad, rfl, hJ.2⟩) sz w h
theorem kR51_within {l : Launch} {G : kGt} {dC : Nat → ClassId} {dI : Nat → Nat → Nat} {cl : List vw_C} {ci : Nat → Nat} (hc : ∀ i q, kR51[i]? = some q → cl[ci i]? = some q) {dc : Nat → ClassId} {x0 : Nat} {S : rdT} {x1 : Int32} {x2 : Int32}   : kRi l G (dC, dI) cl (tR51 dc) yX51_within (ws_ yX51_within cX51_within 4 (some .int)) ({ frames := 2, cells := 0, slots := 0, locals := 52 } : Room) [.ref x0, .int x1, .int x2] 0 0 (rR51 ci dc x0 S) (fun r w' => r = (rdqWithin x1.toInt x2.toInt S) ∧ rR51 ci dc x0 S w') := by
  rintro sz w ⟨ad, rfl, h⟩
  exact q_wI (kX51_within (hc 0 _ rfl) ) (fun r w' hJ => ⟨hJ.1, ad, rfl, hJ.2⟩) sz w h
theorem kR51_decides {l : Launch} {G : kGt} {dC : Nat → ClassId} {dI : Nat → Nat → Nat} {cl : List vw_C} {ci : Nat → Nat} (hc : ∀ i q, kR51[i]? = some q → cl[ci i]? = some q) {dc : Nat → ClassId} {x0 : Nat} {S : rdT} {x1 : Int32}   : kRi l G (dC, dI) cl (tR51 dc) yX51_decides (ws_ yX51_decides cX51_decides 4 (some .int)) ({ frames := 3, cells := 0, slots := 0, locals := 74 } : Room) [.ref x0, .int x1] 0 0 (rR51 ci dc x0 S) (fun r w' => r = (rdqDecides x1.toInt S) ∧ rR51 ci dc x0 S w') := by
  rintro sz w ⟨ad, rfl, h⟩
  exact q_wI (kX51_decides (hc 0 _ rfl) ) (fun r w' hJ => ⟨hJ.1, ad, rfl, hJ.2⟩) sz w h
theorem kR51_sees {l : Launch} {G : kGt} {dC : Nat → ClassId} {dI : Nat → Nat → Nat} {cl : List vw_C} {ci : Nat → Nat} (hc : ∀ i q, kR51[i]? = some q → cl[ci i]? = some q) {dc : Nat → ClassId} {x0 : Nat} {S : rdT} {x1 : Int32} {x2 : Int32}   : kRi l G (dC, dI) cl (tR51 dc) yX51_sees (ws_ yX51_sees cX51_sees 5 (some .int)) ({ frames := 4, cells := 0, slots := 0, locals := 97 } : Room) [.ref x0, .int x1, .int x2] 0 0 (rR51 ci dc x0 S) (fun r w' => r = (rdqSees x1.toInt x2.toInt S) ∧ rR51 ci dc x0 S w') := by
  rintro sz w ⟨ad, rfl, h⟩
  exact q_wI (kX51_sees (hc 0 _ rfl) ) (fun r w' hJ => ⟨hJ.1, ad, rfl, hJ.2⟩) sz w h
theorem kR51_matters {l : Launch} {G : kGt} {dC : Nat → ClassId} {dI : Nat → Nat → Nat} {cl : List vw_C} {ci : Nat → Nat} (hc : ∀ i q, kR51[i]? = some q → cl[ci i]? = some q) {dc : Nat → ClassId} {x0 : Nat} {S : rdT} {x1 : Int32}   : kRi l G (dC, dI) cl (tR51 dc) yX51_matters (ws_ yX51_matters cX51_matters 4 (some .int)) ({ frames := 4, cells := 0, slots := 0, locals := 97 } : Room) [.ref x0, .int x1] 0 0 (rR51 ci dc x0 S) (fun r w' => r = (rdqMatters x1.toInt S) ∧ rR51 ci dc x0 S w') := by
  rintro sz w ⟨ad, rfl, h⟩
  exact q_wI (kX51_matters (hc 0 _ rfl) ) (fun r w' hJ => ⟨hJ.1, ad, rfl, hJ.2⟩) sz w h
theorem kR51_idle {l : Launch} {G : kGt} {dC : Nat → ClassId} {dI : Nat → Nat → Nat} {cl : List vw_C} {ci : Nat → Nat} (hc : ∀ i q, kR51[i]? = some q → cl[ci i]? = some q) {dc : Nat → ClassId} {x0 : Nat} {S : rdT} {x1 : Int32} {x2 : Int32}   : kRi l G (dC, dI) cl (tR51 dc) yX51_idle (ws_ yX51_idle cX51_idle 6 (some .int)) ({ frames := 4, cells := 0, slots := 0, locals := 99 } : Room) [.ref x0, .int x1, .int x2] 0 0 (rR51 ci dc x0 S) (fun r w' => r = (rdqIdle x1.toInt x2.toInt S) ∧ rR51 ci dc x0 S w') := by
  rintro sz w ⟨ad, rfl, h⟩
  exact q_wI (kX51_idle (hc 0 _ rfl) ) (fun r w' hJ => ⟨hJ.1, ad, rfl, hJ.2⟩) sz w h
theorem kR51_apart {l : Launch} {G : kGt} {dC : Nat → ClassId} {dI : Nat → Nat → Nat} {cl : List vw_C} {ci : Nat → Nat} (hc : ∀ i q, kR51[i]? = some q → cl[ci i]? = some q) {dc : Nat → ClassId} {x0 : Nat} {S : rdT} {x1 : Int32} {x2 : Int32}   : kRi l G (dC, dI) cl (tR51 dc) yX51_apart (ws_ yX51_apart cX51_apart 4 (some .int)) ({ frames := 4, cells := 0, slots := 0, locals := 97 } : Room) [.ref x0, .int x1, .int x2] 0 0 (rR51 ci dc x0 S) (fun r w' => r = (rdqApart x1.toInt x2.toInt S) ∧ rR51 ci dc x0 S w') := by
  rintro sz w ⟨ad, rfl, h⟩
  exact q_wI (kX51_apart (hc 0 _ rfl) ) (fun r w' hJ => ⟨hJ.1, ad, rfl, hJ.2⟩) sz w h
theorem kR51_allowed {l : Launch} {G : kGt} {dC : Nat → ClassId} {dI : Nat → Nat → Nat} {cl : List vw_C} {ci : Nat → Nat} (hc : ∀ i q, kR51[i]? = some q → cl[ci i]? = some q) {dc : Nat → ClassId} {x0 : Nat} {S : rdT}    : kRi l G (dC, dI) cl (tR51 dc) yX51_allowed (ws_ yX51_allowed cX51_allowed 3 (some .int)) ({ frames := 4, cells := 0, slots := 0, locals := 97 } : Room) [.ref x0] 0 0 (rR51 ci dc x0 S) (fun r w' => r = (rdqAllowed S) ∧ rR51 ci dc x0 S w') := by
  rintro sz w ⟨ad, rfl, h⟩
  exact q_wI (kX51_allowed (hc 0 _ rfl) ) (fun r w' hJ => ⟨hJ.1, ad, rfl, hJ.2⟩) sz w h
theorem kR51_conditions {l : Launch} {G : kGt} {dC : Nat → ClassId} {dI : Nat → Nat → Nat} {cl : List vw_C} {ci : Nat → Nat} (hc : ∀ i q, kR51[i]? = some q → cl[ci i]? = some q) {dc : Nat → ClassId} {x0 : Nat} {S : rdT}    : kRi l G (dC, dI) cl (tR51 dc) yX51_conditions (ws_ yX51_conditions cX51_conditions 1 (some .int)) ({ frames := 0, cells := 0, slots := 0, locals := 0 } : Room) [.ref x0] 0 0 (rR51 ci dc x0 S) (fun r w' => r = (rdqConditions S) ∧ rR51 ci dc x0 S w') := by
  rintro sz w ⟨ad, rfl, h⟩
  exact q_wI (kX51_conditions (hc 0 _ rfl) ) (fun r w' hJ => ⟨hJ.1, ad, rfl, hJ.2⟩) sz w h
theorem kR51_rules {l : Launch} {G : kGt} {dC : Nat → ClassId} {dI : Nat → Nat → Nat} {cl : List vw_C} {ci : Nat → Nat} (hc : ∀ i q, kR51[i]? = some q → cl[ci i]? = some q) {dc : Nat → ClassId} {x0 : Nat} {S : rdT}    : kRi l G (dC, dI) cl (tR51 dc) yX51_rules (ws_ yX51_rules cX51_rules 1 (some .int)) ({ frames := 0, cells := 0, slots := 0, locals := 0 } : Room) [.ref x0] 0 0 (rR51 ci dc x0 S) (fun r w' => r = (rdqRules S) ∧ rR51 ci dc x0 S w') := by
  rintro sz w ⟨ad, rfl, h⟩
  exact q_wI (kX51_rules (hc 0 _ rfl) ) (fun r w' hJ => ⟨hJ.1, ad, rfl, hJ.2⟩) sz w h
