/-! X57: its contracts, its object at x0 (printed by tools/rkw.py) -/
set_option maxRecDepth 100000
abbrev kR57 : List vw_C := [(RX57, TX57, 22)]
abbrev tR57 (d : Nat → ClassId) : List (ClassId × FieldType) := tX57 d
def rR57 (ci : Nat → Nat) (dc : Nat → ClassId) (x0 : Nat) (th : Int) (T : Int) (S : KS) (w : va_W) : Prop := ∃ ad : Nat → Nat, ad 0 = x0 ∧ rX57 (ci 0) ad dc th T S w
theorem rR57_recv {ci : Nat → Nat} {dc : Nat → ClassId} {x0 : Nat} {th : Int} {T : Int} {S : KS} {w : va_W} (h : rR57 ci dc x0 th T S w) : ∃ fs, (x0, .inr (ci 0, fs)) ∈ w := by
  obtain ⟨ad, rfl, h⟩ := h
  obtain ⟨_, _, _, _, _, _, _, _, _, _, _, _, _, _, _, _, _, _, _, _, _, _, rfl, -⟩ := h
  exact ⟨_, List.Mem.head _⟩
theorem kR57_page {l : Launch} {G : kGt} {dC : Nat → ClassId} {dI : Nat → Nat → Nat} {cl : List vw_C} {ci : Nat → Nat} (hc : ∀ i q, kR57[i]? = some q → cl[ci i]? = some q) {dc : Nat → ClassId} {x0 : Nat} {th : Int} {T : Int} {S : KS} {x1 : Int32} {x2 : Int32} {x3 : Int64}  (hT : T ≤ 499) : kRi l G (dC, dI) cl (tR57 dc) yX57_page (ws_ yX57_page cX57_page 6 (some .int)) ({ frames := 4, cells := 0, slots := 0, locals := 94 } : Room) [.ref x0, .int x1, .int x2, .long x3] 0 0 (rR57 ci dc x0 th T S) (fun r w' => r = (kqPage x1.toInt x2.toInt x3.toInt S).1 ∧ rR57 ci dc x0 th (T + 1) ((kqPage x1.toInt x2.toInt x3.toInt S).2) w') := by
  rintro sz w ⟨ad, rfl, h⟩
  exact q_wI (kX57_page (hc 0 _ rfl) hT) (fun r w' hJ => ⟨hJ.1, ad, rfl, hJ.2⟩) sz w h
theorem kR57_derived {l : Launch} {G : kGt} {dC : Nat → ClassId} {dI : Nat → Nat → Nat} {cl : List vw_C} {ci : Nat → Nat} (hc : ∀ i q, kR57[i]? = some q → cl[ci i]? = some q) {dc : Nat → ClassId} {x0 : Nat} {th : Int} {T : Int} {S : KS} {x1 : Int32}  (hT : T ≤ 499) : kRi l G (dC, dI) cl (tR57 dc) yX57_derived (ws_ yX57_derived cX57_derived 7 (some .int)) ({ frames := 4, cells := 0, slots := 0, locals := 94 } : Room) [.ref x0, .int x1] 0 0 (rR57 ci dc x0 th T S) (fun r w' => r = (kqDerived x1.toInt S).1 ∧ rR57 ci dc x0 th (T + 1) ((kqDerived x1.toInt S).2) w') := by
  rintro sz w ⟨ad, rfl, h⟩
  exact q_wI (kX57_derived (hc 0 _ rfl) hT) (fun r w' hJ => ⟨hJ.1, ad, rfl, hJ.2⟩) sz w h
theorem kR57_full {l : Launch} {G : kGt} {dC : Nat → ClassId} {dI : Nat → Nat → Nat} {cl : List vw_C} {ci : Nat → Nat} (hc : ∀ i q, kR57[i]? = some q → cl[ci i]? = some q) {dc : Nat → ClassId} {x0 : Nat} {th : Int} {T : Int} {S : KS} {x1 : Int32}  (hx : x1.toInt = 0 ∨ x1.toInt = 1) : kRi l G (dC, dI) cl (tR57 dc) yX57_full (ws_ yX57_full cX57_full 3 (some .boolean)) ({ frames := 0, cells := 0, slots := 0, locals := 0 } : Room) [.ref x0, .int x1] 0 0 (rR57 ci dc x0 th T S) (fun r w' => r = (kqFull x1.toInt S).1 ∧ rR57 ci dc x0 th T ((kqFull x1.toInt S).2) w') := by
  rintro sz w ⟨ad, rfl, h⟩
  exact q_wI (kX57_full (hc 0 _ rfl) hx) (fun r w' hJ => ⟨hJ.1, ad, rfl, hJ.2⟩) sz w h
theorem kR57_wrong {l : Launch} {G : kGt} {dC : Nat → ClassId} {dI : Nat → Nat → Nat} {cl : List vw_C} {ci : Nat → Nat} (hc : ∀ i q, kR57[i]? = some q → cl[ci i]? = some q) {dc : Nat → ClassId} {x0 : Nat} {th : Int} {T : Int} {S : KS} {x1 : Int32}   : kRi l G (dC, dI) cl (tR57 dc) yX57_wrong (ws_ yX57_wrong cX57_wrong 5 (some .int)) ({ frames := 2, cells := 0, slots := 0, locals := 45 } : Room) [.ref x0, .int x1] 0 0 (rR57 ci dc x0 th T S) (fun r w' => r = (kqWrong x1.toInt S) ∧ rR57 ci dc x0 th T S w') := by
  rintro sz w ⟨ad, rfl, h⟩
  exact q_wI (kX57_wrong (hc 0 _ rfl) ) (fun r w' hJ => ⟨hJ.1, ad, rfl, hJ.2⟩) sz w h
theorem kR57_sync {l : Launch} {G : kGt} {dC : Nat → ClassId} {dI : Nat → Nat → Nat} {cl : List vw_C} {ci : Nat → Nat} (hc : ∀ i q, kR57[i]? = some q → cl[ci i]? = some q) {dc : Nat → ClassId} {x0 : Nat} {th : Int} {T : Int} {S : KS}    : kRi l G (dC, dI) cl (tR57 dc) yX57_sync (ws_ yX57_sync cX57_sync 1 (some .int)) ({ frames := 1, cells := 0, slots := 0, locals := 22 } : Room) [.ref x0] 0 0 (rR57 ci dc x0 th T S) (fun r w' => r = (kdSy S).1 ∧ rR57 ci dc x0 th T ((kdSy S).2) w') := by
  rintro sz w ⟨ad, rfl, h⟩
  exact q_wI (kX57_sync (hc 0 _ rfl) ) (fun r w' hJ => ⟨hJ.1, ad, rfl, hJ.2⟩) sz w h
theorem kR57_cut {l : Launch} {G : kGt} {dC : Nat → ClassId} {dI : Nat → Nat → Nat} {cl : List vw_C} {ci : Nat → Nat} (hc : ∀ i q, kR57[i]? = some q → cl[ci i]? = some q) {dc : Nat → ClassId} {x0 : Nat} {th : Int} {T : Int} {S : KS} {x1 : Int32} {x2 : Int32}  (hT : T ≤ 499) : kRv l G (dC, dI) cl (tR57 dc) yX57_cut (ws_ yX57_cut cX57_cut 4 none) ({ frames := 1, cells := 0, slots := 0, locals := 24 } : Room) [.ref x0, .int x1, .int x2] 0 0 (rR57 ci dc x0 th T S) (fun w' => rR57 ci dc x0 th (T + 1) ((kdCu S x1.toInt x2.toInt)) w') := by
  rintro sz w ⟨ad, rfl, h⟩
  exact q_wV (kX57_cut (hc 0 _ rfl) hT) (fun w' hJ => ⟨ad, rfl, hJ⟩) sz w h
theorem kR57_start {l : Launch} {G : kGt} {dC : Nat → ClassId} {dI : Nat → Nat → Nat} {cl : List vw_C} {ci : Nat → Nat} (hc : ∀ i q, kR57[i]? = some q → cl[ci i]? = some q) {dc : Nat → ClassId} {x0 : Nat} {th : Int} {T : Int} {S : KS}   (hT : T ≤ 499) : kRi l G (dC, dI) cl (tR57 dc) yX57_start (ws_ yX57_start cX57_start 7 (some .int)) ({ frames := 3, cells := 0, slots := 0, locals := 74 } : Room) [.ref x0] 0 0 (rR57 ci dc x0 th T S) (fun r w' => r = (kdSt2 S).1 ∧ rR57 ci dc x0 th (T + 1) ((kdSt2 S).2) w') := by
  rintro sz w ⟨ad, rfl, h⟩
  exact q_wI (kX57_start (hc 0 _ rfl) hT) (fun r w' hJ => ⟨hJ.1, ad, rfl, hJ.2⟩) sz w h
theorem kR57_poke {l : Launch} {G : kGt} {dC : Nat → ClassId} {dI : Nat → Nat → Nat} {cl : List vw_C} {ci : Nat → Nat} (hc : ∀ i q, kR57[i]? = some q → cl[ci i]? = some q) {dc : Nat → ClassId} {x0 : Nat} {th : Int} {T : Int} {S : KS} {x1 : Int32} {x2 : Int32} {x3 : Int32}   : kRi l G (dC, dI) cl (tR57 dc) yX57_poke (ws_ yX57_poke cX57_poke 5 (some .int)) ({ frames := 1, cells := 0, slots := 0, locals := 23 } : Room) [.ref x0, .int x1, .int x2, .int x3] 0 0 (rR57 ci dc x0 th T S) (fun r w' => r = (kdPk S x1.toInt x2.toInt x3.toInt).1 ∧ rR57 ci dc x0 th T ((kdPk S x1.toInt x2.toInt x3.toInt).2) w') := by
  rintro sz w ⟨ad, rfl, h⟩
  exact q_wI (kX57_poke (hc 0 _ rfl) ) (fun r w' hJ => ⟨hJ.1, ad, rfl, hJ.2⟩) sz w h
theorem kR57_backup {l : Launch} {G : kGt} {dC : Nat → ClassId} {dI : Nat → Nat → Nat} {cl : List vw_C} {ci : Nat → Nat} (hc : ∀ i q, kR57[i]? = some q → cl[ci i]? = some q) {dc : Nat → ClassId} {x0 : Nat} {th : Int} {T : Int} {S : KS} {x1 : Int32}  (hT : T ≤ 499) : kRi l G (dC, dI) cl (tR57 dc) yX57_backup (ws_ yX57_backup cX57_backup 2 (some .int)) ({ frames := 1, cells := 0, slots := 0, locals := 23 } : Room) [.ref x0, .int x1] 0 0 (rR57 ci dc x0 th T S) (fun r w' => r = (kdBk S x1.toInt).1 ∧ rR57 ci dc x0 th (T + 1) ((kdBk S x1.toInt).2) w') := by
  rintro sz w ⟨ad, rfl, h⟩
  exact q_wI (kX57_backup (hc 0 _ rfl) hT) (fun r w' hJ => ⟨hJ.1, ad, rfl, hJ.2⟩) sz w h
theorem kR57_drop {l : Launch} {G : kGt} {dC : Nat → ClassId} {dI : Nat → Nat → Nat} {cl : List vw_C} {ci : Nat → Nat} (hc : ∀ i q, kR57[i]? = some q → cl[ci i]? = some q) {dc : Nat → ClassId} {x0 : Nat} {th : Int} {T : Int} {S : KS} {x1 : Int32}  (hT : T ≤ 499) : kRi l G (dC, dI) cl (tR57 dc) yX57_drop (ws_ yX57_drop cX57_drop 5 (some .int)) ({ frames := 3, cells := 0, slots := 0, locals := 68 } : Room) [.ref x0, .int x1] 0 0 (rR57 ci dc x0 th T S) (fun r w' => r = (kdDp S x1.toInt).1 ∧ rR57 ci dc x0 th (T + 1) ((kdDp S x1.toInt).2) w') := by
  rintro sz w ⟨ad, rfl, h⟩
  exact q_wI (kX57_drop (hc 0 _ rfl) hT) (fun r w' hJ => ⟨hJ.1, ad, rfl, hJ.2⟩) sz w h
theorem kR57_commit {l : Launch} {G : kGt} {dC : Nat → ClassId} {dI : Nat → Nat → Nat} {cl : List vw_C} {ci : Nat → Nat} (hc : ∀ i q, kR57[i]? = some q → cl[ci i]? = some q) {dc : Nat → ClassId} {x0 : Nat} {th : Int} {T : Int} {S : KS} {x1 : Int32}  (hT : T ≤ 499) : kRi l G (dC, dI) cl (tR57 dc) yX57_commit (ws_ yX57_commit cX57_commit 7 (some .int)) ({ frames := 2, cells := 0, slots := 0, locals := 46 } : Room) [.ref x0, .int x1] 0 0 (rR57 ci dc x0 th T S) (fun r w' => r = (kdCo S x1.toInt).1 ∧ rR57 ci dc x0 th (T + 1) ((kdCo S x1.toInt).2) w') := by
  rintro sz w ⟨ad, rfl, h⟩
  exact q_wI (kX57_commit (hc 0 _ rfl) hT) (fun r w' hJ => ⟨hJ.1, ad, rfl, hJ.2⟩) sz w h
