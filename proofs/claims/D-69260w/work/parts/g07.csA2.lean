/-! ClassifySort: what a call does, as functions on one state -/
/-- classes, fuel, things, axioms, sorted, asked; left, other, right, there, state, members, placed -/
abbrev ctT : Type := (Int × Int × Int × Int × Int × Int) × (Int → Int) × (Int → Int) × (Int → Int) × (Int → Int) × (Int → Int) × (Int → Int) × (Int → Int)
noncomputable def ctClass0 : ctT → Int × ctT
  | ((n, f, t, m, so, qs), L, O, R, Th, s, me, pl) => if n = 20 then (-4, ((n, f, t, m, so, qs), L, O, R, Th, s, me, pl)) else (n, ((n + 1, f, t, m, 0, qs), L, O, R, Th, csCl (n + 1) L O R Th m s, me, pl))
def ctThing : ctT → Int × ctT
  | ((n, f, t, Z), F) => if t = 8 then (-4, ((n, f, t, Z), F)) else (t, ((n, f, t + 1, Z), F))
noncomputable def ctAxiom (a b c : Int) : ctT → Int × ctT
  | ((n, f, t, m, so, qs), L, O, R, Th, s, me, pl) => pif ((0 ≤ a ∧ a < n) ∧ csGk n b ∧ csGk n c) (if b = a then (-2, ((n, f, t, m, so, qs), L, O, R, Th, s, me, pl)) else if m = 40 then (-4, ((n, f, t, m, so, qs), L, O, R, Th, s, me, pl)) else (m, ((n, f, t, m + 1, 0, qs), updI L m a, updI O m b, updI R m (csGl c), updI Th m 1, csCl n (updI L m a) (updI O m b) (updI R m (csGl c)) (updI Th m 1) (m + 1) (csFg n (updI L m a) (updI O m b) (updI R m (csGl c)) (updI Th m 1) (m + 1) m 0 s), me, pl))) (-1, ((n, f, t, m, so, qs), L, O, R, Th, s, me, pl))
noncomputable def ctRemove (x : Int) : ctT → Int × ctT
  | ((n, f, t, m, so, qs), L, O, R, Th, s, me, pl) => if (0 ≤ x ∧ x < m) ∧ ¬ Th x = 0 then (csLo s (csCl n L O R (updI Th x 0) m (csFg n L O R Th m x 1 s)), ((n, f, t, m, 0, qs), L, O, R, updI Th x 0, csCl n L O R (updI Th x 0) m (csFg n L O R Th m x 1 s), me, pl)) else (-1, ((n, f, t, m, so, qs), L, O, R, Th, s, me, pl))
noncomputable def ctFuel (x : Int) : ctT → Int × ctT
  | ((n, f, t, m, so, qs), L, O, R, Th, s, me, pl) => if 0 ≤ x ∧ x ≤ 20 then (csOp s, ((n, x, t, m, 0, qs), L, O, R, Th, csFo s, me, pl)) else (-2, ((n, f, t, m, so, qs), L, O, R, Th, s, me, pl))
noncomputable def ctKnown (a b : Int) : ctT → Int
  | ((n, _), _, _, _, _, s, _) => pif ((0 ≤ a ∧ a < n) ∧ csGk n b) (s (21 * a + csGl b)) (-1)
noncomputable def ctAsk (a b : Int) : ctT → Int
  | ((n, f, _, m, _), L, O, R, Th, _) => pif ((0 ≤ a ∧ a < n) ∧ csGk n b) (csAn L O R Th m f (csGl b) (csOne a)).1 (-1)
noncomputable def ctRun : ctT → Int × ctT
  | ((n, f, t, m, _, qs), L, O, R, Th, s, me, _) => ((csRu n L O R Th m f s n.toNat).2.2, ((n, f, t, m, 1, qs + (csRu n L O R Th m f s n.toNat).2.2), L, O, R, Th, (csRu n L O R Th m f s n.toNat).1, me, (csRu n L O R Th m f s n.toNat).2.1))
noncomputable def ctParent (c i : Int) : ctT → Int
  | ((n, _, _, _, so, _), _, _, _, _, s, _, pl) => if 0 ≤ c ∧ c < n then (if so = 0 then -3 else csKt (csPp n s pl c) n.toNat i) else -1
noncomputable def ctChild (c i : Int) : ctT → Int
  | ((n, _, _, _, so, _), _, _, _, _, s, _, pl) => if 0 ≤ c ∧ c < n then (if so = 0 then -3 else csKt (csPc n s pl c) n.toNat i) else -1
noncomputable def ctEqual (c i : Int) : ctT → Int
  | ((n, _, _, _, so, _), _, _, _, _, s, _) => if 0 ≤ c ∧ c < n then (if so = 0 then -3 else csKt (fun d => csB s c d ∧ csB s d c) n.toNat i) else -1
noncomputable def ctEmpty (i : Int) : ctT → Int
  | ((n, _, _, _, so, _), _, _, _, _, _, _, pl) => if so = 0 then -3 else csKt (fun d => pl d = 0) n.toNat i
noncomputable def ctOpen (i : Int) : ctT → Int
  | (_, _, _, _, _, s, _) => csOa s i
def ctPut (k c : Int) : ctT → Int × ctT
  | ((n, f, t, Z), L, O, R, Th, s, me, pl) => if (0 ≤ k ∧ k < t) ∧ 0 ≤ c ∧ c < n then ((if me (20 * k + c) = 0 then 1 else 0), ((n, f, t, Z), L, O, R, Th, s, updI me (20 * k + c) 1, pl)) else (-1, ((n, f, t, Z), L, O, R, Th, s, me, pl))
noncomputable def ctType (x i : Int) : ctT → Int
  | ((n, f, t, m, so, _), L, O, R, Th, s, me, pl) => if 0 ≤ x ∧ x < t then (if so = 0 then -3 else pif (csI L O R Th m f me x 20) (-5) (csKt (csTy n s pl L O R Th m f me x) n.toNat i)) else -1
noncomputable def ctTrace (a b i : Int) : ctT → Int
  | ((n, f, _, m, _), L, O, R, Th, _) => pif ((0 ≤ a ∧ a < n) ∧ csGk n b) (pif (¬ (csAn L O R Th m f (csGl b) (csOne a)).1 = 1 ∨ (csAn L O R Th m f (csGl b) (csOne a)).2.2 = []) (-6) (pif (csTr L O R (csAn L O R Th m f (csGl b) (csOne a)).2.2 i = -6) (-6) ((csAn L O R Th m f (csGl b) (csOne a)).2.2.getD (csTr L O R (csAn L O R Th m f (csGl b) (csOne a)).2.2 i).toNat 0))) (-1)
noncomputable def ctCount (x : Int) : ctT → Int
  | ((n, _, t, m, so, qs), _, _, _, Th, s, _, pl) => csCt n t m qs so Th s pl x
section
variable {n m f g a b c x d e i v so qs t : Int} {L O R Th s me pl pl2 : Int → Int}
theorem csZ_go (hm : 0 ≤ m) (hn : 0 ≤ n ∧ n ≤ 20) (hx : 0 ≤ x ∧ x < n) : ∀ (k : Nat) (s lk : Int → Int) (q : Int), csZ n s → csZ n (csGo n L O R Th m f pl x b k s lk q).1
  | 0, _, _, _, h => h
  | k + 1, s, lk, q, h => by
    unfold csGo
    by_cases w : csNf n s pl lk x b = -1
    · rw [if_pos w]; exact h
    · rw [if_neg w]
      have N := csNf_s hn.1 w
      have B := csPa_b (b := b) hx N.1
      exact csZ_go hm hn hx k _ _ _ (csZ_lk (f := f) h B.1 hn.2 B.2)
theorem csZ_ru (hm : 0 ≤ m) (hn : 0 ≤ n ∧ n ≤ 20) (h : csZ n s) : ∀ i : Nat, (i : Int) ≤ n → csZ n (csRu n L O R Th m f s i).1
  | 0, _ => h
  | i + 1, hi => by
    have ih := csZ_ru hm hn h i (by omega)
    have hi2 : 0 ≤ (i : Int) ∧ (i : Int) < n := by omega
    have l := csZ_lk (f := f) (L := L) (O := O) (R := R) (Th := Th) (m := m) ih hi2 hn.2 (Or.inr rfl : csH n 20)
    show csZ n (csRs n L O R Th m f i (csRu n L O R Th m f s i).1 (csRu n L O R Th m f s i).2.1 (csRu n L O R Th m f s i).2.2).1
    unfold csRs
    by_cases w : csLk n L O R Th m f i 20 (csRu n L O R Th m f s i).1 (21 * (i : Int) + 20) = 1
    · rw [pif_t w]; exact l
    · rw [pif_f w]
      exact csZ_go hm hn hi2 21 _ _ _ (csZ_go hm hn hi2 21 _ _ _ l)
theorem csSe_c (hp : ∀ e, 0 ≤ e → e < n → pl e = pl2 e) (hd : d < n) : csSe s pl d ↔ csSe s pl2 d := exists_congr fun e => and_congr_right fun w => by rw [hp e w.1 (by omega)]
theorem csDi_cg (hp : ∀ e, 0 ≤ e → e < n → pl e = pl2 e) (hd : 0 ≤ d ∧ d < n) : csDi n s pl c d ↔ csDi n s pl2 c d := by
  unfold csDi
  rw [hp d hd.1 hd.2]
  refine and_congr_right fun _ => and_congr_right fun _ => forall_congr' fun e => forall_congr' fun e0 => forall_congr' fun e1 => ?_
  rw [hp e e0 e1]
theorem csHb_c (hp : ∀ e, 0 ≤ e → e < n → pl e = pl2 e) (hd : 0 ≤ d ∧ d < n) : csHb n s pl d ↔ csHb n s pl2 d := exists_congr fun e => and_congr_right fun w => by rw [hp e w.1 w.2, csDi_cg hp hd]
theorem csPp_c (hp : ∀ e, 0 ≤ e → e < n → pl e = pl2 e) (hc : 0 ≤ c ∧ c < n) (hd : 0 ≤ d ∧ d < n) : csPp n s pl c d ↔ csPp n s pl2 c d := by
  unfold csPp
  rw [hp d hd.1 hd.2, hp c hc.1 hc.2, csSe_c hp hd.2, csDi_cg hp hd, csHb_c hp hd]
theorem csPc_c (hp : ∀ e, 0 ≤ e → e < n → pl e = pl2 e) (hc : 0 ≤ c ∧ c < n) (hd : 0 ≤ d ∧ d < n) : csPc n s pl c d ↔ csPc n s pl2 c d := by
  unfold csPc
  rw [hp d hd.1 hd.2, hp c hc.1 hc.2, csSe_c hp hd.2, csDi_cg hp hc]
theorem csTy_c (hp : ∀ e, 0 ≤ e → e < n → pl e = pl2 e) (hd : 0 ≤ d ∧ d < n) : csTy n s pl L O R Th m f me x d ↔ csTy n s pl2 L O R Th m f me x d := by
  unfold csTy
  rw [hp d hd.1 hd.2, csSe_c hp hd.2]
  refine and_congr_right fun _ => forall_congr' fun e => forall_congr' fun e0 => forall_congr' fun e1 => ?_
  rw [hp e e0 e1, csDi_cg hp hd]
theorem csCt_c (h0 : 0 ≤ n) (hp : ¬ so = 0 → ∀ e, 0 ≤ e → e < n → pl e = pl2 e) : csCt n t m qs so Th s pl x = csCt n t m qs so Th s pl2 x := by
  unfold csCt
  by_cases z : so = 0
  · simp only [if_pos z]
  · have e : cntI (fun k => ¬ pl k = 0) n.toNat = cntI (fun k => ¬ pl2 k = 0) n.toNat := cntI_c (fun i i0 i1 => by rw [hp z i i0 (by omega)])
    rw [e]
end
/-- the component (room CS) is in state S; u bounds what was asked -/
def ctIC (kd : Nat → Nat) (an : Nat → Nat) (ai : Nat → Int → Int) (al : Nat → Int → Int) (ar : Nat → Int → Option Nat) (mX29_axioms : Nat → Option Nat) (mX29_reasoner : Nat → Option Nat) (mX29_classes : Nat → Int) (mX29_things : Nat → Option Nat) (mX29_thingCount : Nat → Int) (mX29_fuel : Nat → Int) (mX29_above : Nat → Option Nat) (mX29_not : Nat → Option Nat) (mX29_open : Nat → Option Nat) (mX29_under : Nat → Option Nat) (mX29_sorted : Nat → Int) (mX29_placed : Nat → Int) (mX29_empties : Nat → Int) (mX29_asked : Nat → Int) (mX30_fired : Nat → Option Nat) (mX30_many : Nat → Int) (mX30_facts : Nat → Int) (mX30_this_0 : Nat → Option Nat) (mX61_left : Nat → Int) (mX61_right : Nat → Int) (mX61_gone : Nat → Int) (mJ1_modCount : Nat → Int) (mJ2_elementData : Nat → Option Nat) (mJ2_size : Nat → Int) (sa : Nat → Nat) (x : Nat) (u : Int) (S : ctT) : Prop := ∃ A e fx n f t m so qs L O R Th s me pl, A 0 = x ∧ swF kd an mX29_axioms mX29_reasoner mX29_things mX29_above mX29_not mX29_open mX29_under mX30_fired mX30_this_0 A ∧ swA kd an ar mX61_left mX61_right mX61_gone mJ2_elementData mJ2_size (sa 0) (A 1) L O R Th n m e fx ∧ swD n f t s me mX29_classes mX29_fuel mX29_thingCount ai A L O R Th m ∧ swQ n so pl mX29_sorted mX29_placed mX29_empties A ∧ mJ1_modCount (A 1) = m ∧ mX29_asked (A 0) = qs ∧ (0 ≤ qs ∧ qs ≤ u) ∧ S = ((n, f, t, m, so, qs), L, O, R, Th, s, me, pl)
section
variable {kd : Nat → Nat} {an : Nat → Nat} {ai : Nat → Int → Int} {al : Nat → Int → Int} {ar : Nat → Int → Option Nat} {mX29_axioms : Nat → Option Nat} {mX29_reasoner : Nat → Option Nat} {mX29_classes : Nat → Int} {mX29_things : Nat → Option Nat} {mX29_thingCount : Nat → Int} {mX29_fuel : Nat → Int} {mX29_above : Nat → Option Nat} {mX29_not : Nat → Option Nat} {mX29_open : Nat → Option Nat} {mX29_under : Nat → Option Nat} {mX29_sorted : Nat → Int} {mX29_placed : Nat → Int} {mX29_empties : Nat → Int} {mX29_asked : Nat → Int} {mX30_fired : Nat → Option Nat} {mX30_many : Nat → Int} {mX30_facts : Nat → Int} {mX30_this_0 : Nat → Option Nat} {mX61_left : Nat → Int} {mX61_right : Nat → Int} {mX61_gone : Nat → Int} {mJ1_modCount : Nat → Int} {mJ2_elementData : Nat → Option Nat} {mJ2_size : Nat → Int} {sa : Nat → Nat} {x : Nat} {u : Int} {S : ctT} {a b c i k y : Int} {MC MS : Nat}
theorem QCS_class0 {post : Int → (Nat → Int → Int) → (Nat → Int) → (Nat → Int) → Prop} (R : ctIC kd an ai al ar mX29_axioms mX29_reasoner mX29_classes mX29_things mX29_thingCount mX29_fuel mX29_above mX29_not mX29_open mX29_under mX29_sorted mX29_placed mX29_empties mX29_asked mX30_fired mX30_many mX30_facts mX30_this_0 mX61_left mX61_right mX61_gone mJ1_modCount mJ2_elementData mJ2_size sa x u S) (h : ∀ ai' cl so', ctIC kd an (ai') al ar mX29_axioms mX29_reasoner cl mX29_things mX29_thingCount mX29_fuel mX29_above mX29_not mX29_open mX29_under (so') mX29_placed mX29_empties mX29_asked mX30_fired mX30_many mX30_facts mX30_this_0 mX61_left mX61_right mX61_gone mJ1_modCount mJ2_elementData mJ2_size sa x u ((ctClass0 S).2) → post (ctClass0 S).1 ai' cl so') : wpCS_X29_class0 post kd an ai ar mX29_axioms mX29_classes mX29_above mX29_not mX29_open mX29_under mX29_sorted mX61_left mX61_right mX61_gone mJ2_elementData mJ2_size x := by
  obtain ⟨A, e, fx, n, f, t, m, so, qs, L, O, R_, Th, s, me, pl, rfl, F, G, D, Q, em, eq, hq, rfl⟩ := R
  refine CCS_class0 F G D (fun z => ?_) (fun z ai' cl so' G' D' es => ?_)
  · have e0 : ctClass0 ((n, f, t, m, so, qs), L, O, R_, Th, s, me, pl) = (-4, ((n, f, t, m, so, qs), L, O, R_, Th, s, me, pl)) := if_pos z
    rw [e0] at h
    exact h _ _ _ ⟨A, _, _, _, _, _, _, _, _, _, _, _, _, _, _, _, rfl, F, G, D, Q, em, eq, hq, rfl⟩
  · have e0 : ctClass0 ((n, f, t, m, so, qs), L, O, R_, Th, s, me, pl) = (n, ((n + 1, f, t, m, 0, qs), L, O, R_, Th, csCl (n + 1) L O R_ Th m s, me, pl)) := if_neg (by omega)
    rw [e0] at h
    exact h _ _ _ ⟨A, _, _, _, _, _, _, _, _, _, _, _, _, _, _, _, rfl, F, G', D', ⟨es, fun z => absurd rfl z⟩, em, eq, hq, rfl⟩
theorem QCS_thing {post : Int → (Nat → Int) → Prop} (R : ctIC kd an ai al ar mX29_axioms mX29_reasoner mX29_classes mX29_things mX29_thingCount mX29_fuel mX29_above mX29_not mX29_open mX29_under mX29_sorted mX29_placed mX29_empties mX29_asked mX30_fired mX30_many mX30_facts mX30_this_0 mX61_left mX61_right mX61_gone mJ1_modCount mJ2_elementData mJ2_size sa x u S) (h : ∀ tc, ctIC kd an ai al ar mX29_axioms mX29_reasoner mX29_classes mX29_things tc mX29_fuel mX29_above mX29_not mX29_open mX29_under mX29_sorted mX29_placed mX29_empties mX29_asked mX30_fired mX30_many mX30_facts mX30_this_0 mX61_left mX61_right mX61_gone mJ1_modCount mJ2_elementData mJ2_size sa x u ((ctThing S).2) → post (ctThing S).1 tc) : wpCS_X29_thing post mX29_thingCount x := by
  obtain ⟨A, e, fx, n, f, t, m, so, qs, L, O, R_, Th, s, me, pl, rfl, F, G, D, Q, em, eq, hq, rfl⟩ := R
  have ht := D.2.2.1
  refine CCS_thing D.1.2.2 ht (fun z => ?_) (fun z tc et => ?_)
  · have e0 : ctThing ((n, f, t, m, so, qs), L, O, R_, Th, s, me, pl) = (-4, ((n, f, t, m, so, qs), L, O, R_, Th, s, me, pl)) := if_pos z
    rw [e0] at h
    exact h _ ⟨A, _, _, _, _, _, _, _, _, _, _, _, _, _, _, _, rfl, F, G, D, Q, em, eq, hq, rfl⟩
  · have e0 : ctThing ((n, f, t, m, so, qs), L, O, R_, Th, s, me, pl) = (t, ((n, f, t + 1, m, so, qs), L, O, R_, Th, s, me, pl)) := if_neg (by omega)
    rw [e0] at h
    obtain ⟨⟨d1, d2, d3⟩, d4, d5, d6⟩ := D
    exact h _ ⟨A, _, _, _, _, _, _, _, _, _, _, _, _, _, _, _, rfl, F, G, ⟨⟨d1, d2, et⟩, d4, by omega, d6⟩, Q, em, eq, hq, rfl⟩
theorem QCS_axiom {post : Int → (Nat → Nat) → (Nat → Nat) → (Nat → Int → Int) → (Nat → Int → Option Nat) → (Nat → Int) → (Nat → Int) → (Nat → Int) → (Nat → Int) → (Nat → Int) → (Nat → Option Nat) → (Nat → Int) → Prop} (R : ctIC kd an ai al ar mX29_axioms mX29_reasoner mX29_classes mX29_things mX29_thingCount mX29_fuel mX29_above mX29_not mX29_open mX29_under mX29_sorted mX29_placed mX29_empties mX29_asked mX30_fired mX30_many mX30_facts mX30_this_0 mX61_left mX61_right mX61_gone mJ1_modCount mJ2_elementData mJ2_size sa x u S) (hMC : 3 ≤ MC ∧ 103 ≤ MS) (h : ∀ kd' an' ai' ar' so' le ri go mo ed sz, ctIC (kd') (an') (ai') al (ar') mX29_axioms mX29_reasoner mX29_classes mX29_things mX29_thingCount mX29_fuel mX29_above mX29_not mX29_open mX29_under (so') mX29_placed mX29_empties mX29_asked mX30_fired mX30_many mX30_facts mX30_this_0 le ri go mo ed sz sa x u ((ctAxiom a b c S).2) → post (ctAxiom a b c S).1 kd' an' ai' ar' so' le ri go mo ed sz) : wpCS_X29_axiom MC MS post kd an ai ar mX29_axioms mX29_classes mX29_above mX29_not mX29_open mX29_under mX29_sorted mX61_left mX61_right mX61_gone mJ1_modCount mJ2_elementData mJ2_size sa x a b c := by
  obtain ⟨A, e, fx, n, f, t, m, so, qs, L, O, R_, Th, s, me, pl, rfl, F, G, D, Q, em, eq, hq, rfl⟩ := R
  refine CCS_axiom F G D em hMC (fun w => ?_) (fun w z => ?_) (fun w z z2 => ?_) (fun w z z2 kd' an' ai' ar' so' le ri go mo ed sz e' fx' kl F' G' D' es em' => ?_)
  · have e0 : ctAxiom a b c ((n, f, t, m, so, qs), L, O, R_, Th, s, me, pl) = (-1, ((n, f, t, m, so, qs), L, O, R_, Th, s, me, pl)) := pif_f w
    rw [e0] at h
    exact h _ _ _ _ _ _ _ _ _ _ _ ⟨A, _, _, _, _, _, _, _, _, _, _, _, _, _, _, _, rfl, F, G, D, Q, em, eq, hq, rfl⟩
  · have e0 : ctAxiom a b c ((n, f, t, m, so, qs), L, O, R_, Th, s, me, pl) = (-2, ((n, f, t, m, so, qs), L, O, R_, Th, s, me, pl)) := (pif_t w).trans (if_pos z)
    rw [e0] at h
    exact h _ _ _ _ _ _ _ _ _ _ _ ⟨A, _, _, _, _, _, _, _, _, _, _, _, _, _, _, _, rfl, F, G, D, Q, em, eq, hq, rfl⟩
  · have e0 : ctAxiom a b c ((n, f, t, m, so, qs), L, O, R_, Th, s, me, pl) = (-4, ((n, f, t, m, so, qs), L, O, R_, Th, s, me, pl)) := (pif_t w).trans ((if_neg z).trans (if_pos z2))
    rw [e0] at h
    exact h _ _ _ _ _ _ _ _ _ _ _ ⟨A, _, _, _, _, _, _, _, _, _, _, _, _, _, _, _, rfl, F, G, D, Q, em, eq, hq, rfl⟩
  · have e0 : ctAxiom a b c ((n, f, t, m, so, qs), L, O, R_, Th, s, me, pl) = (m, ((n, f, t, m + 1, 0, qs), updI L m a, updI O m b, updI R_ m (csGl c), updI Th m 1, csCl n (updI L m a) (updI O m b) (updI R_ m (csGl c)) (updI Th m 1) (m + 1) (csFg n (updI L m a) (updI O m b) (updI R_ m (csGl c)) (updI Th m 1) (m + 1) m 0 s), me, pl)) := (pif_t w).trans ((if_neg z).trans (if_neg (by omega)))
    rw [e0] at h
    exact h _ _ _ _ _ _ _ _ _ _ _ ⟨A, _, _, _, _, _, _, _, _, _, _, _, _, _, _, _, rfl, F', G', D', ⟨es, fun z => absurd rfl z⟩, em', eq, hq, rfl⟩
theorem QCS_remove {post : Int → (Nat → Int → Int) → (Nat → Int) → (Nat → Int) → Prop} (R : ctIC kd an ai al ar mX29_axioms mX29_reasoner mX29_classes mX29_things mX29_thingCount mX29_fuel mX29_above mX29_not mX29_open mX29_under mX29_sorted mX29_placed mX29_empties mX29_asked mX30_fired mX30_many mX30_facts mX30_this_0 mX61_left mX61_right mX61_gone mJ1_modCount mJ2_elementData mJ2_size sa x u S) (h : ∀ ai' so' go, ctIC kd an (ai') al ar mX29_axioms mX29_reasoner mX29_classes mX29_things mX29_thingCount mX29_fuel mX29_above mX29_not mX29_open mX29_under (so') mX29_placed mX29_empties mX29_asked mX30_fired mX30_many mX30_facts mX30_this_0 mX61_left mX61_right go mJ1_modCount mJ2_elementData mJ2_size sa x u ((ctRemove y S).2) → post (ctRemove y S).1 ai' so' go) : wpCS_X29_remove post kd an ai ar mX29_axioms mX29_classes mX29_above mX29_not mX29_open mX29_under mX29_sorted mX61_left mX61_right mX61_gone mJ2_elementData mJ2_size x y := by
  obtain ⟨A, e, fx, n, f, t, m, so, qs, L, O, R_, Th, s, me, pl, rfl, F, G, D, Q, em, eq, hq, rfl⟩ := R
  refine CCS_remove F G D (fun w => ?_) (fun w ai' so' go G' D' es => ?_)
  · have e0 : ctRemove y ((n, f, t, m, so, qs), L, O, R_, Th, s, me, pl) = (-1, ((n, f, t, m, so, qs), L, O, R_, Th, s, me, pl)) := if_neg w
    rw [e0] at h
    exact h _ _ _ ⟨A, _, _, _, _, _, _, _, _, _, _, _, _, _, _, _, rfl, F, G, D, Q, em, eq, hq, rfl⟩
  · have e0 : ctRemove y ((n, f, t, m, so, qs), L, O, R_, Th, s, me, pl) = (csLo s (csCl n L O R_ (updI Th y 0) m (csFg n L O R_ Th m y 1 s)), ((n, f, t, m, 0, qs), L, O, R_, updI Th y 0, csCl n L O R_ (updI Th y 0) m (csFg n L O R_ Th m y 1 s), me, pl)) := if_pos w
    rw [e0] at h
    exact h _ _ _ ⟨A, _, _, _, _, _, _, _, _, _, _, _, _, _, _, _, rfl, F, G', D', ⟨es, fun z => absurd rfl z⟩, em, eq, hq, rfl⟩
theorem QCS_fuel {post : Int → (Nat → Int → Int) → (Nat → Int) → (Nat → Int) → Prop} (R : ctIC kd an ai al ar mX29_axioms mX29_reasoner mX29_classes mX29_things mX29_thingCount mX29_fuel mX29_above mX29_not mX29_open mX29_under mX29_sorted mX29_placed mX29_empties mX29_asked mX30_fired mX30_many mX30_facts mX30_this_0 mX61_left mX61_right mX61_gone mJ1_modCount mJ2_elementData mJ2_size sa x u S) (h : ∀ ai' fu so', ctIC kd an (ai') al ar mX29_axioms mX29_reasoner mX29_classes mX29_things mX29_thingCount fu mX29_above mX29_not mX29_open mX29_under (so') mX29_placed mX29_empties mX29_asked mX30_fired mX30_many mX30_facts mX30_this_0 mX61_left mX61_right mX61_gone mJ1_modCount mJ2_elementData mJ2_size sa x u ((ctFuel y S).2) → post (ctFuel y S).1 ai' fu so') : wpCS_X29_fuel post kd an ai mX29_classes mX29_fuel mX29_open mX29_sorted x y := by
  obtain ⟨A, e, fx, n, f, t, m, so, qs, L, O, R_, Th, s, me, pl, rfl, F, G, D, Q, em, eq, hq, rfl⟩ := R
  have hn := G.2.2.2.2.2
  refine CCS_fuel F hn D (fun w => ?_) (fun w ai' fu so' D' es => ?_)
  · have e0 : ctFuel y ((n, f, t, m, so, qs), L, O, R_, Th, s, me, pl) = (-2, ((n, f, t, m, so, qs), L, O, R_, Th, s, me, pl)) := if_neg w
    rw [e0] at h
    exact h _ _ _ ⟨A, _, _, _, _, _, _, _, _, _, _, _, _, _, _, _, rfl, F, G, D, Q, em, eq, hq, rfl⟩
  · have e0 : ctFuel y ((n, f, t, m, so, qs), L, O, R_, Th, s, me, pl) = (csOp s, ((n, y, t, m, 0, qs), L, O, R_, Th, csFo s, me, pl)) := if_pos w
    rw [e0] at h
    exact h _ _ _ ⟨A, _, _, _, _, _, _, _, _, _, _, _, _, _, _, _, rfl, F, G, D', ⟨es, fun z => absurd rfl z⟩, em, eq, hq, rfl⟩
theorem QCS_known {post : Int → Prop} (R : ctIC kd an ai al ar mX29_axioms mX29_reasoner mX29_classes mX29_things mX29_thingCount mX29_fuel mX29_above mX29_not mX29_open mX29_under mX29_sorted mX29_placed mX29_empties mX29_asked mX30_fired mX30_many mX30_facts mX30_this_0 mX61_left mX61_right mX61_gone mJ1_modCount mJ2_elementData mJ2_size sa x u S) (h : post (ctKnown a b S)) : wpCS_X29_known post kd an ai mX29_classes mX29_above mX29_not mX29_open x a b := by
  obtain ⟨A, e, fx, n, f, t, m, so, qs, L, O, R_, Th, s, me, pl, rfl, F, G, D, Q, em, eq, hq, rfl⟩ := R
  have hn := G.2.2.2.2.2
  refine CCS_known F hn D (fun w => ?_) (fun w => ?_)
  · have e0 : ctKnown a b ((n, f, t, m, so, qs), L, O, R_, Th, s, me, pl) = -1 := pif_f w
    rw [e0] at h; exact h
  · have e0 : ctKnown a b ((n, f, t, m, so, qs), L, O, R_, Th, s, me, pl) = s (21 * a + csGl b) := pif_t w
    rw [e0] at h; exact h
theorem QCS_ask {post : Int → (Nat → Int → Int) → (Nat → Int) → (Nat → Int) → Prop} (R : ctIC kd an ai al ar mX29_axioms mX29_reasoner mX29_classes mX29_things mX29_thingCount mX29_fuel mX29_above mX29_not mX29_open mX29_under mX29_sorted mX29_placed mX29_empties mX29_asked mX30_fired mX30_many mX30_facts mX30_this_0 mX61_left mX61_right mX61_gone mJ1_modCount mJ2_elementData mJ2_size sa x u S) (h : ∀ ai' ma fc, ctIC kd an (ai') al ar mX29_axioms mX29_reasoner mX29_classes mX29_things mX29_thingCount mX29_fuel mX29_above mX29_not mX29_open mX29_under mX29_sorted mX29_placed mX29_empties mX29_asked mX30_fired ma fc mX30_this_0 mX61_left mX61_right mX61_gone mJ1_modCount mJ2_elementData mJ2_size sa x u S → post (ctAsk a b S) ai' ma fc) : wpCS_X29_ask post kd an ai ar mX29_axioms mX29_reasoner mX29_classes mX29_fuel mX30_fired mX30_many mX30_facts mX30_this_0 mX61_left mX61_right mX61_gone mJ2_elementData mJ2_size x a b := by
  obtain ⟨A, e, fx, n, f, t, m, so, qs, L, O, R_, Th, s, me, pl, rfl, F, G, D, Q, em, eq, hq, rfl⟩ := R
  refine CCS_ask F G D (fun w => ?_) (fun w ai' ma fc D' => ?_)
  · have e0 : ctAsk a b ((n, f, t, m, so, qs), L, O, R_, Th, s, me, pl) = -1 := pif_f w
    rw [e0] at h
    exact h _ _ _ ⟨A, _, _, _, _, _, _, _, _, _, _, _, _, _, _, _, rfl, F, G, D, Q, em, eq, hq, rfl⟩
  · have e0 : ctAsk a b ((n, f, t, m, so, qs), L, O, R_, Th, s, me, pl) = (csAn L O R_ Th m f (csGl b) (csOne a)).1 := pif_t w
    rw [e0] at h
    exact h _ _ _ ⟨A, _, _, _, _, _, _, _, _, _, _, _, _, _, _, _, rfl, F, G, D', Q, em, eq, hq, rfl⟩
theorem QCS_run {post : Int → (Nat → Int → Int) → (Nat → Int) → (Nat → Int) → (Nat → Int) → (Nat → Int) → (Nat → Int) → (Nat → Int) → Prop} (R : ctIC kd an ai al ar mX29_axioms mX29_reasoner mX29_classes mX29_things mX29_thingCount mX29_fuel mX29_above mX29_not mX29_open mX29_under mX29_sorted mX29_placed mX29_empties mX29_asked mX30_fired mX30_many mX30_facts mX30_this_0 mX61_left mX61_right mX61_gone mJ1_modCount mJ2_elementData mJ2_size sa x u S) (hu : u ≤ 500000) (h : ∀ ai' so' pm em' aq ma fc, ctIC kd an (ai') al ar mX29_axioms mX29_reasoner mX29_classes mX29_things mX29_thingCount mX29_fuel mX29_above mX29_not mX29_open mX29_under (so') pm (em') aq mX30_fired ma fc mX30_this_0 mX61_left mX61_right mX61_gone mJ1_modCount mJ2_elementData mJ2_size sa x (u + 860) ((ctRun S).2) → post (ctRun S).1 ai' so' pm em' aq ma fc) : wpCS_X29_run post kd an ai ar mX29_axioms mX29_reasoner mX29_classes mX29_fuel mX29_above mX29_not mX29_open mX29_under mX29_sorted mX29_placed mX29_empties mX29_asked mX30_fired mX30_many mX30_facts mX30_this_0 mX61_left mX61_right mX61_gone mJ2_elementData mJ2_size x := by
  obtain ⟨A, e, fx, n, f, t, m, so, qs, L, O, R_, Th, s, me, pl, rfl, F, G, D, Q, em, eq, hq, rfl⟩ := R
  have hn := G.2.2.2.2.2
  have hm := G.2.2.2.2.1
  have q9 := csRu_s (f := f) hm.1 hn G.2.2.2.1 D.2.2.2.2.2.1 n.toNat (by omega)
  exact CCS_run F G D eq (by omega) (fun ai' so' pm em' aq ma fc D' P' E' a' s' => h _ _ _ _ _ _ _ ⟨A, _, _, _, _, _, _, _, _, _, _, _, _, _, _, _, rfl, F, G, D', ⟨s', fun _ => ⟨P', E'⟩⟩, em, a', ⟨by have := q9.2.1; omega, by have := q9.2.2; omega⟩, rfl⟩)
theorem QCS_parent {post : Int → Prop} (R : ctIC kd an ai al ar mX29_axioms mX29_reasoner mX29_classes mX29_things mX29_thingCount mX29_fuel mX29_above mX29_not mX29_open mX29_under mX29_sorted mX29_placed mX29_empties mX29_asked mX30_fired mX30_many mX30_facts mX30_this_0 mX61_left mX61_right mX61_gone mJ1_modCount mJ2_elementData mJ2_size sa x u S) (hi : zR i) (h : post (ctParent c i S)) : wpCS_X29_parent post kd an ai mX29_classes mX29_above mX29_under mX29_sorted mX29_placed mX29_empties x c i := by
  obtain ⟨A, e, fx, n, f, t, m, so, qs, L, O, R_, Th, s, me, pl, rfl, F, G, D, Q, em, eq, hq, rfl⟩ := R
  refine CCS_parent F G D Q hi (fun w => ?_) (fun w z => ?_) (fun w z => ?_)
  · have e0 : ctParent c i ((n, f, t, m, so, qs), L, O, R_, Th, s, me, pl) = -1 := if_neg w
    rw [e0] at h; exact h
  · have e0 : ctParent c i ((n, f, t, m, so, qs), L, O, R_, Th, s, me, pl) = -3 := (if_pos w).trans (if_pos z)
    rw [e0] at h; exact h
  · have e0 : ctParent c i ((n, f, t, m, so, qs), L, O, R_, Th, s, me, pl) = csKt (csPp n s pl c) n.toNat i := (if_pos w).trans (if_neg z)
    rw [e0] at h; exact h
theorem QCS_child {post : Int → Prop} (R : ctIC kd an ai al ar mX29_axioms mX29_reasoner mX29_classes mX29_things mX29_thingCount mX29_fuel mX29_above mX29_not mX29_open mX29_under mX29_sorted mX29_placed mX29_empties mX29_asked mX30_fired mX30_many mX30_facts mX30_this_0 mX61_left mX61_right mX61_gone mJ1_modCount mJ2_elementData mJ2_size sa x u S) (hi : zR i) (h : post (ctChild c i S)) : wpCS_X29_child post kd an ai mX29_classes mX29_above mX29_under mX29_sorted mX29_placed mX29_empties x c i := by
  obtain ⟨A, e, fx, n, f, t, m, so, qs, L, O, R_, Th, s, me, pl, rfl, F, G, D, Q, em, eq, hq, rfl⟩ := R
  refine CCS_child F G D Q hi (fun w => ?_) (fun w z => ?_) (fun w z => ?_)
  · have e0 : ctChild c i ((n, f, t, m, so, qs), L, O, R_, Th, s, me, pl) = -1 := if_neg w
    rw [e0] at h; exact h
  · have e0 : ctChild c i ((n, f, t, m, so, qs), L, O, R_, Th, s, me, pl) = -3 := (if_pos w).trans (if_pos z)
    rw [e0] at h; exact h
  · have e0 : ctChild c i ((n, f, t, m, so, qs), L, O, R_, Th, s, me, pl) = csKt (csPc n s pl c) n.toNat i := (if_pos w).trans (if_neg z)
    rw [e0] at h; exact h
theorem QCS_equal {post : Int → Prop} (R : ctIC kd an ai al ar mX29_axioms mX29_reasoner mX29_classes mX29_things mX29_thingCount mX29_fuel mX29_above mX29_not mX29_open mX29_under mX29_sorted mX29_placed mX29_empties mX29_asked mX30_fired mX30_many mX30_facts mX30_this_0 mX61_left mX61_right mX61_gone mJ1_modCount mJ2_elementData mJ2_size sa x u S) (hi : zR i) (h : post (ctEqual c i S)) : wpCS_X29_equal post kd an ai mX29_classes mX29_above mX29_under mX29_sorted x c i := by
  obtain ⟨A, e, fx, n, f, t, m, so, qs, L, O, R_, Th, s, me, pl, rfl, F, G, D, Q, em, eq, hq, rfl⟩ := R
  refine CCS_equal F G D Q.1 hi (fun w => ?_) (fun w z => ?_) (fun w z => ?_)
  · have e0 : ctEqual c i ((n, f, t, m, so, qs), L, O, R_, Th, s, me, pl) = -1 := if_neg w
    rw [e0] at h; exact h
  · have e0 : ctEqual c i ((n, f, t, m, so, qs), L, O, R_, Th, s, me, pl) = -3 := (if_pos w).trans (if_pos z)
    rw [e0] at h; exact h
  · have e0 : ctEqual c i ((n, f, t, m, so, qs), L, O, R_, Th, s, me, pl) = csKt (fun d => csB s c d ∧ csB s d c) n.toNat i := (if_pos w).trans (if_neg z)
    rw [e0] at h; exact h
theorem QCS_empty {post : Int → Prop} (R : ctIC kd an ai al ar mX29_axioms mX29_reasoner mX29_classes mX29_things mX29_thingCount mX29_fuel mX29_above mX29_not mX29_open mX29_under mX29_sorted mX29_placed mX29_empties mX29_asked mX30_fired mX30_many mX30_facts mX30_this_0 mX61_left mX61_right mX61_gone mJ1_modCount mJ2_elementData mJ2_size sa x u S) (hi : zR i) (h : post (ctEmpty i S)) : wpCS_X29_empty post mX29_sorted mX29_empties x i := by
  obtain ⟨A, e, fx, n, f, t, m, so, qs, L, O, R_, Th, s, me, pl, rfl, F, G, D, Q, em, eq, hq, rfl⟩ := R
  have hn := G.2.2.2.2.2
  refine CCS_empty hn Q hi (fun z => ?_) (fun z => ?_)
  · have e0 : ctEmpty i ((n, f, t, m, so, qs), L, O, R_, Th, s, me, pl) = -3 := if_pos z
    rw [e0] at h; exact h
  · have e0 : ctEmpty i ((n, f, t, m, so, qs), L, O, R_, Th, s, me, pl) = csKt (fun d => pl d = 0) n.toNat i := if_neg z
    rw [e0] at h; exact h
theorem QCS_open {post : Int → Prop} (R : ctIC kd an ai al ar mX29_axioms mX29_reasoner mX29_classes mX29_things mX29_thingCount mX29_fuel mX29_above mX29_not mX29_open mX29_under mX29_sorted mX29_placed mX29_empties mX29_asked mX30_fired mX30_many mX30_facts mX30_this_0 mX61_left mX61_right mX61_gone mJ1_modCount mJ2_elementData mJ2_size sa x u S) (hi : zR i) (h : post (ctOpen i S)) : wpCS_X29_open post kd an ai mX29_classes mX29_open x i := by
  obtain ⟨A, e, fx, n, f, t, m, so, qs, L, O, R_, Th, s, me, pl, rfl, F, G, D, Q, em, eq, hq, rfl⟩ := R
  have hn := G.2.2.2.2.2
  exact CCS_open F D.2.2.2.1 D.2.2.2.2.2.2.2.2 hn D.1.1 hi h
theorem QCS_put {post : Int → (Nat → Int → Int) → Prop} (R : ctIC kd an ai al ar mX29_axioms mX29_reasoner mX29_classes mX29_things mX29_thingCount mX29_fuel mX29_above mX29_not mX29_open mX29_under mX29_sorted mX29_placed mX29_empties mX29_asked mX30_fired mX30_many mX30_facts mX30_this_0 mX61_left mX61_right mX61_gone mJ1_modCount mJ2_elementData mJ2_size sa x u S) (h : ∀ ai', ctIC kd an (ai') al ar mX29_axioms mX29_reasoner mX29_classes mX29_things mX29_thingCount mX29_fuel mX29_above mX29_not mX29_open mX29_under mX29_sorted mX29_placed mX29_empties mX29_asked mX30_fired mX30_many mX30_facts mX30_this_0 mX61_left mX61_right mX61_gone mJ1_modCount mJ2_elementData mJ2_size sa x u ((ctPut k c S).2) → post (ctPut k c S).1 ai') : wpCS_X29_put post kd an ai mX29_classes mX29_things mX29_thingCount x k c := by
  obtain ⟨A, e, fx, n, f, t, m, so, qs, L, O, R_, Th, s, me, pl, rfl, F, G, D, Q, em, eq, hq, rfl⟩ := R
  have hn := G.2.2.2.2.2
  refine CCS_put F hn D (fun w => ?_) (fun w ai' D' => ?_)
  · have e0 : ctPut k c ((n, f, t, m, so, qs), L, O, R_, Th, s, me, pl) = (-1, ((n, f, t, m, so, qs), L, O, R_, Th, s, me, pl)) := if_neg w
    rw [e0] at h
    exact h _ ⟨A, _, _, _, _, _, _, _, _, _, _, _, _, _, _, _, rfl, F, G, D, Q, em, eq, hq, rfl⟩
  · have e0 : ctPut k c ((n, f, t, m, so, qs), L, O, R_, Th, s, me, pl) = ((if me (20 * k + c) = 0 then 1 else 0), ((n, f, t, m, so, qs), L, O, R_, Th, s, updI me (20 * k + c) 1, pl)) := if_pos w
    rw [e0] at h
    exact h _ ⟨A, _, _, _, _, _, _, _, _, _, _, _, _, _, _, _, rfl, F, G, D', Q, em, eq, hq, rfl⟩
theorem QCS_type {post : Int → (Nat → Int → Int) → (Nat → Int) → (Nat → Int) → Prop} (R : ctIC kd an ai al ar mX29_axioms mX29_reasoner mX29_classes mX29_things mX29_thingCount mX29_fuel mX29_above mX29_not mX29_open mX29_under mX29_sorted mX29_placed mX29_empties mX29_asked mX30_fired mX30_many mX30_facts mX30_this_0 mX61_left mX61_right mX61_gone mJ1_modCount mJ2_elementData mJ2_size sa x u S) (hi : zR i) (h : ∀ ai' ma fc, ctIC kd an (ai') al ar mX29_axioms mX29_reasoner mX29_classes mX29_things mX29_thingCount mX29_fuel mX29_above mX29_not mX29_open mX29_under mX29_sorted mX29_placed mX29_empties mX29_asked mX30_fired ma fc mX30_this_0 mX61_left mX61_right mX61_gone mJ1_modCount mJ2_elementData mJ2_size sa x u S → post (ctType y i S) ai' ma fc) : wpCS_X29_type post kd an ai ar mX29_axioms mX29_reasoner mX29_classes mX29_things mX29_thingCount mX29_fuel mX29_above mX29_under mX29_sorted mX29_placed mX30_fired mX30_many mX30_facts mX30_this_0 mX61_left mX61_right mX61_gone mJ2_elementData mJ2_size x y i := by
  obtain ⟨A, e, fx, n, f, t, m, so, qs, L, O, R_, Th, s, me, pl, rfl, F, G, D, Q, em, eq, hq, rfl⟩ := R
  refine CCS_type F G D Q hi (fun w => ?_) (fun w z => ?_) (fun w z z2 ai' ma fc D' => ?_) (fun w z z2 ai' ma fc D' => ?_)
  · have e0 : ctType y i ((n, f, t, m, so, qs), L, O, R_, Th, s, me, pl) = -1 := if_neg w
    rw [e0] at h
    exact h _ _ _ ⟨A, _, _, _, _, _, _, _, _, _, _, _, _, _, _, _, rfl, F, G, D, Q, em, eq, hq, rfl⟩
  · have e0 : ctType y i ((n, f, t, m, so, qs), L, O, R_, Th, s, me, pl) = -3 := (if_pos w).trans (if_pos z)
    rw [e0] at h
    exact h _ _ _ ⟨A, _, _, _, _, _, _, _, _, _, _, _, _, _, _, _, rfl, F, G, D, Q, em, eq, hq, rfl⟩
  · have e0 : ctType y i ((n, f, t, m, so, qs), L, O, R_, Th, s, me, pl) = -5 := (if_pos w).trans ((if_neg z).trans (pif_t z2))
    rw [e0] at h
    exact h _ _ _ ⟨A, _, _, _, _, _, _, _, _, _, _, _, _, _, _, _, rfl, F, G, D', Q, em, eq, hq, rfl⟩
  · have e0 : ctType y i ((n, f, t, m, so, qs), L, O, R_, Th, s, me, pl) = csKt (csTy n s pl L O R_ Th m f me y) n.toNat i := (if_pos w).trans ((if_neg z).trans (pif_f z2))
    rw [e0] at h
    exact h _ _ _ ⟨A, _, _, _, _, _, _, _, _, _, _, _, _, _, _, _, rfl, F, G, D', Q, em, eq, hq, rfl⟩
theorem QCS_trace {post : Int → (Nat → Int → Int) → (Nat → Int) → (Nat → Int) → Prop} (R : ctIC kd an ai al ar mX29_axioms mX29_reasoner mX29_classes mX29_things mX29_thingCount mX29_fuel mX29_above mX29_not mX29_open mX29_under mX29_sorted mX29_placed mX29_empties mX29_asked mX30_fired mX30_many mX30_facts mX30_this_0 mX61_left mX61_right mX61_gone mJ1_modCount mJ2_elementData mJ2_size sa x u S) (hi : zR i) (h : ∀ ai' ma fc, ctIC kd an (ai') al ar mX29_axioms mX29_reasoner mX29_classes mX29_things mX29_thingCount mX29_fuel mX29_above mX29_not mX29_open mX29_under mX29_sorted mX29_placed mX29_empties mX29_asked mX30_fired ma fc mX30_this_0 mX61_left mX61_right mX61_gone mJ1_modCount mJ2_elementData mJ2_size sa x u S → post (ctTrace a b i S) ai' ma fc) : wpCS_X29_trace post kd an ai ar mX29_axioms mX29_reasoner mX29_classes mX29_fuel mX30_fired mX30_many mX30_facts mX30_this_0 mX61_left mX61_right mX61_gone mJ2_elementData mJ2_size x a b i := by
  obtain ⟨A, e, fx, n, f, t, m, so, qs, L, O, R_, Th, s, me, pl, rfl, F, G, D, Q, em, eq, hq, rfl⟩ := R
  refine CCS_trace F G D hi (fun w => ?_) (fun w ai' ma fc D' z => ?_) (fun w ai' ma fc D' z l' el ne => ?_)
  · have e0 : ctTrace a b i ((n, f, t, m, so, qs), L, O, R_, Th, s, me, pl) = -1 := pif_f w
    rw [e0] at h
    exact h _ _ _ ⟨A, _, _, _, _, _, _, _, _, _, _, _, _, _, _, _, rfl, F, G, D, Q, em, eq, hq, rfl⟩
  · have e0 : ctTrace a b i ((n, f, t, m, so, qs), L, O, R_, Th, s, me, pl) = -6 := (pif_t w).trans (pif_t z)
    rw [e0] at h
    exact h _ _ _ ⟨A, _, _, _, _, _, _, _, _, _, _, _, _, _, _, _, rfl, F, G, D', Q, em, eq, hq, rfl⟩
  · subst el
    have e0 : ctTrace a b i ((n, f, t, m, so, qs), L, O, R_, Th, s, me, pl) = pif (csTr L O R_ (csAn L O R_ Th m f (csGl b) (csOne a)).2.2 i = -6) (-6) ((csAn L O R_ Th m f (csGl b) (csOne a)).2.2.getD (csTr L O R_ (csAn L O R_ Th m f (csGl b) (csOne a)).2.2 i).toNat 0) := (pif_t w).trans (pif_f (fun y => y.elim (fun y1 => y1 z) ne))
    rw [e0] at h
    exact h _ _ _ ⟨A, _, _, _, _, _, _, _, _, _, _, _, _, _, _, _, rfl, F, G, D', Q, em, eq, hq, rfl⟩
theorem QCS_count {post : Int → Prop} (R : ctIC kd an ai al ar mX29_axioms mX29_reasoner mX29_classes mX29_things mX29_thingCount mX29_fuel mX29_above mX29_not mX29_open mX29_under mX29_sorted mX29_placed mX29_empties mX29_asked mX30_fired mX30_many mX30_facts mX30_this_0 mX61_left mX61_right mX61_gone mJ1_modCount mJ2_elementData mJ2_size sa x u S) (h : post (ctCount y S)) : wpCS_X29_count post kd an ai ar mX29_axioms mX29_classes mX29_thingCount mX29_open mX29_sorted mX29_placed mX29_asked mX61_gone mJ2_elementData mJ2_size x y := by
  obtain ⟨A, e, fx, n, f, t, m, so, qs, L, O, R_, Th, s, me, pl, rfl, F, G, D, Q, em, eq, hq, rfl⟩ := R
  exact CCS_count F G D Q eq h
end
