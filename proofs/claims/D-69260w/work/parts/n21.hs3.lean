/-! HS3: what the house's own calls do, as functions -/
set_option maxRecDepth 100000
/-- a triple in facets and rules: comes, or goes -/
noncomputable def hsTell (t on : Int) (F : FcS) (E : reT) : Int × FcS × reT :=
  if on = 0 then ((fsDrop F (Int32.ofInt (t / 20)) (Int32.ofInt (t / 4 % 5)) (Int32.ofInt (t % 4))).1.toInt, (fsDrop F (Int32.ofInt (t / 20)) (Int32.ofInt (t / 4 % 5)) (Int32.ofInt (t % 4))).2, (rqRemove (t / 4 % 5) (t / 20) (t % 4) E).2)
  else ((fsRow F (Int32.ofInt (t / 20)) (Int32.ofInt (t / 4 % 5)) (Int32.ofInt (t % 4))).1.toInt, (fsRow F (Int32.ofInt (t / 20)) (Int32.ofInt (t / 4 % 5)) (Int32.ofInt (t % 4))).2, (rqFact (t / 4 % 5) (t / 20) (t % 4) E).2)
/-- a row of the ledger -/
def hsEnt (k a b : Int) (L : Int → Int) (n : Int) : Int → Int := if n < 400 then updI (updI (updI L (3 * n) k) (3 * n + 1) a) (3 * n + 2) b else L
def hsSv (V : vsS) : Int := if vsLatest V ≤ 7 then vsLatest V else 7
/-- how (0 told), answer, versions, facets, rules, ledger, its rows -/
noncomputable def hsSay (p t on : Int) (V : vsS) (D : rdT) (F : FcS) (E : reT) (L : Int → Int) (n : Int) : Nat × Int × vsS × FcS × reT × (Int → Int) × Int :=
  if t < 0 ∨ 200 ≤ t then (0, -1, V, F, E, L, n)
  else if ¬ rdqMay p (t / 50) (t / 4 % 5) (t % 4) (hsSv V) 0 D = 1 then (0, -2, V, F, E, L, n)
  else if ¬ (vsBegin V).1 = 0 then (0, -3, (vsBegin V).2.2, F, E, L, n)
  else if ¬ (vsPut (vsBegin V).2.1 t on (vsBegin V).2.2).2.1 = 1 then (0, -4, (vsAbort (vsBegin V).2.1 (vsPut (vsBegin V).2.1 t on (vsBegin V).2.2).2.2).2.2, F, E, L, n)
  else if ¬ (vsCommit (vsBegin V).2.1 (vsPut (vsBegin V).2.1 t on (vsBegin V).2.2).2.2).1 = 0 then ((vsCommit (vsBegin V).2.1 (vsPut (vsBegin V).2.1 t on (vsBegin V).2.2).2.2).1, -1, (vsCommit (vsBegin V).2.1 (vsPut (vsBegin V).2.1 t on (vsBegin V).2.2).2.2).2.2, F, E, L, n)
  else if (vsCommit (vsBegin V).2.1 (vsPut (vsBegin V).2.1 t on (vsBegin V).2.2).2.2).2.1 ≤ vsLatest V then (0, (vsCommit (vsBegin V).2.1 (vsPut (vsBegin V).2.1 t on (vsBegin V).2.2).2.2).2.1, (vsCommit (vsBegin V).2.1 (vsPut (vsBegin V).2.1 t on (vsBegin V).2.2).2.2).2.2, F, E, L, n)
  else (0, (vsCommit (vsBegin V).2.1 (vsPut (vsBegin V).2.1 t on (vsBegin V).2.2).2.2).2.1, (vsCommit (vsBegin V).2.1 (vsPut (vsBegin V).2.1 t on (vsBegin V).2.2).2.2).2.2, (hsTell t on F E).2.1, (hsTell t on F E).2.2, hsEnt 0 t (vsCommit (vsBegin V).2.1 (vsPut (vsBegin V).2.1 t on (vsBegin V).2.2).2.2).2.1 L n, n + 1)
noncomputable def hsOn (V : vsS) (t : Int) : Int := (vsTold (vsLatest V) t V).2
/-- from triple t on, k of them -/
noncomputable def hsLev (V : vsS) : Nat → Int → Int → FcS → reT → Int × FcS × reT
  | 0, _, n, F, E => (n, F, E)
  | k + 1, t, n, F, E => hsLev V k (t + 1) (if (hsTell t (hsOn V t) F E).1 = 1 then n + 1 else n) (hsTell t (hsOn V t) F E).2.1 (hsTell t (hsOn V t) F E).2.2
noncomputable def hsB4 (N : cnT) : cnT := (cnqBlank (cnqBlank (cnqBlank (cnqBlank N).2).2).2).2
noncomputable def hsPub (V : vsS) : Nat → Int → cnT → cnT
  | 0, _, N => N
  | k + 1, t, N => hsPub V k (t + 1) (if hsOn V t = 0 then N else (cnqTriple (if 6 ≤ t / 20 then 5 - t / 20 else t / 20 + 1, 100 + t / 4 % 5, 200 + t % 4) N).2)
/-- answer, names, ledger, its rows -/
noncomputable def hsPublish (V : vsS) (N : cnT) (L : Int → Int) (n : Int) : Int × cnT × (Int → Int) × Int :=
  if (cnqKeep N).1 < 0 then (-1, (cnqKeep N).2, L, n)
  else (cnqIso (cnqKeep N).1 (cnqName 5000 (hsPub V 200 0 (hsB4 (cnqKeep N).2))).2, (cnqName 5000 (hsPub V 200 0 (hsB4 (cnqKeep N).2))).2, hsEnt 1 (cnqKeep N).1 (cnqName 5000 (hsPub V 200 0 (hsB4 (cnqKeep N).2))).1 L n, n + 1)
/-- answer, classes, facets, rewrite, ledger, its rows -/
noncomputable def hsUnder (a b : Int) (C : ctT) (F : FcS) (Q : qrT) (L : Int → Int) (n : Int) : Int × ctT × FcS × qrT × (Int → Int) × Int :=
  if (ctAxiom a (-1) b C).1 < 0 then ((ctAxiom a (-1) b C).1, (ctAxiom a (-1) b C).2, F, Q, L, n)
  else ((ctAxiom a (-1) b C).1, (ctAxiom a (-1) b C).2, (fsAbove F (Int32.ofInt a) (Int32.ofInt b)).2, (qqAxiom 0 a b Q).2, hsEnt 2 a b L n, n + 1)
noncomputable def hsIs (a b : Int) (C : ctT) (F : FcS) (Q : qrT) (L : Int → Int) (n : Int) : Int × ctT × FcS × qrT × (Int → Int) × Int :=
  if (ctPut a b C).1 < 0 then ((ctPut a b C).1, (ctPut a b C).2, F, Q, L, n)
  else ((ctPut a b C).1, (ctPut a b C).2, (fsRow F (Int32.ofInt a) (Int32.ofInt 0) (Int32.ofInt b)).2, (qqFact 0 b a 0 Q).2, if (ctPut a b C).1 = 1 then hsEnt 3 a b L n else L, if (ctPut a b C).1 = 1 then n + 1 else n)
/-- the parents of one class: the i-th is b -/
noncomputable def hsOrI (C : ctT) (a : Int) : Nat → Int → Int → Int → reT → Int × reT
  | 0, _, _, n, E => (n, E)
  | k + 1, i, b, n, E => if b < 0 then (n, E) else hsOrI C a k (i + 1) (ctParent a (i + 1) C) (if (rqFact 15 a b E).1 = 1 then n + 1 else n) (rqFact 15 a b E).2
noncomputable def hsOrO (C : ctT) : Nat → Int → Int → reT → Int × reT
  | 0, _, n, E => (n, E)
  | k + 1, a, n, E => if ctCount 0 C ≤ a then (n, E) else hsOrO C k (a + 1) (hsOrI C a 30 0 (ctParent a 0 C) n E).1 (hsOrI C a 30 0 (ctParent a 0 C) n E).2
/-- how, answer, rewrite: rows of a run from the i-th on, k of them -/
noncomputable def hsTak (T : vrS) (v w r : Int) : Nat → Int → Int → qrT → Nat × Int × qrT
  | 0, _, n, Q => (0, n, Q)
  | k + 1, i, n, Q => if ¬ (vrValue i v T).1 = 0 then ((vrValue i v T).1, -1, Q) else if ¬ (vrValue i w T).1 = 0 then ((vrValue i w T).1, -1, Q)
    else hsTak T v w r k (i + 1) (if (qqFact 1 r (Int.tmod (vrValue i v T).2 12) (Int.tmod (vrValue i w T).2 12) Q).1 = 1 then n + 1 else n) (qqFact 1 r (Int.tmod (vrValue i v T).2 12) (Int.tmod (vrValue i w T).2 12) Q).2
/-- how, answer, tables, rewrite -/
noncomputable def hsTake (v w r : Int) (T : vrS) (Q : qrT) : Nat × Int × vrS × qrT :=
  if v < 0 ∨ 6 ≤ v ∨ w < 0 ∨ 6 ≤ w then (0, -2, T, Q)
  else ((hsTak (vrRun T).2 v w r (vrRun T).1.toNat 0 0 Q).1, if (vrRun T).1 < 0 then (vrRun T).1 else (hsTak (vrRun T).2 v w r (vrRun T).1.toNat 0 0 Q).2.1, (vrRun T).2, (hsTak (vrRun T).2 v w r (vrRun T).1.toNat 0 0 Q).2.2)
noncomputable def hsSto (V : vsS) (F : FcS) (N : cnT) : Int := 1000000 * vsLatest V + 1000 * (fsKept F).toInt + cnqTriples N
/-- answer, disk, ledger, its rows -/
noncomputable def hsStore (x : Int) (V : vsS) (F : FcS) (N : cnT) (K : KS) (L : Int → Int) (n : Int) : Int × KS × (Int → Int) × Int :=
  if (kqPage 1 (-1) (hsSto V F N) K).1 < 0 then ((kqPage 1 (-1) (hsSto V F N) K).1, (kqPage 1 (-1) (hsSto V F N) K).2, L, n)
  else if (kdCo (kqPage 1 (-1) (hsSto V F N) K).2 x).1 < 0 then ((kdCo (kqPage 1 (-1) (hsSto V F N) K).2 x).1, (kdCo (kqPage 1 (-1) (hsSto V F N) K).2 x).2, L, n)
  else ((kqPage 1 (-1) (hsSto V F N) K).1, (kdSy (kdCo (kqPage 1 (-1) (hsSto V F N) K).2 x).2).2, hsEnt 4 (kqPage 1 (-1) (hsSto V F N) K).1 x L n, n + 1)
noncomputable def hsAud (V : vsS) (E : reT) : Nat → Int → Int → Int
  | 0, _, n => n
  | k + 1, t, n => hsAud V E k (t + 1) (if (hsOn V t = 0 ↔ ¬ rqHol (t / 4 % 5) (t / 20) (t % 4) E = 1) then n else n + 1)
def hsEntry (i w : Int) (L : Int → Int) (n : Int) : Int := if (0 ≤ i ∧ i < 400 ∧ i < n) ∧ 0 ≤ w ∧ w < 3 then L (3 * i + w) else -1
