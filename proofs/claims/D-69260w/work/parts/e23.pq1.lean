/-! ProofChecker: what a call does, as functions on one state: axioms; triples; rows; the least broken row; the text said last -/
abbrev pqR : Type := (Int → Int) × (Int → Int) × (Int → Int) × (Int → Int) × Int
abbrev pqT : Type := ((Int → Int) × Int) × ((Int → Int) × Int) × pqR × Int × List Int
noncomputable def pqAxiom (t a b : Int) : pqT → Int × pqT
  | ((ax, na), R) => pif (pcAok t a b) (if na = 100 then (-4, ((ax, na), R)) else (na + 1, ((pcLy ax (na + 1) t a (pif (pcSg t) 0 b) 0, na + 1), R))) (-2, ((ax, na), R))
noncomputable def pqFi (tr : Int → Int) (nt a b c : Int) : Int := fstI (fun j => 1 ≤ j ∧ pcTk tr a b c j) (nt + 1).toNat
noncomputable def pqTriple (a b c : Int) : pqT → Int × pqT
  | (X, (tr, nt), R) => pif (pcTok a b c) (if pqFi tr nt a b c ≤ nt then (pqFi tr nt a b c, (X, (tr, nt), R)) else if nt = 100 then (-4, (X, (tr, nt), R)) else (nt + 1, (X, (pcLy tr (nt + 1) 11 a b c, nt + 1), R))) (-2, (X, (tr, nt), R))
noncomputable def pqRow (r i p : Int) : pqT → Int × pqT
  | ((ax, na), (tr, nt), (ru, ins, ct, pr, n), R) => pif (pcRok na nt n r i p) (n + 1, ((ax, na), (tr, nt), (updI ru (n + 1) r, updI ins (n + 1) i, updI ct (n + 1) (if p = 0 then 0 else 1), (if p = 0 then pr else updI pr (3 * (n + 1)) p), n + 1), R)) (0, ((ax, na), (tr, nt), (ru, ins, ct, pr, n), R))
def pqPremise (r o : Int) : pqT → Int × pqT
  | (X, Y, (ru, ins, ct, pr, n), R) => if (1 ≤ r ∧ r ≤ n) ∧ (1 ≤ o ∧ o ≤ n) then (if o < r ∧ ct r < pcT (ru r) then (ct r + 1, (X, Y, (ru, ins, updI ct r (ct r + 1), updI pr (3 * r + ct r) o, n), R)) else (-3, (X, Y, (ru, ins, ct, pr, n), R))) else (-1, (X, Y, (ru, ins, ct, pr, n), R))
noncomputable def pqCheck (root : Int) : pqT → Int × pqT
  | ((ax, na), (tr, nt), (ru, ins, ct, pr, n), br, tx) => (pcChk ct pr (pcS ax tr ru ins ct pr) n root, ((ax, na), (tr, nt), (ru, ins, ct, pr, n), pcChB ct pr (pcS ax tr ru ins ct pr) n root br, tx))
def pqBroken : pqT → Int
  | (_, _, _, br, _) => br
noncomputable def pqRows (root : Int) : pqT → Int
  | (_, _, (_, _, ct, pr, n), _) => pcRows ct pr n root
noncomputable def pqSize (root : Int) : pqT → Int
  | (_, _, (_, _, ct, pr, n), _) => pcSize ct pr n root
def pqName (root : Int) : pqT → Int
  | (_, _, (ru, _, _, _, n), _) => if 1 ≤ root ∧ root ≤ n then ru root else -1
noncomputable def pqStates (root w : Int) : pqT → Int
  | ((ax, _), (tr, _), (ru, ins, ct, pr, n), _) => pcSta (pcS ax tr ru ins ct pr) n root w
noncomputable def pqConcludes (root t : Int) : pqT → Int
  | ((ax, _), (tr, nt), (ru, ins, ct, pr, n), _) => pif (pcCon (pcS ax tr ru ins ct pr) tr n nt root t) 1 0
noncomputable def pqSentence (root : Int) : pqT → Int × pqT
  | ((ax, na), (tr, nt), (ru, ins, ct, pr, n), br, tx) => if 1 ≤ root ∧ root ≤ n then (((pcSen (pcS ax tr ru ins ct pr) ru ct pr root).length : Int), ((ax, na), (tr, nt), (ru, ins, ct, pr, n), br, pcSen (pcS ax tr ru ins ct pr) ru ct pr root)) else (-1, ((ax, na), (tr, nt), (ru, ins, ct, pr, n), br, tx))
def pqAt (i : Int) : pqT → Int
  | (_, _, _, _, tx) => pcAt tx i
abbrev pqQ : Type := (Int → Int) × (Int → Int) × (Int → Int) × (Int → Int)
noncomputable def pqDp (ru ins ct pr : Int → Int) (root : Int) : pqQ := Classical.epsilon (fun q : pqQ => pcDp ru ins ct pr root root q.1 q.2.1 q.2.2.1 q.2.2.2)
noncomputable def pqDrop (root : Int) : pqT → Int × pqT
  | (X, Y, (ru, ins, ct, pr, n), br, tx) => if 1 ≤ root ∧ root ≤ n then (pcC ct pr root root, (X, Y, ((pqDp ru ins ct pr root).1, (pqDp ru ins ct pr root).2.1, (pqDp ru ins ct pr root).2.2.1, (pqDp ru ins ct pr root).2.2.2, pcC ct pr root root), 0, tx)) else (-1, (X, Y, (ru, ins, ct, pr, n), br, tx))
section
variable {ax tr ru ins ct pr ru0 ins0 ct0 pr0 ru' ins' ct' pr' ru9 ins9 ct9 pr9 : Int → Int} {na nt n k r t a b c i p o root br : Int} {S S0 : Int → Int → Int}
theorem pqFi_1 (h0 : 1 ≤ k) (h1 : k ≤ nt) (e : pcTk tr a b c k) (ne : ∀ j, 1 ≤ j → j < k → ¬ pcTk tr a b c j) : pqFi tr nt a b c = k := fstI_u (by omega) (by omega) (fun _ => ⟨h0, e⟩) (fun j j0 j1 w => ne j w.1 j1 w.2)
theorem pqFi_2 (h0 : 0 ≤ nt) (ne : ∀ j, 1 ≤ j → j ≤ nt → ¬ pcTk tr a b c j) : pqFi tr nt a b c = nt + 1 := fstI_u (by omega) (by omega) (fun h => by omega) (fun j j0 j1 w => ne j w.1 (by omega) w.2)
theorem pcEr.symm (E : pcEr ru ins ct pr ru0 ins0 ct0 pr0 k) : pcEr ru0 ins0 ct0 pr0 ru ins ct pr k := fun r r0 r1 => by
  obtain ⟨⟨e1, e2, e3⟩, e4⟩ := E r r0 r1
  exact ⟨⟨e1.symm, e2.symm, e3.symm⟩, fun i i0 i1 => (e4 i i0 (by rw [← e3]; exact i1)).symm⟩
theorem pcMk_c (E : pcEr ru ins ct pr ru0 ins0 ct0 pr0 n) (hr : root ≤ n) : ∀ d : Nat, (d : Int) ≤ root → ∀ r, pcMk ct pr root d r ↔ pcMk ct0 pr0 root d r
  | 0, _, _ => Iff.rfl
  | d + 1, hd, r => by
    have ih := pcMk_c E hr d (by omega)
    obtain ⟨⟨_, _, e3⟩, e4⟩ := E (root - d) (by omega) (by omega)
    have ex : (∃ i, (0 ≤ i ∧ i < ct (root - d)) ∧ pr (3 * (root - d) + i) = r) ↔ (∃ i, (0 ≤ i ∧ i < ct0 (root - d)) ∧ pr0 (3 * (root - d) + i) = r) := exists_congr fun i => by
      rw [e3]
      exact and_congr_right fun w => by rw [e4 i w.1 w.2]
    exact or_congr (ih r) (and_congr (ih (root - d)) ex)
theorem pcNd_c (E : pcEr ru ins ct pr ru0 ins0 ct0 pr0 n) (hr : 1 ≤ root ∧ root ≤ n) : pcNd ct pr root r ↔ pcNd ct0 pr0 root r := pcMk_c E hr.2 root.toNat (by omega) r
theorem pcCt_c (E : pcEr ru ins ct pr ru0 ins0 ct0 pr0 n) (hr : root ≤ n) : ∀ d : Nat, (d : Int) ≤ root → pcCt ct pr root d = pcCt ct0 pr0 root d
  | 0, _ => rfl
  | d + 1, hd => by rw [pcCt, pcCt, pcCt_c E hr d (by omega), pif_c (pcMk_c E hr d (by omega) (root - d))]
theorem pcC_c (E : pcEr ru ins ct pr ru0 ins0 ct0 pr0 n) (hr : 1 ≤ root ∧ root ≤ n) : pcC ct pr root r = pcC ct0 pr0 root r := cntI_c (fun i i0 i1 => pcNd_c E hr)
theorem pcBr_c (E : pcEr ru ins ct pr ru0 ins0 ct0 pr0 n) (hP : pcPr ct pr n) (hS : ∀ r, 1 ≤ r → r ≤ n → S r = S0 r) (hr : 1 ≤ root ∧ root ≤ n) : ∀ d : Nat, (d : Int) ≤ root → pcBr ct pr S root d = pcBr ct0 pr0 S0 root d
  | 0, _ => rfl
  | d + 1, hd => by
    have q0 : 1 ≤ root - d := by omega
    have q1 : root - d ≤ n := by omega
    obtain ⟨⟨_, _, e3⟩, e4⟩ := E (root - d) q0 q1
    have P := hP (root - d) q0 q1
    rw [pcBr, pcBr, pcBr_c E hP hS hr d (by omega)]
    refine pif_c (and_congr (pcNd_c E hr) (and_congr (by rw [hS _ q0 q1]) ?_))
    rw [e3]
    refine forall_congr' fun i => forall_congr' fun i0 => forall_congr' fun i1 => ?_
    have := P.2 i i0 i1
    rw [e4 i i0 i1, hS _ this.1 (by omega)]
theorem pcPw_c (E : pcEr ru ins ct pr ru0 ins0 ct0 pr0 n) (hr : 1 ≤ r ∧ r ≤ n) : ∀ i : Nat, (i : Int) ≤ ct r → pcPw pr r i = pcPw pr0 r i
  | 0, _ => rfl
  | i + 1, hi => by rw [pcPw, pcPw, pcPw_c E hr i (by omega), (E r hr.1 hr.2).2 i (by omega) (by omega)]
theorem pcSen_cg (E : pcEr ru ins ct pr ru0 ins0 ct0 pr0 n) (hP : pcPr ct pr n) (hS : ∀ r, 1 ≤ r → r ≤ n → S r = S0 r) (hr : 1 ≤ r ∧ r ≤ n) : pcSen S ru ct pr r = pcSen S0 ru0 ct0 pr0 r := by
  have P := (hP r hr.1 hr.2).1
  obtain ⟨⟨e1, _, e3⟩, _⟩ := E r hr.1 hr.2
  unfold pcSen
  rw [hS r hr.1 hr.2, e1, e3, pcPw_c E hr (ct r).toNat (by omega)]
/-- what is left of a dropped proof: the rows agree -/
theorem pcDp_E (hI : pcI ru ins ct pr na nt n) (hr : 1 ≤ root ∧ root ≤ n) (E : pcEr ru ins ct pr ru0 ins0 ct0 pr0 n) (D : pcDp ru ins ct pr root root ru' ins' ct' pr') (D0 : pcDp ru0 ins0 ct0 pr0 root root ru9 ins9 ct9 pr9) : pcEr ru' ins' ct' pr' ru9 ins9 ct9 pr9 (pcC ct pr root root) := fun m m0 m1 => by
  have hP := hI.prm
  obtain ⟨r, hr1, nd, e⟩ := pcDp_at hP hr root.toNat (m := m) m0 (by rw [show ((root.toNat : Nat) : Int) = root by omega]; exact m1) (by omega)
  obtain ⟨⟨a1, a2, a3⟩, a4⟩ := D r hr1.1 hr1.2 nd
  obtain ⟨⟨b1, b2, b3⟩, b4⟩ := D0 r hr1.1 hr1.2 ((pcNd_c E hr).1 nd)
  obtain ⟨⟨e1, e2, e3⟩, e4⟩ := E r hr1.1 (by omega)
  rw [← pcC_c E hr, e] at b1 b2 b3
  rw [e] at a1 a2 a3
  refine ⟨⟨by rw [b1, a1, e1], by rw [b2, a2, e2], by rw [b3, a3, e3]⟩, fun i i0 i1 => ?_⟩
  rw [a3] at i1
  have x1 := a4 i i0 i1
  have x2 := b4 i i0 (by rw [e3]; exact i1)
  rw [e] at x1
  rw [← pcC_c E hr, e, e4 i i0 i1, ← pcC_c E hr] at x2
  rw [x1, x2]
theorem pcDp_ex (hP : pcPr ct pr n) (hr : 1 ≤ root ∧ root ≤ n) : ∃ q : pqQ, pcDp ru ins ct pr root root q.1 q.2.1 q.2.2.1 q.2.2.2 := by
  let f : Int → Int := fun m => Classical.epsilon (fun r : Int => (1 ≤ r ∧ r ≤ root) ∧ pcNd ct pr root r ∧ pcC ct pr root r = m)
  have hf : ∀ r, 1 ≤ r → r ≤ root → pcNd ct pr root r → f (pcC ct pr root r) = r := fun r r0 r1 nd => by
    have s : (1 ≤ f (pcC ct pr root r) ∧ f (pcC ct pr root r) ≤ root) ∧ pcNd ct pr root (f (pcC ct pr root r)) ∧ pcC ct pr root (f (pcC ct pr root r)) = pcC ct pr root r := Classical.epsilon_spec (p := fun s : Int => (1 ≤ s ∧ s ≤ root) ∧ pcNd ct pr root s ∧ pcC ct pr root s = pcC ct pr root r) ⟨r, ⟨r0, r1⟩, nd, rfl⟩
    rcases Int.lt_trichotomy (f (pcC ct pr root r)) r with l | l | l
    · have := pcC_lt (ct := ct) (pr := pr) (root := root) (by omega) l nd
      omega
    · exact l
    · have := pcC_lt (ct := ct) (pr := pr) (root := root) (by omega) l s.2.1
      omega
  refine ⟨(fun m => ru (f m), fun m => ins (f m), fun m => ct (f m), fun x => pcC ct pr root (pr (3 * f (x / 3) + x % 3))), fun r r0 r1 nd => ?_⟩
  have e := hf r r0 r1 nd
  have c3 := (hP r r0 (by omega)).1
  try dsimp only
  rw [e]
  refine ⟨⟨rfl, rfl, rfl⟩, fun i i0 i1 => ?_⟩
  rw [show (3 * pcC ct pr root r + i) / 3 = pcC ct pr root r by omega, show (3 * pcC ct pr root r + i) % 3 = i by omega, e]
theorem pqDp_s (hP : pcPr ct pr n) (hr : 1 ≤ root ∧ root ≤ n) : pcDp ru ins ct pr root root (pqDp ru ins ct pr root).1 (pqDp ru ins ct pr root).2.1 (pqDp ru ins ct pr root).2.2.1 (pqDp ru ins ct pr root).2.2.2 := Classical.epsilon_spec (p := fun q : pqQ => pcDp ru ins ct pr root root q.1 q.2.1 q.2.2.1 q.2.2.2) (pcDp_ex hP hr)
theorem pcLy_o {f : Int → Int} {d : Int} {j : Int} (h : ¬ k = r) (hj : 0 ≤ j ∧ j < 4) : pcLy f k a b c d (4 * r + j) = f (4 * r + j) := by
  unfold pcLy
  rw [updI_n (by omega), updI_n (by omega), updI_n (by omega), updI_n (by omega)]
theorem pcLy_s {f : Int → Int} {d : Int} : pcLy f k a b c d (4 * k) = a ∧ pcLy f k a b c d (4 * k + 1) = b ∧ pcLy f k a b c d (4 * k + 2) = c ∧ pcLy f k a b c d (4 * k + 3) = d := by
  unfold pcLy
  refine ⟨?_, ?_, ?_, updI_s⟩
  · rw [updI_n (by omega), updI_n (by omega), updI_n (by omega), updI_s]
  · rw [updI_n (by omega), updI_n (by omega), updI_s]
  · rw [updI_n (by omega), updI_s]
theorem pcAx.ly (h : pcAx ax na) (ok : pcAok t a b) (e : (pcSg t → c = 0) ∧ (¬ pcSg t → c = b)) : pcAx (pcLy ax (na + 1) t a c 0) (na + 1) := fun k k0 k1 => by
  obtain ⟨t1, a1, b1⟩ := ok
  by_cases z : k = na + 1
  · obtain ⟨e1, e2, e3, e4⟩ := pcLy_s (f := ax) (k := na + 1) (a := t) (b := a) (c := c) (d := 0)
    rw [z, e1, e2, e3, e4]
    refine ⟨t1, a1, ?_, rfl⟩
    by_cases y : pcSg t
    · rw [e.1 y]; decide
    · rw [e.2 y]; exact b1.resolve_left y
  · have q0 := pcLy_o (f := ax) (k := na + 1) (a := t) (b := a) (c := c) (d := 0) (r := k) (j := 0) (fun y => z y.symm) (by decide)
    rw [Int.add_zero] at q0
    rw [q0, pcLy_o (fun y => z y.symm) (by decide), pcLy_o (fun y => z y.symm) (by decide), pcLy_o (fun y => z y.symm) (by decide)]
    exact h k k0 (by omega)
theorem pcTr.ly (h : pcTr tr nt) (ok : pcTok a b c) : pcTr (pcLy tr (nt + 1) 11 a b c) (nt + 1) := fun k k0 k1 => by
  by_cases z : k = nt + 1
  · obtain ⟨e1, e2, e3, e4⟩ := pcLy_s (f := tr) (k := nt + 1) (a := 11) (b := a) (c := b) (d := c)
    rw [z, e1, e2, e3, e4]
    exact ⟨rfl, ok⟩
  · have q0 := pcLy_o (f := tr) (k := nt + 1) (a := 11) (b := a) (c := b) (d := c) (r := k) (j := 0) (fun y => z y.symm) (by decide)
    rw [Int.add_zero] at q0
    rw [q0, pcLy_o (fun y => z y.symm) (by decide), pcLy_o (fun y => z y.symm) (by decide), pcLy_o (fun y => z y.symm) (by decide)]
    exact h k k0 (by omega)
theorem pcRw_m (h : pcRw ru ins ct pr na nt r) (ha : na ≤ k) (ht : nt ≤ i) : pcRw ru ins ct pr k i r := by
  obtain ⟨r1, r2, r3, r4, r5, r6⟩ := h
  exact ⟨r1, r2, r3, fun w => by have := r4 w; omega, fun w => by have := r5 w; omega, r6⟩
theorem pcI.row {ct9 pr9 : Int → Int} (h : pcI ru ins ct pr na nt n) (ok : pcRok na nt n r i p) (e1 : p = 0 → pr9 = pr) (e2 : p ≠ 0 → pr9 = updI pr (3 * (n + 1)) p) (e3 : ct9 = updI ct (n + 1) (if p = 0 then 0 else 1)) : pcI (updI ru (n + 1) r) (updI ins (n + 1) i) ct9 pr9 na nt (n + 1) := by
  obtain ⟨h1, h2, h3, h4⟩ := h
  obtain ⟨⟨k1, ⟨k2, k3, k4⟩, k5⟩, k6⟩ := ok
  have pe : ∀ q j, 1 ≤ q → q ≤ n → 0 ≤ j → j < 3 → pr9 (3 * q + j) = pr (3 * q + j) := fun q j q0 q1 j0 j1 => by
    by_cases z : p = 0
    · rw [e1 z]
    · rw [e2 z, updI_n (by omega)]
  refine ⟨by omega, h2, h3, fun q q0 q1 => ?_⟩
  unfold pcRw
  by_cases z : q = n + 1
  · rw [z, updI_s, updI_s, e3, updI_s]
    have tb := pcT_b r
    refine ⟨k1, ?_, fun j j0 j1 => ?_, k2, k3, k4⟩
    · by_cases y : p = 0
      · rw [if_pos y]; omega
      · rw [if_neg y]
        have := k5.resolve_left y
        omega
    · by_cases y : p = 0
      · rw [if_pos y] at j1; omega
      · rw [if_neg y] at j1
        rw [e2 y, show 3 * (n + 1) + j = 3 * (n + 1) by omega, updI_s]
        have := (k5.resolve_left y).1
        omega
  · obtain ⟨r1, r2, r3, r4, r5, r6⟩ := h4 q q0 (by omega)
    have tb := pcT_b (ru q)
    rw [updI_n z, updI_n z, e3, updI_n z]
    exact ⟨r1, r2, fun j j0 j1 => by rw [pe q j q0 (by omega) j0 (by omega)]; exact r3 j j0 j1, r4, r5, r6⟩
theorem pcI.prem (h : pcI ru ins ct pr na nt n) (hr : 1 ≤ r ∧ r ≤ n) (ho : 1 ≤ o ∧ o < r) (hc : ct r < pcT (ru r)) : pcI ru ins (updI ct r (ct r + 1)) (updI pr (3 * r + ct r) o) na nt n := by
  obtain ⟨h1, h2, h3, h4⟩ := h
  refine ⟨h1, h2, h3, fun q q0 q1 => ?_⟩
  obtain ⟨r1, r2, r3, r4, r5, r6⟩ := h4 q q0 q1
  have R := (h4 r hr.1 hr.2).2.1
  have tb := pcT_b (ru r)
  have tq := pcT_b (ru q)
  unfold pcRw
  by_cases z : q = r
  · subst z
    rw [updI_s]
    refine ⟨r1, by omega, fun j j0 j1 => ?_, r4, r5, r6⟩
    by_cases y : j = ct q
    · rw [y, updI_s]; omega
    · rw [updI_n (by omega)]; exact r3 j j0 (by omega)
  · rw [updI_n z]
    refine ⟨r1, r2, fun j j0 j1 => ?_, r4, r5, r6⟩
    rw [updI_n (by omega)]
    exact r3 j j0 j1
end
