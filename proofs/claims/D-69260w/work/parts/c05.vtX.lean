/-! VersionTrans: what a call does, as functions on one state: what moves (VS), rows, (latest, count), who writes, what it sees, pins, notes, refusals. An answer comes with how it ends: 0 told, 1 or 2 thrown -/
abbrev vsS : Type := VS × (Int → Int → Int) × (Int × Int) × (Int → Int) × (Int → Int) × (Int → Int) × (Int → Int → Int) × (Int → Int)
def vsNw (c : Int) (S : VS) : VS := VS.mk (updI S.st c 0) S.ws (updI S.wf c (-1)) S.wt S.wl S.si S.ck S.ho S.Q S.R S.fl
def vsBegin : vsS → Nat × Int × vsS
  | (S, vr, (la, c), wr, se, R) => (0, c, (vsNw c S, vr, (la, c + 1), updI wr c 1, updI se c la, R))
noncomputable def vsLook (v : Int) : vsS → Nat × Int × vsS
  | (S, vr, (la, c), wr, se, pn, R) => pif (vtTe la pn se S.st c v) (0, c, (vsNw c S, vr, (la, c + 1), updI wr c 0, updI se c v, pn, R)) (1, 0, (S, vr, (la, c), wr, se, pn, R))
def vsState (t : Int) : vsS → Nat × Int
  | (S, _, (_, c), _) => if 0 ≤ t ∧ t < c then (0, S.st t) else (1, 0)
def vsWaits (t : Int) : vsS → Nat × Int
  | (S, _, (_, c), _) => if 0 ≤ t ∧ t < c then (0, if S.st t = 1 then S.wf t else -1) else (1, 0)
def vsRing (i : Int) : vsS → Int
  | (S, _) => if 0 ≤ i ∧ i < S.R.length then S.R.getD i.toNat 0 else -1
noncomputable def vsConf (k i : Int) : vsS → Nat × Int
  | (S, _, _, _, _, _, _, rf) => pif (vtCf k i) (0, if k = 0 then S.fl i else rf i) (1, 0)
noncomputable def vsTold (v k : Int) : vsS → Nat × Int
  | (S, vr, (la, c), _, se, pn, _) => pif (vtTe la pn se S.st c v ∧ 0 ≤ k ∧ k < 200) (0, pif (vtTh vr k v) 1 0) (1, 0)
noncomputable def vsRead (t k : Int) : vsS → Nat × Int
  | (S, vr, (_, c), _, se, _) => if (0 ≤ t ∧ t < c) ∧ 0 ≤ k ∧ k < 200 then (if S.st t < 3 then (0, pif (vtSe vr se S.ws t k) 1 0) else (2, 0)) else (1, 0)
def vsNote (t g : Int) : vsS → Nat × Int × vsS
  | (S, vr, (la, c), wr, se, pn, nt, rf) => if (0 ≤ t ∧ t < c) ∧ 0 ≤ g ∧ g < 4 then (if S.st t = 0 ∧ ¬ wr t = 0 then (0, updI (nt t) g 1 0 + updI (nt t) g 1 1 + updI (nt t) g 1 2 + updI (nt t) g 1 3, (S, vr, (la, c), wr, se, pn, updI nt t (updI (nt t) g 1), rf)) else (2, 0, (S, vr, (la, c), wr, se, pn, nt, rf))) else (1, 0, (S, vr, (la, c), wr, se, pn, nt, rf))
noncomputable def vsPin (v : Int) : vsS → Nat × Int × vsS
  | (S, vr, (la, c), wr, se, pn, R) => pif (vtTe la pn se S.st c v) (0, pn v + 1, (S, vr, (la, c), wr, se, updI pn v (pn v + 1), R)) (1, 0, (S, vr, (la, c), wr, se, pn, R))
def vsUnpin (v : Int) : vsS → Nat × Int × vsS
  | (S, vr, X, wr, se, pn, R) => if (0 ≤ v ∧ v < 64) ∧ 0 < pn v then (0, pn v - 1, (S, vr, X, wr, se, updI pn v (pn v - 1), R)) else (1, 0, (S, vr, X, wr, se, pn, R))
noncomputable def vsLeast : vsS → Int
  | (S, _, (la, c), _, se, pn, _) => Classical.epsilon (fun m => vtLk la pn se S.st c m)
noncomputable def vsFree : vsS → Int × vsS
  | (S, vr, (la, c), wr, se, pn, R) => (vtN 12800 vr - vtN 12800 (vtF vr (Classical.epsilon (fun m => vtLk la pn se S.st c m))), (S, vtF vr (Classical.epsilon (fun m => vtLk la pn se S.st c m)), (la, c), wr, se, pn, R))
noncomputable def vsRows : vsS → Int
  | (_, vr, _) => vtN 12800 vr
def vsLatest : vsS → Int
  | (_, _, (la, _), _) => la
noncomputable def vsPut (t k e : Int) : vsS → Nat × Int × vsS
  | (S, vr, (la, c), wr, se, R) => if (0 ≤ t ∧ t < c) ∧ 0 ≤ k ∧ k < 200 then (if S.st t = 0 ∧ ¬ wr t = 0 then (0, vPu ((vG c vr se (vWrite c vr se t k e S)).st t), (vG c vr se (vWrite c vr se t k e S), vr, (la, c), wr, se, R)) else (2, 0, (S, vr, (la, c), wr, se, R))) else (1, 0, (S, vr, (la, c), wr, se, R))
noncomputable def vsAbort (t : Int) : vsS → Nat × Int × vsS
  | (S, vr, (la, c), wr, se, R) => if 0 ≤ t ∧ t < c then (if S.st t < 3 then (0, vtWs 200 S.ws t, (vG c vr se (vEnd c t 4 S), vr, (la, c), wr, se, R)) else (2, 0, (S, vr, (la, c), wr, se, R))) else (1, 0, (S, vr, (la, c), wr, se, R))
/-- the first graph that stands in the way -/
noncomputable def vsFg (vr nt : Int → Int → Int) (se : Int → Int) (t : Int) : Int := pif (¬ nt t 0 = 0 ∧ vtCg vr (se t) 0) 0 (pif (¬ nt t 1 = 0 ∧ vtCg vr (se t) 1) 1 (pif (¬ nt t 2 = 0 ∧ vtCg vr (se t) 2) 2 (pif (¬ nt t 3 = 0 ∧ vtCg vr (se t) 3) 3 (-1))))
noncomputable def vsCommit (t : Int) : vsS → Nat × Int × vsS
  | (S, vr, (la, c), wr, se, pn, nt, rf) => if 0 ≤ t ∧ t < c then (if S.st t = 0 ∨ S.st t = 2 then (if S.st t = 2 then (0, 0, (vG c vr se (vEnd c t 4 S), vr, (la, c), wr, se, pn, nt, rf)) else if 0 ≤ vsFg vr nt se t then (0, 0, (vG c vr se (vEnd c t 4 S), vr, (la, c), wr, se, pn, nt, updI rf (vsFg vr nt se t) (rf (vsFg vr nt se t) + 1))) else (0, pif (vMa vr S.ws se t 200) (la + 1) (se t), (vG c (vCm vr S.ws se t la 200) se (vEnd c t 3 S), vCm vr S.ws se t la 200, (pif (vMa vr S.ws se t 200) (la + 1) la, c), wr, se, pn, nt, rf))) else (2, 0, (S, vr, (la, c), wr, se, pn, nt, rf))) else (1, 0, (S, vr, (la, c), wr, se, pn, nt, rf))
/-- what else holds: rings are short, readers do not fail -/
def vsX (c : Int) (wr : Int → Int) (S : VS) : Prop := S.R.length ≤ 60 ∧ ∀ w, 0 ≤ w → w < c → S.st w = 2 → ¬ wr w = 0
section
variable {c la k v t e x u b d t0 g : Int} {wr se pn rf pn' rf' : Int → Int} {vr vr' nt nt' : Int → Int → Int} {ps : List Int} {S V : VS}
theorem vsLk_0 {st : Int → Int} (n : Nat) : ∃ m, (m = la ∨ ∃ t : Int, (0 ≤ t ∧ t < n) ∧ st t < 3 ∧ se t = m) ∧ m ≤ la ∧ ∀ t : Int, 0 ≤ t → t < n → st t < 3 → m ≤ se t := by
  induction n with
  | zero => exact ⟨la, Or.inl rfl, Int.le_refl _, fun t a b => by omega⟩
  | succ n ih =>
    obtain ⟨m, a, b, d⟩ := ih
    by_cases h : st n < 3 ∧ se n < m
    · refine ⟨se n, Or.inr ⟨n, by omega, h.1, rfl⟩, by omega, fun t t0 t1 s => ?_⟩
      by_cases q : t = n
      · rw [q]; exact Int.le_refl _
      · have := d t t0 (by omega) s; omega
    · refine ⟨m, ?_, b, fun t t0 t1 s => ?_⟩
      · rcases a with a | ⟨t, ⟨q1, q2⟩, q3⟩
        · exact Or.inl a
        · exact Or.inr ⟨t, ⟨q1, by omega⟩, q3⟩
      · by_cases q : t = n
        · rw [q] at s ⊢
          by_cases w : se n < m
          · exact absurd ⟨s, w⟩ h
          · omega
        · exact d t t0 (by omega) s
theorem vtLk_x {st : Int → Int} (hc : 0 ≤ c) : ∃ m, vtLk la pn se st c m := by
  obtain ⟨m, a, b, d⟩ := vsLk_0 (la := la) (se := se) (st := st) c.toNat
  obtain ⟨m', a', b', d'⟩ := vsLk_0 (la := m) (se := fun k => k) (st := fun k => if 0 < pn k then 0 else 3) 64
  refine ⟨m', ?_, by omega, fun t t0 t1 s => ?_, fun k k0 k1 p => ?_⟩
  · rcases a' with a' | ⟨k, k1, k2, k3⟩
    · subst a'
      rcases a with a | ⟨t, t1, t2, t3⟩
      · exact Or.inl a
      · exact Or.inr (Or.inl ⟨t, by omega, t2, t3⟩)
    · refine Or.inr (Or.inr ⟨k, by omega, ?_, k3⟩)
      by_cases q : 0 < pn k
      · exact q
      · rw [if_neg q] at k2; omega
  · have := d t t0 (by omega) s; omega
  · exact d' k k0 (by omega) (by rw [if_pos p]; decide)
theorem vsLk_e {st : Int → Int} {m : Int} (h : vtLk la pn se st c m) : Classical.epsilon (fun m => vtLk la pn se st c m) = m := vtLk_u (Classical.epsilon_spec (p := fun m => vtLk la pn se st c m) ⟨m, h⟩) h
/-- the latest version can be told -/
theorem vsTe_la {st : Int → Int} (hc : 0 ≤ c) : vtTe la pn se st c la := by
  obtain ⟨m, h⟩ := vtLk_x (la := la) (pn := pn) (se := se) (st := st) hc
  exact ⟨⟨m, h, h.2.1⟩, Int.le_refl _⟩
theorem vWrite_x (X : vsX c wr S) (hI : vI c wr S) (hc : 0 ≤ c ∧ c ≤ 60) (ht : 0 ≤ t ∧ t < c) (hr : ¬ wr t = 0) (hs : S.st t < 3) (hk : 0 ≤ k ∧ k < 200) (he : e = 0 ∨ e = 1) : vsX c wr (vWrite c vr se t k e S) := by
  by_cases a : vtAb vr k (se t)
  · have : vWrite c vr se t k e S = VS.mk (updI (updI S.st t 0) t 2) S.ws (updI S.wf t (-1)) S.wt S.wl S.si S.ck S.ho S.Q S.R (updI S.fl k (S.fl k + 1)) := by unfold vWrite; exact pif_t a
    rw [this]
    refine ⟨X.1, fun w p q h => ?_⟩
    have h : updI (updI S.st t 0) t 2 w = 2 := h
    by_cases z : w = t
    · rw [z]; exact hr
    · rw [updI_n z, updI_n z] at h; exact X.2 w p q h
  · by_cases b : 0 ≤ S.ho k ∧ S.ho k ≠ t
    · have : vWrite c vr se t k e S = vRing c t (vWait t k e (S.ho k) S) := by unfold vWrite; rw [pif_f a]; exact pif_t b
      rw [this]
      obtain ⟨TJ, -, TD⟩ := vWait_J hI ht hr hs hk he b hc.1
      have T2 : vsX c wr (vWait t k e (S.ho k) S) := by
        refine ⟨X.1, fun w p q h => ?_⟩
        have h : updI (updI S.st t 0) t 1 w = 2 := h
        by_cases z : w = t
        · rw [z]; exact hr
        · rw [updI_n z, updI_n z] at h; exact X.2 w p q h
      rcases vRing_c (S := vWait t k e (S.ho k) S) TJ.1 hc ht with ⟨-, n2⟩ | ⟨m, y, C, yb, -, -, e4⟩
      · rw [n2]; exact T2
      · rw [e4]
        refine ⟨?_, fun w p q h => ?_⟩
        · show (lsI (fun w => ∃ i, i < m ∧ vtP (vWait t k e (S.ho k) S).wf t i = w) c.toNat).length ≤ 60
          have l := lsI_l (p := fun w => ∃ i, i < m ∧ vtP (vWait t k e (S.ho k) S).wf t i = w) (n := c.toNat)
          have := cntI_b (fun w => ∃ i, i < m ∧ vtP (vWait t k e (S.ho k) S).wf t i = w) c.toNat
          omega
        · have h : updI (vWait t k e (S.ho k) S).st y 4 w = 2 := h
          by_cases z : w = y
          · rw [z, updI_s] at h; exact absurd h (by decide)
          · rw [updI_n z] at h; exact T2.2 w p q h
    · have : vWrite c vr se t k e S = VS.mk (updI S.st t 0) (updI S.ws (200 * t + k) (if e = 0 then 1 else 2)) (updI S.wf t (-1)) S.wt S.wl S.si S.ck (updI S.ho k t) S.Q S.R S.fl := by unfold vWrite; rw [pif_f a]; exact pif_f b
      rw [this]
      refine ⟨X.1, fun w p q h => ?_⟩
      have h : updI S.st t 0 w = 2 := h
      by_cases z : w = t
      · rw [z, updI_s] at h; exact absurd h (by decide)
      · rw [updI_n z] at h; exact X.2 w p q h
/-- what a dead one wrote stays -/
theorem vWrite_d (hd : 3 ≤ S.st t0) (hI : vI c wr S) (hc : 0 ≤ c ∧ c ≤ 60) (ht : 0 ≤ t ∧ t < c) (hr : ¬ wr t = 0) (hs : S.st t < 3) (hk : 0 ≤ k ∧ k < 200) (he : e = 0 ∨ e = 1) : 3 ≤ (vWrite c vr se t k e S).st t0 ∧ ∀ j, 0 ≤ j → j < 200 → (vWrite c vr se t k e S).ws (200 * t0 + j) = S.ws (200 * t0 + j) := by
  have n0 : t0 ≠ t := fun z => by rw [z] at hd; omega
  by_cases a : vtAb vr k (se t)
  · have : vWrite c vr se t k e S = VS.mk (updI (updI S.st t 0) t 2) S.ws (updI S.wf t (-1)) S.wt S.wl S.si S.ck S.ho S.Q S.R (updI S.fl k (S.fl k + 1)) := by unfold vWrite; exact pif_t a
    rw [this]
    refine ⟨?_, fun j _ _ => rfl⟩
    show 3 ≤ updI (updI S.st t 0) t 2 t0
    rw [updI_n n0, updI_n n0]; exact hd
  · by_cases b : 0 ≤ S.ho k ∧ S.ho k ≠ t
    · have : vWrite c vr se t k e S = vRing c t (vWait t k e (S.ho k) S) := by unfold vWrite; rw [pif_f a]; exact pif_t b
      rw [this]
      refine ⟨?_, fun j _ _ => by rw [vRing_ws]; rfl⟩
      obtain ⟨TJ, -, TD⟩ := vWait_J hI ht hr hs hk he b hc.1
      have T2 : (vWait t k e (S.ho k) S).st t0 = S.st t0 := (updI_n n0).trans (updI_n n0)
      rcases vRing_c (S := vWait t k e (S.ho k) S) TJ.1 hc ht with ⟨-, n2⟩ | ⟨m, y, C, yb, ⟨⟨i0, hi0, ei0⟩, -⟩, -, e4⟩
      · rw [n2, T2]; exact hd
      · rw [e4]
        have ys : (vWait t k e (S.ho k) S).st y = 1 := by rw [← ei0]; exact C.2.2.1 i0 hi0
        have ny : t0 ≠ y := fun z => by rw [← z, T2] at ys; omega
        show 3 ≤ updI (vWait t k e (S.ho k) S).st y 4 t0
        rw [updI_n ny, T2]; exact hd
    · have : vWrite c vr se t k e S = VS.mk (updI S.st t 0) (updI S.ws (200 * t + k) (if e = 0 then 1 else 2)) (updI S.wf t (-1)) S.wt S.wl S.si S.ck (updI S.ho k t) S.Q S.R S.fl := by unfold vWrite; rw [pif_f a]; exact pif_f b
      rw [this]
      refine ⟨?_, fun j j0 j1 => ?_⟩
      · show 3 ≤ updI S.st t 0 t0
        rw [updI_n n0]; exact hd
      · show updI S.ws (200 * t + k) (if e = 0 then 1 else 2) (200 * t0 + j) = S.ws (200 * t0 + j)
        exact updI_n (by omega)
theorem vStep_xd (X : vsX c wr S) (hI : vI c wr S) (hc : 0 ≤ c ∧ c ≤ 60) (h : ¬ S.Q = []) : vsX c wr (vStep c vr se S) ∧ (3 ≤ S.st t0 → 3 ≤ (vStep c vr se S).st t0 ∧ ∀ j, 0 ≤ j → j < 200 → (vStep c vr se S).ws (200 * t0 + j) = S.ws (200 * t0 + j)) := by
  have P := vPop_I hI
  have hm : S.Q.headD 0 ∈ S.Q := by
    cases hq : S.Q with
    | nil => exact absurd hq h
    | cons a l => exact List.mem_cons_self
  have hb := hI.1.2.2.2.1 _ hm
  unfold vStep
  by_cases e : S.st (S.Q.headD 0) = 1
  · rw [if_pos e]
    have w := hI.1.2.2.1 _ hb.1.1 hb.1.2 e
    have s3 : S.pop.st (S.Q.headD 0) < 3 := by show S.st (S.Q.headD 0) < 3; omega
    exact ⟨vWrite_x (S := S.pop) X P hc hb.1 hb.2 s3 w.1.1 w.1.2, fun hd => vWrite_d (S := S.pop) hd P hc hb.1 hb.2 s3 w.1.1 w.1.2⟩
  · rw [if_neg e]; exact ⟨X, fun hd => ⟨hd, fun _ _ _ => rfl⟩⟩
theorem vGo_xd (hc : 0 ≤ c ∧ c ≤ 60) : ∀ (m : Nat) (S : VS), vsX c wr S → vI c wr S → vsX c wr (vGo c vr se m S) ∧ (3 ≤ S.st t0 → ∀ j, 0 ≤ j → j < 200 → (vGo c vr se m S).ws (200 * t0 + j) = S.ws (200 * t0 + j))
  | 0, _, X, _ => ⟨X, fun _ _ _ _ => rfl⟩
  | m + 1, S, X, I => by
    by_cases h : S.Q = []
    · rw [vGo_e h]; exact ⟨X, fun _ _ _ _ => rfl⟩
    · rw [vGo_s h]
      obtain ⟨X1, D1⟩ := vStep_xd (vr := vr) (se := se) (t0 := t0) X I hc h
      obtain ⟨X2, D2⟩ := vGo_xd hc m _ X1 (vStep_I I hc h).1
      exact ⟨X2, fun hd j j0 j1 => by rw [D2 (D1 hd).1 j j0 j1]; exact (D1 hd).2 j j0 j1⟩
theorem vEnd_x (X : vsX c wr S) (hx : 3 ≤ x) : vsX c wr (vEnd c t x S) := by
  refine ⟨X.1, fun w p q h => ?_⟩
  have h : updI S.st t x w = 2 := h
  by_cases z : w = t
  · rw [z, updI_s] at h; omega
  · rw [updI_n z] at h; exact X.2 w p q h
/-- all that is in the queue is tried again: what holds then -/
theorem vsG_ok (hI : vI c wr S) (hc : 0 ≤ c ∧ c ≤ 60) (hM : vM c S ≤ 4000) (W : vWs c wr S) (X : vsX c wr S) : (vI c wr (vG c vr se S) ∧ (vG c vr se S).Q = []) ∧ (S.ck ≤ (vG c vr se S).ck ∧ (vG c vr se S).ck ≤ S.ck + 4000) ∧ (∀ j, S.fl j ≤ (vG c vr se S).fl j ∧ (vG c vr se S).fl j ≤ S.fl j + 4000) ∧ vWs c wr (vG c vr se S) ∧ vsX c wr (vG c vr se S) := by
  obtain ⟨a1, a2, a3, a4⟩ := vG_I (vr := vr) (se := se) hI hc hM
  exact ⟨⟨a1, a2⟩, a3, a4, vGo_ws hc _ _ W hI, (vGo_xd (t0 := 0) hc _ _ X hI).1⟩
/-- what holds of the numbers; u, b, d: bounds that grow by one a call -/
def vsH (u b d : Int) (S : VS) (vr : Int → Int → Int) (la c : Int) (wr se pn : Int → Int) (nt : Int → Int → Int) (rf : Int → Int) : Prop :=
  ((0 ≤ u ∧ u ≤ 200) ∧ b ≤ 59 ∧ d ≤ 61) ∧ (0 ≤ la ∧ la ≤ d) ∧ (0 ≤ c ∧ c ≤ b) ∧ tvVr vr la ∧ (∀ v, 0 ≤ v → v < 64 → 0 ≤ pn v ∧ pn v ≤ u) ∧ (∀ t, 0 ≤ t → t < c → 0 ≤ se t ∧ se t ≤ la) ∧ (vI c wr S ∧ S.Q = []) ∧ S.ck ≤ 4001 * u ∧ (∀ j, 0 ≤ j → j < 200 → 0 ≤ S.fl j ∧ S.fl j ≤ 4001 * u) ∧ vWs c wr S ∧ vsX c wr S ∧ (∀ t g, 0 ≤ t → (c ≤ t ∨ wr t = 0) → 0 ≤ g → g < 4 → nt t g = 0) ∧ ∀ g, 0 ≤ g → g < 4 → 0 ≤ rf g ∧ rf g ≤ u
theorem vsH.h (H : vsH u b d S vr la c wr se pn nt rf) (P : tvPs pn ps) : tvH S vr la c wr se pn ps := by
  obtain ⟨h1, h2, h3, h4, h5, h6, h7, h8, h9, h10, h11, h12, h13⟩ := H
  exact ⟨by omega, by omega, h4, P, h6, h7.1, h7.2, by omega, fun j a b => by have := h9 j a b; omega, h10.1, h10.2⟩
theorem vsH.up {u' b' d' : Int} (H : vsH u b d S vr la c wr se pn nt rf) (hu : u ≤ u' ∧ u' ≤ 200) (hb : b ≤ b' ∧ b' ≤ 59) (hd : d ≤ d' ∧ d' ≤ 61) : vsH u' b' d' S vr la c wr se pn nt rf := by
  obtain ⟨h1, h2, h3, h4, h5, h6, h7, h8, h9, h10, h11, h12, h13⟩ := H
  exact ⟨by omega, by omega, by omega, h4, fun v v0 v1 => by have := h5 v v0 v1; omega, h6, h7, by omega, fun j a b => by have := h9 j a b; omega, h10, h11, h12, fun g g0 g1 => by have := h13 g g0 g1; omega⟩
theorem vsH.nw {y v : Int} (H : vsH u b d S vr la c wr se pn nt rf) (hb : b ≤ 58) (hv : 0 ≤ v ∧ v ≤ la) : vsH u (b + 1) d (vsNw c S) vr la (c + 1) (updI wr c y) (updI se c v) pn nt rf := by
  obtain ⟨h1, h2, h3, h4, h5, h6, ⟨hI, hQ⟩, h8, h9, h10, h11, h12, h13⟩ := H
  obtain ⟨⟨i1, i2, i3, i4, i6, i7⟩, i5⟩ := hI
  have od : ∀ {w : Int}, updI S.st c 0 w = 1 → w ≠ c ∧ S.st w = 1 := fun {w} h => by
    by_cases e : w = c
    · rw [e, updI_s] at h; omega
    · rw [updI_n e] at h; exact ⟨e, h⟩
  refine ⟨by omega, by omega, by omega, h4, h5, fun t a b => ?_, ⟨⟨⟨⟨fun w a b s => ?_, fun w w' a b s a' b' s' es => ?_⟩, fun k a b => ?_, fun w a b s => ?_, fun w hw => ?_, i6, fun w a b => ?_⟩, ?_⟩, hQ⟩, h8, h9, ⟨h10.1, fun t k a q a2 b2 => ?_⟩, ⟨h11.1, fun w a b s => ?_⟩, fun t g a q a2 b2 => ?_, h13⟩
  · by_cases e : t = c
    · rw [e, updI_s]; exact hv
    · rw [updI_n e]; exact h6 t a (by omega)
  · obtain ⟨ne, s1⟩ := od s
    have q := i1.1 w a (by omega) s1
    show (0 ≤ updI S.wf c (-1) w ∧ updI S.wf c (-1) w < c + 1) ∧ _
    rw [updI_n ne]
    exact ⟨by omega, q.2⟩
  · obtain ⟨ne, s1⟩ := od s
    obtain ⟨ne', s1'⟩ := od s'
    exact i1.2 w w' a (by omega) s1 a' (by omega) s1' es
  · rcases i2 k a b with e | ⟨e1, e2, e3⟩
    · exact Or.inl e
    · have ne : S.ho k ≠ c := by omega
      refine Or.inr ⟨?_, ?_, ?_⟩
      · show 0 ≤ S.ho k ∧ S.ho k < c + 1; omega
      · show updI S.st c 0 (S.ho k) < 3; rw [updI_n ne]; exact e2
      · show updI wr c y (S.ho k) ≠ 0; rw [updI_n ne]; exact e3
  · obtain ⟨ne, s1⟩ := od s
    have q := i3 w a (by omega) s1
    have p := i1.1 w a (by omega) s1
    refine ⟨q.1, ?_, ?_⟩
    · rw [updI_n ne]; exact q.2.1
    · show updI wr c y (updI S.wf c (-1) w) ≠ 0
      rw [updI_n ne, updI_n (show S.wf w ≠ c by omega)]; exact q.2.2
  · have hw : w ∈ S.Q := hw
    rw [hQ] at hw
    exact absurd hw List.not_mem_nil
  · show 0 ≤ updI S.st c 0 w ∧ updI S.st c 0 w ≤ 4
    by_cases e : w = c
    · rw [e, updI_s]; decide
    · rw [updI_n e]; exact i7 w a (by omega)
  · obtain ⟨rk, i5⟩ := i5
    refine ⟨rk, fun w a b s => ?_⟩
    obtain ⟨ne, s1⟩ := od s
    show rk (updI S.wf c (-1) w) < rk w
    rw [updI_n ne]
    exact i5 w a (by omega) s1
  · refine h10.2 t k a ?_ a2 b2
    by_cases e : t = c
    · exact Or.inl (by omega)
    · rcases q with q | q
      · exact Or.inl (by omega)
      · rw [updI_n e] at q; exact Or.inr q
  · have s : updI S.st c 0 w = 2 := s
    by_cases e : w = c
    · rw [e, updI_s] at s; exact absurd s (by decide)
    · rw [updI_n e] at s
      rw [updI_n e]
      exact h11.2 w a (by omega) s
  · refine h12 t g a ?_ a2 b2
    by_cases e : t = c
    · exact Or.inl (by omega)
    · rcases q with q | q
      · exact Or.inl (by omega)
      · rw [updI_n e] at q; exact Or.inr q
theorem vsH.note {g : Int} (H : vsH u b d S vr la c wr se pn nt rf) (ht : 0 ≤ t ∧ t < c) (hr : ¬ wr t = 0) : vsH u b d S vr la c wr se pn (updI nt t (updI (nt t) g 1)) rf := by
  obtain ⟨h1, h2, h3, h4, h5, h6, h7, h8, h9, h10, h11, h12, h13⟩ := H
  refine ⟨h1, h2, h3, h4, h5, h6, h7, h8, h9, h10, h11, fun t' g' a q a2 b2 => ?_, h13⟩
  have ne : t' ≠ t := fun e => by
    rw [e] at q
    rcases q with q | q
    · omega
    · exact hr q
  rw [updI_n ne]
  exact h12 t' g' a q a2 b2
theorem vsH.pns (H : vsH u b d S vr la c wr se pn nt rf) (hp : ∀ v, 0 ≤ v → v < 64 → 0 ≤ pn' v ∧ pn' v ≤ u) : vsH u b d S vr la c wr se pn' nt rf := by
  obtain ⟨h1, h2, h3, h4, h5, h6, h7, h8, h9, h10, h11, h12, h13⟩ := H
  exact ⟨h1, h2, h3, h4, hp, h6, h7, h8, h9, h10, h11, h12, h13⟩
theorem vsH.free {m : Int} (H : vsH u b d S vr la c wr se pn nt rf) : vsH u b d S (vtF vr m) la c wr se pn nt rf := by
  obtain ⟨h1, h2, h3, h4, h5, h6, h7, h8, h9, h10, h11, h12, h13⟩ := H
  refine ⟨h1, h2, h3, fun k v h => ?_, h5, h6, h7, h8, h9, h10, h11, h12, h13⟩
  unfold vtF at h ⊢
  by_cases q : vtGo vr m k v
  · rw [pif_t q] at h; exact absurd rfl h
  · rw [pif_f q] at h ⊢; exact h4 k v h
theorem vsH.put (H : vsH u b d S vr la c wr se pn nt rf) (hu : u ≤ 199) (ht : 0 ≤ t ∧ t < c) (hr : ¬ wr t = 0) (hs : S.st t = 0) (hk : 0 ≤ k ∧ k < 200) (he : e = 0 ∨ e = 1) : vsH (u + 1) b d (vG c vr se (vWrite c vr se t k e S)) vr la c wr se pn nt rf := by
  obtain ⟨h1, h2, h3, h4, h5, h6, ⟨hI, hQ⟩, h8, h9, h10, h11, h12, h13⟩ := H
  have hc : 0 ≤ c ∧ c ≤ 60 := by omega
  have s3 : S.st t < 3 := by omega
  have Mb := vM_b (S := S) hc
  have l0 : S.Q.length = 0 := by rw [hQ]; rfl
  obtain ⟨a1, a2, a3, a4⟩ := vWrite_I (vr := vr) (se := se) hI hc ht hr s3 hk he
  obtain ⟨g1, g2, g3, g4, g5⟩ := vsG_ok (vr := vr) (se := se) a1 hc (by omega) (vWrite_ws h10 ht hr hk) (vWrite_x h11 hI hc ht hr s3 hk he)
  exact ⟨by omega, h2, h3, h4, fun v v0 v1 => by have := h5 v v0 v1; omega, h6, g1, by omega, fun j j0 j1 => by have := h9 j j0 j1; have := a4 j; have := g3 j; omega, g4, g5, h12, fun g g0 g1 => by have := h13 g g0 g1; omega⟩
theorem vsH.fin {la' : Int} (H : vsH u b d S vr la c wr se pn nt rf) (hu : u ≤ 199) (hd : d ≤ 60) (ht : 0 ≤ t ∧ t < c) (hs : S.st t < 3) (hx : 3 ≤ x ∧ x ≤ 4) (hV : tvVr vr' la') (hl : la ≤ la' ∧ la' ≤ la + 1) (hf : ∀ g, 0 ≤ g → g < 4 → 0 ≤ rf' g ∧ rf' g ≤ u + 1) : vsH (u + 1) b (d + 1) (vG c vr' se (vEnd c t x S)) vr' la' c wr se pn nt rf' := by
  obtain ⟨h1, h2, h3, h4, h5, h6, ⟨hI, hQ⟩, h8, h9, h10, h11, h12, h13⟩ := H
  have hc : 0 ≤ c ∧ c ≤ 60 := by omega
  have Mb := vM_b (S := S) hc
  have l0 : S.Q.length = 0 := by rw [hQ]; rfl
  obtain ⟨a1, a2⟩ := vEnd_I hI hc ht hx hs
  have ck : (vEnd c t x S).ck = S.ck := rfl
  have fl : (vEnd c t x S).fl = S.fl := rfl
  have W : vWs c wr (vEnd c t x S) := h10
  obtain ⟨g1, g2, g3, g4, g5⟩ := vsG_ok (vr := vr') (se := se) a1 hc (by omega) W (vEnd_x h11 hx.1)
  exact ⟨by omega, by omega, h3, hV, fun v v0 v1 => by have := h5 v v0 v1; omega, fun t t0 t1 => by have := h6 t t0 t1; omega, g1, by omega, fun j j0 j1 => by have := h9 j j0 j1; have := g3 j; rw [fl] at this; omega, g4, g5, h12, hf⟩
theorem vsH.end (H : vsH u b d S vr la c wr se pn nt rf) (hu : u ≤ 199) (ht : 0 ≤ t ∧ t < c) (hs : S.st t < 3) : vsH (u + 1) b d (vG c vr se (vEnd c t 4 S)) vr la c wr se pn nt rf := by
  obtain ⟨h1, h2, h3, h4, h5, h6, ⟨hI, hQ⟩, h8, h9, h10, h11, h12, h13⟩ := H
  have hc : 0 ≤ c ∧ c ≤ 60 := by omega
  have Mb := vM_b (S := S) hc
  have l0 : S.Q.length = 0 := by rw [hQ]; rfl
  obtain ⟨a1, a2⟩ := vEnd_I (x := 4) hI hc ht (by decide) hs
  have ck : (vEnd c t 4 S).ck = S.ck := rfl
  have fl : (vEnd c t 4 S).fl = S.fl := rfl
  have W : vWs c wr (vEnd c t 4 S) := h10
  obtain ⟨g1, g2, g3, g4, g5⟩ := vsG_ok (vr := vr) (se := se) a1 hc (by omega) W (vEnd_x h11 (by decide))
  exact ⟨by omega, by omega, h3, h4, fun v v0 v1 => by have := h5 v v0 v1; omega, h6, g1, by omega, fun j j0 j1 => by have := h9 j j0 j1; have := g3 j; rw [fl] at this; omega, g4, g5, h12, fun g g0 g1 => by have := h13 g g0 g1; omega⟩
/-- what one wrote is told alike after its end -/
theorem vsEnd_w (H : vsH u b d S vr la c wr se pn nt rf) (ht : 0 ≤ t ∧ t < c) (hs : S.st t < 3) : vtWs 200 (vG c vr se (vEnd c t 4 S)).ws t = vtWs 200 S.ws t := by
  obtain ⟨h1, h2, h3, h4, h5, h6, ⟨hI, hQ⟩, h8, h9, h10, h11, h12, h13⟩ := H
  have hc : 0 ≤ c ∧ c ≤ 60 := by omega
  have a1 := (vEnd_I (x := 4) hI hc ht (by decide) hs).1
  have s4 : 3 ≤ (vEnd c t 4 S).st t := by show 3 ≤ updI S.st t 4 t; rw [updI_s]; decide
  have D := (vGo_xd (vr := vr) (se := se) (t0 := t) hc 4000 _ (vEnd_x (t := t) (x := 4) h11 (by decide)) a1).2 s4
  unfold vtWs
  exact cntI_c (fun k k0 k1 => by rw [show (vG c vr se (vEnd c t 4 S)).ws (200 * t + k) = S.ws (200 * t + k) from D k k0 (by omega)])
theorem vsFg_y (g0 : 0 ≤ g ∧ g < 4) (a : ¬ nt t g = 0) (b : vtCg vr (se t) g) (n : ∀ h, 0 ≤ h → h < g → ¬ nt t h = 0 → ¬ vtCg vr (se t) h) : vsFg vr nt se t = g := by
  have f : ∀ h, 0 ≤ h → h < g → ¬ (¬ nt t h = 0 ∧ vtCg vr (se t) h) := fun h a b w => n h a b w.1 w.2
  unfold vsFg
  by_cases e0 : g = 0
  · subst e0; exact pif_t ⟨a, b⟩
  rw [pif_f (f 0 (by decide) (by omega))]
  by_cases e1 : g = 1
  · subst e1; exact pif_t ⟨a, b⟩
  rw [pif_f (f 1 (by decide) (by omega))]
  by_cases e2 : g = 2
  · subst e2; exact pif_t ⟨a, b⟩
  rw [pif_f (f 2 (by decide) (by omega))]
  have e3 : g = 3 := by omega
  subst e3; exact pif_t ⟨a, b⟩
theorem vsFg_n (n : ∀ g, 0 ≤ g → g < 4 → ¬ nt t g = 0 → ¬ vtCg vr (se t) g) : vsFg vr nt se t = -1 := by
  have f : ∀ h, 0 ≤ h → h < 4 → ¬ (¬ nt t h = 0 ∧ vtCg vr (se t) h) := fun h a b w => n h a b w.1 w.2
  unfold vsFg
  rw [pif_f (f 0 (by decide) (by decide)), pif_f (f 1 (by decide) (by decide)), pif_f (f 2 (by decide) (by decide)), pif_f (f 3 (by decide) (by decide))]
theorem vsMa_V (H : vsH u b d S vr la c wr se pn nt rf) (ht : 0 ≤ t ∧ t < c) : tvVr (vCm vr S.ws se t la 200) (pif (vMa vr S.ws se t 200) (la + 1) la) := by
  obtain ⟨h1, h2, h3, h4, h5, h6, ⟨hI, hQ⟩, h8, h9, h10, h11, h12, h13⟩ := H
  have q := vCm_V (vr := vr) (ws := S.ws) (se := se) (t := t) (N := 200) h4 h2.1 (by decide) (fun k a b => h10.1 _ (by omega) (by omega))
  by_cases ma : vMa vr S.ws se t 200
  · rw [pif_t ma]; exact q
  · rw [pif_f ma]
    intro k v h
    have e : vCm vr S.ws se t la 200 k v = vr k v := pif_f (fun w => ma ⟨k, w.1, w.2.2⟩)
    rw [e] at h ⊢
    exact h4 k v h
theorem vsMa_b : la ≤ pif (vMa vr S.ws se t 200) (la + 1) la ∧ pif (vMa vr S.ws se t 200) (la + 1) la ≤ la + 1 := by
  by_cases ma : vMa vr S.ws se t 200
  · rw [pif_t ma]; omega
  · rw [pif_f ma]; omega
/-- a reader's end -/
theorem vsRd (H : vsH u b d S vr la c wr se pn nt rf) (ht : 0 ≤ t ∧ t < c) (hr : wr t = 0) : ¬ S.st t = 2 ∧ vsFg vr nt se t = -1 ∧ ¬ vMa vr S.ws se t 200 ∧ vCm vr S.ws se t la 200 = vr := by
  obtain ⟨h1, h2, h3, h4, h5, h6, ⟨hI, hQ⟩, h8, h9, h10, h11, h12, h13⟩ := H
  have z : ∀ k, 0 ≤ k → k < 200 → S.ws (200 * t + k) = 0 := fun k k0 k1 => h10.2 t k ht.1 (Or.inr hr) k0 k1
  have ma : ¬ vMa vr S.ws se t 200 := fun ⟨k, kb, w⟩ => w.1 (z k kb.1 kb.2)
  exact ⟨fun s => h11.2 t ht.1 ht.2 s hr, vsFg_n (fun g g0 g1 q => absurd (h12 t g ht.1 (Or.inr hr) g0 g1) q), ma, funext fun k => funext fun v => pif_f (fun w => ma ⟨k, w.1, w.2.2⟩)⟩
end
/-- the component (room VT) is in state s -/
def vsIC (kd : Nat → Nat) (an : Nat → Nat) (ai : Nat → Int → Int) (al : Nat → Int → Int) (ar : Nat → Int → Option Nat) (mX5_newest : Nat → Option Nat) (mX5_rows : Nat → Int) (mX5_latest : Nat → Int) (mX5_pins : Nat → Option Nat) (mX5_transactions : Nat → Option Nat) (mX5_count : Nat → Int) (mX5_holders : Nat → Option Nat) (mX5_tripleConflicts : Nat → Option Nat) (mX5_graphConflicts : Nat → Option Nat) (mX5_turns : Nat → Int) (mX5_queue : Nat → Option Nat) (mX5_head : Nat → Int) (mX5_tail : Nat → Int) (mX5_ring : Nat → Option Nat) (mX58_number : Nat → Int) (mX58_sees : Nat → Int) (mX58_state : Nat → Option Nat) (mX59_writes : Nat → Option Nat) (mX59_count : Nat → Int) (mX59_noted : Nat → Option Nat) (mX59_waitsFor : Nat → Option Nat) (mX59_turn : Nat → Int) (mX59_triple : Nat → Int) (mX59_there : Nat → Int) (mX60_version : Nat → Int) (mX60_there : Nat → Int) (mX60_older : Nat → Option Nat) (mX66_version : Nat → Int) (mX66_count : Nat → Int) (mX66_next : Nat → Option Nat) (sa : Nat → Nat) (x : Nat) (u b d : Int) (s : vsS) : Prop := ∃ A gi S vr la c wr se pn ps nt rf, A 0 0 = x ∧ tvOK kd an ai al ar mX5_newest mX5_rows mX5_latest mX5_pins mX5_transactions mX5_count mX5_holders mX5_tripleConflicts mX5_graphConflicts mX5_turns mX5_queue mX5_head mX5_tail mX5_ring mX58_number mX58_sees mX58_state mX59_writes mX59_count mX59_noted mX59_waitsFor mX59_turn mX59_triple mX59_there mX60_version mX60_there mX60_older mX66_version mX66_count mX66_next sa A gi S vr la c wr se pn ps nt rf ∧ vsH u b d S vr la c wr se pn nt rf ∧ tvPs pn ps ∧ s = (S, vr, (la, c), wr, se, pn, nt, rf)
section
variable {kd : Nat → Nat} {an : Nat → Nat} {ai : Nat → Int → Int} {al : Nat → Int → Int} {ar : Nat → Int → Option Nat} {mX5_newest : Nat → Option Nat} {mX5_rows : Nat → Int} {mX5_latest : Nat → Int} {mX5_pins : Nat → Option Nat} {mX5_transactions : Nat → Option Nat} {mX5_count : Nat → Int} {mX5_holders : Nat → Option Nat} {mX5_tripleConflicts : Nat → Option Nat} {mX5_graphConflicts : Nat → Option Nat} {mX5_turns : Nat → Int} {mX5_queue : Nat → Option Nat} {mX5_head : Nat → Int} {mX5_tail : Nat → Int} {mX5_ring : Nat → Option Nat} {mX58_number : Nat → Int} {mX58_sees : Nat → Int} {mX58_state : Nat → Option Nat} {mX59_writes : Nat → Option Nat} {mX59_count : Nat → Int} {mX59_noted : Nat → Option Nat} {mX59_waitsFor : Nat → Option Nat} {mX59_turn : Nat → Int} {mX59_triple : Nat → Int} {mX59_there : Nat → Int} {mX60_version : Nat → Int} {mX60_there : Nat → Int} {mX60_older : Nat → Option Nat} {mX66_version : Nat → Int} {mX66_count : Nat → Int} {mX66_next : Nat → Option Nat} {sa : Nat → Nat} {so : kSo} {x : Nat} {s : vsS} {u b d v k t g i e : Int} {MC MS : Nat}
theorem CVT_needVersion0 {post : Prop} {px : Nat → Prop} {A : Nat → Int → Nat} {gi : Nat → Nat × Int} {c la : Int} {wr se st pn : Int → Int} {vr : Int → Int → Int} {ps : List Int} (G : LabU (tvK wr) tvL (tvU c wr vr ps) kd an A gi) (F : mX5_transactions (A 0 0) = some (A 2 0)) (T : tvTr ar mX58_number mX58_sees mX59_writes mX59_noted A c wr se) (hsa : tvSa sa) (S : tvSt sa mX58_state A c st) (hP : tvPl mX66_next A ps (mX5_pins (A 0 0)) ∧ tvPn mX66_version mX66_count A pn ps) (hQ : tvPs pn ps) (ec : mX5_count (A 0 0) = c) (el : mX5_latest (A 0 0) = la) (hc : 0 ≤ c ∧ c ≤ 60) (te : vtTe la pn se st c v) (h0 : post) : wpVT_X5_needVersion 0 0 post px kd an ar mX5_latest mX5_pins mX5_transactions mX5_count mX58_sees mX58_state mX66_version mX66_count mX66_next sa (A 0 0) v := by
  unfold wpVT_X5_needVersion
  refine ⟨by omega, CVT_least G F T hsa S hP hQ ec el hc (fun m hm => ?_)⟩
  rw [el]
  obtain ⟨⟨m', hm', le⟩, lv⟩ := te
  have em := vtLk_u hm hm'
  have nd : ∀ {P : Prop} {q : Nat → Prop}, P → wpVT_X5_need 0 0 P q 1 := fun {P q} hP => by
    unfold wpVT_X5_need
    exact ⟨fun e => absurd e (by decide), fun _ => ⟨by omega, by omega, hP⟩⟩
  exact ⟨fun a => absurd a (by omega), fun a => ⟨fun b => absurd b (by omega), fun b => ⟨0, 0, ⟨by omega, by omega⟩, nd ⟨by omega, by omega, h0⟩⟩⟩⟩
theorem QVT_told0 {post : Int → Prop} {px : Nat → Prop} (R : vsIC kd an ai al ar mX5_newest mX5_rows mX5_latest mX5_pins mX5_transactions mX5_count mX5_holders mX5_tripleConflicts mX5_graphConflicts mX5_turns mX5_queue mX5_head mX5_tail mX5_ring mX58_number mX58_sees mX58_state mX59_writes mX59_count mX59_noted mX59_waitsFor mX59_turn mX59_triple mX59_there mX60_version mX60_there mX60_older mX66_version mX66_count mX66_next sa x u b d s) (hsa : tvSa sa) (f : (vsTold v k s).1 = 0) (h : post (vsTold v k s).2) : wpVT_X5_told 0 0 post px kd an ar mX5_newest mX5_latest mX5_pins mX5_transactions mX5_count mX58_sees mX58_state mX60_version mX60_there mX60_older mX66_version mX66_count mX66_next sa x v k := by
  obtain ⟨A, gi, S, vr, la, c, wr, se, pn, ps, nt, rf, ex, O, H, P, rfl⟩ := R
  have I := H.h P
  subst ex
  obtain ⟨⟨G, F, T, Rw, Pp, N, ⟨n1, n2, n3⟩, r4⟩, D⟩ := O
  obtain ⟨i1, i2, i3, i4, -⟩ := I
  by_cases w : vtTe la pn se S.st c v ∧ 0 ≤ k ∧ k < 200
  · have e : vsTold v k (S, vr, (la, c), wr, se, pn, nt, rf) = (0, pif (vtTh vr k v) 1 0) := pif_t w
    rw [e] at h
    have nt : ∀ {P : Prop} {q : Nat → Prop}, P → wpVT_X5_needTriple 0 0 P q k := fun {P q} hP => by
      unfold wpVT_X5_needTriple
      have nd : ∀ {P : Prop} {q : Nat → Prop}, P → wpVT_X5_need 0 0 P q 1 := fun {P q} hP => by
        unfold wpVT_X5_need
        exact ⟨fun e => absurd e (by decide), fun _ => ⟨by omega, by omega, hP⟩⟩
      exact ⟨fun a => absurd a (by omega), fun a => ⟨fun b => absurd b (by omega), fun b => ⟨0, 0, ⟨by omega, by omega⟩, nd ⟨by omega, by omega, hP⟩⟩⟩⟩
    unfold wpVT_X5_told
    refine ⟨0, 0, ⟨by omega, by omega⟩, CVT_needVersion0 G F.2.1 T hsa D.1 Pp i4 n3 n2 (by omega) w.1 ⟨0, 0, ⟨by omega, by omega⟩, nt ⟨⟨by omega, by omega⟩, CVT_isThere G F.1 Rw i3 (by omega) w.2 (by have := w.1.2; omega) (fun y => ⟨Or.inr rfl, by omega, by omega, ?_⟩) (fun y => ⟨Or.inl rfl, by omega, by omega, ?_⟩)⟩⟩⟩
    · rw [pif_t y] at h; exact h
    · rw [pif_f y] at h; exact h
  · have e : vsTold v k (S, vr, (la, c), wr, se, pn, nt, rf) = (1, 0) := pif_f w
    rw [e] at f
    exact absurd f (by decide)
theorem QVT_told {post : Int → Prop} {px : Nat → Prop} (R : vsIC kd an ai al ar mX5_newest mX5_rows mX5_latest mX5_pins mX5_transactions mX5_count mX5_holders mX5_tripleConflicts mX5_graphConflicts mX5_turns mX5_queue mX5_head mX5_tail mX5_ring mX58_number mX58_sees mX58_state mX59_writes mX59_count mX59_noted mX59_waitsFor mX59_turn mX59_triple mX59_there mX60_version mX60_there mX60_older mX66_version mX66_count mX66_next sa x u b d s) (hC : 300 ≤ MC ∧ 5000 ≤ MS) (hsa : tvSa sa) (h : (vsTold v k s).1 = 0 → post (vsTold v k s).2) (hx : ¬ (vsTold v k s).1 = 0 → px (vsTold v k s).1) : wpVT_X5_told MC MS post px kd an ar mX5_newest mX5_latest mX5_pins mX5_transactions mX5_count mX58_sees mX58_state mX60_version mX60_there mX60_older mX66_version mX66_count mX66_next sa x v k := by
  obtain ⟨A, gi, S, vr, la, c, wr, se, pn, ps, nt, rf, ex, O, H, P, rfl⟩ := R
  have I := H.h P
  subst ex
  refine CVT_told hC.1 hC.2 hsa O I (fun w => ?_) (fun w y => ?_) (fun w y => ?_)
  · have e : vsTold v k (S, vr, (la, c), wr, se, pn, nt, rf) = (1, 0) := pif_f w
    rw [e] at hx
    exact hx (by decide)
  · have e : vsTold v k (S, vr, (la, c), wr, se, pn, nt, rf) = (0, pif (vtTh vr k v) 1 0) := pif_t w
    rw [e, pif_t y] at h
    exact h rfl
  · have e : vsTold v k (S, vr, (la, c), wr, se, pn, nt, rf) = (0, pif (vtTh vr k v) 1 0) := pif_t w
    rw [e, pif_f y] at h
    exact h rfl
theorem QVT_state {post : Int → Prop} {px : Nat → Prop} (R : vsIC kd an ai al ar mX5_newest mX5_rows mX5_latest mX5_pins mX5_transactions mX5_count mX5_holders mX5_tripleConflicts mX5_graphConflicts mX5_turns mX5_queue mX5_head mX5_tail mX5_ring mX58_number mX58_sees mX58_state mX59_writes mX59_count mX59_noted mX59_waitsFor mX59_turn mX59_triple mX59_there mX60_version mX60_there mX60_older mX66_version mX66_count mX66_next sa x u b d s) (hC : 300 ≤ MC ∧ 5000 ≤ MS) (hso : tvSo so sa) (h : (vsState t s).1 = 0 → post (vsState t s).2) (hx : ¬ (vsState t s).1 = 0 → px (vsState t s).1) : wpVT_X5_state MC MS post px kd an ar mX5_transactions mX5_count mX58_state so x t := by
  obtain ⟨A, gi, S, vr, la, c, wr, se, pn, ps, nt, rf, ex, O, H, P, rfl⟩ := R
  have I := H.h P
  subst ex
  refine CVT_state hC.1 hC.2 hso O I (fun w => ?_) (fun w => ?_)
  · have e : vsState t (S, vr, (la, c), wr, se, pn, nt, rf) = (1, 0) := if_neg w
    rw [e] at hx
    exact hx (by decide)
  · have e : vsState t (S, vr, (la, c), wr, se, pn, nt, rf) = (0, S.st t) := if_pos w
    rw [e] at h
    exact h rfl
theorem QVT_waits {post : Int → Prop} {px : Nat → Prop} (R : vsIC kd an ai al ar mX5_newest mX5_rows mX5_latest mX5_pins mX5_transactions mX5_count mX5_holders mX5_tripleConflicts mX5_graphConflicts mX5_turns mX5_queue mX5_head mX5_tail mX5_ring mX58_number mX58_sees mX58_state mX59_writes mX59_count mX59_noted mX59_waitsFor mX59_turn mX59_triple mX59_there mX60_version mX60_there mX60_older mX66_version mX66_count mX66_next sa x u b d s) (hC : 300 ≤ MC ∧ 5000 ≤ MS) (hsa : tvSa sa) (h : (vsWaits t s).1 = 0 → post (vsWaits t s).2) (hx : ¬ (vsWaits t s).1 = 0 → px (vsWaits t s).1) : wpVT_X5_waits MC MS post px kd an ar mX5_transactions mX5_count mX58_number mX58_state mX59_waitsFor sa x t := by
  obtain ⟨A, gi, S, vr, la, c, wr, se, pn, ps, nt, rf, ex, O, H, P, rfl⟩ := R
  have I := H.h P
  subst ex
  refine CVT_waits hC.1 hC.2 hsa O I (fun w => ?_) (fun w => ?_)
  · have e : vsWaits t (S, vr, (la, c), wr, se, pn, nt, rf) = (1, 0) := if_neg w
    rw [e] at hx
    exact hx (by decide)
  · have e : vsWaits t (S, vr, (la, c), wr, se, pn, nt, rf) = (0, if S.st t = 1 then S.wf t else -1) := if_pos w
    rw [e] at h
    exact h rfl
theorem QVT_ring {post : Int → Prop} (R : vsIC kd an ai al ar mX5_newest mX5_rows mX5_latest mX5_pins mX5_transactions mX5_count mX5_holders mX5_tripleConflicts mX5_graphConflicts mX5_turns mX5_queue mX5_head mX5_tail mX5_ring mX58_number mX58_sees mX58_state mX59_writes mX59_count mX59_noted mX59_waitsFor mX59_turn mX59_triple mX59_there mX60_version mX60_there mX60_older mX66_version mX66_count mX66_next sa x u b d s) (h : post (vsRing i s)) : wpVT_X5_ring post kd an ai mX5_ring x i := by
  obtain ⟨A, gi, S, vr, la, c, wr, se, pn, ps, nt, rf, ex, O, H, P, rfl⟩ := R
  have I := H.h P
  subst ex
  exact CVT_ring O h
theorem QVT_conflicts {post : Int → Prop} {px : Nat → Prop} (R : vsIC kd an ai al ar mX5_newest mX5_rows mX5_latest mX5_pins mX5_transactions mX5_count mX5_holders mX5_tripleConflicts mX5_graphConflicts mX5_turns mX5_queue mX5_head mX5_tail mX5_ring mX58_number mX58_sees mX58_state mX59_writes mX59_count mX59_noted mX59_waitsFor mX59_turn mX59_triple mX59_there mX60_version mX60_there mX60_older mX66_version mX66_count mX66_next sa x u b d s) (hC : 300 ≤ MC ∧ 5000 ≤ MS) (h : (vsConf k i s).1 = 0 → post (vsConf k i s).2) (hx : ¬ (vsConf k i s).1 = 0 → px (vsConf k i s).1) : wpVT_X5_conflicts MC MS post px kd an ai mX5_tripleConflicts mX5_graphConflicts x k i := by
  obtain ⟨A, gi, S, vr, la, c, wr, se, pn, ps, nt, rf, ex, O, H, P, rfl⟩ := R
  have I := H.h P
  subst ex
  refine CVT_conflicts hC.1 hC.2 O (fun w => ?_) (fun w => ?_)
  · have e : vsConf k i (S, vr, (la, c), wr, se, pn, nt, rf) = (1, 0) := pif_f w
    rw [e] at hx
    exact hx (by decide)
  · have e : vsConf k i (S, vr, (la, c), wr, se, pn, nt, rf) = (0, if k = 0 then S.fl i else rf i) := pif_t w
    rw [e] at h
    exact h rfl
theorem QVT_read {post : Int → Prop} {px : Nat → Prop} (R : vsIC kd an ai al ar mX5_newest mX5_rows mX5_latest mX5_pins mX5_transactions mX5_count mX5_holders mX5_tripleConflicts mX5_graphConflicts mX5_turns mX5_queue mX5_head mX5_tail mX5_ring mX58_number mX58_sees mX58_state mX59_writes mX59_count mX59_noted mX59_waitsFor mX59_turn mX59_triple mX59_there mX60_version mX60_there mX60_older mX66_version mX66_count mX66_next sa x u b d s) (hC : 300 ≤ MC ∧ 5000 ≤ MS) (hsa : tvSa sa) (h : (vsRead t k s).1 = 0 → post (vsRead t k s).2) (hx : ¬ (vsRead t k s).1 = 0 → px (vsRead t k s).1) : wpVT_X5_read MC MS post px kd an ai ar mX5_newest mX5_transactions mX5_count mX58_sees mX58_state mX59_writes mX60_version mX60_there mX60_older sa x t k := by
  obtain ⟨A, gi, S, vr, la, c, wr, se, pn, ps, nt, rf, ex, O, H, P, rfl⟩ := R
  have I := H.h P
  subst ex
  refine CVT_read hC.1 hC.2 hsa O I (fun w => ?_) (fun w z => ?_) (fun w z y => ?_) (fun w z y => ?_)
  · have e : vsRead t k (S, vr, (la, c), wr, se, pn, nt, rf) = (1, 0) := if_neg w
    rw [e] at hx
    exact hx (by decide)
  · have e : vsRead t k (S, vr, (la, c), wr, se, pn, nt, rf) = (2, 0) := (if_pos w).trans (if_neg z)
    rw [e] at hx
    exact hx (by decide)
  · have e : vsRead t k (S, vr, (la, c), wr, se, pn, nt, rf) = (0, pif (vtSe vr se S.ws t k) 1 0) := (if_pos w).trans (if_pos z)
    rw [e, pif_t y] at h
    exact h rfl
  · have e : vsRead t k (S, vr, (la, c), wr, se, pn, nt, rf) = (0, pif (vtSe vr se S.ws t k) 1 0) := (if_pos w).trans (if_pos z)
    rw [e, pif_f y] at h
    exact h rfl
theorem QVT_rows {post : Int → Prop} (R : vsIC kd an ai al ar mX5_newest mX5_rows mX5_latest mX5_pins mX5_transactions mX5_count mX5_holders mX5_tripleConflicts mX5_graphConflicts mX5_turns mX5_queue mX5_head mX5_tail mX5_ring mX58_number mX58_sees mX58_state mX59_writes mX59_count mX59_noted mX59_waitsFor mX59_turn mX59_triple mX59_there mX60_version mX60_there mX60_older mX66_version mX66_count mX66_next sa x u b d s) (h : post (vsRows s)) : wpVT_X5_rows post mX5_rows x := by
  obtain ⟨A, gi, S, vr, la, c, wr, se, pn, ps, nt, rf, ex, O, H, P, rfl⟩ := R
  have I := H.h P
  subst ex
  have n1 : mX5_rows (A 0 0) = vtN 12800 vr := O.1.2.2.2.2.2.2.1.1
  unfold wpVT_X5_rows
  rw [n1]
  exact h
theorem QVT_latest {post : Int → Prop} (R : vsIC kd an ai al ar mX5_newest mX5_rows mX5_latest mX5_pins mX5_transactions mX5_count mX5_holders mX5_tripleConflicts mX5_graphConflicts mX5_turns mX5_queue mX5_head mX5_tail mX5_ring mX58_number mX58_sees mX58_state mX59_writes mX59_count mX59_noted mX59_waitsFor mX59_turn mX59_triple mX59_there mX60_version mX60_there mX60_older mX66_version mX66_count mX66_next sa x u b d s) (h : post (vsLatest s)) : wpVT_X5_latest post mX5_latest x := by
  obtain ⟨A, gi, S, vr, la, c, wr, se, pn, ps, nt, rf, ex, O, H, P, rfl⟩ := R
  have I := H.h P
  subst ex
  have n1 : mX5_latest (A 0 0) = la := O.1.2.2.2.2.2.2.1.2.1
  unfold wpVT_X5_latest
  rw [n1]
  exact h
theorem QVT_least {post : Int → Prop} (R : vsIC kd an ai al ar mX5_newest mX5_rows mX5_latest mX5_pins mX5_transactions mX5_count mX5_holders mX5_tripleConflicts mX5_graphConflicts mX5_turns mX5_queue mX5_head mX5_tail mX5_ring mX58_number mX58_sees mX58_state mX59_writes mX59_count mX59_noted mX59_waitsFor mX59_turn mX59_triple mX59_there mX60_version mX60_there mX60_older mX66_version mX66_count mX66_next sa x u b d s) (hsa : tvSa sa) (h : post (vsLeast s)) : wpVT_X5_least post kd an ar mX5_latest mX5_pins mX5_transactions mX5_count mX58_sees mX58_state mX66_version mX66_count mX66_next sa x := by
  obtain ⟨A, gi, S, vr, la, c, wr, se, pn, ps, nt, rf, ex, O, H, P, rfl⟩ := R
  have I := H.h P
  subst ex
  obtain ⟨⟨G, F, T, Rw, Pp, N, ⟨n1, n2, n3⟩, r4⟩, D⟩ := O
  obtain ⟨i1, i2, i3, i4, -⟩ := I
  refine CVT_least G F.2.1 T hsa D.1 Pp i4 n3 n2 (by omega) (fun m hm => ?_)
  rw [← vsLk_e hm]
  exact h
theorem QVT_note {post : Int → (Nat → Int → Int) → Prop} {px : Nat → (Nat → Int → Int) → Prop} (R : vsIC kd an ai al ar mX5_newest mX5_rows mX5_latest mX5_pins mX5_transactions mX5_count mX5_holders mX5_tripleConflicts mX5_graphConflicts mX5_turns mX5_queue mX5_head mX5_tail mX5_ring mX58_number mX58_sees mX58_state mX59_writes mX59_count mX59_noted mX59_waitsFor mX59_turn mX59_triple mX59_there mX60_version mX60_there mX60_older mX66_version mX66_count mX66_next sa x u b d s) (hC : 300 ≤ MC ∧ 5000 ≤ MS) (hsa : tvSa sa) (h : ∀ m1, vsIC kd an m1 al ar mX5_newest mX5_rows mX5_latest mX5_pins mX5_transactions mX5_count mX5_holders mX5_tripleConflicts mX5_graphConflicts mX5_turns mX5_queue mX5_head mX5_tail mX5_ring mX58_number mX58_sees mX58_state mX59_writes mX59_count mX59_noted mX59_waitsFor mX59_turn mX59_triple mX59_there mX60_version mX60_there mX60_older mX66_version mX66_count mX66_next sa x u b d ((vsNote t g s).2.2) → ((vsNote t g s).1 = 0 → post (vsNote t g s).2.1 m1) ∧ (¬ (vsNote t g s).1 = 0 → px (vsNote t g s).1 m1)) : wpVT_X5_note MC MS post px kd an ai ar mX5_transactions mX5_count mX58_state mX59_noted sa x t g := by
  obtain ⟨A, gi, S, vr, la, c, wr, se, pn, ps, nt, rf, ex, O, H, P, rfl⟩ := R
  have I := H.h P
  subst ex
  refine CVT_note hC.1 hC.2 hsa O I (fun w => ?_) (fun w z => ?_) (fun w z m1 O' => ?_)
  · have e0 : vsNote t g (S, vr, (la, c), wr, se, pn, nt, rf) = (1, 0, (S, vr, (la, c), wr, se, pn, nt, rf)) := if_neg w
    rw [e0] at h
    exact (h _ ⟨_, _, _, _, _, _, _, _, _, _, _, _, rfl, O, H, P, rfl⟩).2 (show ¬ (1 : Nat) = 0 by decide)
  · have e0 : vsNote t g (S, vr, (la, c), wr, se, pn, nt, rf) = (2, 0, (S, vr, (la, c), wr, se, pn, nt, rf)) := (if_pos w).trans (if_neg z)
    rw [e0] at h
    exact (h _ ⟨_, _, _, _, _, _, _, _, _, _, _, _, rfl, O, H, P, rfl⟩).2 (show ¬ (2 : Nat) = 0 by decide)
  · have e0 : vsNote t g (S, vr, (la, c), wr, se, pn, nt, rf) = (0, updI (nt t) g 1 0 + updI (nt t) g 1 1 + updI (nt t) g 1 2 + updI (nt t) g 1 3, (S, vr, (la, c), wr, se, pn, updI nt t (updI (nt t) g 1), rf)) := (if_pos w).trans (if_pos z)
    rw [e0] at h
    exact (h _ ⟨_, _, _, _, _, _, _, _, _, _, _, _, rfl, O', H.note w.1 z.2, P, rfl⟩).1 rfl
theorem QVT_unpin {post : Int → (Nat → Int) → Prop} {px : Nat → (Nat → Int) → Prop} (R : vsIC kd an ai al ar mX5_newest mX5_rows mX5_latest mX5_pins mX5_transactions mX5_count mX5_holders mX5_tripleConflicts mX5_graphConflicts mX5_turns mX5_queue mX5_head mX5_tail mX5_ring mX58_number mX58_sees mX58_state mX59_writes mX59_count mX59_noted mX59_waitsFor mX59_turn mX59_triple mX59_there mX60_version mX60_there mX60_older mX66_version mX66_count mX66_next sa x u b d s) (hC : 300 ≤ MC ∧ 5000 ≤ MS) (h : ∀ m1, vsIC kd an ai al ar mX5_newest mX5_rows mX5_latest mX5_pins mX5_transactions mX5_count mX5_holders mX5_tripleConflicts mX5_graphConflicts mX5_turns mX5_queue mX5_head mX5_tail mX5_ring mX58_number mX58_sees mX58_state mX59_writes mX59_count mX59_noted mX59_waitsFor mX59_turn mX59_triple mX59_there mX60_version mX60_there mX60_older mX66_version m1 mX66_next sa x u b d ((vsUnpin v s).2.2) → ((vsUnpin v s).1 = 0 → post (vsUnpin v s).2.1 m1) ∧ (¬ (vsUnpin v s).1 = 0 → px (vsUnpin v s).1 m1)) : wpVT_X5_unpin MC MS post px kd mX5_pins mX66_version mX66_count mX66_next x v := by
  obtain ⟨A, gi, S, vr, la, c, wr, se, pn, ps, nt, rf, ex, O, H, P, rfl⟩ := R
  have I := H.h P
  subst ex
  refine CVT_unpin hC.1 hC.2 O I (fun w => ?_) (fun w m1 O' P' => ?_)
  · have e0 : vsUnpin v (S, vr, (la, c), wr, se, pn, nt, rf) = (1, 0, (S, vr, (la, c), wr, se, pn, nt, rf)) := if_neg w
    rw [e0] at h
    exact (h _ ⟨_, _, _, _, _, _, _, _, _, _, _, _, rfl, O, H, P, rfl⟩).2 (show ¬ (1 : Nat) = 0 by decide)
  · have hp : ∀ w, 0 ≤ w → w < 64 → 0 ≤ updI pn v (pn v - 1) w ∧ updI pn v (pn v - 1) w ≤ u := fun w w0 w1 => by
      have q := H.2.2.2.2.1 w w0 w1
      by_cases z : w = v
      · subst z; rw [updI_s]; omega
      · rw [updI_n z]; exact q
    have e0 : vsUnpin v (S, vr, (la, c), wr, se, pn, nt, rf) = (0, pn v - 1, (S, vr, (la, c), wr, se, updI pn v (pn v - 1), nt, rf)) := if_pos w
    rw [e0] at h
    exact (h _ ⟨_, _, _, _, _, _, _, _, _, _, _, _, rfl, O', H.pns hp, P', rfl⟩).1 rfl
theorem QVT_pin {post : Int → (Nat → Nat) → (Nat → Option Nat) → (Nat → Int) → (Nat → Int) → (Nat → Option Nat) → Prop} {px : Nat → (Nat → Nat) → (Nat → Option Nat) → (Nat → Int) → (Nat → Int) → (Nat → Option Nat) → Prop} (R : vsIC kd an ai al ar mX5_newest mX5_rows mX5_latest mX5_pins mX5_transactions mX5_count mX5_holders mX5_tripleConflicts mX5_graphConflicts mX5_turns mX5_queue mX5_head mX5_tail mX5_ring mX58_number mX58_sees mX58_state mX59_writes mX59_count mX59_noted mX59_waitsFor mX59_turn mX59_triple mX59_there mX60_version mX60_there mX60_older mX66_version mX66_count mX66_next sa x u b d s) (hC : 300 ≤ MC ∧ 5000 ≤ MS) (hsa : tvSa sa) (hu : u ≤ 199) (h : ∀ m1 m2 m3 m4 m5, vsIC m1 an ai al ar mX5_newest mX5_rows mX5_latest m2 mX5_transactions mX5_count mX5_holders mX5_tripleConflicts mX5_graphConflicts mX5_turns mX5_queue mX5_head mX5_tail mX5_ring mX58_number mX58_sees mX58_state mX59_writes mX59_count mX59_noted mX59_waitsFor mX59_turn mX59_triple mX59_there mX60_version mX60_there mX60_older m3 m4 m5 sa x (u + 1) b d ((vsPin v s).2.2) → ((vsPin v s).1 = 0 → post (vsPin v s).2.1 m1 m2 m3 m4 m5) ∧ (¬ (vsPin v s).1 = 0 → px (vsPin v s).1 m1 m2 m3 m4 m5)) : wpVT_X5_pin MC MS post px kd an ar mX5_latest mX5_pins mX5_transactions mX5_count mX58_sees mX58_state mX66_version mX66_count mX66_next sa x v := by
  obtain ⟨A, gi, S, vr, la, c, wr, se, pn, ps, nt, rf, ex, O, H, P, rfl⟩ := R
  have I := H.h P
  subst ex
  refine CVT_pin hC.1 hC.2 hsa O I (fun w w0 w1 => by have := H.2.2.2.2.1 w w0 w1; omega) (fun w => ?_) (fun w w2 A' gi' ps' m1 m2 m3 m4 m5 hA O' P' => ?_)
  · have U := H.1.1
    have e0 : vsPin v (S, vr, (la, c), wr, se, pn, nt, rf) = (1, 0, (S, vr, (la, c), wr, se, pn, nt, rf)) := pif_f w
    rw [e0] at h
    exact (h _ _ _ _ _ ⟨_, _, _, _, _, _, _, _, _, _, _, _, rfl, O, (H.up ⟨by omega, by omega⟩ ⟨Int.le_refl _, H.1.2.1⟩ ⟨Int.le_refl _, H.1.2.2⟩), P, rfl⟩).2 (show ¬ (1 : Nat) = 0 by decide)
  · have U := H.1.1
    have hp : ∀ w, 0 ≤ w → w < 64 → 0 ≤ updI pn v (pn v + 1) w ∧ updI pn v (pn v + 1) w ≤ u + 1 := fun w w0 w1 => by
      have q := H.2.2.2.2.1 w w0 w1
      by_cases z : w = v
      · subst z; rw [updI_s]; omega
      · rw [updI_n z]; omega
    have e0 : vsPin v (S, vr, (la, c), wr, se, pn, nt, rf) = (0, pn v + 1, (S, vr, (la, c), wr, se, updI pn v (pn v + 1), nt, rf)) := pif_t w
    rw [e0] at h
    exact (h _ _ _ _ _ ⟨_, _, _, _, _, _, _, _, _, _, _, _, hA, O', (H.up ⟨by omega, by omega⟩ ⟨Int.le_refl _, H.1.2.1⟩ ⟨Int.le_refl _, H.1.2.2⟩).pns hp, P', rfl⟩).1 rfl
theorem QVT_begin {post : Int → (Nat → Nat) → (Nat → Nat) → (Nat → Int → Int) → (Nat → Int → Option Nat) → (Nat → Int) → (Nat → Int) → (Nat → Int) → (Nat → Option Nat) → (Nat → Option Nat) → (Nat → Int) → (Nat → Option Nat) → (Nat → Option Nat) → (Nat → Int) → (Nat → Int) → (Nat → Int) → Prop} {px : Nat → (Nat → Nat) → (Nat → Nat) → (Nat → Int → Int) → (Nat → Int → Option Nat) → (Nat → Int) → (Nat → Int) → (Nat → Int) → (Nat → Option Nat) → (Nat → Option Nat) → (Nat → Int) → (Nat → Option Nat) → (Nat → Option Nat) → (Nat → Int) → (Nat → Int) → (Nat → Int) → Prop} (R : vsIC kd an ai al ar mX5_newest mX5_rows mX5_latest mX5_pins mX5_transactions mX5_count mX5_holders mX5_tripleConflicts mX5_graphConflicts mX5_turns mX5_queue mX5_head mX5_tail mX5_ring mX58_number mX58_sees mX58_state mX59_writes mX59_count mX59_noted mX59_waitsFor mX59_turn mX59_triple mX59_there mX60_version mX60_there mX60_older mX66_version mX66_count mX66_next sa x u b d s) (hC : 300 ≤ MC ∧ 5000 ≤ MS) (hb : b ≤ 58) (h : ∀ m1 m2 m3 m4 m5 m6 m7 m8 m9 m10 m11 m12 m13 m14 m15, vsIC m1 m2 m3 al m4 mX5_newest mX5_rows mX5_latest mX5_pins mX5_transactions m5 mX5_holders mX5_tripleConflicts mX5_graphConflicts mX5_turns mX5_queue mX5_head mX5_tail mX5_ring m6 m7 m8 m9 m10 m11 m12 m13 m14 m15 mX60_version mX60_there mX60_older mX66_version mX66_count mX66_next sa x u (b + 1) d ((vsBegin s).2.2) → ((vsBegin s).1 = 0 → post (vsBegin s).2.1 m1 m2 m3 m4 m5 m6 m7 m8 m9 m10 m11 m12 m13 m14 m15) ∧ (¬ (vsBegin s).1 = 0 → px (vsBegin s).1 m1 m2 m3 m4 m5 m6 m7 m8 m9 m10 m11 m12 m13 m14 m15)) : wpVT_X5_begin MC MS post px kd an ai ar mX5_latest mX5_transactions mX5_count mX58_number mX58_sees mX58_state mX59_writes mX59_count mX59_noted mX59_waitsFor mX59_turn mX59_triple mX59_there sa x := by
  obtain ⟨A, gi, S, vr, la, c, wr, se, pn, ps, nt, rf, ex, O, H, P, rfl⟩ := R
  have I := H.h P
  subst ex
  have L := H.2.1
  refine CVT_begin hC.1 hC.2 O I (fun g g0 g1 => H.2.2.2.2.2.2.2.2.2.2.2.1 c g I.2.1.1 (Or.inl (Int.le_refl _)) g0 g1) (fun A' gi' m1 m2 m3 m4 m5 m6 m7 m8 m9 m10 m11 m12 m13 m14 m15 hA O' => ?_)
  exact (h _ _ _ _ _ _ _ _ _ _ _ _ _ _ _ ⟨_, _, _, _, _, _, _, _, _, _, _, _, hA, O', H.nw hb ⟨L.1, Int.le_refl _⟩, P, rfl⟩).1 rfl
theorem QVT_look {post : Int → (Nat → Nat) → (Nat → Int → Option Nat) → (Nat → Int) → (Nat → Int) → (Nat → Int) → (Nat → Option Nat) → Prop} {px : Nat → (Nat → Nat) → (Nat → Int → Option Nat) → (Nat → Int) → (Nat → Int) → (Nat → Int) → (Nat → Option Nat) → Prop} (R : vsIC kd an ai al ar mX5_newest mX5_rows mX5_latest mX5_pins mX5_transactions mX5_count mX5_holders mX5_tripleConflicts mX5_graphConflicts mX5_turns mX5_queue mX5_head mX5_tail mX5_ring mX58_number mX58_sees mX58_state mX59_writes mX59_count mX59_noted mX59_waitsFor mX59_turn mX59_triple mX59_there mX60_version mX60_there mX60_older mX66_version mX66_count mX66_next sa x u b d s) (hC : 300 ≤ MC ∧ 5000 ≤ MS) (hsa : tvSa sa) (hb : b ≤ 58) (h : ∀ m1 m2 m3 m4 m5 m6, vsIC m1 an ai al m2 mX5_newest mX5_rows mX5_latest mX5_pins mX5_transactions m3 mX5_holders mX5_tripleConflicts mX5_graphConflicts mX5_turns mX5_queue mX5_head mX5_tail mX5_ring m4 m5 m6 mX59_writes mX59_count mX59_noted mX59_waitsFor mX59_turn mX59_triple mX59_there mX60_version mX60_there mX60_older mX66_version mX66_count mX66_next sa x u (b + 1) d ((vsLook v s).2.2) → ((vsLook v s).1 = 0 → post (vsLook v s).2.1 m1 m2 m3 m4 m5 m6) ∧ (¬ (vsLook v s).1 = 0 → px (vsLook v s).1 m1 m2 m3 m4 m5 m6)) : wpVT_X5_look MC MS post px kd an ar mX5_latest mX5_pins mX5_transactions mX5_count mX58_number mX58_sees mX58_state mX66_version mX66_count mX66_next sa x v := by
  obtain ⟨A, gi, S, vr, la, c, wr, se, pn, ps, nt, rf, ex, O, H, P, rfl⟩ := R
  have I := H.h P
  subst ex
  have B := H.1
  refine CVT_look hC.1 hC.2 hsa O I (fun w => ?_) (fun w A' gi' m1 m2 m3 m4 m5 m6 hA O' => ?_)
  · have e0 : vsLook v (S, vr, (la, c), wr, se, pn, nt, rf) = (1, 0, (S, vr, (la, c), wr, se, pn, nt, rf)) := pif_f w
    rw [e0] at h
    exact (h _ _ _ _ _ _ ⟨_, _, _, _, _, _, _, _, _, _, _, _, rfl, O, (H.up ⟨Int.le_refl _, H.1.1.2⟩ ⟨by omega, by omega⟩ ⟨Int.le_refl _, H.1.2.2⟩), P, rfl⟩).2 (show ¬ (1 : Nat) = 0 by decide)
  · have vb : 0 ≤ v ∧ v ≤ la := by
      obtain ⟨⟨m, hm, le⟩, lv⟩ := w
      have L := H.2.1
      rcases hm.1 with q | ⟨t, tb, _, q⟩ | ⟨k, kb, _, q⟩
      · omega
      · have := H.2.2.2.2.2.1 t tb.1 tb.2; omega
      · omega
    have e0 : vsLook v (S, vr, (la, c), wr, se, pn, nt, rf) = (0, c, (vsNw c S, vr, (la, c + 1), updI wr c 0, updI se c v, pn, nt, rf)) := pif_t w
    rw [e0] at h
    exact (h _ _ _ _ _ _ ⟨_, _, _, _, _, _, _, _, _, _, _, _, hA, O', H.nw hb vb, P, rfl⟩).1 rfl
theorem QVT_free {post : Int → (Nat → Int → Option Nat) → (Nat → Int) → (Nat → Option Nat) → Prop} (R : vsIC kd an ai al ar mX5_newest mX5_rows mX5_latest mX5_pins mX5_transactions mX5_count mX5_holders mX5_tripleConflicts mX5_graphConflicts mX5_turns mX5_queue mX5_head mX5_tail mX5_ring mX58_number mX58_sees mX58_state mX59_writes mX59_count mX59_noted mX59_waitsFor mX59_turn mX59_triple mX59_there mX60_version mX60_there mX60_older mX66_version mX66_count mX66_next sa x u b d s) (hsa : tvSa sa) (h : ∀ m1 m2 m3, vsIC kd an ai al m1 mX5_newest m2 mX5_latest mX5_pins mX5_transactions mX5_count mX5_holders mX5_tripleConflicts mX5_graphConflicts mX5_turns mX5_queue mX5_head mX5_tail mX5_ring mX58_number mX58_sees mX58_state mX59_writes mX59_count mX59_noted mX59_waitsFor mX59_turn mX59_triple mX59_there mX60_version mX60_there m3 mX66_version mX66_count mX66_next sa x u b d ((vsFree s).2) → post (vsFree s).1 m1 m2 m3) : wpVT_X5_free post kd an ar mX5_newest mX5_rows mX5_latest mX5_pins mX5_transactions mX5_count mX58_sees mX58_state mX60_version mX60_there mX60_older mX66_version mX66_count mX66_next sa x := by
  obtain ⟨A, gi, S, vr, la, c, wr, se, pn, ps, nt, rf, ex, O, H, P, rfl⟩ := R
  have I := H.h P
  subst ex
  refine CVT_free hsa O I (fun m hm m1 m2 m3 O' => ?_)
  have e0 : vsFree (S, vr, (la, c), wr, se, pn, nt, rf) = (vtN 12800 vr - vtN 12800 (vtF vr m), (S, vtF vr m, (la, c), wr, se, pn, nt, rf)) := by
    show (vtN 12800 vr - vtN 12800 (vtF vr (Classical.epsilon (fun m => vtLk la pn se S.st c m))), (S, vtF vr (Classical.epsilon (fun m => vtLk la pn se S.st c m)), (la, c), wr, se, pn, nt, rf)) = _
    rw [vsLk_e hm]
  rw [e0] at h
  exact h _ _ _ ⟨_, _, _, _, _, _, _, _, _, _, _, _, rfl, O', H.free, P, rfl⟩
theorem QVT_put {post : Int → (Nat → Nat) → (Nat → Nat) → (Nat → Int → Int) → (Nat → Int → Option Nat) → (Nat → Int) → (Nat → Int) → (Nat → Int) → (Nat → Option Nat) → (Nat → Option Nat) → (Nat → Int) → (Nat → Option Nat) → (Nat → Int) → (Nat → Int) → (Nat → Int) → Prop} {px : Nat → (Nat → Nat) → (Nat → Nat) → (Nat → Int → Int) → (Nat → Int → Option Nat) → (Nat → Int) → (Nat → Int) → (Nat → Int) → (Nat → Option Nat) → (Nat → Option Nat) → (Nat → Int) → (Nat → Option Nat) → (Nat → Int) → (Nat → Int) → (Nat → Int) → Prop} (R : vsIC kd an ai al ar mX5_newest mX5_rows mX5_latest mX5_pins mX5_transactions mX5_count mX5_holders mX5_tripleConflicts mX5_graphConflicts mX5_turns mX5_queue mX5_head mX5_tail mX5_ring mX58_number mX58_sees mX58_state mX59_writes mX59_count mX59_noted mX59_waitsFor mX59_turn mX59_triple mX59_there mX60_version mX60_there mX60_older mX66_version mX66_count mX66_next sa x u b d s) (hC : 300 ≤ MC ∧ 5000 ≤ MS) (hsa : tvSa sa) (hu : u ≤ 199) (he : e = 0 ∨ e = 1) (h : ∀ m1 m2 m3 m4 m5 m6 m7 m8 m9 m10 m11 m12 m13 m14, vsIC m1 m2 m3 al m4 mX5_newest mX5_rows mX5_latest mX5_pins mX5_transactions mX5_count mX5_holders mX5_tripleConflicts mX5_graphConflicts m5 mX5_queue m6 m7 m8 mX58_number mX58_sees m9 mX59_writes m10 mX59_noted m11 m12 m13 m14 mX60_version mX60_there mX60_older mX66_version mX66_count mX66_next sa x (u + 1) b d ((vsPut t k e s).2.2) → ((vsPut t k e s).1 = 0 → post (vsPut t k e s).2.1 m1 m2 m3 m4 m5 m6 m7 m8 m9 m10 m11 m12 m13 m14) ∧ (¬ (vsPut t k e s).1 = 0 → px (vsPut t k e s).1 m1 m2 m3 m4 m5 m6 m7 m8 m9 m10 m11 m12 m13 m14)) : wpVT_X5_put MC MS post px kd an ai ar mX5_newest mX5_transactions mX5_count mX5_holders mX5_tripleConflicts mX5_turns mX5_queue mX5_head mX5_tail mX5_ring mX58_number mX58_sees mX58_state mX59_writes mX59_count mX59_waitsFor mX59_turn mX59_triple mX59_there mX60_version sa x t k e := by
  obtain ⟨A, gi, S, vr, la, c, wr, se, pn, ps, nt, rf, ex, O, H, P, rfl⟩ := R
  have I := H.h P
  subst ex
  have U := H.1.1
  refine CVT_put hC.1 hC.2 hsa O I he (fun w => ?_) (fun w z => ?_) (fun w z V eV A' gi' m1 m2 m3 m4 m5 m6 m7 m8 m9 m10 m11 m12 m13 m14 hA O' => ?_)
  · have e0 : vsPut t k e (S, vr, (la, c), wr, se, pn, nt, rf) = (1, 0, (S, vr, (la, c), wr, se, pn, nt, rf)) := if_neg w
    rw [e0] at h
    exact (h _ _ _ _ _ _ _ _ _ _ _ _ _ _ ⟨_, _, _, _, _, _, _, _, _, _, _, _, rfl, O, (H.up ⟨by omega, by omega⟩ ⟨Int.le_refl _, H.1.2.1⟩ ⟨Int.le_refl _, H.1.2.2⟩), P, rfl⟩).2 (show ¬ (1 : Nat) = 0 by decide)
  · have e0 : vsPut t k e (S, vr, (la, c), wr, se, pn, nt, rf) = (2, 0, (S, vr, (la, c), wr, se, pn, nt, rf)) := (if_pos w).trans (if_neg z)
    rw [e0] at h
    exact (h _ _ _ _ _ _ _ _ _ _ _ _ _ _ ⟨_, _, _, _, _, _, _, _, _, _, _, _, rfl, O, (H.up ⟨by omega, by omega⟩ ⟨Int.le_refl _, H.1.2.1⟩ ⟨Int.le_refl _, H.1.2.2⟩), P, rfl⟩).2 (show ¬ (2 : Nat) = 0 by decide)
  · subst eV
    have e0 : vsPut t k e (S, vr, (la, c), wr, se, pn, nt, rf) = (0, vPu ((vG c vr se (vWrite c vr se t k e S)).st t), (vG c vr se (vWrite c vr se t k e S), vr, (la, c), wr, se, pn, nt, rf)) := (if_pos w).trans (if_pos z)
    rw [e0] at h
    exact (h _ _ _ _ _ _ _ _ _ _ _ _ _ _ ⟨_, _, _, _, _, _, _, _, _, _, _, _, hA, O', H.put hu w.1 z.2 z.1 w.2 he, P, rfl⟩).1 rfl
theorem QVT_abort {post : Int → (Nat → Nat) → (Nat → Nat) → (Nat → Int → Int) → (Nat → Int → Option Nat) → (Nat → Int) → (Nat → Int) → (Nat → Int) → (Nat → Option Nat) → (Nat → Option Nat) → (Nat → Int) → (Nat → Option Nat) → (Nat → Int) → Prop} {px : Nat → (Nat → Nat) → (Nat → Nat) → (Nat → Int → Int) → (Nat → Int → Option Nat) → (Nat → Int) → (Nat → Int) → (Nat → Int) → (Nat → Option Nat) → (Nat → Option Nat) → (Nat → Int) → (Nat → Option Nat) → (Nat → Int) → Prop} (R : vsIC kd an ai al ar mX5_newest mX5_rows mX5_latest mX5_pins mX5_transactions mX5_count mX5_holders mX5_tripleConflicts mX5_graphConflicts mX5_turns mX5_queue mX5_head mX5_tail mX5_ring mX58_number mX58_sees mX58_state mX59_writes mX59_count mX59_noted mX59_waitsFor mX59_turn mX59_triple mX59_there mX60_version mX60_there mX60_older mX66_version mX66_count mX66_next sa x u b d s) (hC : 300 ≤ MC ∧ 5000 ≤ MS) (hsa : tvSa sa) (hu : u ≤ 199) (h : ∀ m1 m2 m3 m4 m5 m6 m7 m8 m9 m10 m11 m12, vsIC m1 m2 m3 al m4 mX5_newest mX5_rows mX5_latest mX5_pins mX5_transactions mX5_count mX5_holders mX5_tripleConflicts mX5_graphConflicts m5 mX5_queue m6 m7 m8 mX58_number mX58_sees m9 mX59_writes m10 mX59_noted m11 m12 mX59_triple mX59_there mX60_version mX60_there mX60_older mX66_version mX66_count mX66_next sa x (u + 1) b d ((vsAbort t s).2.2) → ((vsAbort t s).1 = 0 → post (vsAbort t s).2.1 m1 m2 m3 m4 m5 m6 m7 m8 m9 m10 m11 m12) ∧ (¬ (vsAbort t s).1 = 0 → px (vsAbort t s).1 m1 m2 m3 m4 m5 m6 m7 m8 m9 m10 m11 m12)) : wpVT_X5_abort MC MS post px kd an ai ar mX5_newest mX5_transactions mX5_count mX5_holders mX5_tripleConflicts mX5_turns mX5_queue mX5_head mX5_tail mX5_ring mX58_number mX58_sees mX58_state mX59_writes mX59_count mX59_waitsFor mX59_turn mX59_triple mX59_there mX60_version sa x t := by
  obtain ⟨A, gi, S, vr, la, c, wr, se, pn, ps, nt, rf, ex, O, H, P, rfl⟩ := R
  have I := H.h P
  subst ex
  have U := H.1.1
  refine CVT_abort hC.1 hC.2 hsa O I (fun w => ?_) (fun w z => ?_) (fun w z V eV A' gi' m1 m2 m3 m4 m5 m6 m7 m8 m9 m10 m11 m12 hA O' => ?_)
  · have e0 : vsAbort t (S, vr, (la, c), wr, se, pn, nt, rf) = (1, 0, (S, vr, (la, c), wr, se, pn, nt, rf)) := if_neg w
    rw [e0] at h
    exact (h _ _ _ _ _ _ _ _ _ _ _ _ ⟨_, _, _, _, _, _, _, _, _, _, _, _, rfl, O, (H.up ⟨by omega, by omega⟩ ⟨Int.le_refl _, H.1.2.1⟩ ⟨Int.le_refl _, H.1.2.2⟩), P, rfl⟩).2 (show ¬ (1 : Nat) = 0 by decide)
  · have e0 : vsAbort t (S, vr, (la, c), wr, se, pn, nt, rf) = (2, 0, (S, vr, (la, c), wr, se, pn, nt, rf)) := (if_pos w).trans (if_neg z)
    rw [e0] at h
    exact (h _ _ _ _ _ _ _ _ _ _ _ _ ⟨_, _, _, _, _, _, _, _, _, _, _, _, rfl, O, (H.up ⟨by omega, by omega⟩ ⟨Int.le_refl _, H.1.2.1⟩ ⟨Int.le_refl _, H.1.2.2⟩), P, rfl⟩).2 (show ¬ (2 : Nat) = 0 by decide)
  · subst eV
    have e0 : vsAbort t (S, vr, (la, c), wr, se, pn, nt, rf) = (0, vtWs 200 S.ws t, (vG c vr se (vEnd c t 4 S), vr, (la, c), wr, se, pn, nt, rf)) := (if_pos w).trans (if_pos z)
    rw [e0] at h
    exact (h _ _ _ _ _ _ _ _ _ _ _ _ ⟨_, _, _, _, _, _, _, _, _, _, _, _, hA, O', H.end hu w z, P, rfl⟩).1 rfl
theorem QVT_commit {post : Int → (Nat → Nat) → (Nat → Nat) → (Nat → Int → Int) → (Nat → Int → Option Nat) → (Nat → Int) → (Nat → Int) → (Nat → Int) → (Nat → Int) → (Nat → Int) → (Nat → Option Nat) → (Nat → Option Nat) → (Nat → Int) → (Nat → Option Nat) → (Nat → Int) → (Nat → Int) → (Nat → Int) → (Nat → Option Nat) → Prop} {px : Nat → (Nat → Nat) → (Nat → Nat) → (Nat → Int → Int) → (Nat → Int → Option Nat) → (Nat → Int) → (Nat → Int) → (Nat → Int) → (Nat → Int) → (Nat → Int) → (Nat → Option Nat) → (Nat → Option Nat) → (Nat → Int) → (Nat → Option Nat) → (Nat → Int) → (Nat → Int) → (Nat → Int) → (Nat → Option Nat) → Prop} (R : vsIC kd an ai al ar mX5_newest mX5_rows mX5_latest mX5_pins mX5_transactions mX5_count mX5_holders mX5_tripleConflicts mX5_graphConflicts mX5_turns mX5_queue mX5_head mX5_tail mX5_ring mX58_number mX58_sees mX58_state mX59_writes mX59_count mX59_noted mX59_waitsFor mX59_turn mX59_triple mX59_there mX60_version mX60_there mX60_older mX66_version mX66_count mX66_next sa x u b d s) (hC : 300 ≤ MC ∧ 5000 ≤ MS) (hsa : tvSa sa) (hu : u ≤ 199) (hd : d ≤ 60) (h : ∀ m1 m2 m3 m4 m5 m6 m7 m8 m9 m10 m11 m12 m13 m14 m15 m16 m17, vsIC m1 m2 m3 al m4 mX5_newest m5 m6 mX5_pins mX5_transactions mX5_count mX5_holders mX5_tripleConflicts mX5_graphConflicts m7 mX5_queue m8 m9 m10 mX58_number mX58_sees m11 mX59_writes m12 mX59_noted m13 m14 mX59_triple mX59_there m15 m16 m17 mX66_version mX66_count mX66_next sa x (u + 1) b (d + 1) ((vsCommit t s).2.2) → ((vsCommit t s).1 = 0 → post (vsCommit t s).2.1 m1 m2 m3 m4 m5 m6 m7 m8 m9 m10 m11 m12 m13 m14 m15 m16 m17) ∧ (¬ (vsCommit t s).1 = 0 → px (vsCommit t s).1 m1 m2 m3 m4 m5 m6 m7 m8 m9 m10 m11 m12 m13 m14 m15 m16 m17)) : wpVT_X5_commit MC MS post px kd an ai ar mX5_newest mX5_rows mX5_latest mX5_transactions mX5_count mX5_holders mX5_tripleConflicts mX5_graphConflicts mX5_turns mX5_queue mX5_head mX5_tail mX5_ring mX58_number mX58_sees mX58_state mX59_writes mX59_count mX59_noted mX59_waitsFor mX59_turn mX59_triple mX59_there mX60_version mX60_there mX60_older sa x t := by
  obtain ⟨A, gi, S, vr, la, c, wr, se, pn, ps, nt, rf, ex, O, H, P, rfl⟩ := R
  have I := H.h P
  subst ex
  have U := H.1.1
  refine CVT_commit hC.1 hC.2 hsa O I (fun j j0 j1 => by have := H.2.2.2.2.2.2.2.2.2.2.2.2 j j0 j1; omega) (fun w => ?_) (fun w z => ?_) (fun w z r S2 vr2 la2 rf2 V A' gi' m1 m2 m3 m4 m5 m6 m7 m8 m9 m10 m11 m12 m13 m14 m15 m16 m17 ho eV hA O' => ?_)
  · have e0 : vsCommit t (S, vr, (la, c), wr, se, pn, nt, rf) = (1, 0, (S, vr, (la, c), wr, se, pn, nt, rf)) := if_neg w
    rw [e0] at h
    exact (h _ _ _ _ _ _ _ _ _ _ _ _ _ _ _ _ _ ⟨_, _, _, _, _, _, _, _, _, _, _, _, rfl, O, (H.up ⟨by omega, by omega⟩ ⟨Int.le_refl _, H.1.2.1⟩ ⟨by omega, by omega⟩), P, rfl⟩).2 (show ¬ (1 : Nat) = 0 by decide)
  · have e0 : vsCommit t (S, vr, (la, c), wr, se, pn, nt, rf) = (2, 0, (S, vr, (la, c), wr, se, pn, nt, rf)) := (if_pos w).trans (if_neg z)
    rw [e0] at h
    exact (h _ _ _ _ _ _ _ _ _ _ _ _ _ _ _ _ _ ⟨_, _, _, _, _, _, _, _, _, _, _, _, rfl, O, (H.up ⟨by omega, by omega⟩ ⟨Int.le_refl _, H.1.2.1⟩ ⟨by omega, by omega⟩), P, rfl⟩).2 (show ¬ (2 : Nat) = 0 by decide)
  subst eV
  rcases ho with ⟨er, eS, ev, el, ef, s2, _⟩ | ⟨g, gb, g1, g2, g3, er, eS, ev, el, ef, s0, _⟩ | ⟨gn, er, eS, ev, el, ef, s0, _⟩ | ⟨r0, er, eS, ev, el, ef⟩
  · subst er
    subst eS
    replace ev := ev.symm
    subst ev
    replace el := el.symm
    subst el
    replace ef := ef.symm
    subst ef
    have hf : ∀ j, 0 ≤ j → j < 4 → 0 ≤ rf j ∧ rf j ≤ u + 1 := fun j j0 j1 => by
      have q := H.2.2.2.2.2.2.2.2.2.2.2.2 j j0 j1
      omega
    have e0 : vsCommit t (S, vr, (la, c), wr, se, pn, nt, rf) = (0, 0, (vG c vr se (vEnd c t 4 S), vr, (la, c), wr, se, pn, nt, rf)) := (if_pos w).trans ((if_pos z).trans (if_pos s2))
    rw [e0] at h
    exact (h _ _ _ _ _ _ _ _ _ _ _ _ _ _ _ _ _ ⟨_, _, _, _, _, _, _, _, _, _, _, _, hA, O', H.fin hu hd w (by omega) (by decide) H.2.2.2.1 ⟨Int.le_refl _, by omega⟩ hf, P, rfl⟩).1 rfl
  · subst er
    subst eS
    replace ev := ev.symm
    subst ev
    replace el := el.symm
    subst el
    subst ef
    have eg := vsFg_y (se := se) gb g1 g2 g3
    have hf : ∀ j, 0 ≤ j → j < 4 → 0 ≤ updI rf g (rf g + 1) j ∧ updI rf g (rf g + 1) j ≤ u + 1 := fun j j0 j1 => by
      have q := H.2.2.2.2.2.2.2.2.2.2.2.2 j j0 j1
      by_cases z : j = g
      · subst z; rw [updI_s]; omega
      · rw [updI_n z]; omega
    have e0 : vsCommit t (S, vr, (la, c), wr, se, pn, nt, rf) = (0, 0, (vG c vr se (vEnd c t 4 S), vr, (la, c), wr, se, pn, nt, updI rf g (rf g + 1))) := by
      have q : vsCommit t (S, vr, (la, c), wr, se, pn, nt, rf) = (0, 0, (vG c vr se (vEnd c t 4 S), vr, (la, c), wr, se, pn, nt, updI rf (vsFg vr nt se t) (rf (vsFg vr nt se t) + 1))) := (if_pos w).trans ((if_pos z).trans ((if_neg (by omega)).trans (if_pos (by omega))))
      rw [eg] at q
      exact q
    rw [e0] at h
    exact (h _ _ _ _ _ _ _ _ _ _ _ _ _ _ _ _ _ ⟨_, _, _, _, _, _, _, _, _, _, _, _, hA, O', H.fin hu hd w (by omega) (by decide) H.2.2.2.1 ⟨Int.le_refl _, by omega⟩ hf, P, rfl⟩).1 rfl
  · subst er
    subst eS
    subst ev
    subst el
    replace ef := ef.symm
    subst ef
    have eg := vsFg_n (se := se) gn
    have hf : ∀ j, 0 ≤ j → j < 4 → 0 ≤ rf j ∧ rf j ≤ u + 1 := fun j j0 j1 => by
      have q := H.2.2.2.2.2.2.2.2.2.2.2.2 j j0 j1
      omega
    have e0 : vsCommit t (S, vr, (la, c), wr, se, pn, nt, rf) = (0, pif (vMa vr S.ws se t 200) (la + 1) (se t), (vG c (vCm vr S.ws se t la 200) se (vEnd c t 3 S), vCm vr S.ws se t la 200, (pif (vMa vr S.ws se t 200) (la + 1) la, c), wr, se, pn, nt, rf)) := (if_pos w).trans ((if_pos z).trans ((if_neg (by omega)).trans (if_neg (by omega))))
    rw [e0] at h
    exact (h _ _ _ _ _ _ _ _ _ _ _ _ _ _ _ _ _ ⟨_, _, _, _, _, _, _, _, _, _, _, _, hA, O', H.fin hu hd w (by omega) (by decide) (vsMa_V H w) vsMa_b hf, P, rfl⟩).1 rfl
  · subst er
    subst eS
    replace ev := ev.symm
    subst ev
    replace el := el.symm
    subst el
    replace ef := ef.symm
    subst ef
    obtain ⟨n2, eg, ma, cm⟩ := vsRd H w r0
    have V3 := vsMa_V H w
    have hf : ∀ j, 0 ≤ j → j < 4 → 0 ≤ rf j ∧ rf j ≤ u + 1 := fun j j0 j1 => by
      have q := H.2.2.2.2.2.2.2.2.2.2.2.2 j j0 j1
      omega
    have e0 : vsCommit t (S, vr, (la, c), wr, se, pn, nt, rf) = (0, se t, (vG c vr se (vEnd c t 3 S), vr, (la, c), wr, se, pn, nt, rf)) := by
      have q : vsCommit t (S, vr, (la, c), wr, se, pn, nt, rf) = (0, pif (vMa vr S.ws se t 200) (la + 1) (se t), (vG c (vCm vr S.ws se t la 200) se (vEnd c t 3 S), vCm vr S.ws se t la 200, (pif (vMa vr S.ws se t 200) (la + 1) la, c), wr, se, pn, nt, rf)) := (if_pos w).trans ((if_pos z).trans ((if_neg n2).trans (if_neg (by omega))))
      rw [cm, pif_f ma, pif_f ma] at q
      exact q
    rw [e0] at h
    exact (h _ _ _ _ _ _ _ _ _ _ _ _ _ _ _ _ _ ⟨_, _, _, _, _, _, _, _, _, _, _, _, hA, O', H.fin hu hd w (by omega) (by decide) H.2.2.2.1 ⟨Int.le_refl _, by omega⟩ hf, P, rfl⟩).1 rfl
end
