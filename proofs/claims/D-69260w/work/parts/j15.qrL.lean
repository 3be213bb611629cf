/-! QlRewrite, the reference (X56): axioms, facts, questions; forms of a question -/
noncomputable def qQz (kd lf rt : Int → Int) (na an : Int) (l : List qA) : qSS := qZ kd lf rt na 91 0 (qFin (if an ≤ 0 then -1 else 10) (if an ≤ 1 then -1 else 11) l ([], 0))
def qAc (k a b : Int) : Prop := (0 ≤ k ∧ k < 4) ∧ (k % 2 = 0 → qSo a ∧ qSo b) ∧ (k % 2 = 1 → (0 ≤ a ∧ a < 16) ∧ 0 ≤ b ∧ b < 16)
def qFc (r w a b : Int) : Prop := (0 ≤ a ∧ a < 12) ∧ (r = 0 → 0 ≤ w ∧ w < 10) ∧ (¬ r = 0 → (0 ≤ w ∧ w < 8) ∧ 0 ≤ b ∧ b < 12)
def qCc (r w : Int) : Int := if r = 0 then w else 32 + w
/-- facts differ -/
def qFd (fn fa fb : Int → Int) (nf : Int) : Prop := ∀ i j, 0 ≤ i → i < j → j < nf → ¬ (fn i = fn j ∧ fa i = fa j ∧ fb i = fb j)
/-- questions -/
def qQI (an sz qn qf qt : Int → Int) (nq : Int) : Prop := (0 ≤ nq ∧ nq ≤ 6) ∧ ∀ q, 0 ≤ q → q < nq → (0 ≤ an q ∧ an q < 3) ∧ (0 ≤ sz q ∧ sz q ≤ 4) ∧ ∀ k, 0 ≤ k → k < sz q → qGa (qn (4 * q + k), qf (4 * q + k), qt (4 * q + k))
def qHs (sz qn qf qt : Int → Int) (q c a b : Int) : Prop := ∃ k, (0 ≤ k ∧ k < sz q) ∧ qn (4 * q + k) = c ∧ qf (4 * q + k) = a ∧ qt (4 * q + k) = b
/-- what is kept of the question looked at last -/
def qCh (kd lf rt : Int → Int) (na : Int) (Fa : Int → Int → Int → Prop) (an sz qn qf qt fs ff fg fc : Int → Int) (m lg lk fd : Int) (fo : Int → Int) : Prop := ∀ q, lk = q → 0 ≤ q → q < 6 → qI (qQz kd lf rt na (an q) (aF (qAr qn qf qt) (4 * q) (sz q).toNat)) fs ff fg fc m lg ∧ (¬ fd = 0 → qFst Fa (qQz kd lf rt na (an q) (aF (qAr qn qf qt) (4 * q) (sz q).toNat)).1 m fo)
section
variable {nm fr to ot co le fs ff fg fc fo kd lf rt fn fa fb an sz qn qf qt : Int → Int} {a b c n v w k x y m oc lg lk fd na nf nq q r h : Int} {A B : Prop} {Fa : Int → Int → Int → Prop}
theorem T56_isInB (h1 : 0 ≤ v ∧ v < n → B) (h0 : ¬ (0 ≤ v ∧ v < n) → A) : wpX56_isIn (fun r => (r = 0 → A) ∧ (¬ r = 0 → B)) v n := by
  unfold wpX56_isIn
  exact ⟨fun z => ⟨fun _ => h0 (by omega), fun y => absurd rfl y⟩, fun z => ⟨fun y => ⟨fun _ => h0 (by omega), fun w => absurd rfl w⟩, fun y => ⟨fun w => absurd w (by decide), fun _ => h1 (by omega)⟩⟩⟩
theorem T56_isSortB (h1 : qSo v → B) (h0 : ¬ qSo v → A) : wpX56_isSort (fun r => (r = 0 → A) ∧ (¬ r = 0 → B)) v := by
  unfold wpX56_isSort
  unfold qSo at h1 h0
  exact T56_isInB (fun z => ⟨fun w => absurd w (by decide), fun _ => h1 (Or.inl z)⟩) (fun z => ⟨fun y => ⟨fun _ => h0 (by omega), fun w => absurd rfl w⟩, fun y => ⟨fun w => ⟨fun _ => h0 (by omega), fun u => absurd rfl u⟩, fun w => ⟨fun u => absurd u (by decide), fun _ => h1 (by omega)⟩⟩⟩)
theorem T56_axiom {post : Int → (Int → Int) → (Int → Int) → (Int → Int) → Int → Int → Prop} (hn : 0 ≤ na ∧ na ≤ 16) (h1 : ¬ qAc k a b → post (-1) kd lf rt na lk) (h2 : qAc k a b → na = 16 → post (-2) kd lf rt na lk) (h3 : qAc k a b → na < 16 → post na (updI kd na k) (updI lf na a) (updI rt na b) (na + 1) (-1)) : wpX56_axiom post kd lf rt na lk k a b := by
  have g70 : qAc k a b → wX56_axiom_70 post k a b kd lf rt na lk := fun C => by
    unfold wX56_axiom_70 wpX56_change
    refine ⟨fun z => h2 C z, fun z => ⟨by omega, fun _ e1 _ e2 _ e3 => ⟨by omega, fun _ e4 => ⟨by omega, ?_⟩⟩⟩⟩
    rw [e1, e2, e3, e4, show na + 1 - 1 = na by omega]
    exact h3 C (by omega)
  have ev : (0 ≤ k ∧ k < 4) → k % 2 = 0 → wX56_axiom_24 post k a b 1 kd lf rt na lk := fun hk k2 => by
    unfold wX56_axiom_24
    refine ⟨fun z => absurd z (by decide), fun _ => T56_isSortB (fun sa => T56_isSortB (fun sb => ?_) (fun w => h1 (fun C => w (C.2.1 k2).2))) (fun w => h1 (fun C => w (C.2.1 k2).1))⟩
    unfold wX56_axiom_45
    exact ⟨fun z => absurd z (by decide), fun _ => g70 ⟨hk, fun _ => ⟨sa, sb⟩, fun w => by omega⟩⟩
  have od : (0 ≤ k ∧ k < 4) → k % 2 = 1 → wX56_axiom_24 post k a b 0 kd lf rt na lk := fun hk k2 => by
    unfold wX56_axiom_24 wX56_axiom_45
    exact ⟨fun _ => ⟨fun _ => T56_isInB (fun sa => T56_isInB (fun sb => g70 ⟨hk, fun w => by omega, fun _ => ⟨sa, sb⟩⟩) (fun w => h1 (fun C => w (C.2.2 k2).2))) (fun w => h1 (fun C => w (C.2.2 k2).1)), fun z => absurd rfl z⟩, fun z => absurd rfl z⟩
  unfold wpX56_axiom
  exact T56_isInB (fun hk => ⟨fun z => ev hk (by omega), fun z => ⟨fun z2 => ev hk (by omega), fun z2 => od hk (by omega)⟩⟩) (fun w => h1 (fun C => w C.1))
theorem T56_findFact {post : Int → Prop} (hn : 0 ≤ nf ∧ nf ≤ 60) (hp : ∀ r, (0 ≤ r ∧ r ≤ nf) → (r < nf → fn r = c ∧ fa r = a ∧ fb r = b) → (r = nf → ¬ qFa fn fa fb nf c a b) → post r) : wpX56_findFact post fn fa fb nf c a b := by
  unfold wpX56_findFact
  refine wloop (fun fu r => wX56_findFact_3 (fun r => post r) c a b fn fa fb nf fu r) (fun r => (0 ≤ r ∧ r ≤ nf) ∧ ∀ i, 0 ≤ i → i < r → ¬ (fn i = c ∧ fa i = a ∧ fb i = b)) (fun r => (nf - r).toNat) ?_ 0 ⟨by omega, fun i i0 i1 => by omega⟩
  rintro r ⟨hr, hno⟩ f ih
  rw [wX56_findFact_3]
  have nxt : ¬ (fn r = c ∧ fa r = a ∧ fb r = b) → ¬ nf ≤ r → ∀ r' : Int, r' = r + 1 → wX56_findFact_3 (fun r => post r) c a b fn fa fb nf f r' := fun ne z r' e => by
    rw [e]
    refine ih _ ⟨by omega, fun i i0 i1 => ?_⟩ (by omega)
    by_cases p : i = r
    · rw [p]; exact ne
    · exact hno i i0 (by omega)
  refine ⟨fun z => hp r hr (fun w => by omega) (fun _ => ?_), fun z => ⟨by omega, fun e1 => ⟨fun e2 => ⟨fun e3 => hp r hr (fun _ => ⟨e1, e2, e3⟩) (fun w => by omega), fun e3 => ⟨by omega, nxt (fun w => e3 w.2.2) z⟩⟩, fun e2 => ⟨by omega, nxt (fun w => e2 w.2.1) z⟩⟩, fun e1 => ⟨by omega, nxt (fun w => e1 w.1) z⟩⟩⟩
  rintro ⟨i, hi, e1, e2, e3⟩
  exact hno i hi.1 (by omega) ⟨e1, e2, e3⟩
theorem T56_isGoodB (h1 : qFc r w a b → B) (h0 : ¬ qFc r w a b → A) : wpX56_isGood (fun r => (r = 0 → A) ∧ (¬ r = 0 → B)) r w a b := by
  have yes : ∀ u : Int, u = 1 → qFc r w a b → (u = 0 → A) ∧ (¬ u = 0 → B) := fun u e C => ⟨fun z => by omega, fun _ => h1 C⟩
  have no : ∀ u : Int, u = 0 → ¬ qFc r w a b → (u = 0 → A) ∧ (¬ u = 0 → B) := fun u e C => ⟨fun _ => h0 C, fun z => absurd e z⟩
  unfold wpX56_isGood
  exact T56_isInB (fun ha => ⟨fun z => T56_isInB (fun hw => yes 1 rfl ⟨ha, fun _ => hw, fun y => absurd z y⟩) (fun hw => no 0 rfl (fun C => hw (C.2.1 z))), fun z => T56_isInB (fun hw => T56_isInB (fun hb => yes 1 rfl ⟨ha, fun y => absurd y z, fun _ => ⟨hw, hb⟩⟩) (fun hb => no 0 rfl (fun C => hb (C.2.2 z).2))) (fun hw => no 0 rfl (fun C => hw (C.2.2 z).1))⟩) (fun ha => no 0 rfl (fun C => ha C.1))
theorem T56_fact {post : Int → (Int → Int) → (Int → Int) → (Int → Int) → Int → Int → Prop} (hn : 0 ≤ nf ∧ nf ≤ 60) (h1 : ¬ qFc r w a b → post (-1) fn fa fb nf fd) (h2 : qFc r w a b → qFa fn fa fb nf (qCc r w) a (if r = 0 then 0 else b) → post 0 fn fa fb nf fd) (h3 : qFc r w a b → ¬ qFa fn fa fb nf (qCc r w) a (if r = 0 then 0 else b) → nf = 60 → post (-2) fn fa fb nf fd)
  (h4 : qFc r w a b → ¬ qFa fn fa fb nf (qCc r w) a (if r = 0 then 0 else b) → nf < 60 → post 1 (updI fn nf (qCc r w)) (updI fa nf a) (updI fb nf (if r = 0 then 0 else b)) (nf + 1) 0) : wpX56_fact post fn fa fb nf fd r w a b := by
  have g37 : qFc r w a b → ∀ o, (o = if r = 0 then 0 else b) → ∀ c, c = qCc r w → wX56_fact_37 post a c o fn fa fb nf fd := fun C o eo c ec => by
    rw [← eo, ← ec] at h2 h3 h4
    unfold wX56_fact_37
    refine T56_findFact hn (fun s hs s1 s2 => ⟨fun z => ⟨fun y => h3 C (s2 (by omega)) y, fun y => ⟨by omega, fun _ e1 _ e2 _ e3 => ⟨by omega, fun _ e4 => ?_⟩⟩⟩, fun z => h2 C ⟨s, by omega, s1 (by omega)⟩⟩)
    rw [e1, e2, e3, e4]
    exact h4 C (s2 (by omega)) (by omega)
  unfold wpX56_fact
  refine T56_isGoodB (fun C => ⟨fun z => ⟨fun _ => g37 C _ (if_pos z).symm _ (by unfold qCc; rw [if_pos z]), fun y => absurd z y⟩, fun z => ?_⟩) h1
  have hw := (C.2.2 z).1
  exact ⟨by omega, fun c ec => ⟨fun y => absurd y z, fun _ => g37 C _ (if_neg z).symm _ (by unfold qCc; rw [if_neg z, ec])⟩⟩
theorem T56_forget {post : Int → (Int → Int) → (Int → Int) → (Int → Int) → Int → Int → Prop} (hn : 0 ≤ nf ∧ nf ≤ 60) (h1 : ¬ qFc r w a b → post (-1) fn fa fb nf fd) (h2 : qFc r w a b → ¬ qFa fn fa fb nf (qCc r w) a (if r = 0 then 0 else b) → post 0 fn fa fb nf fd)
  (h4 : qFc r w a b → ∀ s, (0 ≤ s ∧ s < nf) → fn s = qCc r w → fa s = a → (fb s = if r = 0 then 0 else b) → post 1 (updI fn s (fn (nf - 1))) (updI fa s (fa (nf - 1))) (updI fb s (fb (nf - 1))) (nf - 1) 0) : wpX56_forget post fn fa fb nf fd r w a b := by
  have g37 : qFc r w a b → ∀ o, (o = if r = 0 then 0 else b) → ∀ c, c = qCc r w → wX56_forget_37 post c a o fn fa fb nf fd := fun C o eo c ec => by
    rw [← eo, ← ec] at h2 h4
    unfold wX56_forget_37
    refine T56_findFact hn (fun s hs s1 s2 => ⟨fun z => h2 C (s2 z), fun z => ⟨by omega, fun _ e1 => ⟨by omega, fun _ e2 => ⟨by omega, fun _ e3 _ e4 _ e5 _ e6 _ e7 => ?_⟩⟩⟩⟩)
    rw [e7, e5, e3, e6, e4, e2, e1]
    have h := s1 (by omega)
    exact h4 C s (by omega) h.1 h.2.1 h.2.2
  unfold wpX56_forget
  refine T56_isGoodB (fun C => ⟨fun z => ⟨fun _ => g37 C _ (if_pos z).symm _ (by unfold qCc; rw [if_pos z]), fun y => absurd z y⟩, fun z => ?_⟩) h1
  have hw := (C.2.2 z).1
  exact ⟨fun y => absurd y z, fun _ => ⟨by omega, g37 C _ (if_neg z).symm _ (by unfold qCc; rw [if_neg z])⟩⟩
theorem T56_question {post : Int → (Int → Int) → (Int → Int) → Int → Int → Prop} (hn : 0 ≤ nq ∧ nq ≤ 6) (h1 : ¬ (0 ≤ x ∧ x < 3) → post (-1) an sz nq lk) (h2 : (0 ≤ x ∧ x < 3) → nq = 6 → post (-2) an sz nq lk) (h3 : (0 ≤ x ∧ x < 3) → nq < 6 → post nq (updI an nq x) (updI sz nq 0) (nq + 1) (-1)) : wpX56_question post an sz nq lk x := by
  unfold wpX56_question wpX56_change
  refine T56_isInB (fun hx => ⟨fun z => h2 hx z, fun z => ⟨by omega, fun _ e1 _ e2 => ⟨by omega, fun _ e3 => ⟨by omega, ?_⟩⟩⟩⟩) h1
  rw [e1, e2, e3, show nq + 1 - 1 = nq by omega]
  exact h3 hx (by omega)
theorem T56_put {post : (Int → Int) → (Int → Int) → (Int → Int) → (Int → Int) → Prop} (hq : 0 ≤ q ∧ q < 7) (hs : 0 ≤ sz q ∧ sz q ≤ 4) (h1 : qHs sz qn qf qt q c a b → post sz qn qf qt) (h0 : ¬ qHs sz qn qf qt q c a b → post (updI sz q (sz q + 1)) (updI qn (4 * q + sz q) c) (updI qf (4 * q + sz q) a) (updI qt (4 * q + sz q) b)) (h4 : ¬ qHs sz qn qf qt q c a b → sz q < 4) : wpX56_put post sz qn qf qt q c a b := by
  unfold wpX56_put
  refine ⟨by omega, fun k0 ek => ?_⟩
  refine wloop (fun fu k => wX56_put_5 _ _ q c a b sz qn qf qt fu k) (fun k => (4 * q ≤ k ∧ k ≤ 4 * q + sz q) ∧ ∀ i, 0 ≤ i → 4 * q + i < k → ¬ (qn (4 * q + i) = c ∧ qf (4 * q + i) = a ∧ qt (4 * q + i) = b)) (fun k => (4 * q + sz q - k).toNat) ?_ k0 ⟨by omega, fun i i0 i1 => by omega⟩
  rintro k ⟨hk, hno⟩ f ih
  rw [wX56_put_5]
  have nxt : ¬ (qn k = c ∧ qf k = a ∧ qt k = b) → ¬ 4 * q + sz q ≤ k → ∀ k' : Int, k' = k + 1 → wX56_put_5 _ _ q c a b sz qn qf qt f k' := fun ne z k' e => by
    rw [e]
    refine ih _ ⟨by omega, fun i i0 i1 => ?_⟩ (by omega)
    by_cases p : 4 * q + i = k
    · rw [p]; exact ne
    · exact hno i i0 (by omega)
  refine ⟨hq, by omega, fun z => ?_, fun z => ⟨by omega, fun e1 => ⟨fun e2 => ⟨fun e3 => h1 ⟨k - 4 * q, by omega, by rw [show 4 * q + (k - 4 * q) = k by omega]; exact ⟨e1, e2, e3⟩⟩, fun e3 => ⟨by omega, nxt (fun w => e3 w.2.2) z⟩⟩, fun e2 => ⟨by omega, nxt (fun w => e2 w.2.1) z⟩⟩, fun e1 => ⟨by omega, nxt (fun w => e1 w.1) z⟩⟩⟩
  have nh : ¬ qHs sz qn qf qt q c a b := by
    rintro ⟨i, hi, e⟩
    exact hno i hi.1 (by omega) e
  have l4 := h4 nh
  refine ⟨hq, by omega, fun _ e1 => ⟨by omega, fun _ e2 _ e3 _ e4 => ⟨by omega, fun _ e5 _ e6 => ?_⟩⟩⟩
  rw [e6, e5, e4, e3, e2, e1]
  exact h0 nh
def qTc (r q nq w a b : Int) : Prop := (0 ≤ q ∧ q < nq) ∧ (0 ≤ a ∧ a < 8) ∧ (r = 0 → 0 ≤ w ∧ w < 10) ∧ (¬ r = 0 → (0 ≤ w ∧ w < 8) ∧ 0 ≤ b ∧ b < 8)
theorem T56_a98 {K : Int → Prop} (hq : 0 ≤ q ∧ q < 7) (hs : 0 ≤ sz q ∧ sz q ≤ 4) (ha : 0 ≤ a ∧ a < 8) (hK : ∀ h, (h = 0 ∨ h = 1) → (¬ h = 0 ↔ qHs sz qn qf qt q c (10 + a) b) → K h) {k0 : Int} (ek : k0 = 4 * q) : ∃ fu : Nat, wX56_atom_98 K q a c b sz qn qf qt fu 0 k0 := by
  refine wl2 (fun fu h k => wX56_atom_98 K q a c b sz qn qf qt fu h k) (fun h k => (4 * q ≤ k ∧ k ≤ 4 * q + sz q) ∧ (h = 0 ∨ h = 1) ∧ (¬ h = 0 ↔ ∃ i, (0 ≤ i ∧ 4 * q + i < k) ∧ qn (4 * q + i) = c ∧ qf (4 * q + i) = 10 + a ∧ qt (4 * q + i) = b)) (fun _ k => (4 * q + sz q - k).toNat) ?_ 0 k0 ⟨by omega, Or.inl rfl, ⟨fun z => absurd rfl z, fun ⟨i, hi, _⟩ => by omega⟩⟩
  rintro h k ⟨hk, hb, he⟩ f ih
  rw [wX56_atom_98]
  refine ⟨hq, by omega, fun z => hK h hb (he.trans ⟨fun ⟨i, hi, e⟩ => ⟨i, by omega, e⟩, fun ⟨i, hi, e⟩ => ⟨i, by omega, e⟩⟩), fun z => ⟨fun h0 => ⟨by omega, ?_⟩, fun h0 => ⟨by omega, fun k' e => ?_⟩⟩⟩
  · have nh : ¬ ∃ i, (0 ≤ i ∧ 4 * q + i < k) ∧ qn (4 * q + i) = c ∧ qf (4 * q + i) = 10 + a ∧ qt (4 * q + i) = b := fun w => (he.2 w) h0
    have no : ¬ (qn k = c ∧ qf k = 10 + a ∧ qt k = b) → ∀ k' : Int, k' = k + 1 → wX56_atom_98 K q a c b sz qn qf qt f 0 k' := fun ne k' e => by
      rw [e]
      refine ih _ _ ⟨by omega, Or.inl rfl, ⟨fun z => absurd rfl z, fun ⟨i, hi, e⟩ => ?_⟩⟩ (by omega)
      by_cases p : 4 * q + i = k
      · rw [p] at e; exact absurd e ne
      · exact absurd ⟨i, by omega, e⟩ nh
    refine ⟨fun e1 => ⟨by omega, fun e2 => ⟨fun e3 => ⟨by omega, fun k' e => ?_⟩, fun e3 => ⟨by omega, no (fun w => e3 w.2.2)⟩⟩, fun e2 => ⟨by omega, no (fun w => e2 w.2.1)⟩⟩, fun e1 => ⟨by omega, no (fun w => e1 w.1)⟩⟩
    rw [e]
    exact ih _ _ ⟨by omega, Or.inr rfl, ⟨fun _ => ⟨k - 4 * q, by omega, by rw [show 4 * q + (k - 4 * q) = k by omega]; exact ⟨e1, e2, e3⟩⟩, fun _ => by decide⟩⟩ (by omega)
  · rw [e]
    refine ih _ _ ⟨by omega, Or.inr rfl, ⟨fun _ => ?_, fun _ => by decide⟩⟩ (by omega)
    obtain ⟨i, hi, ee⟩ := he.1 h0
    exact ⟨i, by omega, ee⟩
theorem T56_atom {post : Int → (Int → Int) → (Int → Int) → (Int → Int) → (Int → Int) → Int → Prop} (hQ : qQI an sz qn qf qt nq) (h1 : ¬ qTc r q nq w a b → post (-1) sz qn qf qt lk) (h2 : qTc r q nq w a b → qHs sz qn qf qt q (qCc r w) (10 + a) (if r = 0 then 7 else 10 + b) → post (sz q) sz qn qf qt lk) (h3 : qTc r q nq w a b → ¬ qHs sz qn qf qt q (qCc r w) (10 + a) (if r = 0 then 7 else 10 + b) → sz q = 4 → post (-2) sz qn qf qt lk)
  (h4 : qTc r q nq w a b → ¬ qHs sz qn qf qt q (qCc r w) (10 + a) (if r = 0 then 7 else 10 + b) → sz q < 4 → post (sz q + 1) (updI sz q (sz q + 1)) (updI qn (4 * q + sz q) (qCc r w)) (updI qf (4 * q + sz q) (10 + a)) (updI qt (4 * q + sz q) (if r = 0 then 7 else 10 + b)) (-1)) : wpX56_atom post sz qn qf qt nq lk q r w a b := by
  obtain ⟨hnq, hqq⟩ := hQ
  have g72 : qTc r q nq w a b → ∀ c, c = qCc r w → wX56_atom_72 post q r a b c sz qn qf qt lk := fun C c ec => by
    have hs := (hqq q C.1.1 C.1.2).2.1
    have hq7 := C.1
    have ha := C.2.1
    rw [← ec] at h2 h3 h4
    have fin : ∀ o, (o = if r = 0 then 7 else 10 + b) → ∀ h : Int, (h = 0 ∨ h = 1) → (¬ h = 0 ↔ qHs sz qn qf qt q c (10 + a) o) → ((h = 0 → ((0 ≤ q ∧ q < 7) ∧ ((((sz q) = 4 → (post (-2) sz qn qf qt lk)) ∧ (¬ (sz q) = 4 → (zR (10 + a) ∧ (wpX56_put (fun s1 s2 s3 s4 => (wpX56_change (fun (l1 : Int) => (post (s1 q) s1 s2 s3 s4 l1)) )) sz qn qf qt q c (10 + a) o))))))) ∧ (¬ h = 0 → ((0 ≤ q ∧ q < 7) ∧ (post (sz q) sz qn qf qt lk)))) := fun o eo h hb he => by
      rw [← eo] at h2 h3 h4
      refine ⟨fun z => ⟨by omega, fun y => h3 C (fun u => he.2 u z) y, fun y => ⟨by omega, ?_⟩⟩, fun z => ⟨by omega, h2 C (he.1 z)⟩⟩
      unfold wpX56_change
      refine T56_put (by omega) hs (fun u => absurd z (he.2 u)) (fun u => ?_) (fun _ => by omega)
      rw [updI_s]
      exact h4 C u (by omega)
    unfold wX56_atom_72
    refine ⟨fun z => ⟨by omega, fun k0 ek => T56_a98 (by omega) hs ha (fun h hb he => fin 7 (if_pos z).symm h hb he) ek⟩, fun z => ?_⟩
    have hb := (C.2.2.2 z).2
    exact ⟨by omega, fun o eo => ⟨by omega, fun k0 ek => T56_a98 (by omega) hs ha (fun h hb he => fin o (by rw [if_neg z]; exact eo) h hb he) ek⟩⟩
  unfold wpX56_atom
  refine T56_isInB (fun hq => T56_isInB (fun ha => ⟨fun z => T56_isInB (fun hw => ⟨fun _ => g72 ⟨hq, ha, fun _ => hw, fun y => absurd z y⟩ _ (by unfold qCc; rw [if_pos z]), fun y => absurd z y⟩) (fun hw => h1 (fun C => hw (C.2.2.1 z))), fun z => T56_isInB (fun hw => T56_isInB (fun hb => ⟨fun y => absurd y z, fun _ => ⟨by omega, g72 ⟨hq, ha, fun y => absurd y z, fun _ => ⟨hw, hb⟩⟩ _ (by unfold qCc; rw [if_neg z])⟩⟩) (fun hb => h1 (fun C => hb (C.2.2.2 z).2))) (fun hw => h1 (fun C => hw (C.2.2.2 z).1))⟩) (fun ha => h1 (fun C => ha C.2.1))) (fun hq => h1 (fun C => hq C.1))
theorem T56_look {post : Int → Int → (Int → Int) → (Int → Int) → (Int → Int) → Int → (Int → Int) → (Int → Int) → (Int → Int) → Int → (Int → Int) → (Int → Int) → (Int → Int) → (Int → Int) → Int → Int → Int → Int → Prop} (hA : qAi kd lf rt na) (hq : 0 ≤ q ∧ q < 7) (hs : 1 ≤ sz q ∧ sz q ≤ 4) (hg : ∀ k, 0 ≤ k → k < sz q → qGa (qn (4 * q + k), qf (4 * q + k), qt (4 * q + k))) (h1 : lk = q → q < 6 → post a b nm fr to n co le ot oc fs ff fg fc m lg lk fd) (h0 : ∀ a' b' nm' fr' to' n' co' le' ot' oc' fs' ff' fg' fc' m' lg', qI (qQz kd lf rt na (an q) (aF (qAr qn qf qt) (4 * q) (sz q).toNat)) fs' ff' fg' fc' m' lg' → post a' b' nm' fr' to' n' co' le' ot' oc' fs' ff' fg' fc' m' lg' q 0) : wpX56_look post kd lf rt na an sz qn qf qt a b nm fr to n co le ot oc fs ff fg fc m lg lk fd q := by
  have l51 : ∀ y1, (y1 = if an q ≤ 0 then -1 else 10) → wX56_look_51 post q y1 kd lf rt na an sz qn qf qt nm fr to co le ot fs ff fg fc 0 0 q 0 := fun y1 e1 => by
    have go : ∀ y2, (y2 = if an q ≤ 1 then -1 else 11) → ∀ k0 : Int, k0 = 4 * q → ∃ fu : Nat, wX56_look_74 (fun nm1 fr1 to1 n1 => wpX56_finish (fun nm2 fr2 to2 n2 co2 le2 ot2 oc2 fs2 ff2 fg2 fc2 m2 lg2 => ((∃ fu : Nat, wX56_look_122 (fun a3 b3 nm3 fr3 to3 n3 co3 le3 ot3 oc3 fs3 ff3 fg3 fc3 m3 lg3 => post a3 b3 nm3 fr3 to3 n3 co3 le3 ot3 oc3 fs3 ff3 fg3 fc3 m3 lg3 q 0) kd lf rt na fu 0 y1 y2 nm2 fr2 to2 n2 co2 le2 ot2 oc2 fs2 ff2 fg2 fc2 m2 lg2))) y1 y2 nm1 fr1 to1 n1 co le ot fs ff fg fc 0 0) q sz qn qf qt fu k0 nm fr to 0 := fun y2 e2 k0 ek => by
      refine wloop (fun fu (s : Int × (Int → Int) × (Int → Int) × (Int → Int) × Int) => wX56_look_74 _ q sz qn qf qt fu s.1 s.2.1 s.2.2.1 s.2.2.2.1 s.2.2.2.2) (fun s => (0 ≤ s.2.2.2.2 ∧ s.2.2.2.2 ≤ sz q) ∧ s.1 = 4 * q + s.2.2.2.2 ∧ ∀ k, 0 ≤ k → k < s.2.2.2.2 → (s.2.1 k, s.2.2.1 k, s.2.2.2.1 k) = qAr qn qf qt (4 * q + k)) (fun s => (sz q - s.2.2.2.2).toNat) ?_ (k0, nm, fr, to, 0) ⟨by dsimp only; omega, by dsimp only; omega, fun k k0 k1 => by dsimp only at k1; omega⟩
      rintro ⟨k, nm, fr, to, n⟩ ⟨hn, hk, he⟩ f ih
      dsimp only at *
      rw [wX56_look_74]
      refine ⟨hq, by omega, fun z => ?_, fun z => ⟨by omega, ?_⟩⟩
      · have en : n = sz q := by omega
        rw [en] at he ⊢
        refine T56_fin (l := aF (qAr qn qf qt) (4 * q) (sz q).toNat) ⟨by decide, fun i i0 i1 => by omega⟩ (fun f hf => absurd hf (by rw [show ((0 : Int).toNat) = 0 from rfl, aF]; simp)) hs (fun k k0 k1 => by rw [he k k0 k1]; exact hg k k0 k1) ((aF_eq _ _ _ _).2 ⟨rfl, fun i i0 i1 => by rw [Int.zero_add]; exact he i i0 (by omega)⟩) (fun nm2 fr2 to2 n2 co2 le2 ot2 oc2 fs2 ff2 fg2 fc2 m2 lg2 F2 G2 e => ?_)
        refine ⟨92, T56_l122 hA 91 0 _ _ _ _ _ _ _ _ _ _ _ _ _ _ _ _ _ (by decide) (by decide) ⟨F2, G2, e⟩ (fun a3 b3 nm3 fr3 to3 n3 co3 le3 ot3 oc3 fs3 ff3 fg3 fc3 m3 lg3 I3 => h0 _ _ _ _ _ _ _ _ _ _ _ _ _ _ _ _ ?_)⟩
        unfold qQz
        rw [← e1, ← e2]
        exact I3
      · unfold wpX56_add
        refine ⟨by omega, fun _ a1 _ a2 _ a3 => ⟨by omega, fun _ a4 => ⟨by omega, fun _ a5 => ?_⟩⟩⟩
        rw [a5, a4, a3, a2, a1]
        refine ih (k + 1, updI nm n (qn k), updI fr n (qf k), updI to n (qt k), n + 1) ⟨by dsimp only; omega, by dsimp only; omega, fun i i0 i1 => ?_⟩ (by dsimp only; omega)
        dsimp only at i1 ⊢
        by_cases p : i = n
        · rw [p, updI_s, updI_s, updI_s, ← hk]; rfl
        · rw [updI_n p, updI_n p, updI_n p]; exact he i i0 (by omega)
    unfold wX56_look_51 wpX56_begin
    exact ⟨hq, fun z => ⟨by omega, fun k0 ek => go _ (if_pos z).symm k0 ek⟩, fun z => ⟨by omega, fun k0 ek => go _ (if_neg z).symm k0 ek⟩⟩
  have l15 : wX56_look_15 post q kd lf rt na an sz qn qf qt nm fr to co le ot fs ff fg fc := by
    unfold wX56_look_15
    exact ⟨hq, fun z => l51 _ (if_pos z).symm, fun z => l51 _ (if_neg z).symm⟩
  unfold wpX56_look
  exact ⟨fun z => ⟨fun _ => l15, fun y => h1 z (by omega)⟩, fun _ => l15⟩
theorem T56_ready {post : Int → Int → Int → (Int → Int) → (Int → Int) → (Int → Int) → Int → (Int → Int) → (Int → Int) → (Int → Int) → Int → (Int → Int) → (Int → Int) → (Int → Int) → (Int → Int) → Int → Int → Int → Int → Prop} (hA : qAi kd lf rt na) (hQ : qQI an sz qn qf qt nq) (hC : qCh kd lf rt na Fa an sz qn qf qt fs ff fg fc m lg lk fd fo) (h1 : ¬ ((0 ≤ q ∧ q < nq) ∧ ¬ sz q = 0) → post (-1) a b nm fr to n co le ot oc fs ff fg fc m lg lk fd) (h0 : (0 ≤ q ∧ q < nq) → ¬ sz q = 0 → ∀ a' b' nm' fr' to' n' co' le' ot' oc' fs' ff' fg' fc' m' lg' fd', qI (qQz kd lf rt na (an q) (aF (qAr qn qf qt) (4 * q) (sz q).toNat)) fs' ff' fg' fc' m' lg' → (¬ fd' = 0 → qFst Fa (qQz kd lf rt na (an q) (aF (qAr qn qf qt) (4 * q) (sz q).toNat)).1 m' fo) → post (if (qQz kd lf rt na (an q) (aF (qAr qn qf qt) (4 * q) (sz q).toNat)).2 = 0 then 1 else -3) a' b' nm' fr' to' n' co' le' ot' oc' fs' ff' fg' fc' m' lg' q fd') : wpX56_ready post kd lf rt na an sz qn qf qt nq a b nm fr to n co le ot oc fs ff fg fc m lg lk fd q := by
  obtain ⟨hn, hq⟩ := hQ
  unfold wpX56_ready
  refine T56_isInB (fun z => ⟨by omega, fun y => h1 (fun w => w.2 y), fun y => ?_⟩) (fun z => h1 (fun w => z w.1))
  obtain ⟨_, hs, hg⟩ := hq q z.1 z.2
  have fin : ∀ a' b' nm' fr' to' n' co' le' ot' oc' fs' ff' fg' fc' m' lg' lk' fd', lk' = q → qI (qQz kd lf rt na (an q) (aF (qAr qn qf qt) (4 * q) (sz q).toNat)) fs' ff' fg' fc' m' lg' → (¬ fd' = 0 → qFst Fa (qQz kd lf rt na (an q) (aF (qAr qn qf qt) (4 * q) (sz q).toNat)).1 m' fo) → ((lg' = 0 → post 1 a' b' nm' fr' to' n' co' le' ot' oc' fs' ff' fg' fc' m' lg' lk' fd') ∧ (¬ lg' = 0 → post (-3) a' b' nm' fr' to' n' co' le' ot' oc' fs' ff' fg' fc' m' lg' lk' fd')) := fun a' b' nm' fr' to' n' co' le' ot' oc' fs' ff' fg' fc' m' lg' lk' fd' el I hd => by
    have e2 : lg' = (qQz kd lf rt na (an q) (aF (qAr qn qf qt) (4 * q) (sz q).toNat)).2 := congrArg (fun t : qSS => t.2) I.2.2
    have H := h0 z y a' b' nm' fr' to' n' co' le' ot' oc' fs' ff' fg' fc' m' lg' fd' I hd
    rw [← e2] at H
    rw [el]
    refine ⟨fun w => ?_, fun w => ?_⟩
    · rw [if_pos w] at H; exact H
    · rw [if_neg w] at H; exact H
  refine T56_look hA (by omega) (by omega) hg (fun l0 l6 => ?_) (fun a' b' nm' fr' to' n' co' le' ot' oc' fs' ff' fg' fc' m' lg' I => fin a' b' nm' fr' to' n' co' le' ot' oc' fs' ff' fg' fc' m' lg' q 0 rfl I (fun w => absurd rfl w))
  have c := hC q l0 z.1 l6
  exact fin a b nm fr to n co le ot oc fs ff fg fc m lg lk fd l0 c.1 c.2
end
