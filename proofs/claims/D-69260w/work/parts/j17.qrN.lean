/-! QlRewrite, the reference (X56): axioms that forbid -/
def qLa (kx v k : Int) : qA := if kx = 2 ∧ v < 20 then (v, 10, 7) else (32 + (if kx = 2 then (v - 20) / 2 else v / 2), if v % 2 = 0 then 10 else if kx = 2 then 11 + k else 11, if v % 2 = 0 then (if kx = 2 then 11 + k else 11) else 10)
def qLy (kx L R : Int) : List qA := if qLa kx L 0 = qLa kx R 1 then [qLa kx L 0] else [qLa kx L 0, qLa kx R 1]
noncomputable def qBr (kd lf rt : Int → Int) (na : Int) (Fa : Int → Int → Int → Prop) : Nat → Int → Int
  | 0, _ => -1
  | j + 1, x => if 2 ≤ kd x then (if (qQz kd lf rt na 0 (qLy (kd x) (lf x) (rt x))).2 = 0 then pif (qAny Fa (qQz kd lf rt na 0 (qLy (kd x) (lf x) (rt x))) 0) x (qBr kd lf rt na Fa j (x + 1)) else -3) else qBr kd lf rt na Fa j (x + 1)
/-- questions below 6 stay as they are -/
def qSq6 (an sz qn qf qt an' sz' qn' qf' qt' : Int → Int) : Prop := (∀ q, q < 6 → an' q = an q ∧ sz' q = sz q) ∧ ∀ j, j < 24 → qn' j = qn j ∧ qf' j = qf j ∧ qt' j = qt j
section
variable {nm fr to ot co le fs ff fg fc fo th rw_ sA sB kd lf rt fn fa fb an sz qn qf qt an' sz' qn' qf' qt' an0 sz0 qn0 qf0 qt0 : Int → Int} {a b c n v w k x y m oc lg lk fd na nf nq q r h i z : Int} {Fa : Int → Int → Int → Prop}
theorem qSq6.refl : qSq6 an sz qn qf qt an sz qn qf qt := ⟨fun _ _ => ⟨rfl, rfl⟩, fun _ _ => ⟨rfl, rfl, rfl⟩⟩
theorem qSq6.tr (h : qSq6 an0 sz0 qn0 qf0 qt0 an sz qn qf qt) (g : qSq6 an sz qn qf qt an' sz' qn' qf' qt') : qSq6 an0 sz0 qn0 qf0 qt0 an' sz' qn' qf' qt' := ⟨fun q hq => ⟨(g.1 q hq).1.trans (h.1 q hq).1, (g.1 q hq).2.trans (h.1 q hq).2⟩, fun j hj => ⟨(g.2 j hj).1.trans (h.2 j hj).1, (g.2 j hj).2.1.trans (h.2 j hj).2.1, (g.2 j hj).2.2.trans (h.2 j hj).2.2⟩⟩
def qVl (kx v : Int) : Prop := (kx = 2 ∧ qSo v) ∨ (kx = 3 ∧ 0 ≤ v ∧ v < 16)
theorem qLa_g (hv : qVl (kd x) v) (hk : k = 0 ∨ k = 1) : qGa (qLa (kd x) v k) := by
  unfold qLa qGa
  unfold qVl qSo at hv
  by_cases z : kd x = 2 ∧ v < 20
  · rw [if_pos z]
    dsimp only
    omega
  · rw [if_neg z]
    dsimp only
    right
    rcases hv with ⟨e, hv⟩ | ⟨e, hv⟩
    · rw [e]
      refine ⟨?_, ?_, ?_⟩
      · rw [if_pos rfl]; omega
      · split
        · rw [if_pos rfl]; omega
        · decide
      · split
        · decide
        · rw [if_pos rfl]; omega
    · rw [e]
      refine ⟨?_, ?_, ?_⟩
      · rw [if_neg (by decide)]; omega
      · split
        · rw [if_neg (by decide)]; decide
        · decide
      · split
        · decide
        · rw [if_neg (by decide)]; decide
theorem T56_l42 {K : Int → (Int → Int) → (Int → Int) → (Int → Int) → (Int → Int) → Prop} (hx : 0 ≤ x ∧ x < 16) (hk : k = 0 ∨ k = 1) (hv : qVl (kd x) v) (hs : 0 ≤ sz 6 ∧ sz 6 < 4) (hK : ∀ sz' qn' qf' qt', ((qHs sz qn qf qt 6 (qLa (kd x) v k).1 (qLa (kd x) v k).2.1 (qLa (kd x) v k).2.2 ∧ sz' = sz ∧ qn' = qn ∧ qf' = qf ∧ qt' = qt) ∨ (¬ qHs sz qn qf qt 6 (qLa (kd x) v k).1 (qLa (kd x) v k).2.1 (qLa (kd x) v k).2.2 ∧ sz' = updI sz 6 (sz 6 + 1) ∧ qn' = updI qn (24 + sz 6) (qLa (kd x) v k).1 ∧ qf' = updI qf (24 + sz 6) (qLa (kd x) v k).2.1 ∧ qt' = updI qt (24 + sz 6) (qLa (kd x) v k).2.2)) → K (k + 1) sz' qn' qf' qt') : wX56_lay_42 K x k v kd sz qn qf qt := by
  have put : ∀ c a b, (c, a, b) = qLa (kd x) v k → wpX56_put (fun s1 s2 s3 s4 => (zR (k + 1) ∧ (∀ x2 : Int, x2 = k + 1 → (K x2 s1 s2 s3 s4)))) sz qn qf qt 6 c a b := fun c a b e => by
    rw [← e] at hK
    refine T56_put (by decide) (by omega) (fun h => ⟨by omega, fun _ e2 => ?_⟩) (fun h => ⟨by omega, fun _ e2 => ?_⟩) (fun _ => hs.2)
    · rw [e2]; exact hK _ _ _ _ (Or.inl ⟨h, rfl, rfl, rfl, rfl⟩)
    · rw [e2]; exact hK _ _ _ _ (Or.inr ⟨h, rfl, rfl, rfl, rfl⟩)
  unfold qVl qSo at hv
  unfold qLa at put
  have l92 : ¬ (kd x = 2 ∧ v < 20) → ∀ o, (o = if kd x = 2 then 11 + k else 11) → wX56_lay_92 K x k v o kd sz qn qf qt := fun nz o eo => by
    have l116 : ∀ y, (y = if kd x = 2 then (v - 20) / 2 else v / 2) → 0 ≤ y ∧ y < 8 → wX56_lay_116 K k v o y sz qn qf qt := fun y ey yb => by
      rw [if_neg nz, ← ey, ← eo] at put
      unfold wX56_lay_116 wX56_lay_139
      refine ⟨by omega, fun z => ⟨by omega, by omega, fun _ => put _ _ _ (by rw [if_pos z, if_pos z]), fun z2 => absurd z z2⟩, fun z => ⟨by omega, by omega, fun z2 => absurd z2 z, fun _ => put _ _ _ (by rw [if_neg z, if_neg z])⟩⟩
    unfold wX56_lay_92
    refine ⟨hx, fun z => ⟨by omega, by omega, l116 _ (by rw [if_pos z]) (by omega)⟩, fun z => ⟨by omega, l116 _ (by rw [if_neg z]) (by omega)⟩⟩
  unfold wX56_lay_42
  refine ⟨hx, fun z => ⟨fun y => ⟨fun _ => ⟨by omega, l92 (fun w => by omega) _ (by rw [if_pos z])⟩, fun z2 => absurd z z2⟩, fun y => put _ _ _ (by rw [if_pos ⟨z, by omega⟩])⟩, fun z => ⟨fun z2 => absurd z2 z, fun _ => l92 (fun w => z w.1) _ (by rw [if_neg z])⟩⟩
theorem T56_lay {post : (Int → Int) → (Int → Int) → (Int → Int) → (Int → Int) → (Int → Int) → Prop} (hx : 0 ≤ x ∧ x < 16) (hL : qVl (kd x) (lf x)) (hR : qVl (kd x) (rt x)) (hp : ∀ an' sz' qn' qf' qt', qSq6 an sz qn qf qt an' sz' qn' qf' qt' → an' 6 = 0 → (1 ≤ sz' 6 ∧ sz' 6 ≤ 4) → aF (qAr qn' qf' qt') (4 * 6) (sz' 6).toNat = qLy (kd x) (lf x) (rt x) → (∀ k, 0 ≤ k → k < sz' 6 → qGa (qn' (4 * 6 + k), qf' (4 * 6 + k), qt' (4 * 6 + k))) → post an' sz' qn' qf' qt') : wpX56_lay post kd lf rt an sz qn qf qt x := by
  unfold wpX56_lay
  intro an1 ea sz1 es
  refine ⟨3, ?_⟩
  have s0 : sz1 6 = 0 := by rw [es, updI_s]
  rw [wX56_lay_18]
  refine ⟨fun z => absurd z (by decide), fun _ => ⟨fun _ => ⟨hx, ?_⟩, fun z => absurd rfl z⟩⟩
  refine T56_l42 hx (Or.inl rfl) hL (by omega) (fun sz2 qn2 qf2 qt2 h2 => ?_)
  have nh : ¬ qHs sz1 qn qf qt 6 (qLa (kd x) (lf x) 0).1 (qLa (kd x) (lf x) 0).2.1 (qLa (kd x) (lf x) 0).2.2 := by
    rintro ⟨k, hk, _⟩
    omega
  obtain ⟨_, e1, e2, e3, e4⟩ := h2.resolve_left (fun w => nh w.1)
  rw [s0] at e1 e2 e3 e4
  have s2 : sz2 6 = 1 := by rw [e1, updI_s]; rfl
  have a2 : (qn2 24, qf2 24, qt2 24) = qLa (kd x) (lf x) 0 := by
    rw [e2, e3, e4, show (24 : Int) + 0 = 24 from rfl, updI_s, updI_s, updI_s]
  rw [wX56_lay_18]
  refine ⟨fun z => absurd z (by decide), fun _ => ⟨fun z => absurd z (by decide), fun _ => ⟨hx, ?_⟩⟩⟩
  refine T56_l42 hx (Or.inr rfl) hR (by omega) (fun sz3 qn3 qf3 qt3 h3 => ?_)
  have eh : qHs sz2 qn2 qf2 qt2 6 (qLa (kd x) (rt x) 1).1 (qLa (kd x) (rt x) 1).2.1 (qLa (kd x) (rt x) 1).2.2 ↔ qLa (kd x) (lf x) 0 = qLa (kd x) (rt x) 1 := by
    constructor
    · rintro ⟨k, hk, q1, q2, q3⟩
      have k0 : k = 0 := by omega
      rw [k0, show (4 : Int) * 6 + 0 = 24 from rfl] at q1 q2 q3
      rw [← a2, q1, q2, q3]
    · intro e
      rw [← a2] at e
      refine ⟨0, by omega, ?_⟩
      rw [show (4 : Int) * 6 + 0 = 24 from rfl, ← e]
      exact ⟨rfl, rfl, rfl⟩
  have gL := qLa_g hL (Or.inl (Eq.refl (0 : Int)))
  have gR := qLa_g hR (Or.inr (Eq.refl (1 : Int)))
  rw [wX56_lay_18]
  refine ⟨fun _ => ?_, fun z => absurd (by decide) z⟩
  have fr2 : ∀ j, j < 24 → qn2 j = qn j ∧ qf2 j = qf j ∧ qt2 j = qt j := fun j hj => by
    rw [e2, e3, e4, updI_n (by omega), updI_n (by omega), updI_n (by omega)]; exact ⟨rfl, rfl, rfl⟩
  have f1 : ∀ q, q < 6 → an1 q = an q := fun q hq => by rw [ea, updI_n (by omega)]
  have f2 : ∀ q, q < 6 → sz2 q = sz q := fun q hq => by rw [e1, updI_n (by omega), es, updI_n (by omega)]
  have a6 : an1 6 = 0 := by rw [ea, updI_s]
  rcases h3 with ⟨hh, b1, b2, b3, b4⟩ | ⟨hh, b1, b2, b3, b4⟩
  · have e := eh.1 hh
    rw [b1, b2, b3, b4]
    refine hp _ _ _ _ _ ⟨fun q hq => ⟨f1 q hq, f2 q hq⟩, fr2⟩ a6 (by omega) ?_ (fun k k0 k1 => ?_)
    · rw [s2, show (1 : Int).toNat = 1 from rfl, aF, aF]
      unfold qLy
      rw [if_pos e, ← a2]; rfl
    · rw [show k = 0 by omega, show (4 : Int) * 6 + 0 = 24 from rfl, a2]; exact gL
  · have e : ¬ qLa (kd x) (lf x) 0 = qLa (kd x) (rt x) 1 := fun w => hh (eh.2 w)
    rw [s2] at b1 b2 b3 b4
    have s3 : sz3 6 = 2 := by rw [b1, updI_s]; rfl
    have a24 : (qn3 24, qf3 24, qt3 24) = qLa (kd x) (lf x) 0 := by
      rw [b2, b3, b4, updI_n (by decide), updI_n (by decide), updI_n (by decide)]; exact a2
    have a25 : (qn3 25, qf3 25, qt3 25) = qLa (kd x) (rt x) 1 := by
      rw [b2, b3, b4, show (24 : Int) + 1 = 25 from rfl, updI_s, updI_s, updI_s]; rfl
    refine hp _ _ _ _ _ ⟨fun q hq => ⟨f1 q hq, by rw [b1, updI_n (by omega)]; exact f2 q hq⟩, fun j hj => ?_⟩ a6 (by omega) ?_ (fun k k0 k1 => ?_)
    · have := fr2 j hj
      rw [b2, b3, b4, updI_n (by omega), updI_n (by omega), updI_n (by omega)]; exact this
    · rw [s3, show (2 : Int).toNat = 2 from rfl, aF, aF, aF]
      unfold qLy
      rw [if_neg e, ← a24, ← a25]; rfl
    · by_cases q : k = 0
      · rw [q, show (4 : Int) * 6 + 0 = 24 from rfl, a24]; exact gL
      · rw [show k = 1 by omega, show (4 : Int) * 6 + 1 = 25 from rfl, a25]; exact gR
theorem T56_b2 {K1 K3 : (Int → Int) → (Int → Int) → (Int → Int) → (Int → Int) → (Int → Int) → Int → Int → (Int → Int) → (Int → Int) → (Int → Int) → Int → (Int → Int) → (Int → Int) → (Int → Int) → Int → (Int → Int) → (Int → Int) → (Int → Int) → (Int → Int) → Int → Int → Int → (Int → Int) → Int → (Int → Int) → (Int → Int) → (Int → Int) → (Int → Int) → Prop} {K2 : Int → (Int → Int) → (Int → Int) → (Int → Int) → (Int → Int) → (Int → Int) → Int → Int → (Int → Int) → (Int → Int) → (Int → Int) → Int → (Int → Int) → (Int → Int) → (Int → Int) → Int → (Int → Int) → (Int → Int) → (Int → Int) → (Int → Int) → Int → Int → Int → (Int → Int) → Int → (Int → Int) → (Int → Int) → (Int → Int) → (Int → Int) → Prop} (hA : qAi kd lf rt na) (hF : qFI fn fa fb nf) : ∀ (j : Nat) (x : Int) (an sz qn qf qt : Int → Int) (a b : Int) (nm fr to : Int → Int) (n : Int) (co le ot : Int → Int) (oc : Int) (fs ff fg fc : Int → Int) (m lg lk : Int) (fo : Int → Int) (fd : Int) (th rw_ sA sB : Int → Int), x + j = na → 0 ≤ x →
  (∀ an' sz' qn' qf' qt' a' b' nm' fr' to' n' co' le' ot' oc' fs' ff' fg' fc' m' lg' lk' fo' fd' th' rw' sA' sB', qSq6 an sz qn qf qt an' sz' qn' qf' qt' → ((an' = an ∧ sz' = sz ∧ qn' = qn ∧ qf' = qf ∧ qt' = qt ∧ fs' = fs ∧ ff' = ff ∧ fg' = fg ∧ fc' = fc ∧ m' = m ∧ lg' = lg ∧ lk' = lk ∧ fd' = fd ∧ fo' = fo) ∨ lk' = 6) → (qBr kd lf rt na (qFa fn fa fb nf) j x = -3 → K1 an' sz' qn' qf' qt' a' b' nm' fr' to' n' co' le' ot' oc' fs' ff' fg' fc' m' lg' lk' fo' fd' th' rw' sA' sB') ∧ (0 ≤ qBr kd lf rt na (qFa fn fa fb nf) j x → K2 (qBr kd lf rt na (qFa fn fa fb nf) j x) an' sz' qn' qf' qt' a' b' nm' fr' to' n' co' le' ot' oc' fs' ff' fg' fc' m' lg' lk' fo' fd' th' rw' sA' sB') ∧ (qBr kd lf rt na (qFa fn fa fb nf) j x = -1 → K3 an' sz' qn' qf' qt' a' b' nm' fr' to' n' co' le' ot' oc' fs' ff' fg' fc' m' lg' lk' fo' fd' th' rw' sA' sB')) →
  wX56_broken_2 K1 K2 K3 kd lf rt na fn fa fb nf (j + 1) x an sz qn qf qt a b nm fr to n co le ot oc fs ff fg fc m lg lk fo fd th rw_ sA sB := fun j => by
  have na16 := hA.1
  induction j with
  | zero =>
    intro x an sz qn qf qt a b nm fr to n co le ot oc fs ff fg fc m lg lk fo fd th rw_ sA sB hx x0 hp
    rw [wX56_broken_2]
    exact ⟨fun _ => (hp _ _ _ _ _ _ _ _ _ _ _ _ _ _ _ _ _ _ _ _ _ _ _ _ _ _ _ _ qSq6.refl (Or.inl ⟨rfl, rfl, rfl, rfl, rfl, rfl, rfl, rfl, rfl, rfl, rfl, rfl, rfl, rfl⟩)).2.2 rfl, fun z => by omega⟩
  | succ j ih =>
    intro x an sz qn qf qt a b nm fr to n co le ot oc fs ff fg fc m lg lk fo fd th rw_ sA sB hx x0 hp
    obtain ⟨kb, ke, ko⟩ := hA.2 x x0 (by omega)
    rw [qBr] at hp
    rw [wX56_broken_2]
    refine ⟨fun z => by omega, fun _ => ⟨by omega, fun k2 => ?_, fun k2 => ⟨by omega, fun x' ex => ?_⟩⟩⟩
    · rw [if_pos k2] at hp
      have hv : qVl (kd x) (lf x) ∧ qVl (kd x) (rt x) := by
        unfold qVl
        have hk : kd x = 2 ∨ kd x = 3 := by omega
        rcases hk with e | e
        · have := ke (by omega)
          exact ⟨Or.inl ⟨e, this.1⟩, Or.inl ⟨e, this.2⟩⟩
        · have := ko (by omega)
          exact ⟨Or.inr ⟨e, this.1⟩, Or.inr ⟨e, this.2⟩⟩
      refine T56_lay (by omega) hv.1 hv.2 (fun an1 sz1 qn1 qf1 qt1 s6 a6 zb el gd => T56_look hA (by decide) zb gd (fun _ w => absurd w (by decide)) (fun a2 b2 nm2 fr2 to2 n2 co2 le2 ot2 oc2 fs2 ff2 fg2 fc2 m2 lg2 I => ?_))
      rw [a6, el] at I
      have e2 : lg2 = (qQz kd lf rt na 0 (qLy (kd x) (lf x) (rt x))).2 := congrArg (fun t : qSS => t.2) I.2.2
      have e1 : aF (qFoA fs2 ff2 fg2 fc2) 0 m2.toNat = (qQz kd lf rt na 0 (qLy (kd x) (lf x) (rt x))).1 := congrArg (fun t : qSS => t.1) I.2.2
      have mb := I.1.1
      have em : ((qQz kd lf rt na 0 (qLy (kd x) (lf x) (rt x))).1.length : Int) = m2 := by
        rw [← e1, aF_len]; omega
      refine ⟨fun l0 => T56_findAll hF I (fun _ fo2 th2 rw2 sA2 sB2 Hf => ?_) (fun w => absurd rfl w), fun l0 => ?_⟩
      · rw [if_pos (by rw [← e2]; exact l0)] at hp
        have fa0 := qFst_a Hf em (Int.le_refl 0) (by decide)
        refine ⟨fun w => ⟨by omega, fun x' ex => ?_⟩, fun w => ?_⟩
        · rw [pif_f (fun u => by have := fa0.1.2 u; omega)] at hp
          rw [ex]
          exact ih _ _ _ _ _ _ _ _ _ _ _ _ _ _ _ _ _ _ _ _ _ _ _ _ _ _ _ _ _ (by omega) (by omega) (fun an' sz' qn' qf' qt' a' b' nm' fr' to' n' co' le' ot' oc' fs' ff' fg' fc' m' lg' lk' fo' fd' th' rw' sA' sB' s6' hh => hp _ _ _ _ _ _ _ _ _ _ _ _ _ _ _ _ _ _ _ _ _ _ _ _ _ _ _ _ (s6.tr s6') (Or.inr (hh.elim (fun u => u.2.2.2.2.2.2.2.2.2.2.2.1) id)))
        · rw [pif_t (fa0.1.1 (by omega))] at hp
          exact (hp _ _ _ _ _ _ _ _ _ _ _ _ _ _ _ _ _ _ _ _ _ _ _ _ _ _ _ _ s6 (Or.inr rfl)).2.1 x0
      · rw [if_neg (by rw [← e2]; exact l0)] at hp
        exact (hp _ _ _ _ _ _ _ _ _ _ _ _ _ _ _ _ _ _ _ _ _ _ _ _ _ _ _ _ s6 (Or.inr rfl)).1 rfl
    · rw [if_neg k2] at hp
      rw [ex]
      exact ih _ _ _ _ _ _ _ _ _ _ _ _ _ _ _ _ _ _ _ _ _ _ _ _ _ _ _ _ _ (by omega) (by omega) hp
theorem T56_broken {post : Int → (Int → Int) → (Int → Int) → (Int → Int) → (Int → Int) → (Int → Int) → Int → Int → (Int → Int) → (Int → Int) → (Int → Int) → Int → (Int → Int) → (Int → Int) → (Int → Int) → Int → (Int → Int) → (Int → Int) → (Int → Int) → (Int → Int) → Int → Int → Int → (Int → Int) → Int → (Int → Int) → (Int → Int) → (Int → Int) → (Int → Int) → Prop} (hA : qAi kd lf rt na) (hF : qFI fn fa fb nf) (hC : qCh kd lf rt na (qFa fn fa fb nf) an sz qn qf qt fs ff fg fc m lg lk fd fo) (hp : ∀ an' sz' qn' qf' qt' a' b' nm' fr' to' n' co' le' ot' oc' fs' ff' fg' fc' m' lg' lk' fo' fd' th' rw' sA' sB', qSq6 an sz qn qf qt an' sz' qn' qf' qt' → qCh kd lf rt na (qFa fn fa fb nf) an' sz' qn' qf' qt' fs' ff' fg' fc' m' lg' lk' fd' fo' → post (qBr kd lf rt na (qFa fn fa fb nf) na.toNat 0) an' sz' qn' qf' qt' a' b' nm' fr' to' n' co' le' ot' oc' fs' ff' fg' fc' m' lg' lk' fo' fd' th' rw' sA' sB') : wpX56_broken post kd lf rt na fn fa fb nf an sz qn qf qt a b nm fr to n co le ot oc fs ff fg fc m lg lk fo fd th rw_ sA sB := by
  have na16 := hA.1
  unfold wpX56_broken
  refine ⟨na.toNat + 1, T56_b2 hA hF na.toNat 0 _ _ _ _ _ _ _ _ _ _ _ _ _ _ _ _ _ _ _ _ _ _ _ _ _ _ _ _ (by omega) (Int.le_refl _) (fun an' sz' qn' qf' qt' a' b' nm' fr' to' n' co' le' ot' oc' fs' ff' fg' fc' m' lg' lk' fo' fd' th' rw' sA' sB' s6 hh => ?_)⟩
  have cc : qCh kd lf rt na (qFa fn fa fb nf) an' sz' qn' qf' qt' fs' ff' fg' fc' m' lg' lk' fd' fo' := by
    rcases hh with ⟨e1, e2, e3, e4, e5, e6, e7, e8, e9, ea, eb, ec, ed, ee⟩ | e
    · rw [e1, e2, e3, e4, e5, e6, e7, e8, e9, ea, eb, ec, ed, ee]; exact hC
    · intro q' e' q0 q6
      omega
  have H := hp an' sz' qn' qf' qt' a' b' nm' fr' to' n' co' le' ot' oc' fs' ff' fg' fc' m' lg' lk' fo' fd' th' rw' sA' sB' s6 cc
  refine ⟨fun e => ?_, fun _ => H, fun e => ?_⟩
  · rw [e] at H; exact H
  · rw [e] at H; exact H
theorem T56_count {post : Int → Prop} (hp : post (if x = 0 then na else if x = 1 then nf else if x = 2 then nq else -1)) : wpX56_count post na nf nq x := by
  unfold wpX56_count
  refine ⟨fun z => ?_, fun z => ⟨fun y => ?_, fun y => ⟨fun w => ?_, fun w => ?_⟩⟩⟩
  · rw [if_pos z] at hp; exact hp
  · rw [if_neg z, if_pos y] at hp; exact hp
  · rw [if_neg z, if_neg y, if_pos w] at hp; exact hp
  · rw [if_neg z, if_neg y, if_neg w] at hp; exact hp
theorem T56_clear {post : Int → Int → Int → Prop} (hp : post nq 0 (-1)) : wpX56_clear post nq := by
  unfold wpX56_clear wpX56_change
  exact hp
end
