/-! FacetCounts (X31): sum, top, above -/
def sBt (b : Int32) : Nat → Int32
  | 0 => 0
  | k + 1 => sBt b k + (if bt b k then nI k else 0)
theorem X31_s81 {K : Int32 → Prop} {b x : Int32} (hp : K (x + sBt b 32)) : ∃ fu, wX31_sum_81 K b fu x 0 := by
  have q : ∃ fu, wX31_sum_81 K b fu (x + sBt b 0) (nI 0) := by
    refine nloop (fun n (s : Int32 × Int32) => wX31_sum_81 K b n s.1 s.2) (fun k => (x + sBt b k, nI k)) 32 (Nat.zero_le 32) (fun n k _ hk ih => ?_) (fun n => ?_)
    · show wX31_sum_81 K b (n + 1) (x + sBt b k) (nI k)
      rw [wX31_sum_81]
      dsimp only at ih ⊢
      refine ⟨fun d => absurd d (nI_ge hk (by decide)), fun _ y ey z ez => ?_⟩
      rw [ey, ez, nI_1, bt_val hk]
      have e : x + sBt b k + (if bt b k then 1 else 0) * nI k = x + sBt b (k + 1) := by
        rw [show sBt b (k + 1) = sBt b k + (if bt b k then nI k else 0) from rfl]
        by_cases hb : bt b k = true
        · simp only [hb, if_true]; grind
        · simp only [hb]; grind
      rw [e]; exact ih
    · show wX31_sum_81 K b (n + 1) (x + sBt b 32) (nI 32)
      rw [wX31_sum_81]
      exact ⟨fun _ => hp, fun d => absurd (Int32.le_refl _) d⟩
  have e : x + sBt b 0 = x := by unfold sBt; grind
  rw [e] at q
  exact q
def sTh (own cl ch : Nat → Int32) (h v o : Nat) : Nat → Int32
  | 0 => 0
  | k + 1 => sTh own cl ch h v o k + (if decide (nfail own cl ch k = 0) && bt (hasC own cl k h) v then sBt (hasC own cl k o) 32 else 0)
def fcSum (own cl ch : Nat → Int32) (x y z : Int32) : Int32 := if rI x 8 && rI y 32 && rI z 8 then sTh own cl ch x.toNatClampNeg y.toNatClampNeg z.toNatClampNeg 40 else -1
theorem X31_sum {post : Int32 → Prop} {own cl ch fl cn : Nat → Int32} {x y z : Int32} (hI : fcI own cl ch fl cn) (hp : post (fcSum own cl ch x y z)) : wpX31_sum post own cl fl x y z := by
  unfold wpX31_sum
  refine X31_isInE 8 (by decide) (fun h hh e1 => ⟨fun c => absurd c (by decide), fun _ => ?_⟩) (fun h => ⟨fun _ => ?_, fun c => absurd rfl c⟩)
  · refine X31_isInE 32 (by decide) (fun v hv e2 => ⟨fun c => absurd c (by decide), fun _ => ?_⟩) (fun h => ⟨fun _ => ?_, fun c => absurd rfl c⟩)
    · refine X31_isInE 8 (by decide) (fun o ho e3 => ⟨fun c => absurd c (by decide), fun _ => ?_⟩) (fun h => ⟨fun _ => ?_, fun c => absurd rfl c⟩)
      · subst e1; subst e2; subst e3
        unfold fcSum at hp
        rw [rI_n hh (by decide), rI_n hv (by decide), rI_n ho (by decide), nI_clamp (by omega), nI_clamp (by omega), nI_clamp (by omega)] at hp
        refine nloop (fun n (s : Int32 × Int32) => wX31_sum_35 (fun x => post x) (nI h) (nI v) (nI o) own cl fl n s.1 s.2) (fun k => (sTh own cl ch h v o k, nI k)) 40 (Nat.zero_le 40) (fun n k _ hk ih => ?_) (fun n => ?_)
        · show wX31_sum_35 _ (nI h) (nI v) (nI o) own cl fl (n + 1) (sTh own cl ch h v o k) (nI k)
          rw [wX31_sum_35]
          dsimp only at ih ⊢
          have hle := nfail_le own cl ch k
          rw [nI_clamp (by omega), hI.1 k hk]
          unfold sTh at ih
          have z0 : ∀ x : Int32, x + 0 = x := fun x => by grind
          refine ⟨fun d => absurd d (nI_ge hk (by decide)), fun _ => ⟨vp_in_nI hk (by decide), fun d w ew => ?_, fun d => X31_has hk hh ⟨fun f w ew => ?_, fun f => X31_has hk ho (X31_s81 (fun w ew => ?_))⟩⟩⟩
          · have d : 0 < nfail own cl ch k := (nI_ltI (a := 0) (by omega) (by omega)).mp d
            have e : decide (nfail own cl ch k = 0) = false := by simp; omega
            rw [e, Bool.false_and] at ih
            simp only [Bool.false_eq_true, if_false, z0] at ih
            rw [ew, nI_1]; exact ih
          · rw [bt_test0 hv] at f
            rw [f, Bool.and_false] at ih
            simp only [Bool.false_eq_true, if_false, z0] at ih
            rw [ew, nI_1]; exact ih
          · rw [bt_test0 hv] at f
            have f : bt (hasC own cl k h) v = true := by simpa using f
            have d : nfail own cl ch k = 0 := by
              have : ¬ 0 < nfail own cl ch k := fun q => d (nI_lt q (by omega))
              omega
            rw [f, d] at ih
            rw [ew, nI_1]; exact ih
        · show wX31_sum_35 _ (nI h) (nI v) (nI o) own cl fl (n + 1) (sTh own cl ch h v o 40) (nI 40)
          rw [wX31_sum_35]
          exact ⟨fun _ => hp, fun d => absurd (Int32.le_refl _) d⟩
      · unfold fcSum at hp; rw [rI_f (x := z) (by decide) h, Bool.and_false] at hp; exact hp
    · unfold fcSum at hp; rw [rI_f (x := y) (by decide) h, Bool.and_false, Bool.false_and] at hp; exact hp
  · unfold fcSum at hp; rw [rI_f (x := x) (by decide) h, Bool.false_and, Bool.false_and] at hp; exact hp
/-! top: values with a count, by falling counts, then by number -/
def bett (c : Nat → Nat) (w v : Nat) : Bool := decide (c v < c w) || (decide (c w = c v) && decide (w < v))
def rkV (c : Nat → Nat) (v : Nat) : Nat := cnt (fun w => bett c w v) 32
theorem bett_tr {c : Nat → Nat} {u w v : Nat} (h1 : bett c u w = true) (h2 : bett c w v = true) : bett c u v = true := by
  simp only [bett, Bool.or_eq_true, Bool.and_eq_true, decide_eq_true_eq] at *; omega
theorem bett_as {c : Nat → Nat} {w v : Nat} (h : bett c w v = true) : bett c v w = false := by
  simp only [bett, Bool.or_eq_true, Bool.and_eq_true, decide_eq_true_eq, Bool.or_eq_false_iff, Bool.and_eq_false_iff, decide_eq_false_iff_not] at *; omega
theorem bett_tot {c : Nat → Nat} {w v : Nat} (h : w ≠ v) : bett c w v = true ∨ bett c v w = true := by
  simp only [bett, Bool.or_eq_true, Bool.and_eq_true, decide_eq_true_eq]; omega
theorem bett_irr (c : Nat → Nat) (v : Nat) : bett c v v = false := by
  simp [bett]
theorem cnt_mono {p q : Nat → Bool} : ∀ {n : Nat}, (∀ i, i < n → p i = true → q i = true) → cnt p n ≤ cnt q n
  | 0, _ => Nat.le_refl 0
  | n + 1, h => by
    unfold cnt
    have := cnt_mono (p := p) (q := q) (n := n) (fun i hi => h i (by omega))
    cases hp : p n with
    | false => simp; omega
    | true => rw [h n (by omega) hp]; simp; exact this
theorem cnt_lt {p q : Nat → Bool} {k : Nat} : ∀ {n : Nat}, (∀ i, i < n → p i = true → q i = true) → k < n → p k = false → q k = true → cnt p n < cnt q n
  | 0, _, h, _, _ => by omega
  | n + 1, h, hk, h1, h2 => by
    unfold cnt
    rcases Nat.lt_or_ge k n with q1 | q1
    · have := cnt_lt (p := p) (q := q) (n := n) (fun i hi => h i (by omega)) q1 h1 h2
      cases hp : p n with
      | false => simp; omega
      | true => rw [h n (by omega) hp]; simp; exact this
    · have : k = n := by omega
      subst this
      have := cnt_mono (p := p) (q := q) (n := k) (fun i hi => h i (by omega))
      rw [h1, h2]; simp; omega
theorem rkV_lt {c : Nat → Nat} {w v : Nat} (hw : w < 32) (h : bett c w v = true) : rkV c w < rkV c v :=
  cnt_lt (fun _ _ hi => bett_tr hi h) hw (bett_irr c w) h
theorem rkV_inj {c : Nat → Nat} {w v : Nat} (hw : w < 32) (hv : v < 32) (h : rkV c w = rkV c v) : w = v := by
  rcases Nat.decEq w v with q | q
  · rcases bett_tot (c := c) q with z | z
    · have := rkV_lt hw z; omega
    · have := rkV_lt hv z; omega
  · exact q
/-- the value of a rank; -1 -/
def topIs (c : Nat → Nat) (rank : Nat) (r : Int32) : Prop := (∃ v, v < 32 ∧ 0 < c v ∧ rkV c v = rank ∧ r = nI v) ∨ ((∀ v, v < 32 → 0 < c v → rkV c v ≠ rank) ∧ r = -1)
/-- what was taken in k turns -/
def takenIs (c : Nat → Nat) (k : Nat) (x : Int32) : Prop := (∀ v, v < 32 → (bt x v = true ↔ 0 < c v ∧ rkV c v < k)) ∧ cnt (fun v => bt x v) 32 = k
/-- the best of those below m that are not taken; -1 -/
def bestIs (c : Nat → Nat) (x : Int32) (m : Nat) (b : Int32) : Prop := ((∀ v, v < m → ¬ (0 < c v ∧ bt x v = false)) ∧ b = -1) ∨ ∃ v, v < m ∧ 0 < c v ∧ bt x v = false ∧ b = nI v ∧ ∀ w, w < m → 0 < c w → bt x w = false → w = v ∨ bett c v w = true
theorem taken_best {c : Nat → Nat} {k : Nat} {x : Int32} {v : Nat} (ht : takenIs c k x) (hv : v < 32) (h0 : 0 < c v) (hx : bt x v = false) (hb : ∀ w, w < 32 → 0 < c w → bt x w = false → w = v ∨ bett c v w = true) : rkV c v = k := by
  rw [← ht.2]
  refine cnt_congr (fun w hw => ?_)
  cases hxw : bt x w with
  | true =>
    have h1 := (ht.1 w hw).mp hxw
    have h2 : ¬ rkV c v < k := fun q => by rw [(ht.1 v hv).mpr ⟨h0, q⟩] at hx; cases hx
    rcases Nat.decEq w v with e | e
    · rcases bett_tot (c := c) e with z | z
      · exact z
      · have := rkV_lt hv z; omega
    · rw [e] at hxw; rw [hxw] at hx; cases hx
  | false =>
    cases hbw : bett c w v with
    | false => rfl
    | true =>
      have h3 : 0 < c w := by simp only [bett, Bool.or_eq_true, Bool.and_eq_true, decide_eq_true_eq] at hbw; omega
      rcases hb w hw h3 hxw with e | e
      · rw [e, bett_irr] at hbw; cases hbw
      · rw [bett_as e] at hbw; cases hbw
theorem taken_next {c : Nat → Nat} {k : Nat} {x : Int32} {v : Nat} (ht : takenIs c k x) (hv : v < 32) (h0 : 0 < c v) (hx : bt x v = false) (hr : rkV c v = k) : takenIs c (k + 1) (x ||| ((1 : Int32) <<< (nI v &&& 31))) := by
  refine ⟨fun w hw => ?_, ?_⟩
  · rw [b_or, bt_one v hv w hw]
    by_cases e : w = v
    · subst e; simp; omega
    · have : ¬ rkV c w = k := fun q => e (rkV_inj (c := c) hw hv (by omega))
      simp only [e, decide_false, Bool.or_false]
      rw [ht.1 w hw]
      constructor <;> (intro q; exact ⟨q.1, by omega⟩)
  · have hu := cnt_upd (p := fun v => bt x v) (q := fun w => bt (x ||| ((1 : Int32) <<< (nI v &&& 31))) w) (n := 32) hv (fun i hi hne => by rw [b_or, bt_one v hv i hi]; simp [hne])
    have h1 : bt (x ||| ((1 : Int32) <<< (nI v &&& 31))) v = true := by rw [b_or, bt_one v hv v hv]; simp
    rw [hx, h1, ht.2] at hu
    simp at hu
    exact hu
theorem X31_t40 {K : Int32 → Prop} {x : Int32} {cn : Nat → Int32} {c : Nat → Nat} {h : Nat} (hh : h < 8) (hc : ∀ v, v < 32 → cn (32 * h + v) = nI (c v) ∧ c v ≤ 40) (hp : ∀ b, bestIs c x 32 b → K b) : ∃ fu, wX31_top_40 K (nI h) x cn fu (-1) 0 := by
  have key : ∀ d m b, m + d = 32 → bestIs c x m b → wX31_top_40 K (nI h) x cn (d + 1) b (nI m) := by
    intro d
    induction d with
    | zero =>
      intro m b hm hb
      have : m = 32 := by omega
      subst this
      rw [wX31_top_40]
      exact ⟨fun _ => hp b hb, fun q => absurd (Int32.le_refl _) q⟩
    | succ d ih =>
      intro m b hm hb
      have hm32 : m < 32 := by omega
      rw [wX31_top_40]
      dsimp only
      rw [i32, nI_clamp (by omega), (hc m hm32).1]
      have hc40 := (hc m hm32).2
      have go : ∀ (y : Int32) (b' : Int32), y = nI m + 1 → bestIs c x (m + 1) b' → wX31_top_40 K (nI h) x cn (d + 1) b' y := by
        intro y b' ey hb'
        rw [ey, nI_1]
        exact ih (m + 1) b' (by omega) hb'
      have skip : ¬ (0 < c m ∧ bt x m = false) → bestIs c x (m + 1) b := by
        intro hn
        rcases hb with ⟨h1, h2⟩ | ⟨v, h1, h2, h3, h4, h5⟩
        · refine Or.inl ⟨fun v hv => ?_, h2⟩
          by_cases e : v = m
          · subst e; exact hn
          · exact h1 v (by omega)
        · refine Or.inr ⟨v, by omega, h2, h3, h4, fun w hw q1 q2 => ?_⟩
          by_cases e : w = m
          · subst e; exact absurd ⟨q1, q2⟩ hn
          · exact h5 w (by omega) q1 q2
      refine ⟨fun q => absurd q (nI_ge hm32 (by decide)), fun _ => ⟨fun q => ?_, fun q => ⟨vp_in_nI (by omega) (by omega), ?_⟩⟩⟩
      · rw [bt_test hm32] at q
        unfold wX31_top_73
        refine ⟨fun _ y ey => go y b ey (skip (fun z => by rw [q] at z; exact absurd z.2 (by decide))), fun z => absurd (Int32.le_refl _) z⟩
      · rw [bt_test hm32] at q
        have q : bt x m = false := by simpa using q
        unfold wX31_top_73
        refine ⟨fun z y ey => go y b ey (skip (fun w => ?_)), fun z => ⟨fun z2 y ey => go y _ ey ?_, fun z2 => ?_⟩⟩
        · have := (nI_leI (a := c m) (b := 0) (by omega) (by omega)).mp z; omega
        · have z : 0 < c m := by
            rcases Nat.eq_zero_or_pos (c m) with e | e
            · exact absurd (by rw [e]; exact Int32.le_refl _) z
            · exact e
          rcases hb with ⟨h1, h2⟩ | ⟨v, h1, h2, h3, h4, h5⟩
          · refine Or.inr ⟨m, by omega, z, q, rfl, fun w hw q1 q2 => ?_⟩
            by_cases e : w = m
            · exact Or.inl e
            · exact absurd ⟨q1, q2⟩ (h1 w (by omega))
          · rw [h4] at z2; exact absurd z2 (nI_pos (by omega))
        · have z : 0 < c m := by
            rcases Nat.eq_zero_or_pos (c m) with e | e
            · exact absurd (by rw [e]; exact Int32.le_refl _) z
            · exact e
          rcases hb with ⟨h1, h2⟩ | ⟨v, h1, h2, h3, h4, h5⟩
          · rw [h2] at z2; exact absurd (by decide) z2
          · subst h4
            have hv40 := (hc v (by omega)).2
            rw [i32, nI_clamp (by omega), (hc v (by omega)).1]
            refine ⟨vp_in_nI (by omega) (by omega), fun z3 y ey => go y _ ey ?_, fun z3 y ey => go y _ ey ?_⟩
            · have z3 := (nI_leI (a := c m) (b := c v) (by omega) (by omega)).mp z3
              refine Or.inr ⟨v, by omega, h2, h3, rfl, fun w hw q1 q2 => ?_⟩
              by_cases e : w = m
              · subst e
                refine Or.inr ?_
                simp only [bett, Bool.or_eq_true, Bool.and_eq_true, decide_eq_true_eq]; omega
              · exact h5 w (by omega) q1 q2
            · have z3 : ¬ c m ≤ c v := fun e => z3 (nI_le e (by omega))
              refine Or.inr ⟨m, by omega, z, q, rfl, fun w hw q1 q2 => ?_⟩
              by_cases e : w = m
              · exact Or.inl e
              · refine Or.inr ?_
                have b1 : bett c m v = true := by simp only [bett, Bool.or_eq_true, Bool.and_eq_true, decide_eq_true_eq]; omega
                rcases h5 w (by omega) q1 q2 with e2 | e2
                · rw [e2]; exact b1
                · exact bett_tr b1 e2
  exact ⟨33, key 32 0 (-1) (by omega) (Or.inl ⟨fun v hv => by omega, rfl⟩)⟩
theorem X31_top {post : Int32 → Prop} {own cl ch fl cn : Nat → Int32} {x y : Int32} (hI : fcI own cl ch fl cn)
    (h0 : (¬ (rI x 8 && rI y 32) = true) → post (-1)) (hp : ∀ h k r, h < 8 → k < 32 → x = nI h → y = nI k → topIs (fcCount own cl ch h) k r → post r) : wpX31_top post cn x y := by
  unfold wpX31_top
  refine X31_isInE 8 (by decide) (fun h hh e1 => ⟨fun c => absurd c (by decide), fun _ => ?_⟩) (fun h => ⟨fun _ => h0 ?_, fun c => absurd rfl c⟩)
  · refine X31_isInE 32 (by decide) (fun rk hrk e2 => ⟨fun c => absurd c (by decide), fun _ => ?_⟩) (fun h => ⟨fun _ => h0 ?_, fun c => absurd rfl c⟩)
    · subst e1; subst e2
      have hc : ∀ v, v < 32 → cn (32 * h + v) = nI (fcCount own cl ch h v) ∧ fcCount own cl ch h v ≤ 40 := fun v hv => ⟨fcI_cn hI hh hv, cnt_le _ 40⟩
      have hp : ∀ r, topIs (fcCount own cl ch h) rk r → post r := fun r hr => hp h rk r hh hrk rfl rfl hr
      generalize fcCount own cl ch h = c at hc hp
      have key : ∀ d k x b, k + d = rk → takenIs c k x → wX31_top_28 (post (-1)) (fun x => post x) (nI h) (nI rk) cn (d + 2) x b (nI k) := by
        intro d
        induction d with
        | zero =>
          intro k x b hk ht
          have : k = rk := by omega
          subst this
          rw [wX31_top_28]
          refine ⟨fun q => absurd q (nI_nlt (Nat.le_refl _) (by omega)), fun _ => X31_t40 hh hc (fun b2 hb => ⟨fun q z ez w ew => ?_, fun q => ?_⟩)⟩
          · rcases hb with ⟨h1, h2⟩ | ⟨v, h1, h2, h3, h4, h5⟩
            · rw [h2] at q; exact absurd q (by decide)
            · rw [wX31_top_28, ew, nI_1]
              refine ⟨fun _ => hp _ (Or.inl ⟨v, h1, h2, taken_best ht h1 h2 h3 h5, h4⟩), fun q2 => absurd (nI_lt (by omega) (by omega)) q2⟩
          · rcases hb with ⟨h1, h2⟩ | ⟨v, h1, h2, h3, h4, h5⟩
            · refine hp _ (Or.inr ⟨fun v hv q1 q2 => h1 v hv ⟨q1, ?_⟩, rfl⟩)
              cases e : bt x v with
              | false => rfl
              | true => have := (ht.1 v hv).mp e; omega
            · rw [h4] at q; exact absurd (nI_pos' (by omega)) q
        | succ d ih =>
          intro k x b hk ht
          rw [wX31_top_28]
          refine ⟨fun q => absurd q (nI_nlt (by omega) (by omega)), fun _ => X31_t40 hh hc (fun b2 hb => ⟨fun q z ez w ew => ?_, fun q => ?_⟩)⟩
          · rcases hb with ⟨h1, h2⟩ | ⟨v, h1, h2, h3, h4, h5⟩
            · rw [h2] at q; exact absurd q (by decide)
            · rw [ew, ez, h4, nI_1]
              exact ih (k + 1) _ _ (by omega) (taken_next ht h1 h2 h3 (taken_best ht h1 h2 h3 h5))
          · rcases hb with ⟨h1, h2⟩ | ⟨v, h1, h2, h3, h4, h5⟩
            · refine hp _ (Or.inr ⟨fun v hv q1 q2 => ?_, rfl⟩)
              have : bt x v = true := by
                cases e : bt x v with
                | true => rfl
                | false => exact absurd ⟨q1, e⟩ (h1 v hv)
              have := (ht.1 v hv).mp this; omega
            · rw [h4] at q; exact absurd (nI_pos' (by omega)) q
      exact ⟨rk + 2, key rk 0 0 (-1) (by omega) ⟨fun v hv => by simp [b_0], cnt_zero.mpr (fun i _ => b_0 i)⟩⟩
    · rw [rI_f (x := y) (by decide) h]; simp
  · rw [rI_f (x := x) (by decide) h]; simp
