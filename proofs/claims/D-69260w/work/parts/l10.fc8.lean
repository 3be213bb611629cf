/-! FacetCountsModel (X53): above; all of it anew (reckon) -/
theorem X53_a27 {K : Int32 → Prop} {up cl : Nat → Int32} {rank : Nat → Nat} {k : Nat} (hk : k < 32) (hr : upR up rank) (hE : clE up cl) : ∀ r u, u < 32 → rank u ≤ r → K (if bt (cl u) k then nI k else -1) → ∃ fu, wX53_above_27 K (nI k) up fu (nI u) := by
  have hit : K (if bt (cl k) k then nI k else -1) → ∃ fu, wX53_above_27 K (nI k) up fu (nI k) := by
    intro h
    rw [if_pos ((hE k hk k hk).mpr (Or.inl rfl))] at h
    refine ⟨1, ?_⟩
    rw [wX53_above_27]
    exact ⟨fun q => absurd q (nI_pos (by omega)), fun _ => ⟨fun _ => h, fun q => absurd rfl q⟩⟩
  have fin : ∀ u, u < 32 → u ≠ k → up u = -1 → K (if bt (cl u) k then nI k else -1) → ∃ fu, wX53_above_27 K (nI k) up fu (nI u) := by
    intro u hu ne e h
    have : ¬ bt (cl u) k = true := by
      rw [hE u hu k hk]
      rintro (q | ⟨w, hw, q, _⟩)
      · exact ne q.symm
      · rw [e] at q; exact nI_m1 (by omega) q.symm
    rw [if_neg this] at h
    refine ⟨2, ?_⟩
    rw [wX53_above_27]
    refine ⟨fun q => absurd q (nI_pos (by omega)), fun _ => ⟨fun q => absurd ((nI_eq (by omega) (by omega)).mp q) ne, fun _ => ⟨vp_in_nI hu (by decide), fun y ey => ?_⟩⟩⟩
    rw [nI_clamp (by omega), e] at ey
    rw [wX53_above_27, ey]
    exact ⟨fun _ => h, fun q => absurd (by decide) q⟩
  intro r
  induction r with
  | zero =>
    intro u hu h0 h
    by_cases ne : u = k
    · subst ne; exact hit h
    · rcases hr u hu with e | ⟨w, hw, e, hlt⟩
      · exact fin u hu ne e h
      · omega
  | succ r ih =>
    intro u hu h0 h
    by_cases ne : u = k
    · subst ne; exact hit h
    · rcases hr u hu with e | ⟨w, hw, e, hlt⟩
      · exact fin u hu ne e h
      · have eb : bt (cl u) k = bt (cl w) k := by
          rw [Bool.eq_iff_iff, hE u hu k hk]
          constructor
          · rintro (q | ⟨w', hw', q, z⟩)
            · exact absurd q.symm ne
            · rw [e] at q
              have := (nI_eq (a := w) (b := w') (by omega) (by omega)).mp q
              subst this; exact z
          · exact fun q => Or.inr ⟨w, hw, e, q⟩
        rw [eb] at h
        obtain ⟨fu, q⟩ := ih w hw (by omega) h
        refine ⟨fu + 1, ?_⟩
        rw [wX53_above_27]
        refine ⟨fun q => absurd q (nI_pos (by omega)), fun _ => ⟨fun q => absurd ((nI_eq (by omega) (by omega)).mp q) ne, fun _ => ⟨vp_in_nI hu (by decide), fun y ey => ?_⟩⟩⟩
        rw [nI_clamp (by omega), e] at ey
        rw [ey]; exact q
theorem X53_above {post : Int32 → Int32 → (Nat → Int32) → Int32 → Prop} {up cl : Nat → Int32} {fr x y : Int32} (hO : upOK up) (hE : clE up cl)
    (h0 : ¬ fcAbove up cl x y = 1 → post (fcAbove up cl x y) 0 up fr)
    (h1 : fcAbove up cl x y = 1 → post 1 0 (upd up x.toNatClampNeg y) 0) : wpX53_above post up fr x y := by
  unfold wpX53_above
  refine X53_isValue (fun k hk e1 => ⟨fun c => absurd c (by decide), fun _ => ?_⟩) (fun h => ⟨fun _ => ?_, fun c => absurd rfl c⟩)
  · subst e1
    have rk := rI_n hk (show 32 < 2 ^ 31 by decide)
    have bad : ¬ y = -1 → (¬ ∃ u, u < 32 ∧ y = nI u) → post (-1) 0 up fr := by
      intro e h
      simp only [fcAbove, rk, rI_f (x := y) (show 32 < 2 ^ 31 by decide) h, e, decide_false, Bool.not_true, Bool.not_false, Bool.false_or, Bool.and_true, if_true] at h0
      exact h0 (by decide)
    refine ⟨fun c => bad (fun e => ?_) (fun ⟨u, hu, e⟩ => ?_), fun c => ⟨fun d => ?_, fun d => bad (fun e => ?_) (fun ⟨u, hu, e⟩ => ?_)⟩⟩
    · rw [e] at c; exact absurd c (by decide)
    · have := nI_pos (n := u) (by omega); grind
    · obtain ⟨rank, hr⟩ := hO
      by_cases ey : y = -1
      · subst ey
        refine ⟨1, ?_⟩
        rw [wX53_above_27]
        refine ⟨fun _ => ?_, fun q => absurd (by decide) q⟩
        unfold wX53_above_46
        refine ⟨fun _ => ?_, fun q => absurd (by decide) q⟩
        simp only [fcAbove, rk, decide_true, Bool.not_true, Bool.false_and, Bool.false_or, Bool.false_eq_true, if_false, nI_clamp (show k < 2 ^ 31 by omega)] at h0 h1
        rw [nI_clamp (show k < 2 ^ 31 by omega)]
        refine ⟨vp_in_nI hk (by decide), fun q => ?_, fun q => ⟨vp_in_nI hk (by decide), fun g eg => ?_⟩⟩
        · rw [if_pos q] at h0; exact h0 (by decide)
        · rw [if_neg q] at h1; rw [eg]; exact h1 rfl
      · obtain ⟨u, hu, e⟩ := nIx (x := y) (n := 32) rfl (by decide) (by grind) (by have : nI 32 = 32 := rfl; grind)
        subst e
        refine X53_a27 hk hr hE (rank u) u hu (Nat.le_refl _) ?_
        simp only [fcAbove, rk, rI_n hu (show 32 < 2 ^ 31 by decide), ey, decide_false, Bool.not_true, Bool.not_false, Bool.and_false, Bool.true_and, Bool.false_or, Bool.false_eq_true, if_false, nI_clamp (show k < 2 ^ 31 by omega), nI_clamp (show u < 2 ^ 31 by omega)] at h0 h1
        unfold wX53_above_46
        rw [nI_clamp (show k < 2 ^ 31 by omega)]
        by_cases hb : bt (cl u) k = true
        · rw [if_pos hb] at h0 ⊢
          exact ⟨fun q => absurd q (nI_pos (by omega)), fun _ => h0 (by decide)⟩
        · rw [if_neg hb] at h0 h1 ⊢
          refine ⟨fun _ => ⟨vp_in_nI hk (by decide), fun q => ?_, fun q => ⟨vp_in_nI hk (by decide), fun g eg => ?_⟩⟩, fun q => absurd (by decide) q⟩
          · rw [if_pos q] at h0; exact h0 (by decide)
          · rw [if_neg q] at h1; rw [eg]; exact h1 rfl
    · rw [e] at d; exact absurd (by decide) d
    · have := (nIb hu (show 32 < 2 ^ 31 by decide)).2; have : nI 32 = 32 := rfl; grind
  · simp only [fcAbove, rI_f (show 32 < 2 ^ 31 by decide) h, Bool.not_false, Bool.true_or, if_true] at h0
    exact h0 (by decide)
theorem nar1 : vp_nar .boolean 1 = 1 := rfl
theorem nar0 : vp_nar .boolean 0 = 0 := rfl
theorem i256 (t h v : Nat) : (256 : Int32) * nI t + 32 * nI h + nI v = nI (256 * t + 32 * h + v) := by simp only [show (256 : Int32) = nI 256 from rfl, show (32 : Int32) = nI 32 from rfl, pk_mul, nI_add]
def setP (f : Nat → Int32) (P : Nat → Bool) : Nat → Int32 := fun j => if P j then 1 else f j
/-- what a row sets from a value on -/
def covP (cl : Nat → Int32) (t h u j : Nat) : Bool := decide (j / 32 = 8 * t + h) && if h = 0 then bt (cl u) (j % 32) else decide (j % 32 = u)
theorem X53_r52 {K : (Nat → Int32) → Prop} {th hd up cl : Nat → Int32} {rank : Nat → Nat} {k t h : Nat} (hr : upR up rank) (hE : clE up cl) (hk : k < 300) (ht : t < 40) (hh : h < 8) (e1 : th k = nI t) (e2 : hd k = nI h) :
    ∀ r u f, u < 32 → rank u ≤ r → K (setP f (covP cl t h u)) → ∃ fu, wX53_reckon_52 K (nI k) th hd up fu (nI u) f := by
  have hvk : vp_in (nI k) 300 := vp_in_nI hk (by decide)
  have one : ∀ u f, u < 32 → (∃ fu, wX53_reckon_52 K (nI k) th hd up fu (if h = 0 then up u else -1) (upd f (256 * t + 32 * h + u) 1)) → ∃ fu, wX53_reckon_52 K (nI k) th hd up fu (nI u) f := by
    rintro u f hu ⟨fu, q⟩
    refine ⟨fu + 1, ?_⟩
    rw [wX53_reckon_52]
    dsimp only
    rw [nI_clamp (show k < 2 ^ 31 by omega), e1, e2]
    refine ⟨fun z => absurd z (nI_pos (by omega)), fun _ => ⟨hvk, hvk, ?_⟩⟩
    unfold wpX53_place
    rw [i256]
    refine ⟨vp_in_nI (by omega) (by decide), fun g eg => ⟨hvk, fun c => ⟨vp_in_nI hu (by decide), fun y ey => ?_⟩, fun c => ?_⟩⟩
    · rw [nI_clamp (by omega), nar1] at eg
      rw [nI_clamp (by omega)] at ey
      have : h = 0 := (nI_eq (a := h) (b := 0) (by omega) (by omega)).mp c
      rw [if_pos this] at q
      rw [ey, eg]; exact q
    · rw [nI_clamp (by omega), nar1] at eg
      have : ¬ h = 0 := fun z => c (by rw [z]; rfl)
      rw [if_neg this] at q
      rw [eg]; exact q
  have fin : ∀ u f, u < 32 → (if h = 0 then up u else -1) = -1 → K (setP f (covP cl t h u)) → ∃ fu, wX53_reckon_52 K (nI k) th hd up fu (nI u) f := by
    intro u f hu e hK
    refine one u f hu ⟨1, ?_⟩
    rw [wX53_reckon_52, e]
    refine ⟨fun _ => ?_, fun q => absurd (by decide) q⟩
    have e3 : upd f (256 * t + 32 * h + u) 1 = setP f (covP cl t h u) := by
      funext j
      have hc : covP cl t h u j = true ↔ j = 256 * t + 32 * h + u := by
        unfold covP
        rw [Bool.and_eq_true, decide_eq_true_eq]
        by_cases h0 : h = 0
        · rw [if_pos h0] at e ⊢
          rw [hE u hu (j % 32) (by omega)]
          constructor
          · rintro ⟨a, b | ⟨w, hw, b, _⟩⟩
            · omega
            · rw [e] at b; exact absurd b.symm (nI_m1 (by omega))
          · intro a; exact ⟨by omega, Or.inl (by omega)⟩
        · rw [if_neg h0, decide_eq_true_eq]
          constructor <;> (intro a; omega)
      unfold setP
      by_cases hj : j = 256 * t + 32 * h + u
      · rw [if_pos (hc.mpr hj), hj, pk_us]
      · rw [if_neg (fun z => hj (hc.mp z)), pk_un hj]
    rw [e3]; exact hK
  intro r
  induction r with
  | zero =>
    intro u f hu h0 hK
    by_cases hz : h = 0
    · rcases hr u hu with e | ⟨w, hw, e, hlt⟩
      · exact fin u f hu (by rw [if_pos hz, e]) hK
      · omega
    · exact fin u f hu (if_neg hz) hK
  | succ r ih =>
    intro u f hu h0 hK
    by_cases hz : h = 0
    · rcases hr u hu with e | ⟨w, hw, e, hlt⟩
      · exact fin u f hu (by rw [if_pos hz, e]) hK
      · refine one u f hu ?_
        rw [if_pos hz, e]
        refine ih w _ hw (by omega) ?_
        have e3 : setP (upd f (256 * t + 32 * h + u) 1) (covP cl t h w) = setP f (covP cl t h u) := by
          funext j
          have hc : covP cl t h u j = true ↔ j = 256 * t + 32 * h + u ∨ covP cl t h w j = true := by
            unfold covP
            rw [Bool.and_eq_true, Bool.and_eq_true, decide_eq_true_eq, if_pos hz, if_pos hz, hE u hu (j % 32) (by omega)]
            constructor
            · rintro ⟨a, b | ⟨w', hw', b, c⟩⟩
              · exact Or.inl (by omega)
              · rw [e] at b
                have := (nI_eq (a := w) (b := w') (by omega) (by omega)).mp b
                subst this
                exact Or.inr ⟨a, c⟩
            · rintro (a | ⟨a, b⟩)
              · exact ⟨by omega, Or.inl (by omega)⟩
              · exact ⟨a, Or.inr ⟨w, hw, e, b⟩⟩
          unfold setP
          by_cases hj : covP cl t h w j = true
          · rw [if_pos hj, if_pos (hc.mpr (Or.inr hj))]
          · rw [if_neg hj]
            by_cases hj2 : j = 256 * t + 32 * h + u
            · rw [if_pos (hc.mpr (Or.inl hj2)), hj2, pk_us]
            · rw [pk_un hj2, if_neg (fun z => by rcases hc.mp z with q | q; exact hj2 q; exact hj q)]
        rw [e3]; exact hK
    · exact fin u f hu (if_neg hz) hK
/-- has: what things have, as own and cl say -/
def ftH (own cl has : Nat → Int32) : Prop := ∀ t h v, t < 40 → h < 8 → v < 32 → has (256 * t + 32 * h + v) = if bt (hasC own cl t h) v then 1 else 0
theorem X53_r37 {K : (Nat → Int32) → Prop} {own th hd vl up cl f0 : Nat → Int32} {n : Nat} (H : ftR own th hd vl n) (hO : upOK up) (hE : clE up cl) (hz : ∀ j, j < 10240 → f0 j = 0) (hp : ∀ f, ftH own cl f → K f) : ∃ fu, wX53_reckon_37 K (nI n) th hd vl up fu 0 f0 := by
  obtain ⟨rank, hr⟩ := hO
  have H0 := H.1
  have key : ∀ d m f, m + d = n → (∀ j, j < 10240 → (f j = 1 ∧ ∃ k t h u, k < m ∧ th k = nI t ∧ hd k = nI h ∧ vl k = nI u ∧ t < 40 ∧ h < 8 ∧ u < 32 ∧ covP cl t h u j = true) ∨ (f j = 0 ∧ ∀ k t h u, k < m → th k = nI t → hd k = nI h → vl k = nI u → t < 40 → h < 8 → u < 32 → covP cl t h u j = false)) → wX53_reckon_37 K (nI n) th hd vl up (d + 1) (nI m) f := by
    intro d
    induction d with
    | zero =>
      intro m f hm hI
      have : m = n := by omega
      subst this
      rw [wX53_reckon_37]
      refine ⟨fun _ => hp f (fun t h v ht hh hv => ?_), fun q => absurd (Int32.le_refl _) q⟩
      have hj1 : (256 * t + 32 * h + v) / 32 = 8 * t + h := by omega
      have hj2 : (256 * t + 32 * h + v) % 32 = v := by omega
      rcases hI (256 * t + 32 * h + v) (by omega) with ⟨a, k, t', h', u, hk, g1, g2, g3, g4, g5, g6, g7⟩ | ⟨a, b⟩
      · rw [a]
        unfold covP at g7
        rw [Bool.and_eq_true, decide_eq_true_eq, hj1, hj2] at g7
        have z1 : t' = t := by omega
        have z2 : h' = h := by omega
        subst z1; subst z2
        obtain ⟨t2, h2, v2, a1, a2, a3, a4, a5, a6, a7⟩ := H.2.1 k hk
        have y1 := (nI_eq (a := t2) (b := t') (by omega) (by omega)).mp (by rw [← a4, g1])
        have y2 := (nI_eq (a := h2) (b := h') (by omega) (by omega)).mp (by rw [← a5, g2])
        have y3 := (nI_eq (a := v2) (b := u) (by omega) (by omega)).mp (by rw [← a6, g3])
        subst y1; subst y2; subst y3
        rw [if_pos]
        unfold hasC
        by_cases h0 : h2 = 0
        · rw [if_pos h0] at g7 ⊢
          rw [orF_bt, anyB_iff]
          exact ⟨v2, a3, by rw [Bool.and_eq_true]; refine ⟨?_, g7.2⟩; rw [h0] at a7; exact a7⟩
        · rw [if_neg h0] at g7 ⊢
          rw [decide_eq_true_eq] at g7
          rw [g7.2]; exact a7
      · rw [a, if_neg]
        intro hb
        unfold hasC at hb
        by_cases h0 : h = 0
        · rw [if_pos h0, orF_bt, anyB_iff] at hb
          obtain ⟨u, hu, q⟩ := hb
          rw [Bool.and_eq_true] at q
          obtain ⟨k, hk, g1, g2, g3⟩ := H.2.2.1 t h u ht hh hu (by rw [h0]; exact q.1)
          have := b k t h u hk g1 g2 g3 ht hh hu
          unfold covP at this
          rw [hj1, hj2, if_pos h0, q.2] at this
          simp at this
        · rw [if_neg h0] at hb
          obtain ⟨k, hk, g1, g2, g3⟩ := H.2.2.1 t h v ht hh hv hb
          have := b k t h v hk g1 g2 g3 ht hh hv
          unfold covP at this
          rw [hj1, hj2, if_neg h0] at this
          simp at this
    | succ d ih =>
      intro m f hm hI
      have hmn : m < n := by omega
      rw [wX53_reckon_37]
      dsimp only
      rw [nI_clamp (by omega)]
      obtain ⟨t, h, u, a1, a2, a3, a4, a5, a6, a7⟩ := H.2.1 m hmn
      refine ⟨fun q => absurd q (nI_ge hmn (by omega)), fun _ => ⟨vp_in_nI (by omega) (by decide), fun x ex => ?_⟩⟩
      rw [ex, a6]
      refine X53_r52 hr hE (by omega) a1 a2 a4 a5 (rank u) u f a3 (Nat.le_refl _) (fun y ey => ?_)
      rw [ey, nI_1]
      refine ih (m + 1) _ (by omega) (fun j hj => ?_)
      unfold setP
      by_cases hc : covP cl t h u j = true
      · rw [if_pos hc]
        exact Or.inl ⟨rfl, m, t, h, u, by omega, a4, a5, a6, a1, a2, a3, hc⟩
      · rw [if_neg hc]
        rcases hI j hj with ⟨b, k, t', h', u', g0, g1, g2, g3, g4, g5, g6, g7⟩ | ⟨b, g⟩
        · exact Or.inl ⟨b, k, t', h', u', by omega, g1, g2, g3, g4, g5, g6, g7⟩
        · refine Or.inr ⟨b, fun k t' h' u' g0 g1 g2 g3 g4 g5 g6 => ?_⟩
          by_cases e : k = m
          · subst e
            have y1 := (nI_eq (a := t) (b := t') (by omega) (by omega)).mp (by rw [← a4, g1])
            have y2 := (nI_eq (a := h) (b := h') (by omega) (by omega)).mp (by rw [← a5, g2])
            have y3 := (nI_eq (a := u) (b := u') (by omega) (by omega)).mp (by rw [← a6, g3])
            subst y1; subst y2; subst y3
            simpa using hc
          · exact g k t' h' u' (by omega) g1 g2 g3 g4 g5 g6
  exact ⟨n + 1, key n 0 f0 (by omega) (fun j hj => Or.inr ⟨hz j hj, fun k t h u g0 => by omega⟩)⟩
theorem X53_r15 {K : (Nat → Int32) → Prop} {f0 : Nat → Int32} (hp : ∀ f, (∀ j, j < 10240 → f j = 0) → K f) : ∃ fu, wX53_reckon_15 K fu 0 f0 := by
  have q : ∃ fu, wX53_reckon_15 K fu (nI 0) (fun j => if j < 0 then 0 else f0 j) := by
    refine nloop (fun n (s : Int32 × (Nat → Int32)) => wX53_reckon_15 K n s.1 s.2) (fun k => (nI k, fun j => if j < k then 0 else f0 j)) 10240 (Nat.zero_le _) (fun n k _ hk ih => ?_) (fun n => ?_)
    · show wX53_reckon_15 K (n + 1) (nI k) _
      rw [wX53_reckon_15]
      dsimp only at ih ⊢
      rw [nI_clamp (by omega), nar0]
      refine ⟨fun d => absurd d (nI_ge hk (by decide)), fun _ => ⟨vp_in_nI hk (by decide), fun f ef y ey => ?_⟩⟩
      rw [ey, nI_1, ef]
      have e : upd (fun j => if j < k then 0 else f0 j) k 0 = (fun j => if j < k + 1 then 0 else f0 j) := by
        funext j
        by_cases hj : j = k
        · subst hj; rw [pk_us]; simp
        · rw [pk_un hj]
          have : (j < k + 1) = (j < k) := by simp; omega
          simp only [this]
      rw [e]; exact ih
    · show wX53_reckon_15 K (n + 1) (nI 10240) _
      rw [wX53_reckon_15]
      exact ⟨fun _ => hp _ (fun j hj => by simp [hj]), fun d => absurd (Int32.le_refl _) d⟩
  have e2 : (fun j => if j < 0 then 0 else f0 j) = f0 := by funext j; simp
  rw [e2] at q
  exact q
