/-! FacetCounts (X31): above. upOK: the ones above run in no circle; clE: cl k is k and all above it -/
def upR (up : Nat → Int32) (rank : Nat → Nat) : Prop := ∀ k, k < 32 → up k = -1 ∨ ∃ u, u < 32 ∧ up k = nI u ∧ rank u < rank k
def upOK (up : Nat → Int32) : Prop := ∃ rank, upR up rank
def clE (up cl : Nat → Int32) : Prop := ∀ k, k < 32 → ∀ v, v < 32 → (bt (cl k) v = true ↔ v = k ∨ ∃ u, u < 32 ∧ up k = nI u ∧ bt (cl u) v = true)
theorem nI_m1 {u : Nat} (h : u < 2 ^ 31) : ¬ nI u = -1 := fun e => nI_pos h (by rw [e]; decide)
def chn (up : Nat → Int32) : Nat → Nat → Int32
  | 0, _ => 0
  | n + 1, k => ((1 : Int32) <<< (nI k &&& 31)) ||| (if up k = -1 then 0 else chn up n (up k).toNatClampNeg)
theorem chn_fuel {up : Nat → Int32} {rank : Nat → Nat} (hr : upR up rank) : ∀ r k, k < 32 → rank k ≤ r → ∀ n m, rank k < n → rank k < m → chn up n k = chn up m k := by
  intro r
  induction r with
  | zero =>
    intro k hk h0 n m hn hm
    obtain ⟨n, rfl⟩ : ∃ n', n = n' + 1 := ⟨n - 1, by omega⟩
    obtain ⟨m, rfl⟩ : ∃ m', m = m' + 1 := ⟨m - 1, by omega⟩
    unfold chn
    rcases hr k hk with e | ⟨u, hu, e, hlt⟩
    · simp [e]
    · omega
  | succ r ih =>
    intro k hk h0 n m hn hm
    obtain ⟨n, rfl⟩ : ∃ n', n = n' + 1 := ⟨n - 1, by omega⟩
    obtain ⟨m, rfl⟩ : ∃ m', m = m' + 1 := ⟨m - 1, by omega⟩
    unfold chn
    rcases hr k hk with e | ⟨u, hu, e, hlt⟩
    · simp [e]
    · rw [e, nI_clamp (by omega)]
      simp only [nI_m1 (show u < 2 ^ 31 by omega), if_false]
      rw [ih u hu (by omega) n m (by omega) (by omega)]
theorem chn_clE {up : Nat → Int32} {rank : Nat → Nat} (hr : upR up rank) : clE up (fun k => chn up (rank k + 1) k) := by
  intro k hk v hv
  show bt (chn up (rank k + 1) k) v = true ↔ _
  rw [show chn up (rank k + 1) k = ((1 : Int32) <<< (nI k &&& 31)) ||| (if up k = -1 then 0 else chn up (rank k) (up k).toNatClampNeg) from rfl]
  rw [b_or, bt_one k hk v hv, Bool.or_eq_true, decide_eq_true_eq]
  rcases hr k hk with e | ⟨u, hu, e, hlt⟩
  · rw [if_pos e, b_0]
    constructor
    · rintro (q | q)
      · exact Or.inl q
      · cases q
    · rintro (q | ⟨u, hu, q, _⟩)
      · exact Or.inl q
      · rw [e] at q; exact absurd q.symm (nI_m1 (by omega))
  · rw [if_neg (by rw [e]; exact nI_m1 (by omega)), e, nI_clamp (by omega), chn_fuel hr (rank u) u hu (Nat.le_refl _) (rank k) (rank u + 1) hlt (by omega)]
    constructor
    · rintro (q | q)
      · exact Or.inl q
      · exact Or.inr ⟨u, hu, rfl, q⟩
    · rintro (q | ⟨u', hu', q, h⟩)
      · exact Or.inl q
      · have := (nI_eq (a := u) (b := u') (by omega) (by omega)).mp q
        subst this
        exact Or.inr h
theorem clE_eq {up cl : Nat → Int32} {k : Nat} (h : clE up cl) (hk : k < 32) : ((1 : Int32) <<< (nI k &&& 31)) ||| (if up k = -1 then 0 else cl (up k).toNatClampNeg) = cl k ∨ ¬ (up k = -1 ∨ ∃ u, u < 32 ∧ up k = nI u) := by
  by_cases hu : up k = -1 ∨ ∃ u, u < 32 ∧ up k = nI u
  · refine Or.inl (b_ext (fun v hv => ?_))
    rw [b_or, bt_one k hk v hv, Bool.eq_iff_iff, Bool.or_eq_true, decide_eq_true_eq, h k hk v hv]
    rcases hu with e | ⟨u, hu, e⟩
    · rw [if_pos e, b_0]
      constructor
      · rintro (q | q)
        · exact Or.inl q
        · cases q
      · rintro (q | ⟨u, hu, q, _⟩)
        · exact Or.inl q
        · rw [e] at q; exact absurd q.symm (nI_m1 (by omega))
    · rw [if_neg (by rw [e]; exact nI_m1 (by omega)), e, nI_clamp (by omega)]
      constructor
      · rintro (q | q)
        · exact Or.inl q
        · exact Or.inr ⟨u, hu, rfl, q⟩
      · rintro (q | ⟨u', hu', q, h⟩)
        · exact Or.inl q
        · have := (nI_eq (a := u) (b := u') (by omega) (by omega)).mp q
          subst this
          exact Or.inr h
  · exact Or.inr hu
theorem X31_a89 {K : (Nat → Int32) → Prop} {up cl : Nat → Int32} {rank : Nat → Nat} {k : Nat} (hk : k < 32) (hr : upR up rank) (hE : clE up cl) : ∀ r u f, u < 32 → rank u ≤ r → K (upd f k (f k ||| cl u)) → ∃ fu, wX31_above_89 K (nI k) up fu (nI u) f := by
  have one : ∀ u f, u < 32 → (∀ f', f' = upd f k (f k ||| ((1 : Int32) <<< (nI u &&& 31))) → ∃ fu, wX31_above_89 K (nI k) up fu (up u) f') → ∃ fu, wX31_above_89 K (nI k) up fu (nI u) f := by
    intro u f hu h
    obtain ⟨fu, q⟩ := h _ rfl
    refine ⟨fu + 1, ?_⟩
    rw [wX31_above_89]
    refine ⟨fun e => absurd e (nI_m1 (by omega)), fun _ => ⟨vp_in_nI hk (by decide), fun v ev => ⟨vp_in_nI hk (by decide), fun g eg => ⟨vp_in_nI hu (by decide), fun y ey => ?_⟩⟩⟩⟩
    rw [nI_clamp (by omega)] at ev eg ey
    rw [ey, eg, ev]
    exact q
  have fin : ∀ u f, u < 32 → up u = -1 → K (upd f k (f k ||| cl u)) → ∃ fu, wX31_above_89 K (nI k) up fu (nI u) f := by
    intro u f hu e hK
    refine one u f hu (fun f' ef => ⟨1, ?_⟩)
    rw [wX31_above_89, e]
    refine ⟨fun _ => ?_, fun q => absurd rfl q⟩
    rcases clE_eq hE hu with q | q
    · rw [if_pos e] at q
      rw [ef]
      have : ((1 : Int32) <<< (nI u &&& 31)) = cl u := by rw [← q]; apply b_ext; intro i hi; rw [b_or, b_0]; simp
      rw [this]; exact hK
    · exact absurd (Or.inl e) q
  intro r
  induction r with
  | zero =>
    intro u f hu h0 hK
    rcases hr u hu with e | ⟨w, hw, e, hlt⟩
    · exact fin u f hu e hK
    · omega
  | succ r ih =>
    intro u f hu h0 hK
    rcases hr u hu with e | ⟨w, hw, e, hlt⟩
    · exact fin u f hu e hK
    · refine one u f hu (fun f' ef => ?_)
      rw [e]
      refine ih w f' hw (by omega) ?_
      rw [ef, pk_us]
      have e2 : upd (upd f k (f k ||| ((1 : Int32) <<< (nI u &&& 31)))) k (f k ||| ((1 : Int32) <<< (nI u &&& 31)) ||| cl w) = upd f k (f k ||| cl u) := by
        funext j
        by_cases hj : j = k
        · subst hj
          rw [pk_us, pk_us]
          rcases clE_eq hE hu with q | q
          · rw [if_neg (by rw [e]; exact nI_m1 (by omega)), e, nI_clamp (by omega)] at q
            rw [← q]
            apply b_ext; intro i hi; simp only [b_or, Bool.or_assoc]
          · exact absurd (Or.inr ⟨w, hw, e⟩) q
        · rw [pk_un hj, pk_un hj, pk_un hj]
      rw [e2]; exact hK
theorem X31_a73 {K : (Nat → Int32) → Prop} {up cl cl0 : Nat → Int32} {rank : Nat → Nat} (hr : upR up rank) (hE : clE up cl) (hp : K (fun j => if j < 32 then cl j else cl0 j)) : ∃ fu, wX31_above_73 K up fu 0 cl0 := by
  have q : ∃ fu, wX31_above_73 K up fu (nI 0) (fun j => if j < 0 then cl j else cl0 j) := by
    refine nloop (fun n (s : Int32 × (Nat → Int32)) => wX31_above_73 K up n s.1 s.2) (fun k => (nI k, fun j => if j < k then cl j else cl0 j)) 32 (Nat.zero_le 32) (fun n k _ hk ih => ?_) (fun n => ?_)
    · show wX31_above_73 K up (n + 1) (nI k) _
      rw [wX31_above_73]
      dsimp only at ih ⊢
      rw [nI_clamp (by omega)]
      refine ⟨fun d => absurd d (nI_ge hk (by decide)), fun _ => ⟨vp_in_nI hk (by decide), fun f ef => X31_a89 hk hr hE (rank k) k f hk (Nat.le_refl _) (fun y ey => ?_)⟩⟩
      rw [ey, nI_1, ef, pk_us]
      have e : upd (upd (fun j => if j < k then cl j else cl0 j) k 0) k (0 ||| cl k) = (fun j => if j < k + 1 then cl j else cl0 j) := by
        funext j
        by_cases hj : j = k
        · subst hj; rw [pk_us]; simp
        · rw [pk_un hj, pk_un hj]
          have : (j < k + 1) = (j < k) := by simp; omega
          simp only [this]
      rw [e]; exact ih
    · show wX31_above_73 K up (n + 1) (nI 32) _
      rw [wX31_above_73]
      exact ⟨fun _ => hp, fun d => absurd (Int32.le_refl _) d⟩
  have e2 : (fun j => if j < 0 then cl j else cl0 j) = cl0 := by funext j; simp
  rw [e2] at q
  exact q
def fcAbove (up cl : Nat → Int32) (x y : Int32) : Int32 :=
  if !(rI x 32) || (!decide (y = -1) && !(rI y 32)) then -1 else if !decide (y = -1) && bt (cl y.toNatClampNeg) x.toNatClampNeg then -3 else if up x.toNatClampNeg = y then 0 else 1
/-- a new one above, from which none leads back: no circle -/
theorem upOK_step {up cl : Nat → Int32} {k : Nat} {y : Int32} (hk : k < 32) (h : upOK up) (hE : clE up cl) (hy : y = -1 ∨ ∃ u, u < 32 ∧ y = nI u ∧ bt (cl u) k = false) : upOK (upd up k y) := by
  obtain ⟨rank, hr⟩ := h
  rcases hy with rfl | ⟨u, hu, rfl, hb⟩
  · refine ⟨rank, fun j hj => ?_⟩
    by_cases e : j = k
    · subst e; rw [pk_us]; exact Or.inl rfl
    · rw [pk_un e]; exact hr j hj
  · refine ⟨fun j => if bt (cl j) k then rank j + (rank u + 1) else rank j, fun j hj => ?_⟩
    by_cases e : j = k
    · subst e
      rw [pk_us]
      refine Or.inr ⟨u, hu, rfl, ?_⟩
      have : bt (cl j) j = true := (hE j hj j hj).mpr (Or.inl rfl)
      dsimp only
      simp only [hb, this, if_true, Bool.false_eq_true, if_false]; omega
    · rw [pk_un e]
      rcases hr j hj with q | ⟨w, hw, q, hlt⟩
      · exact Or.inl q
      · refine Or.inr ⟨w, hw, q, ?_⟩
        dsimp only
        by_cases h1 : bt (cl w) k = true
        · have h2 : bt (cl j) k = true := (hE j hj k hk).mpr (Or.inr ⟨w, hw, q, h1⟩)
          rw [if_pos h1, if_pos h2]; omega
        · rw [if_neg h1]
          by_cases h2 : bt (cl j) k = true
          · rw [if_pos h2]; omega
          · rw [if_neg h2]; omega
theorem X31_above {post : Int32 → (Nat → Int32) → (Nat → Int32) → (Nat → Int32) → (Nat → Int32) → Prop} {own up cl ch fl cn : Nat → Int32} {x y : Int32} (hI : fcI own cl ch fl cn) (hO : upOK up) (hE : clE up cl)
    (h0 : ¬ fcAbove up cl x y = 1 → post (fcAbove up cl x y) up cl fl cn)
    (h1 : ∀ cl' fl' cn', fcAbove up cl x y = 1 → upOK (upd up x.toNatClampNeg y) → clE (upd up x.toNatClampNeg y) cl' → fcI own cl' ch fl' cn' → post 1 (upd up x.toNatClampNeg y) cl' fl' cn') : wpX31_above post own up cl ch fl cn x y := by
  unfold wpX31_above
  refine X31_isInE 32 (by decide) (fun k hk e1 => ⟨fun c => absurd c (by decide), fun _ => ?_⟩) (fun h => ⟨fun _ => ?_, fun c => absurd rfl c⟩)
  · subst e1
    have rk := rI_n hk (show 32 < 2 ^ 31 by decide)
    have go47 : (y = -1 ∨ ∃ u, u < 32 ∧ y = nI u ∧ bt (cl u) k = false) → wX31_above_47 post (nI k) y own up cl ch fl cn := by
      intro hy
      have ne : (!(rI (nI k) 32) || (!decide (y = -1) && !(rI y 32))) = false ∧ (!decide (y = -1) && bt (cl y.toNatClampNeg) (nI k).toNatClampNeg) = false := by
        rw [rk]
        rcases hy with rfl | ⟨u, hu, rfl, hb⟩
        · simp
        · rw [rI_n hu (by decide), nI_clamp (by omega), nI_clamp (by omega), hb]; simp
      simp only [fcAbove, ne.1, ne.2, Bool.false_eq_true, if_false] at h0 h1
      unfold wX31_above_47
      rw [nI_clamp (show k < 2 ^ 31 by omega)] at *
      refine ⟨vp_in_nI hk (by decide), fun d => ?_, fun d => X31_weighAllM hI (fun cn1 hz => ⟨vp_in_nI hk (by decide), fun g eg => ?_⟩)⟩
      · simp only [d, if_true] at h0
        exact h0 (by decide)
      · subst eg
        simp only [d, if_false] at h1
        have hO' := upOK_step hk hO hE hy
        have hO2 := hO'
        obtain ⟨rank, hr⟩ := hO2
        refine X31_a73 hr (chn_clE hr) (X31_weighAllP hz (fun fl' cn' hI' => h1 _ _ _ trivial hO' ?_ hI'))
        intro a ha v hv
        have q := chn_clE hr a ha v hv
        simp only [ha, if_true] at q ⊢
        rw [q]
        constructor
        · rintro (z | ⟨u, hu, z1, z2⟩)
          · exact Or.inl z
          · exact Or.inr ⟨u, hu, z1, by simp only [hu, if_true]; exact z2⟩
        · rintro (z | ⟨u, hu, z1, z2⟩)
          · exact Or.inl z
          · exact Or.inr ⟨u, hu, z1, by simpa only [hu, if_true] using z2⟩
    have go25 : (y = -1 ∨ ∃ u, u < 32 ∧ y = nI u) → wX31_above_25 post (nI k) y own up cl ch fl cn := by
      intro hy
      unfold wX31_above_25
      refine ⟨fun e => go47 (Or.inl e), fun e => ?_⟩
      rcases hy with q | ⟨u, hu, rfl⟩
      · exact absurd q e
      · rw [nI_clamp (show u < 2 ^ 31 by omega)]
        refine ⟨vp_in_nI hu (by decide), fun d => ?_, fun d => ?_⟩
        · rw [bt_test hk] at d
          simp only [fcAbove, rk, rI_n hu (show 32 < 2 ^ 31 by decide), nI_clamp (show u < 2 ^ 31 by omega), nI_clamp (show k < 2 ^ 31 by omega), d, e, decide_false, Bool.not_true, Bool.not_false, Bool.false_or, Bool.and_false, Bool.true_and, Bool.false_eq_true, if_false, if_true] at h0
          exact h0 (by decide)
        · rw [bt_test hk] at d
          exact go47 (Or.inr ⟨u, hu, rfl, by simpa using d⟩)
    refine ⟨fun e => go25 (Or.inl e), fun e => X31_isInE 32 (by decide) (fun u hu e2 => ⟨fun c => absurd c (by decide), fun _ => go25 (Or.inr ⟨u, hu, e2⟩)⟩) (fun h => ⟨fun _ => ?_, fun c => absurd rfl c⟩)⟩
    simp only [fcAbove, rk, rI_f (x := y) (show 32 < 2 ^ 31 by decide) h, e, decide_false, Bool.not_true, Bool.not_false, Bool.false_or, Bool.and_true, if_true] at h0
    exact h0 (by decide)
  · simp only [fcAbove, rI_f (show 32 < 2 ^ 31 by decide) h, Bool.not_false, Bool.true_or, if_true] at h0
    exact h0 (by decide)
