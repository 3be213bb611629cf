/-! FacetCountsModel (X53): sum, changed. Then both sides over one state: own, rows, up, ch, sn -/
section FT
variable {own th hd vl up cl ch ch2 has but kept : Nat → Int32} {n : Nat} {fr : Int32}
theorem X53_s48 {K : Int32 → Prop} {h v o t : Nat} {x : Int32} (hh : h < 8) (hv : v < 32) (ho : o < 8) (ht : t < 40) (hH : ftH own cl has) (hB : ftB own cl ch but kept) (hp : K (x + (if decide (nfail own cl ch t = 0) && bt (hasC own cl t h) v then sBt (hasC own cl t o) 32 else 0))) : ∃ fu, wX53_sum_48 K (nI h) (nI v) (nI o) (nI t) has kept fu x 1 := by
  have z0 : ∀ x : Int32, x + 0 = x := fun x => by grind
  by_cases hc : (decide (nfail own cl ch t = 0) && bt (hasC own cl t h) v) = true
  · rw [if_pos hc] at hp
    rw [Bool.and_eq_true] at hc
    have q : ∃ fu, wX53_sum_48 K (nI h) (nI v) (nI o) (nI t) has kept fu (x + sBt (hasC own cl t o) 1) (nI 1) := by
      refine nloop (fun n (s : Int32 × Int32) => wX53_sum_48 K (nI h) (nI v) (nI o) (nI t) has kept n s.1 s.2) (fun k => (x + sBt (hasC own cl t o) k, nI k)) 32 (k0 := 1) (by decide) (fun n k hk1 hk ih => ?_) (fun n => ?_)
      · show wX53_sum_48 K (nI h) (nI v) (nI o) (nI t) has kept (n + 1) (x + sBt (hasC own cl t o) k) (nI k)
        rw [wX53_sum_48]
        dsimp only at ih ⊢
        rw [nI_clamp (show t < 2 ^ 31 by omega), hB.2 t ht, hc.1]
        refine ⟨fun d => absurd d (nI_ge hk (by decide)), fun _ => ⟨vp_in_nI ht (by decide), fun z => absurd z (by decide), fun _ => ?_⟩⟩
        unfold wpX53_place
        rw [i256, i256]
        dsimp only
        rw [nI_clamp (show 256 * t + 32 * h + v < 2 ^ 31 by omega), hH t h v ht hh hv, hc.2, nI_clamp (show 256 * t + 32 * o + k < 2 ^ 31 by omega), hH t o k ht ho hk]
        refine ⟨vp_in_nI (by omega) (by decide), fun z => absurd z (by decide), fun _ => ⟨vp_in_nI (by omega) (by decide), fun z y ey w ew => ?_, fun z y ey w ew => ?_⟩⟩
        · have z : bt (hasC own cl t o) k = false := by
            cases e : bt (hasC own cl t o) k with
            | false => rfl
            | true => rw [e] at z; simp at z
          have e : sBt (hasC own cl t o) (k + 1) = sBt (hasC own cl t o) k := by
            rw [show sBt (hasC own cl t o) (k + 1) = sBt (hasC own cl t o) k + (if bt (hasC own cl t o) k then nI k else 0) from rfl, z]; exact z0 _
          rw [e] at ih
          rw [ey, ew, nI_1, z0]; exact ih
        · have z : bt (hasC own cl t o) k = true := by
            cases e : bt (hasC own cl t o) k with
            | true => rfl
            | false => rw [e] at z; simp at z
          have e : x + sBt (hasC own cl t o) (k + 1) = x + sBt (hasC own cl t o) k + nI k := by
            rw [show sBt (hasC own cl t o) (k + 1) = sBt (hasC own cl t o) k + (if bt (hasC own cl t o) k then nI k else 0) from rfl, z]; simp only [if_true]; grind
          rw [e] at ih
          rw [ey, ew, nI_1]; exact ih
      · show wX53_sum_48 K (nI h) (nI v) (nI o) (nI t) has kept (n + 1) (x + sBt (hasC own cl t o) 32) (nI 32)
        rw [wX53_sum_48]
        exact ⟨fun _ => hp, fun d => absurd (Int32.le_refl _) d⟩
    have e : x + sBt (hasC own cl t o) 1 = x := by
      have : sBt (hasC own cl t o) 1 = 0 := by
        show (0 : Int32) + (if bt (hasC own cl t o) 0 then nI 0 else 0) = 0
        split <;> rfl
      rw [this]; exact z0 x
    rw [e] at q
    exact q
  · rw [if_neg hc, z0] at hp
    refine ⟨1, ?_⟩
    rw [wX53_sum_48]
    dsimp only
    rw [nI_clamp (show t < 2 ^ 31 by omega), hB.2 t ht]
    simp only [b2i_0, Bool.not_eq_false]
    refine ⟨fun d => absurd d (by decide), fun _ => ⟨vp_in_nI ht (by decide), fun _ => hp, fun z => ?_⟩⟩
    rw [z, Bool.true_and] at hc
    have hc : bt (hasC own cl t h) v = false := by simpa using hc
    unfold wpX53_place
    rw [i256]
    dsimp only
    rw [nI_clamp (show 256 * t + 32 * h + v < 2 ^ 31 by omega), hH t h v ht hh hv, hc]
    exact ⟨vp_in_nI (by omega) (by decide), fun _ => hp, fun w => absurd rfl w⟩
theorem X53_sum {post : Int32 → Int32 → Int32 → (Nat → Int32) → (Nat → Int32) → (Nat → Int32) → Prop} {x y z : Int32} (H : ftR own th hd vl n) (hO : upOK up) (hE : clE up cl) (hC : chT ch ch2) (hF : ftF own cl ch fr has but kept)
    (hp : ∀ fr' has' but' kept', ftF own cl ch fr' has' but' kept' → post (fcSum own cl ch x y z) 0 fr' has' but' kept') : wpX53_sum post (nI n) th hd vl up ch2 fr has but kept x y z := by
  unfold wpX53_sum
  refine X53_reckon H hO hE hC hF (fun a b c h1 h2 => ?_)
  have hp := hp 1 a b c (Or.inr ⟨rfl, h1, h2⟩)
  unfold fcSum at hp
  refine X53_isHead (fun h hh e => ⟨fun q => absurd q (by decide), fun _ => ?_⟩) (fun h => ⟨fun _ => ?_, fun q => absurd rfl q⟩)
  · refine X53_isValue (fun v hv e2 => ⟨fun q => absurd q (by decide), fun _ => ?_⟩) (fun h => ⟨fun _ => ?_, fun q => absurd rfl q⟩)
    · refine X53_isHead (fun o ho e3 => ⟨fun q => absurd q (by decide), fun _ => ?_⟩) (fun h => ⟨fun _ => ?_, fun q => absurd rfl q⟩)
      · subst e; subst e2; subst e3
        rw [rI_n hh (by decide), rI_n hv (by decide), rI_n ho (by decide), nI_clamp (by omega), nI_clamp (by omega), nI_clamp (by omega)] at hp
        refine nloop (fun m (s : Int32 × Int32) => wX53_sum_38 _ (nI h) (nI v) (nI o) a c m s.1 s.2) (fun k => (sTh own cl ch h v o k, nI k)) 40 (Nat.zero_le 40) (fun m k _ hk ih => ?_) (fun m => ?_)
        · show wX53_sum_38 _ (nI h) (nI v) (nI o) a c (m + 1) (sTh own cl ch h v o k) (nI k)
          rw [wX53_sum_38]
          dsimp only at ih ⊢
          refine ⟨fun d => absurd d (nI_ge hk (by decide)), fun _ => X53_s48 hh hv ho hk h1 h2 (fun y ey => ?_)⟩
          rw [ey, nI_1]; exact ih
        · show wX53_sum_38 _ (nI h) (nI v) (nI o) a c (m + 1) (sTh own cl ch h v o 40) (nI 40)
          rw [wX53_sum_38]
          exact ⟨fun _ => hp, fun d => absurd (Int32.le_refl _) d⟩
      · rw [rI_f (x := z) (by decide) h, Bool.and_false] at hp; exact hp
    · rw [rI_f (x := y) (by decide) h, Bool.and_false, Bool.false_and] at hp; exact hp
  · rw [rI_f (x := x) (by decide) h, Bool.false_and, Bool.false_and] at hp; exact hp
/-- all counts by their places -/
def cnA (own cl ch : Nat → Int32) (j : Nat) : Int32 := nI (cnt (fun t => cbj own cl ch t j) 40)
theorem cnA_at {h v : Nat} (hv : v < 32) : cnA own cl ch (32 * h + v) = nI (fcCount own cl ch h v) := by
  unfold cnA fcCount
  rw [cnt_congr (p := fun t => cbj own cl ch t (32 * h + v)) (q := fun t => cbt own cl ch t h v) (n := 40) (fun t _ => cbj_at _ _ _ _ _ _ hv)]
theorem X53_changed {post : Int32 → Int32 → (Nat → Int32) → Int32 → (Nat → Int32) → (Nat → Int32) → (Nat → Int32) → Prop} {sn : Nat → Int32} (H : ftR own th hd vl n) (hO : upOK up) (hE : clE up cl) (hC : chT ch ch2) (hF : ftF own cl ch fr has but kept)
    (hp : ∀ fr' has' but' kept', ftF own cl ch fr' has' but' kept' → post (nI (cnt (fun j => !decide (cnA own cl ch j = sn j)) 256)) 0 (fun j => if j < 256 then cnA own cl ch j else sn j) fr' has' but' kept') : wpX53_changed post (nI n) th hd vl up ch2 sn fr has but kept := by
  unfold wpX53_changed
  refine X53_reckon H hO hE hC hF (fun a b c h1 h2 => ?_)
  have hp := hp 1 a b c (Or.inr ⟨rfl, h1, h2⟩)
  have inner : ∀ (K : Int32 → (Nat → Int32) → Prop) (h : Nat), h < 8 → K (nI (cnt (fun j => !decide (cnA own cl ch j = sn j)) (32 * h + 32))) (fun j => if j < 32 * h + 32 then cnA own cl ch j else sn j) → ∃ fu, wX53_changed_21 K (nI h) a b fu (nI (cnt (fun j => !decide (cnA own cl ch j = sn j)) (32 * h))) 0 (fun j => if j < 32 * h then cnA own cl ch j else sn j) := by
    intro K h hh hK
    refine nloop (fun m (s : Int32 × Int32 × (Nat → Int32)) => wX53_changed_21 K (nI h) a b m s.1 s.2.1 s.2.2) (fun k => (nI (cnt (fun j => !decide (cnA own cl ch j = sn j)) (32 * h + k)), nI k, fun j => if j < 32 * h + k then cnA own cl ch j else sn j)) 32 (Nat.zero_le 32) (fun m k _ hk ih => ?_) (fun m => ?_)
    · show wX53_changed_21 K (nI h) a b (m + 1) (nI _) (nI k) _
      rw [wX53_changed_21]
      dsimp only at ih ⊢
      refine ⟨fun d => absurd d (nI_ge hk (by decide)), fun _ => X53_countOf hh hk h1 h2 ?_⟩
      rw [i32, nI_clamp (show 32 * h + k < 2 ^ 31 by omega), ← cnA_at hk]
      simp only [Nat.lt_irrefl, if_false]
      have es : upd (fun j => if j < 32 * h + k then cnA own cl ch j else sn j) (32 * h + k) (cnA own cl ch (32 * h + k)) = (fun j => if j < 32 * h + (k + 1) then cnA own cl ch j else sn j) := by
        funext j
        by_cases hj : j = 32 * h + k
        · subst hj; rw [pk_us, if_pos (by omega)]
        · rw [pk_un hj]
          have : (j < 32 * h + (k + 1)) = (j < 32 * h + k) := by simp; omega
          simp only [this]
      have hvi : vp_in (nI (32 * h + k)) 256 := vp_in_nI (by omega) (by decide)
      rw [show cnt (fun j => !decide (cnA own cl ch j = sn j)) (32 * h + (k + 1)) = cnt (fun j => !decide (cnA own cl ch j = sn j)) (32 * h + k) + (if (!decide (cnA own cl ch (32 * h + k) = sn (32 * h + k))) then 1 else 0) from rfl] at ih
      refine ⟨hvi, fun d x ex => ⟨hvi, fun g eg y ey => ?_⟩, fun d x ex => ⟨hvi, fun g eg y ey => ?_⟩⟩
      · simp only [d, decide_true, Bool.not_true, Bool.false_eq_true, if_false, Nat.add_zero] at ih
        rw [eg, es, ey, ex, i0, nI_1]; exact ih
      · simp only [d, decide_false, Bool.not_false, if_true] at ih
        rw [eg, es, ey, ex, nI_1, nI_1]; exact ih
    · show wX53_changed_21 K (nI h) a b (m + 1) (nI _) (nI 32) _
      rw [wX53_changed_21]
      exact ⟨fun _ => hK, fun d => absurd (Int32.le_refl _) d⟩
  have q : ∃ fu, wX53_changed_13 (fun x s => post x 0 s 1 a b c) a b fu (nI (cnt (fun j => !decide (cnA own cl ch j = sn j)) (32 * 0))) (nI 0) (fun j => if j < 32 * 0 then cnA own cl ch j else sn j) := by
    refine nloop (fun m (s : Int32 × Int32 × (Nat → Int32)) => wX53_changed_13 (fun x s => post x 0 s 1 a b c) a b m s.1 s.2.1 s.2.2) (fun k => (nI (cnt (fun j => !decide (cnA own cl ch j = sn j)) (32 * k)), nI k, fun j => if j < 32 * k then cnA own cl ch j else sn j)) 8 (Nat.zero_le 8) (fun m k _ hk ih => ?_) (fun m => ?_)
    · show wX53_changed_13 _ a b (m + 1) (nI _) (nI k) _
      rw [wX53_changed_13]
      dsimp only at ih ⊢
      refine ⟨fun d => absurd d (nI_ge hk (by decide)), fun _ => inner _ k hk (fun y ey => ?_)⟩
      rw [ey, nI_1]; exact ih
    · show wX53_changed_13 _ a b (m + 1) (nI _) (nI 8) _
      rw [wX53_changed_13]
      exact ⟨fun _ => hp, fun d => absurd (Int32.le_refl _) d⟩
  have e2 : (fun j => if j < 32 * 0 then cnA own cl ch j else sn j) = sn := by funext j; simp
  rw [e2] at q
  exact q
end FT
/-! ===== the closure that belongs to up ===== -/
noncomputable def clOf (up : Nat → Int32) : Nat → Int32 := @dite _ (upOK up) (Classical.propDecidable _) (fun h k => chn up (Classical.choose h k + 1) k) (fun _ _ => 0)
theorem clOf_clE {up : Nat → Int32} (h : upOK up) : clE up (clOf up) := by
  unfold clOf
  rw [dif_pos h]
  exact chn_clE (Classical.choose_spec h)
theorem clE_uniq {up cl cl' : Nat → Int32} (hO : upOK up) (h : clE up cl) (h' : clE up cl') : ∀ k, k < 32 → cl k = cl' k := by
  obtain ⟨rank, hr⟩ := hO
  have key : ∀ r k, k < 32 → rank k ≤ r → cl k = cl' k := by
    intro r
    induction r with
    | zero =>
      intro k hk h0
      refine b_ext (fun v hv => ?_)
      rw [Bool.eq_iff_iff, h k hk v hv, h' k hk v hv]
      rcases hr k hk with e | ⟨u, hu, e, hlt⟩
      · constructor <;> (rintro (q | ⟨u, hu, q, _⟩); exact Or.inl q; rw [e] at q; exact absurd q.symm (nI_m1 (by omega)))
      · omega
    | succ r ih =>
      intro k hk h0
      refine b_ext (fun v hv => ?_)
      rw [Bool.eq_iff_iff, h k hk v hv, h' k hk v hv]
      rcases hr k hk with e | ⟨u, hu, e, hlt⟩
      · constructor <;> (rintro (q | ⟨u, hu, q, _⟩); exact Or.inl q; rw [e] at q; exact absurd q.symm (nI_m1 (by omega)))
      · have ec := ih u hu (by omega)
        constructor
        · rintro (q | ⟨w, hw, q, z⟩)
          · exact Or.inl q
          · rw [e] at q
            have := (nI_eq (a := u) (b := w) (by omega) (by omega)).mp q
            subst this
            exact Or.inr ⟨u, hu, e, by rw [← ec]; exact z⟩
        · rintro (q | ⟨w, hw, q, z⟩)
          · exact Or.inl q
          · rw [e] at q
            have := (nI_eq (a := u) (b := w) (by omega) (by omega)).mp q
            subst this
            exact Or.inr ⟨u, hu, e, by rw [ec]; exact z⟩
  exact fun k hk => key (rank k) k hk (Nat.le_refl _)
theorem orF_cl {b : Int32} {cl cl' : Nat → Int32} : ∀ {n}, (∀ k, k < n → cl k = cl' k) → orF b cl n = orF b cl' n
  | 0, _ => rfl
  | n + 1, h => by unfold orF; rw [orF_cl (fun k hk => h k (by omega)), h n (by omega)]
theorem hasC_cl {own cl cl' : Nat → Int32} (h : ∀ k, k < 32 → cl k = cl' k) (t k : Nat) : hasC own cl t k = hasC own cl' t k := by
  unfold hasC; rw [orF_cl h]
theorem fcI_cl {own cl cl' ch fl cn : Nat → Int32} (h : ∀ k, k < 32 → cl k = cl' k) (hI : fcI own cl ch fl cn) : fcI own cl' ch fl cn := by
  have e1 : ∀ t k, hasC own cl t k = hasC own cl' t k := hasC_cl h
  have e2 : ∀ t k, ffail own cl ch t k = ffail own cl' ch t k := fun t k => by unfold ffail; rw [e1]
  have e3 : ∀ t, nfail own cl ch t = nfail own cl' ch t := fun t => cnt_congr (fun k _ => e2 t k)
  have e4 : ∀ t j, cbj own cl ch t j = cbj own cl' ch t j := fun t j => by unfold cbj cbt fbut; rw [e1, e2, e3]
  refine ⟨fun t ht => by rw [hI.1 t ht, e3], fun j hj => by rw [hI.2 j hj, cnt_congr (p := fun t => cbj own cl ch t j) (q := fun t => cbj own cl' ch t j) (n := 40) (fun t _ => e4 t j)]⟩
theorem upOK_cg {up up2 : Nat → Int32} (e : ∀ k, k < 32 → up2 k = up k) (h : upOK up) : upOK up2 := by
  obtain ⟨rank, hr⟩ := h
  exact ⟨rank, fun k hk => by rw [e k hk]; exact hr k hk⟩
theorem clE_cg {up up2 cl : Nat → Int32} (e : ∀ k, k < 32 → up2 k = up k) (h : clE up cl) : clE up2 cl := by
  intro k hk v hv; rw [e k hk]; exact h k hk v hv
