/-! FacetCountsModel (X53): what is told -/
theorem X53_countOf {post : Int32 → Prop} {own cl ch has but kept : Nat → Int32} {h v : Nat} (hh : h < 8) (hv : v < 32) (hH : ftH own cl has) (hB : ftB own cl ch but kept) (hp : post (nI (fcCount own cl ch h v))) : wpX53_countOf post has but (nI h) (nI v) := by
  unfold wpX53_countOf
  refine nloop (fun n (s : Int32 × Int32) => wX53_countOf_5 (fun x => post x) (nI h) (nI v) has but n s.1 s.2) (fun k => (nI (cnt (fun t => cbt own cl ch t h v) k), nI k)) 40 (Nat.zero_le 40) (fun n k _ hk ih => ?_) (fun n => ?_)
  · show wX53_countOf_5 _ (nI h) (nI v) has but (n + 1) (nI _) (nI k)
    rw [wX53_countOf_5]
    dsimp only at ih ⊢
    rw [i8, nI_clamp (show 8 * k + h < 2 ^ 31 by omega), hB.1 k h hk hh]
    simp only [b2i_0, Bool.not_eq_false]
    unfold cnt at ih
    refine ⟨fun d => absurd d (nI_ge hk (by decide)), fun _ => ⟨vp_in_nI (by omega) (by decide), fun a x ex y ey => ?_, fun a => ?_⟩⟩
    · have : cbt own cl ch k h v = false := by simp [cbt, a]
      simp only [this, Bool.false_eq_true, if_false, Nat.add_zero] at ih
      rw [ex, ey, i0, nI_1]; exact ih
    · unfold wpX53_place
      rw [i256]
      dsimp only
      rw [nI_clamp (show 256 * k + 32 * h + v < 2 ^ 31 by omega), hH k h v hk hh hv]
      refine ⟨vp_in_nI (by omega) (by decide), fun b x ex y ey => ?_, fun b x ex y ey => ?_⟩
      · have b : bt (hasC own cl k h) v = false := by
          cases z : bt (hasC own cl k h) v with
          | false => rfl
          | true => rw [z] at b; simp at b
        have : cbt own cl ch k h v = false := by simp [cbt, b]
        simp only [this, Bool.false_eq_true, if_false, Nat.add_zero] at ih
        rw [ex, ey, i0, nI_1]; exact ih
      · have b : bt (hasC own cl k h) v = true := by
          cases z : bt (hasC own cl k h) v with
          | true => rfl
          | false => rw [z] at b; simp at b
        have : cbt own cl ch k h v = true := by simp [cbt, a, b]
        simp only [this, if_true] at ih
        rw [ex, ey, nI_1, nI_1]; exact ih
  · show wX53_countOf_5 _ (nI h) (nI v) has but (n + 1) (nI _) (nI 40)
    rw [wX53_countOf_5]
    exact ⟨fun _ => hp, fun d => absurd (Int32.le_refl _) d⟩
theorem X53_ck8 {K : Int32 → Prop} {own cl ch but kept : Nat → Int32} (hB : ftB own cl ch but kept) (hp : K (nI (fcKept own cl ch))) : ∃ fu, wX53_countKept_8 K kept fu 0 0 := by
  refine nloop (fun n (s : Int32 × Int32) => wX53_countKept_8 K kept n s.1 s.2) (fun k => (nI (cnt (fun t => decide (nfail own cl ch t = 0)) k), nI k)) 40 (Nat.zero_le 40) (fun n k _ hk ih => ?_) (fun n => ?_)
  · show wX53_countKept_8 K kept (n + 1) (nI _) (nI k)
    rw [wX53_countKept_8]
    dsimp only at ih ⊢
    rw [nI_clamp (by omega), hB.2 k hk]
    simp only [b2i_0, Bool.not_eq_false]
    unfold cnt at ih
    refine ⟨fun d => absurd d (nI_ge hk (by decide)), fun _ => ⟨vp_in_nI hk (by decide), fun a x ex y ey => ?_, fun a x ex y ey => ?_⟩⟩
    · simp only [a, Bool.false_eq_true, if_false, Nat.add_zero] at ih
      rw [ex, ey, i0, nI_1]; exact ih
    · simp only [a, if_true] at ih
      rw [ex, ey, nI_1, nI_1]; exact ih
  · show wX53_countKept_8 K kept (n + 1) (nI _) (nI 40)
    rw [wX53_countKept_8]
    exact ⟨fun _ => hp, fun d => absurd (Int32.le_refl _) d⟩
section FT
variable {own th hd vl up cl ch ch2 has but kept : Nat → Int32} {n : Nat} {fr : Int32}
theorem X53_countKept {post : Int32 → Int32 → (Nat → Int32) → (Nat → Int32) → (Nat → Int32) → Prop} (H : ftR own th hd vl n) (hO : upOK up) (hE : clE up cl) (hC : chT ch ch2) (hF : ftF own cl ch fr has but kept)
    (hp : ∀ fr' has' but' kept', ftF own cl ch fr' has' but' kept' → post (nI (fcKept own cl ch)) fr' has' but' kept') : wpX53_countKept post (nI n) th hd vl up ch2 fr has but kept := by
  unfold wpX53_countKept
  exact X53_reckon H hO hE hC hF (fun a b c h1 h2 => X53_ck8 h2 (hp 1 a b c (Or.inr ⟨rfl, h1, h2⟩)))
theorem X53_kept {post : Int32 → Int32 → Int32 → (Nat → Int32) → (Nat → Int32) → (Nat → Int32) → Prop} (H : ftR own th hd vl n) (hO : upOK up) (hE : clE up cl) (hC : chT ch ch2) (hF : ftF own cl ch fr has but kept)
    (hp : ∀ fr' has' but' kept', ftF own cl ch fr' has' but' kept' → post (nI (fcKept own cl ch)) 0 fr' has' but' kept') : wpX53_kept post (nI n) th hd vl up ch2 fr has but kept := by
  unfold wpX53_kept
  exact X53_countKept H hO hE hC hF hp
theorem X53_isKept {post : Int32 → Int32 → Int32 → (Nat → Int32) → (Nat → Int32) → (Nat → Int32) → Prop} {x : Int32} (H : ftR own th hd vl n) (hO : upOK up) (hE : clE up cl) (hC : chT ch ch2) (hF : ftF own cl ch fr has but kept)
    (hp : ∀ fr' has' but' kept', ftF own cl ch fr' has' but' kept' → post (fcIsKept own cl ch x) 0 fr' has' but' kept') : wpX53_isKept post (nI n) th hd vl up ch2 fr has but kept x := by
  unfold wpX53_isKept
  refine X53_reckon H hO hE hC hF (fun a b c h1 h2 => ?_)
  have hp := hp 1 a b c (Or.inr ⟨rfl, h1, h2⟩)
  refine X53_isThing (fun v hv e => ⟨fun q => absurd q (by decide), fun _ => ?_⟩) (fun h => ⟨fun _ => ?_, fun q => absurd rfl q⟩)
  · subst e
    rw [nI_clamp (by omega), h2.2 v hv]
    simp only [b2i_0, Bool.not_eq_false, decide_eq_true_eq, decide_eq_false_iff_not]
    unfold fcIsKept at hp
    rw [rI_n hv (by decide), nI_clamp (by omega)] at hp
    simp only [if_true] at hp
    refine ⟨vp_in_nI hv (by decide), fun d => ?_, fun d => ?_⟩
    · rw [if_neg d] at hp; exact hp
    · rw [if_pos (Classical.not_not.mp d)] at hp; exact hp
  · unfold fcIsKept at hp
    rw [rI_f (by decide) h] at hp
    exact hp
theorem X53_facet {post : Int32 → Int32 → Int32 → (Nat → Int32) → (Nat → Int32) → (Nat → Int32) → Prop} {x y : Int32} (H : ftR own th hd vl n) (hO : upOK up) (hE : clE up cl) (hC : chT ch ch2) (hF : ftF own cl ch fr has but kept)
    (hp : ∀ fr' has' but' kept', ftF own cl ch fr' has' but' kept' → post (fcFacet own cl ch x y) 0 fr' has' but' kept') : wpX53_facet post (nI n) th hd vl up ch2 fr has but kept x y := by
  unfold wpX53_facet
  refine X53_reckon H hO hE hC hF (fun a b c h1 h2 => ?_)
  have hp := hp 1 a b c (Or.inr ⟨rfl, h1, h2⟩)
  unfold fcFacet at hp
  refine X53_isHead (fun v hv e => ⟨fun q => absurd q (by decide), fun _ => ?_⟩) (fun h => ⟨fun _ => ?_, fun q => absurd rfl q⟩)
  · refine X53_isValue (fun v2 hv2 e2 => ⟨fun q => absurd q (by decide), fun _ => ?_⟩) (fun h => ⟨fun _ => ?_, fun q => absurd rfl q⟩)
    · subst e; subst e2
      rw [rI_n hv (by decide), rI_n hv2 (by decide), nI_clamp (by omega), nI_clamp (by omega)] at hp
      exact X53_countOf hv hv2 h1 h2 hp
    · rw [rI_f (x := y) (by decide) h, Bool.and_false] at hp; exact hp
  · rw [rI_f (x := x) (by decide) h] at hp; exact hp
theorem chT_step {x y z : Int32} {h v : Nat} (hh : h < 8) (hv : v < 32) (ex : x = nI h) (ey : y = nI v) (hz : z = 0 ∨ z = 1) (hC : chT ch ch2) : chT (fcChoose ch x y z) (upd ch2 (32 * h + v) (vp_nar .boolean z)) := by
  subst ex; subst ey
  intro h' v' q1 q2
  unfold fcChoose
  rw [rI_n hh (by decide), rI_n hv (by decide), nI_clamp (by omega)]
  simp only [Bool.and_true, if_true]
  by_cases e : h' = h
  · subst e
    have e3 : (32 * h' + v' = 32 * h' + v) ↔ v' = v := by omega
    rcases hz with rfl | rfl
    · simp only [if_true]
      rw [pk_us, b_and, bt_not _ q2, bt_one v hv v' q2]
      by_cases ev : v' = v
      · subst ev; rw [pk_us]; simp [b2i]; rfl
      · rw [pk_un (by omega), hC h' v' q1 q2]; simp [ev]
    · simp only [show ¬ ((1 : Int32) = 0) by decide, if_false]
      rw [pk_us, b_or, bt_one v hv v' q2]
      by_cases ev : v' = v
      · subst ev; rw [pk_us]; simp [b2i]; rfl
      · rw [pk_un (by omega), hC h' v' q1 q2]; simp [ev]
  · rw [pk_un (show 32 * h' + v' ≠ 32 * h + v by omega), hC h' v' q1 q2]
    rcases hz with rfl | rfl
    · simp only [if_true]; rw [pk_un e]
    · simp only [show ¬ ((1 : Int32) = 0) by decide, if_false]; rw [pk_un e]
theorem X53_choose {post : Int32 → Int32 → (Nat → Int32) → Int32 → (Nat → Int32) → (Nat → Int32) → (Nat → Int32) → Prop} {x y z : Int32} (hz : z = 0 ∨ z = 1) (H : ftR own th hd vl n) (hO : upOK up) (hE : clE up cl) (hC : chT ch ch2) (hF : ftF own cl ch fr has but kept)
    (hp : ∀ ch2' fr' has' but' kept', chT (fcChoose ch x y z) ch2' → ftF own cl (fcChoose ch x y z) fr' has' but' kept' → post (if rI x 8 && rI y 32 then nI (fcKept own cl (fcChoose ch x y z)) else -1) 0 ch2' fr' has' but' kept') : wpX53_choose post (nI n) th hd vl up ch2 fr has but kept x y z := by
  unfold wpX53_choose
  refine X53_isHead (fun h hh e => ⟨fun q => absurd q (by decide), fun _ => ?_⟩) (fun h => ⟨fun _ => ?_, fun q => absurd rfl q⟩)
  · refine X53_isValue (fun v hv e2 => ⟨fun q => absurd q (by decide), fun _ => ?_⟩) (fun h => ⟨fun _ => ?_, fun q => absurd rfl q⟩)
    · have r1 : (rI x 8 && rI y 32) = true := by rw [e, e2, rI_n hh (by decide), rI_n hv (by decide)]; rfl
      have e3 : (32 * x + y : Int32) = nI (32 * h + v) := by rw [e, e2, i32]
      rw [e3, nI_clamp (show 32 * h + v < 2 ^ 31 by omega)]
      refine ⟨vp_in_nI (by omega) (by decide), fun g eg => ?_⟩
      have hC' : chT (fcChoose ch x y z) g := by rw [eg]; exact chT_step hh hv e e2 hz hC
      simp only [r1, if_true] at hp
      exact X53_countKept H hO hE hC' (Or.inl rfl) (fun fr' a b c hF' => hp g fr' a b c hC' hF')
    · have r1 : (rI x 8 && rI y 32) = false := by rw [rI_f (x := y) (by decide) h, Bool.and_false]
      have ec : fcChoose ch x y z = ch := by simp only [fcChoose, r1]; rfl
      rw [ec, r1] at hp
      exact hp ch2 fr has but kept hC hF
  · have r1 : (rI x 8 && rI y 32) = false := by rw [rI_f (x := x) (by decide) h]; rfl
    have ec : fcChoose ch x y z = ch := by simp only [fcChoose, r1]; rfl
    rw [ec, r1] at hp
    exact hp ch2 fr has but kept hC hF
end FT
