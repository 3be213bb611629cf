/-! FacetCounts (X31): what is told; choose -/
theorem i0 (n : Nat) : nI n + 0 = nI n := by grind
def fcKept (own cl ch : Nat → Int32) : Nat := cnt (fun t => decide (nfail own cl ch t = 0)) 40
theorem X31_kept {post : Int32 → Prop} {own cl ch fl cn : Nat → Int32} (hI : fcI own cl ch fl cn) (hp : post (nI (fcKept own cl ch))) : wpX31_kept post fl := by
  unfold wpX31_kept
  refine nloop (fun n (s : Int32 × Int32) => wX31_kept_4 (fun x => post x) fl n s.1 s.2) (fun k => (nI (cnt (fun t => decide (nfail own cl ch t = 0)) k), nI k)) 40 (Nat.zero_le 40) (fun n k _ hk ih => ?_) (fun n => ?_)
  · show wX31_kept_4 _ fl (n + 1) (nI _) (nI k)
    rw [wX31_kept_4]
    dsimp only
    have hle := nfail_le own cl ch k
    rw [nI_clamp (by omega), hI.1 k hk]
    refine ⟨fun d => absurd d (nI_ge hk (by decide)), fun _ => ⟨vp_in_nI hk (by decide), fun d x ex y ey => ?_, fun d x ex y ey => ?_⟩⟩
    · have d := (nI_eq (a := nfail own cl ch k) (b := 0) (by omega) (by omega)).mp d
      rw [ex, ey, nI_1, nI_1]
      simpa only [cnt, d, decide_true, if_true] using ih
    · have d : ¬ nfail own cl ch k = 0 := fun q => d (by rw [q]; rfl)
      rw [ex, ey, i0, nI_1]
      have e : cnt (fun t => decide (nfail own cl ch t = 0)) (k + 1) = cnt (fun t => decide (nfail own cl ch t = 0)) k := by simp [cnt, d]
      dsimp only at ih
      rw [e] at ih
      exact ih
  · show wX31_kept_4 _ fl (n + 1) (nI _) (nI 40)
    rw [wX31_kept_4]
    exact ⟨fun _ => hp, fun d => absurd (Int32.le_refl _) d⟩
def fcIsKept (own cl ch : Nat → Int32) (x : Int32) : Int32 := if rI x 40 then (if nfail own cl ch x.toNatClampNeg = 0 then 1 else 0) else -1
theorem X31_isKept {post : Int32 → Prop} {own cl ch fl cn : Nat → Int32} {x : Int32} (hI : fcI own cl ch fl cn) (hp : post (fcIsKept own cl ch x)) : wpX31_isKept post fl x := by
  unfold wpX31_isKept
  refine X31_isInE 40 (by decide) (fun v hv e1 => ⟨fun c => absurd c (by decide), fun _ => ?_⟩) (fun h => ⟨fun _ => ?_, fun c => absurd rfl c⟩)
  · subst e1
    have hle := nfail_le own cl ch v
    rw [nI_clamp (by omega), hI.1 v hv]
    unfold fcIsKept at hp
    rw [rI_n hv (by decide), nI_clamp (by omega)] at hp
    simp only [if_true] at hp
    refine ⟨vp_in_nI hv (by decide), fun d => ?_, fun d => ?_⟩
    · have d := (nI_eq (a := nfail own cl ch v) (b := 0) (by omega) (by omega)).mp d
      simpa only [d, if_true] using hp
    · have d : ¬ nfail own cl ch v = 0 := fun q => d (by rw [q]; rfl)
      simpa only [d, if_false] using hp
  · unfold fcIsKept at hp
    rw [rI_f (by decide) h] at hp
    exact hp
def fcCount (own cl ch : Nat → Int32) (h v : Nat) : Nat := cnt (fun t => cbt own cl ch t h v) 40
theorem fcI_cn {own cl ch fl cn : Nat → Int32} (hI : fcI own cl ch fl cn) {h v : Nat} (hh : h < 8) (hv : v < 32) : cn (32 * h + v) = nI (fcCount own cl ch h v) := by
  rw [hI.2 _ (by omega)]
  congr 1
  exact cnt_congr (fun t _ => cbj_at _ _ _ _ _ _ hv)
def fcFacet (own cl ch : Nat → Int32) (x y : Int32) : Int32 := if rI x 8 && rI y 32 then nI (fcCount own cl ch x.toNatClampNeg y.toNatClampNeg) else -1
theorem X31_facet {post : Int32 → Prop} {own cl ch fl cn : Nat → Int32} {x y : Int32} (hI : fcI own cl ch fl cn) (hp : post (fcFacet own cl ch x y)) : wpX31_facet post cn x y := by
  unfold wpX31_facet
  refine X31_isInE 8 (by decide) (fun v hv e1 => ⟨fun c => absurd c (by decide), fun _ => ?_⟩) (fun h => ⟨fun _ => ?_, fun c => absurd rfl c⟩)
  · refine X31_isInE 32 (by decide) (fun v2 hv2 e2 => ⟨fun c => absurd c (by decide), fun _ => ?_⟩) (fun h => ⟨fun _ => ?_, fun c => absurd rfl c⟩)
    · subst e1; subst e2
      rw [i32, nI_clamp (by omega), fcI_cn hI hv hv2]
      unfold fcFacet at hp
      rw [rI_n hv (by decide), rI_n hv2 (by decide), nI_clamp (by omega), nI_clamp (by omega)] at hp
      exact ⟨vp_in_nI (by omega) (by omega), hp⟩
    · unfold fcFacet at hp
      rw [rI_f (x := y) (by decide) h, Bool.and_false] at hp
      exact hp
  · unfold fcFacet at hp
    rw [rI_f (by decide) h] at hp
    exact hp
def fcChoose (ch : Nat → Int32) (x y z : Int32) : Nat → Int32 :=
  if rI x 8 && rI y 32 then (if z = 0 then upd ch x.toNatClampNeg (ch x.toNatClampNeg &&& (((1 : Int32) <<< (y &&& 31)) ^^^ (-1))) else upd ch x.toNatClampNeg (ch x.toNatClampNeg ||| ((1 : Int32) <<< (y &&& 31)))) else ch
theorem X31_choose {post : Int32 → (Nat → Int32) → (Nat → Int32) → (Nat → Int32) → Prop} {own cl ch fl cn : Nat → Int32} {x y z : Int32} (hI : fcI own cl ch fl cn)
    (hp : ∀ fl' cn', fcI own cl (fcChoose ch x y z) fl' cn' → post (if rI x 8 && rI y 32 then nI (fcKept own cl (fcChoose ch x y z)) else -1) (fcChoose ch x y z) fl' cn') : wpX31_choose post own cl ch fl cn x y z := by
  unfold wpX31_choose
  refine X31_isInE 8 (by decide) (fun v hv e1 => ⟨fun c => absurd c (by decide), fun _ => ?_⟩) (fun h => ⟨fun _ => ?_, fun c => absurd rfl c⟩)
  · refine X31_isInE 32 (by decide) (fun v2 hv2 e2 => ⟨fun c => absurd c (by decide), fun _ => ?_⟩) (fun h => ⟨fun _ => ?_, fun c => absurd rfl c⟩)
    · have r1 : (rI x 8 && rI y 32) = true := by rw [e1, e2, rI_n hv (by decide), rI_n hv2 (by decide)]; rfl
      refine X31_weighAllM hI (fun cn1 h0 => ⟨fun c => ?_, fun c => ?_⟩)
      · simp only [fcChoose, r1, c, if_true] at hp
        refine ⟨by rw [e1]; exact vp_in_nI hv (by decide), fun w ew => ⟨by rw [e1]; exact vp_in_nI hv (by decide), fun g eg => ?_⟩⟩
        subst ew; subst eg
        exact X31_weighAllP h0 (fun fl' cn' hI' => X31_kept hI' (hp fl' cn' hI'))
      · simp only [fcChoose, r1, c, if_true, if_false] at hp
        refine ⟨by rw [e1]; exact vp_in_nI hv (by decide), fun w ew => ⟨by rw [e1]; exact vp_in_nI hv (by decide), fun g eg => ?_⟩⟩
        subst ew; subst eg
        exact X31_weighAllP h0 (fun fl' cn' hI' => X31_kept hI' (hp fl' cn' hI'))
    · have r1 : (rI x 8 && rI y 32) = false := by rw [rI_f (x := y) (by decide) h, Bool.and_false]
      simp only [fcChoose, r1] at hp
      exact hp fl cn hI
  · have r1 : (rI x 8 && rI y 32) = false := by rw [rI_f (x := x) (by decide) h]; rfl
    simp only [fcChoose, r1] at hp
    exact hp fl cn hI
/-- changed: how many counts differ from those seen; they are seen then -/
theorem X31_changed {post : Int32 → (Nat → Int32) → Prop} {cn sn : Nat → Int32} (hp : post (nI (cnt (fun j => !decide (cn j = sn j)) 256)) (fun j => if j < 256 then cn j else sn j)) : wpX31_changed post cn sn := by
  unfold wpX31_changed
  have q : ∃ fu, wX31_changed_4 (fun a b => post a b) cn fu (nI (cnt (fun j => !decide (cn j = sn j)) 0)) (nI 0) (fun j => if j < 0 then cn j else sn j) := by
    refine nloop (fun n (s : Int32 × Int32 × (Nat → Int32)) => wX31_changed_4 (fun a b => post a b) cn n s.1 s.2.1 s.2.2) (fun k => (nI (cnt (fun j => !decide (cn j = sn j)) k), nI k, fun j => if j < k then cn j else sn j)) 256 (Nat.zero_le 256) (fun n k _ hk ih => ?_) (fun n => ?_)
    · show wX31_changed_4 _ cn (n + 1) (nI _) (nI k) _
      rw [wX31_changed_4]
      dsimp only at ih ⊢
      have es : upd (fun j => if j < k then cn j else sn j) k (cn k) = (fun j => if j < k + 1 then cn j else sn j) := by
        funext j
        by_cases hj : j = k
        · subst hj; rw [pk_us]; simp
        · rw [pk_un hj]
          have : (j < k + 1) = (j < k) := by simp; omega
          simp only [this]
      rw [nI_clamp (by omega)]
      simp only [Nat.lt_irrefl, if_false]
      have hv := vp_in_nI (n := k) (N := 256) hk (by decide)
      refine ⟨fun d => absurd d (nI_ge hk (by decide)), fun _ => ⟨hv, hv, fun d x ex => ⟨hv, fun v ev => ⟨hv, fun f ef y ey => ?_⟩⟩, fun d x ex => ⟨hv, fun v ev => ⟨hv, fun f ef y ey => ?_⟩⟩⟩⟩
      · rw [ef, ev, es, ey, ex, i0, nI_1]
        have e : cnt (fun j => !decide (cn j = sn j)) (k + 1) = cnt (fun j => !decide (cn j = sn j)) k := by simp [cnt, d]
        rw [e] at ih
        exact ih
      · rw [ef, ev, es, ey, ex, nI_1, nI_1]
        have e : cnt (fun j => !decide (cn j = sn j)) (k + 1) = cnt (fun j => !decide (cn j = sn j)) k + 1 := by simp [cnt, d]
        rw [e] at ih
        exact ih
    · show wX31_changed_4 _ cn (n + 1) (nI _) (nI 256) _
      rw [wX31_changed_4]
      exact ⟨fun _ => hp, fun d => absurd (Int32.le_refl _) d⟩
  have e2 : (fun j => if j < 0 then cn j else sn j) = sn := by funext j; simp
  rw [e2] at q
  exact q
/-- the numbers from .. to as bits -/
def spanB (a b : Int32) : Nat → Int32
  | 0 => 0
  | k + 1 => if decide (a ≤ nI k) && decide (nI k ≤ b) then spanB a b k ||| ((1 : Int32) <<< (nI k &&& 31)) else spanB a b k
theorem spanB_bt (a b : Int32) {v : Nat} (hv : v < 32) : ∀ n, n ≤ 32 → bt (spanB a b n) v = (decide (v < n) && (decide (a ≤ nI v) && decide (nI v ≤ b)))
  | 0, _ => by simp [spanB, b_0]
  | n + 1, h => by
    have ih := spanB_bt a b hv n (by omega)
    unfold spanB
    by_cases e : v = n
    · subst e
      split
      · rename_i c
        rw [b_or, bt_one v (by omega) v hv, c]; simp
      · rename_i c
        rw [ih]; simp at c ⊢; exact c
    · have e2 : decide (v < n + 1) = decide (v < n) := by simp; omega
      rw [e2, ← ih]
      split
      · rw [b_or, bt_one n (by omega) v hv]; simp [e]
      · rfl
theorem X31_r17 {K : Int32 → Prop} {a b : Int32} (hp : K (spanB a b 32)) : ∃ fu, wX31_range_17 K a b fu 0 0 := by
  refine nloop (fun n (s : Int32 × Int32) => wX31_range_17 K a b n s.1 s.2) (fun k => (spanB a b k, nI k)) 32 (Nat.zero_le 32) (fun n k _ hk ih => ?_) (fun n => ?_)
  · show wX31_range_17 K a b (n + 1) (spanB a b k) (nI k)
    rw [wX31_range_17]
    dsimp only at ih ⊢
    unfold spanB at ih
    refine ⟨fun d => absurd d (nI_ge hk (by decide)), fun _ => ⟨fun d x ex => ?_, fun d => ⟨fun f x ex => ?_, fun f y ey x ex => ?_⟩⟩⟩
    · have : decide (a ≤ nI k) = false := by simp; grind
      rw [this] at ih
      rw [ex, nI_1]; exact ih
    · have : decide (nI k ≤ b) = false := by simp; grind
      rw [this, Bool.and_false] at ih
      rw [ex, nI_1]; exact ih
    · have h1 : decide (a ≤ nI k) = true := by simp; grind
      have h2 : decide (nI k ≤ b) = true := by simp; grind
      rw [h1, h2] at ih
      rw [ex, ey, nI_1]; exact ih
  · show wX31_range_17 K a b (n + 1) (spanB a b 32) (nI 32)
    rw [wX31_range_17]
    exact ⟨fun _ => hp, fun d => absurd (Int32.le_refl _) d⟩
def fcRange (own cl ch : Nat → Int32) (x a b : Int32) : Int32 := if rI x 8 then nI (cnt (fun t => fbut own cl ch t x.toNatClampNeg && !decide (hasC own cl t x.toNatClampNeg &&& spanB a b 32 = 0)) 40) else -1
theorem X31_range {post : Int32 → Prop} {own cl ch fl cn : Nat → Int32} {x a b : Int32} (hI : fcI own cl ch fl cn) (hp : post (fcRange own cl ch x a b)) : wpX31_range post own cl ch fl x a b := by
  unfold wpX31_range
  refine X31_isInE 8 (by decide) (fun h hh e1 => ⟨fun c => absurd c (by decide), fun _ => X31_r17 ?_⟩) (fun h => ⟨fun _ => ?_, fun c => absurd rfl c⟩)
  · subst e1
    unfold fcRange at hp
    rw [rI_n hh (by decide), nI_clamp (by omega)] at hp
    refine nloop (fun n (s : Int32 × Int32) => wX31_range_57 (fun x => post x) (nI h) (spanB a b 32) own cl ch fl n s.1 s.2) (fun k => (nI (cnt (fun t => fbut own cl ch t h && !decide (hasC own cl t h &&& spanB a b 32 = 0)) k), nI k)) 40 (Nat.zero_le 40) (fun n k _ hk ih => ?_) (fun n => ?_)
    · show wX31_range_57 _ (nI h) (spanB a b 32) own cl ch fl (n + 1) (nI _) (nI k)
      rw [wX31_range_57]
      dsimp only at ih ⊢
      refine ⟨fun d => absurd d (nI_ge hk (by decide)), fun _ => X31_isKeptBut hk hh (hI.1 k hk) ⟨fun d x ex y ey => ?_, fun d => X31_has hk hh ⟨fun f x ex y ey => ?_, fun f x ex y ey => ?_⟩⟩⟩
      · have hb : fbut own cl ch k h = false := by
          cases e : fbut own cl ch k h with
          | false => rfl
          | true => rw [e] at d; simp at d
        rw [ex, ey, i0, nI_1]
        simpa only [cnt, hb, Bool.false_and, Bool.false_eq_true, if_false, Nat.add_zero] using ih
      · rw [ex, ey, i0, nI_1]
        simpa only [cnt, f, decide_true, Bool.not_true, Bool.and_false, Bool.false_eq_true, if_false, Nat.add_zero] using ih
      · have hb : fbut own cl ch k h = true := by
          cases e : fbut own cl ch k h with
          | true => rfl
          | false => rw [e] at d; simp at d
        rw [ex, ey, nI_1, nI_1]
        simpa only [cnt, hb, f, decide_false, Bool.not_false, Bool.and_true, if_true] using ih
    · show wX31_range_57 _ (nI h) (spanB a b 32) own cl ch fl (n + 1) (nI _) (nI 40)
      rw [wX31_range_57]
      exact ⟨fun _ => hp, fun d => absurd (Int32.le_refl _) d⟩
  · unfold fcRange at hp
    rw [rI_f (by decide) h] at hp
    exact hp
