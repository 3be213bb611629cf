/-! ProofChecker, the reference (X50): proofs -/
section
variable {ax tr ru ins ct pr st mk : Int → Int} {na nt n k root : Int}
/-- premises lie above -/
def pcPr (ct pr : Int → Int) (n : Int) : Prop := ∀ q, 1 ≤ q → q ≤ n → (0 ≤ ct q ∧ ct q ≤ 3) ∧ ∀ i, 0 ≤ i → i < ct q → 1 ≤ pr (3 * q + i) ∧ pr (3 * q + i) < q
theorem pcI.prm (h : pcI ru ins ct pr na nt n) : pcPr ct pr n := fun q a b => by
  have R := h.2.2.2 q a b
  have := pcT_b (ru q)
  exact ⟨by have := R.2.1; omega, R.2.2.1⟩
/-- how many rows a proof has -/
noncomputable def pcCt (ct pr : Int → Int) (root : Int) : Nat → Int
  | 0 => 0
  | d + 1 => pcCt ct pr root d + pif (pcMk ct pr root d (root - d)) 1 0
theorem pcCt_b : ∀ d : Nat, 0 ≤ pcCt ct pr root d ∧ pcCt ct pr root d ≤ d
  | 0 => ⟨Int.le_refl 0, Int.le_refl 0⟩
  | d + 1 => by
    have := pcCt_b d
    unfold pcCt
    by_cases h : pcMk ct pr root d (root - d)
    · rw [pif_t h]; omega
    · rw [pif_f h]; omega
theorem T50_mark {post : Int → (Int → Int) → Prop} (hn : n ≤ 300) (hP : pcPr ct pr n) (hr : 1 ≤ root ∧ root ≤ n) (hp : ∀ mk', (∀ r, 1 ≤ r → r ≤ n → (¬ mk' r = 0 ↔ pcNd ct pr root r)) → post (pcCt ct pr root root.toNat) mk') : wpX50_mark post ct pr n mk root := by
  unfold wpX50_mark
  refine zl2 (fun m x s => wX50_mark_2 _ root n m x s) (fun x s => 1 ≤ x ∧ ∀ r, 1 ≤ r → r < x → (¬ s r = 0 ↔ r = root)) (n + 1) ?_ ⟨by omega, fun r a b => by omega⟩ (by omega)
  rintro m x s ⟨hx, hs⟩ hN ih
  rw [wX50_mark_2]
  have go : ∀ v : Int, (¬ v = 0 ↔ x = root) → x < n + 1 → ∀ s2, s2 = updI s x v → (zR (x + 1) ∧ ∀ y : Int, y = x + 1 → wX50_mark_2 (fun f => ∃ fu : Nat, wX50_mark_36 (fun x2 f2 => post x2 f2) ct pr fu 0 root f) root n m y s2) := by
    intro v hv hlt s2 e
    refine ⟨by omega, fun _ e1 => ?_⟩
    subst e e1
    refine ih _ (by omega) ⟨by omega, fun r a b => ?_⟩
    by_cases h : r = x
    · subst h; rw [updI_s]; exact hv
    · rw [updI_n h]; exact hs r a (by omega)
  refine ⟨fun z => ?_, fun z => ⟨fun e => ⟨by omega, fun _ e2 => go 1 ⟨fun _ => e, fun _ => by decide⟩ (by omega) _ e2⟩, fun e => ⟨by omega, fun _ e2 => go 0 ⟨fun w => absurd rfl w, fun w => absurd w e⟩ (by omega) _ e2⟩⟩⟩
  have hpr : ∀ q, 1 ≤ q → q ≤ root → ∀ i, 0 ≤ i → i < ct q → 1 ≤ pr (3 * q + i) ∧ pr (3 * q + i) < q := fun q a b => (hP q a (by omega)).2
  refine wl3 (fun m c x s => wX50_mark_36 _ ct pr m c x s) (fun c x s => (0 ≤ x ∧ x ≤ root) ∧ c = pcCt ct pr root (root - x).toNat ∧ ∀ r, 1 ≤ r → r ≤ n → (¬ s r = 0 ↔ pcMk ct pr root (root - x).toNat r)) (fun c x s => x.toNat) ?_ 0 root s ⟨by omega, by rw [Int.sub_self]; rfl, fun r a b => by rw [Int.sub_self]; exact hs r a (by omega)⟩
  rintro c x s ⟨hx, hc, hs⟩ m ih
  rw [wX50_mark_36]
  refine ⟨fun z => ?_, fun z => ⟨by omega, fun e => ⟨by omega, fun _ e1 => ?_⟩, fun e => ⟨?_, fun _ e1 => ?_⟩⟩⟩
  · have : x = 0 := by omega
    subst this
    rw [hc, Int.sub_zero] at *
    exact hp s (fun r a b => by rw [hs r a b]; rfl)
  all_goals
    have ed : (root - (x + -1)).toNat = (root - x).toNat + 1 := by omega
    have ex : root - ((root - x).toNat : Int) = x := by omega
    have cb := pcCt_b (ct := ct) (pr := pr) (root := root) (root - x).toNat
  · have nm : ¬ pcMk ct pr root (root - x).toNat x := fun w => (hs x (by omega) (by omega)).mpr w e
    subst e1
    refine ih _ _ _ ⟨by omega, ?_, fun r a b => ?_⟩ (by omega)
    · rw [ed, pcCt, ex, pif_f nm, Int.add_zero]; exact hc
    · rw [ed, hs r a b]
      refine ⟨Or.inl, fun w => w.elim id (fun w => ?_)⟩
      rw [ex] at w; exact absurd w.1 nm
  · omega
  · have ym : pcMk ct pr root (root - x).toNat x := (hs x (by omega) (by omega)).mp e
    have hP' := hP x (by omega) (by omega)
    refine wl2 (fun m i s => wX50_mark_58 _ x ct pr m i s) (fun i s' => (0 ≤ i ∧ i ≤ ct x) ∧ ∀ r, 1 ≤ r → r ≤ n → (¬ s' r = 0 ↔ (pcMk ct pr root (root - x).toNat r ∨ ∃ j, (0 ≤ j ∧ j < i) ∧ pr (3 * x + j) = r))) (fun i s => (ct x - i).toNat) ?_ 0 s ⟨by omega, fun r a b => by rw [hs r a b]; exact ⟨Or.inl, fun w => w.elim id (fun ⟨j, hj, _⟩ => by omega)⟩⟩
    rintro i s' ⟨hi, hs'⟩ m2 ih2
    rw [wX50_mark_58]
    refine ⟨by omega, fun z2 => ⟨by omega, fun _ e2 => ?_⟩, fun z2 => ?_⟩
    · subst e1 e2
      have ei : i = ct x := by omega
      subst ei
      refine ih _ _ _ ⟨by omega, by rw [ed, pcCt, ex, pif_t ym, hc], fun r a b => ?_⟩ (by omega)
      have eM : pcMk ct pr root ((root - x).toNat + 1) r ↔ (pcMk ct pr root (root - x).toNat r ∨ (pcMk ct pr root (root - x).toNat (root - ((root - x).toNat : Int)) ∧ ∃ i, (0 ≤ i ∧ i < ct (root - ((root - x).toNat : Int))) ∧ pr (3 * (root - ((root - x).toNat : Int)) + i) = r)) := Iff.rfl
      rw [ed, hs' r a b, eM, ex]
      exact ⟨fun w => w.elim Or.inl (fun w => Or.inr ⟨ym, w⟩), fun w => w.elim Or.inl (fun w => Or.inr w.2)⟩
    · have pb := hP'.2 i hi.1 (by omega)
      refine ⟨by omega, by omega, fun _ e2 => ⟨by omega, fun _ e3 => ?_⟩⟩
      subst e2 e3
      refine ih2 _ _ ⟨by omega, fun r a b => ?_⟩ (by omega)
      by_cases h : r = pr (3 * x + i)
      · subst h; rw [updI_s]; exact ⟨fun _ => Or.inr ⟨i, by omega, rfl⟩, fun _ => by decide⟩
      · rw [updI_n h, hs' r a b]
        refine ⟨fun w => w.elim Or.inl (fun ⟨j, hj, e⟩ => Or.inr ⟨j, by omega, e⟩), fun w => w.elim Or.inl (fun ⟨j, hj, e⟩ => Or.inr ⟨j, ?_, e⟩)⟩
        by_cases hji : j = i
        · subst hji; exact absurd e.symm h
        · omega
/-- the least row of a proof that is not right though its premises are -/
noncomputable def pcBr (ct pr : Int → Int) (S : Int → Int → Int) (root : Int) : Nat → Int
  | 0 => 0
  | d + 1 => pif (pcNd ct pr root (root - d) ∧ S (root - d) 0 = 0 ∧ ∀ i, 0 ≤ i → i < ct (root - d) → ¬ S (pr (3 * (root - d) + i)) 0 = 0) (root - d) (pcBr ct pr S root d)
theorem T50_c58 {K : Int → Prop} {v : Int} {S : Int → Int → Int} (H : pcPm st pr ct S k) (hv : v = 0 ∨ v = 1) (h1 : (v = 1 ∧ ∀ i, 0 ≤ i → i < ct k → ¬ S (pr (3 * k + i)) 0 = 0) → K 1) (h0 : ¬ (v = 1 ∧ ∀ i, 0 ≤ i → i < ct k → ¬ S (pr (3 * k + i)) 0 = 0) → K 0) : ∃ fu, wX50_check_58 K k ct pr st fu v 0 := by
  have e : ∀ (m : Nat) (x i : Int), wX50_check_58 K k ct pr st m x i = wX50_work_43 K k ct pr st m x i := by
    intro m
    induction m with
    | zero => intro x i; rfl
    | succ m ih =>
      intro x i
      rw [wX50_check_58, wX50_work_43]
      simp only [ih]
  obtain ⟨fu, h⟩ := T50_w43 H hv h1 h0
  exact ⟨fu, by rw [e]; exact h⟩
theorem pcW.pm {r : Int} (hI : pcI ru ins ct pr na nt n) (W : pcW ax tr ru ins ct pr st r) (h0 : 1 ≤ k) (h1 : k ≤ r) (h2 : r ≤ n) : pcPm st pr ct (pcS ax tr ru ins ct pr) k := by
  have P := hI.prm k h0 (by omega)
  have := hI.1
  exact ⟨by omega, by omega, fun i a b => ⟨P.2 i a b, fun j j0 j1 => W _ (P.2 i a b).1 (by have := P.2 i a b; omega) j j0 j1⟩⟩
noncomputable def pcChk (ct pr : Int → Int) (S : Int → Int → Int) (n root : Int) : Int := if 1 ≤ root ∧ root ≤ n then (if S root 0 = 0 then 0 else 1) else -1
noncomputable def pcChB (ct pr : Int → Int) (S : Int → Int → Int) (n root br : Int) : Int := if 1 ≤ root ∧ root ≤ n then pcBr ct pr S root root.toNat else br
theorem T50_check {post : Int → (Int → Int) → (Int → Int) → Int → Prop} {br : Int} (hI : pcI ru ins ct pr na nt n) (hp : ∀ st' mk', post (pcChk ct pr (pcS ax tr ru ins ct pr) n root) st' mk' (pcChB ct pr (pcS ax tr ru ins ct pr) n root br)) : wpX50_check post ax tr ru ins ct pr n st mk br root := by
  have hn := hI.1
  unfold wpX50_check
  unfold pcChk pcChB at hp
  refine T50_isRowB (fun a b => ?_) (fun z => by rw [if_neg z, if_neg z] at hp; exact hp _ _)
  have ab : 1 ≤ root ∧ root ≤ n := ⟨a, b⟩
  rw [if_pos ab, if_pos ab] at hp
  refine T50_mark hn.2 hI.prm ⟨a, b⟩ (fun mk1 hm => T50_work hI ⟨by omega, b⟩ (fun st1 W => ?_))
  refine wl2 (fun m x bk => wX50_check_28 _ ct pr st1 mk1 m x bk) (fun x bk => (0 ≤ x ∧ x ≤ root) ∧ bk = pcBr ct pr (pcS ax tr ru ins ct pr) root (root - x).toNat) (fun x bk => x.toNat) ?_ root 0 ⟨by omega, by rw [Int.sub_self]; rfl⟩
  rintro x bk ⟨hx, hb⟩ m ih
  rw [wX50_check_28]
  refine ⟨fun z => ?_, fun z => ⟨by omega, fun e => ?_, fun e => ?_⟩⟩
  · have : x = 0 := by omega
    subst this
    rw [Int.sub_zero] at hb
    subst hb
    unfold wpX50_kindOf
    have := W root a (Int.le_refl _) 0 (by decide) (by decide)
    rw [Int.add_zero] at this
    refine ⟨by omega, ?_⟩
    rw [this]
    exact ⟨fun e => by rw [if_pos e] at hp; exact hp _ _, fun e => by rw [if_neg e] at hp; exact hp _ _⟩
  all_goals
    have H := pcW.pm hI W (k := x) (by omega) (by omega) b
    have ed : (root - (x + -1)).toNat = (root - x).toNat + 1 := by omega
    have ex : root - ((root - x).toNat : Int) = x := by omega
    have kx := W x (by omega) (by omega) 0 (by decide) (by decide)
    rw [Int.add_zero] at kx
    have mx := hm x (by omega) (by omega)
    have no : ¬ (pcNd ct pr root x ∧ pcS ax tr ru ins ct pr x 0 = 0 ∧ ∀ i, 0 ≤ i → i < ct x → ¬ pcS ax tr ru ins ct pr (pr (3 * x + i)) 0 = 0) → (zR (x + (-1)) ∧ ∀ y : Int, y = x + (-1) → wX50_check_28 (fun f => wpX50_kindOf (fun r_43 => (r_43 = 0 → post 0 st1 mk1 f) ∧ (¬ r_43 = 0 → post 1 st1 mk1 f)) st1 root) ct pr st1 mk1 m y bk) := by
      intro w
      refine ⟨by omega, fun _ e1 => ?_⟩
      subst e1
      refine ih _ _ ⟨by omega, ?_⟩ (by omega)
      rw [ed, pcBr, ex, pif_f w]; exact hb
    have yes : (pcNd ct pr root x ∧ pcS ax tr ru ins ct pr x 0 = 0 ∧ ∀ i, 0 ≤ i → i < ct x → ¬ pcS ax tr ru ins ct pr (pr (3 * x + i)) 0 = 0) → (zR (x + (-1)) ∧ ∀ y : Int, y = x + (-1) → wX50_check_28 (fun f => wpX50_kindOf (fun r_43 => (r_43 = 0 → post 0 st1 mk1 f) ∧ (¬ r_43 = 0 → post 1 st1 mk1 f)) st1 root) ct pr st1 mk1 m y x) := by
      intro w
      refine ⟨by omega, fun _ e1 => ?_⟩
      subst e1
      refine ih _ _ ⟨by omega, ?_⟩ (by omega)
      rw [ed, pcBr, ex, pif_t w]
  · refine T50_c58 H (Or.inl rfl) (fun w => absurd w.1 (by decide)) (fun w => ⟨fun _ => no (fun y => mx.mpr y.1 e), fun q => absurd rfl q⟩)
  · unfold wpX50_kindOf
    refine ⟨by omega, ?_⟩
    rw [kx]
    refine ⟨fun e2 => T50_c58 H (Or.inr rfl) (fun w => ⟨fun q => absurd q (by decide), fun _ => yes ⟨mx.mp e, e2, w.2⟩⟩) (fun w => ⟨fun _ => no (fun y => w ⟨rfl, y.2.2⟩), fun q => absurd rfl q⟩), fun e2 => T50_c58 H (Or.inl rfl) (fun w => absurd w.1 (by decide)) (fun w => ⟨fun _ => no (fun y => e2 y.2.1), fun q => absurd rfl q⟩)⟩
noncomputable def pcRows (ct pr : Int → Int) (n root : Int) : Int := if 1 ≤ root ∧ root ≤ n then pcCt ct pr root root.toNat else -1
theorem T50_rows {post : Int → (Int → Int) → Prop} (hI : pcI ru ins ct pr na nt n) (hp : ∀ mk', post (pcRows ct pr n root) mk') : wpX50_rows post ct pr n mk root := by
  unfold wpX50_rows
  unfold pcRows at hp
  refine T50_isRowB (fun a b => ?_) (fun z => by rw [if_neg z] at hp; exact hp _)
  rw [if_pos ⟨a, b⟩] at hp
  exact T50_mark hI.1.2 hI.prm ⟨a, b⟩ (fun mk' _ => hp mk')
/-- how many rows a proof would have if none was used twice -/
def pcSm (f : Int → Int) (pr : Int → Int) (k : Int) : Nat → Int
  | 0 => 1
  | i + 1 => pcSm f pr k i + f (pr (3 * k + i))
def pcZt (ct pr : Int → Int) : Nat → Int → Int
  | 0 => fun _ => 0
  | k + 1 => updI (pcZt ct pr k) (k + 1) (if pcSm (pcZt ct pr k) pr (k + 1) (ct (k + 1)).toNat ≤ 1000000000 then pcSm (pcZt ct pr k) pr (k + 1) (ct (k + 1)).toNat else 1000000000)
def pcSz (ct pr : Int → Int) (r : Int) : Int := pcZt ct pr r.toNat r
theorem pcZt_S : ∀ {k : Nat} {r : Int}, 1 ≤ r → r ≤ k → pcZt ct pr k r = pcSz ct pr r
  | 0, r, h0, h => by omega
  | k + 1, r, h0, h => by
    by_cases hr : r = ((k + 1 : Nat) : Int)
    · subst hr; unfold pcSz; rw [Int.toNat_natCast]
    · rw [pcZt, updI_n (by omega)]; exact pcZt_S h0 (by omega)
theorem pcSm_c {f f' : Int → Int} {k : Int} : ∀ {i : Nat}, (∀ j : Int, 0 ≤ j → j < i → f (pr (3 * k + j)) = f' (pr (3 * k + j))) → pcSm f pr k i = pcSm f' pr k i
  | 0, _ => rfl
  | i + 1, h => by unfold pcSm; rw [pcSm_c (i := i) (fun j a b => h j a (by omega)), h i (by omega) (by omega)]
theorem pcSz_eq (h : 1 ≤ k) (hP : ∀ i, 0 ≤ i → i < ct k → 1 ≤ pr (3 * k + i) ∧ pr (3 * k + i) < k) : pcSz ct pr k = if pcSm (pcSz ct pr) pr k (ct k).toNat ≤ 1000000000 then pcSm (pcSz ct pr) pr k (ct k).toNat else 1000000000 := by
  obtain ⟨m, em⟩ : ∃ m : Nat, k = m + 1 := ⟨k.toNat - 1, by omega⟩
  subst em
  have e : pcSm (pcZt ct pr m) pr ((m : Int) + 1) (ct ((m : Int) + 1)).toNat = pcSm (pcSz ct pr) pr ((m : Int) + 1) (ct ((m : Int) + 1)).toNat := pcSm_c (fun j a b => pcZt_S (hP j a (by omega)).1 (by have := hP j a (by omega); omega))
  conv => lhs; unfold pcSz
  rw [show ((m : Int) + 1).toNat = m + 1 by omega, pcZt, updI_s, e]
theorem pcSm_b {f : Int → Int} {k : Int} : ∀ {i : Nat}, (∀ j : Int, 0 ≤ j → j < i → 1 ≤ f (pr (3 * k + j)) ∧ f (pr (3 * k + j)) ≤ 1000000000) → 1 ≤ pcSm f pr k i ∧ pcSm f pr k i ≤ 1 + 1000000000 * i
  | 0, _ => by unfold pcSm; omega
  | i + 1, h => by
    have := pcSm_b (i := i) (fun j a b => h j a (by omega))
    have := h i (by omega) (by omega)
    unfold pcSm; omega
theorem pcSz_b (hP : pcPr ct pr n) : ∀ (m : Nat) {k : Int}, 1 ≤ k → k ≤ m → k ≤ n → 1 ≤ pcSz ct pr k ∧ pcSz ct pr k ≤ 1000000000
  | 0, k, h0, h, _ => by omega
  | m + 1, k, h0, h, hk => by
    have P := hP k h0 hk
    rw [pcSz_eq h0 P.2]
    have := pcSm_b (f := pcSz ct pr) (pr := pr) (k := k) (i := (ct k).toNat) (fun j a b => pcSz_b hP m (P.2 j a (by omega)).1 (by have := P.2 j a (by omega); omega) (by have := P.2 j a (by omega); omega))
    split <;> omega
noncomputable def pcSize (ct pr : Int → Int) (n root : Int) : Int := if 1 ≤ root ∧ root ≤ n then pcSz ct pr root else -1
theorem T50_size {post : Int → (Int → Int) → Prop} {sz : Int → Int} (hI : pcI ru ins ct pr na nt n) (hp : ∀ sz', post (pcSize ct pr n root) sz') : wpX50_size post ct pr n sz root := by
  have hn := hI.1
  have hP := hI.prm
  unfold wpX50_size
  unfold pcSize at hp
  refine T50_isRowB (fun a b => ?_) (fun z => by rw [if_neg z] at hp; exact hp _)
  rw [if_pos ⟨a, b⟩] at hp
  refine wl2 (fun m x s => wX50_size_12 _ root ct pr m x s) (fun x s => (1 ≤ x ∧ x ≤ root + 1) ∧ ∀ r, 1 ≤ r → r < x → s r = pcSz ct pr r) (fun x s => (root + 1 - x).toNat) ?_ 1 sz ⟨by omega, fun r c d => by omega⟩
  rintro x s ⟨hx, hs⟩ m ih
  rw [wX50_size_12]
  refine ⟨fun z => ⟨by omega, by rw [hs root a (by omega)]; exact hp s⟩, fun z => ?_⟩
  have P := hP x hx.1 (by omega)
  have sb : ∀ i : Nat, (i : Int) ≤ ct x → 1 ≤ pcSm (pcSz ct pr) pr x i ∧ pcSm (pcSz ct pr) pr x i ≤ 1 + 1000000000 * i := fun i hi => pcSm_b (fun j c d => pcSz_b hP 300 (P.2 j c (by omega)).1 (by have := P.2 j c (by omega); omega) (by have := P.2 j c (by omega); omega))
  refine wl2 (fun m v i => wX50_size_22 _ x ct pr s m v i) (fun v i => (0 ≤ i ∧ i ≤ ct x) ∧ v = pcSm (pcSz ct pr) pr x i.toNat) (fun v i => (ct x - i).toNat) ?_ 1 0 ⟨by omega, rfl⟩
  rintro v i ⟨hi, hv⟩ m2 ih2
  have b1 := sb i.toNat (by omega)
  rw [wX50_size_22]
  have fin : ∀ w, w = pcSz ct pr x → ∀ s2, s2 = updI s x w → (zR (x + 1) ∧ ∀ y : Int, y = x + 1 → wX50_size_12 (fun f => (0 ≤ root ∧ root < 301) ∧ post (f root) f) root ct pr m y s2) := by
    intro w hw s2 e
    refine ⟨by omega, fun _ e1 => ?_⟩
    subst e e1
    refine ih _ _ ⟨by omega, fun r c d => ?_⟩ (by omega)
    by_cases h : r = x
    · subst h; rw [updI_s]; exact hw
    · rw [updI_n h]; exact hs r c (by omega)
  refine ⟨by omega, fun z2 => ?_, fun z2 => ?_⟩
  · have ei : i = ct x := by omega
    subst ei
    have eq := pcSz_eq hx.1 P.2
    rw [← hv] at eq
    refine ⟨fun c => ⟨by omega, fun _ e => ⟨by omega, fun _ e2 => fin _ (by rw [eq, if_pos c]; exact e) _ e2⟩⟩, fun c => ⟨by omega, fun _ e2 => fin _ (by rw [eq, if_neg c]) _ e2⟩⟩
  · have pb := P.2 i hi.1 (by omega)
    have nb := sb (i.toNat + 1) (by omega)
    rw [pcSm, show ((i.toNat : Nat) : Int) = i by omega] at nb
    have es := hs (pr (3 * x + i)) pb.1 (by omega)
    rw [es]
    refine ⟨by omega, by omega, by omega, fun _ e => ⟨by omega, fun _ e2 => ?_⟩⟩
    subst e e2
    exact ih2 _ _ ⟨by omega, by rw [show (i + 1).toNat = i.toNat + 1 by omega, pcSm, show ((i.toNat : Nat) : Int) = i by omega, hv]⟩ (by omega)
end
