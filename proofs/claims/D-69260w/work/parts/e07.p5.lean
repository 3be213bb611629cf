/-! ProofChecker, the reference (X50): rows that are dropped; what is concluded -/
section
variable {ax tr ru ins ct pr st mk : Int → Int} {na nt n k root : Int}
/-- how many rows up to r are needed -/
noncomputable def pcC (ct pr : Int → Int) (root r : Int) : Int := cntI (fun q => pcNd ct pr root (q + 1)) r.toNat
theorem pcC_t {r : Int} (h : 1 ≤ r) (w : pcNd ct pr root r) : pcC ct pr root r = pcC ct pr root (r - 1) + 1 := by
  unfold pcC
  have := cntI_t (p := fun q => pcNd ct pr root (q + 1)) (n := r - 1) (by omega) (by show pcNd ct pr root (r - 1 + 1); rw [show r - 1 + 1 = r by omega]; exact w)
  rw [show r - 1 + 1 = r by omega] at this; exact this
theorem pcC_f {r : Int} (h : 1 ≤ r) (w : ¬ pcNd ct pr root r) : pcC ct pr root r = pcC ct pr root (r - 1) := by
  unfold pcC
  have := cntI_f (p := fun q => pcNd ct pr root (q + 1)) (n := r - 1) (by omega) (by show ¬ pcNd ct pr root (r - 1 + 1); rw [show r - 1 + 1 = r by omega]; exact w)
  rw [show r - 1 + 1 = r by omega] at this; exact this
theorem pcC_b (r : Int) (h : 0 ≤ r) : 0 ≤ pcC ct pr root r ∧ pcC ct pr root r ≤ r := by
  have := cntI_b (fun q => pcNd ct pr root (q + 1)) r.toNat
  unfold pcC; omega
theorem pcC_m : ∀ (d : Nat) {r : Int}, 0 ≤ r → pcC ct pr root r ≤ pcC ct pr root (r + d)
  | 0, r, _ => by rw [show r + ((0 : Nat) : Int) = r by omega]; exact Int.le_refl _
  | d + 1, r, h => by
    have ih := pcC_m d h
    by_cases w : pcNd ct pr root (r + (d + 1 : Nat))
    · have := pcC_t (r := r + (d + 1 : Nat)) (by omega) w
      rw [show r + ((d + 1 : Nat) : Int) - 1 = r + d by omega] at this
      omega
    · have := pcC_f (r := r + (d + 1 : Nat)) (by omega) w
      rw [show r + ((d + 1 : Nat) : Int) - 1 = r + d by omega] at this
      omega
theorem pcC_lt {r s : Int} (h0 : 0 ≤ r) (h : r < s) (w : pcNd ct pr root s) : pcC ct pr root r < pcC ct pr root s := by
  have a := pcC_t (by omega) w
  have b := pcC_m (ct := ct) (pr := pr) (root := root) (s - 1 - r).toNat h0
  rw [show r + ((s - 1 - r).toNat : Int) = s - 1 by omega] at b
  omega
theorem pcMk_d (hP : pcPr ct pr n) (hr : 1 ≤ root ∧ root ≤ n) {d : Nat} (hd : (d : Int) < root) : pcMk ct pr root d (root - d) ↔ pcNd ct pr root (root - d) :=
  (pcMk_st (fun q a b => (hP q a (by omega)).2) (d := d) (e := root.toNat) (by omega) (by omega) (Int.le_refl _)).symm
theorem pcNd_pr (hP : pcPr ct pr n) (hr : 1 ≤ root ∧ root ≤ n) {r i : Int} (h0 : 1 ≤ r) (h1 : r ≤ root) (w : pcNd ct pr root r) (i0 : 0 ≤ i) (i1 : i < ct r) : pcNd ct pr root (pr (3 * r + i)) := by
  have hpr : ∀ q, 1 ≤ q → q ≤ root → ∀ i, 0 ≤ i → i < ct q → 1 ≤ pr (3 * q + i) ∧ pr (3 * q + i) < q := fun q a b => (hP q a (by omega)).2
  have ex : root - ((root - r).toNat : Int) = r := by omega
  have a : pcMk ct pr root (root - r).toNat r := by have := (pcMk_d hP hr (d := (root - r).toNat) (by omega)); rw [ex] at this; exact this.mpr w
  have b : pcMk ct pr root ((root - r).toNat + 1) (pr (3 * r + i)) := Or.inr ⟨by rw [ex]; exact a, i, by rw [ex]; exact ⟨i0, i1⟩, by rw [ex]⟩
  have mono : ∀ (d e : Nat) (x : Int), d ≤ e → pcMk ct pr root d x → pcMk ct pr root e x := by
    intro d e x hde h
    induction e with
    | zero => have : d = 0 := by omega
              subst this; exact h
    | succ e ih =>
      by_cases hd : d = e + 1
      · subst hd; exact h
      · exact Or.inl (ih (by omega))
  exact mono _ _ _ (by omega) b
theorem pcNd_b (hP : pcPr ct pr n) (hr : 1 ≤ root ∧ root ≤ n) {r : Int} (w : pcNd ct pr root r) : 1 ≤ r ∧ r ≤ root := pcMk_lo (fun q a b => (hP q a (by omega)).2) (d := root.toNat) (by omega) w hr.1
/-- counted from the root down it is the same -/
theorem pcCt_C (hP : pcPr ct pr n) (hr : 1 ≤ root ∧ root ≤ n) : ∀ d : Nat, (d : Int) ≤ root → pcCt ct pr root d + pcC ct pr root (root - d) = pcC ct pr root root
  | 0, _ => by rw [pcCt, show root - ((0 : Nat) : Int) = root by omega]; omega
  | d + 1, hd => by
    have ih := pcCt_C hP hr d (by omega)
    have iff := pcMk_d hP hr (d := d) (by omega)
    rw [pcCt]
    by_cases w : pcMk ct pr root d (root - d)
    · have := pcC_t (by omega) (iff.mp w)
      rw [pif_t w, show root - ((d + 1 : Nat) : Int) = root - d - 1 by omega]; omega
    · have := pcC_f (by omega) (fun y => w (iff.mpr y))
      rw [pif_f w, show root - ((d + 1 : Nat) : Int) = root - d - 1 by omega]; omega
theorem pcCt_r (hP : pcPr ct pr n) (hr : 1 ≤ root ∧ root ≤ n) : pcCt ct pr root root.toNat = pcC ct pr root root := by
  have := pcCt_C hP hr root.toNat (by omega)
  rw [show root - ((root.toNat : Nat) : Int) = 0 by omega, show pcC ct pr root 0 = 0 from rfl] at this
  omega
/-- rows that are needed, one behind the other -/
def pcDp (ru ins ct pr : Int → Int) (root k : Int) (ru' ins' ct' pr' : Int → Int) : Prop := ∀ r, 1 ≤ r → r ≤ k → pcNd ct pr root r → (ru' (pcC ct pr root r) = ru r ∧ ins' (pcC ct pr root r) = ins r ∧ ct' (pcC ct pr root r) = ct r) ∧ ∀ i, 0 ≤ i → i < ct r → pr' (3 * pcC ct pr root r + i) = pcC ct pr root (pr (3 * r + i))
theorem T50_drop {post : Int → (Int → Int) → (Int → Int) → (Int → Int) → (Int → Int) → Int → (Int → Int) → Int → (Int → Int) → Prop} {br : Int} {pl : Int → Int} (hI : pcI ru ins ct pr na nt n) (h0 : ¬ (1 ≤ root ∧ root ≤ n) → post (-1) ru ins ct pr n mk br pl) (h1 : (1 ≤ root ∧ root ≤ n) → ∀ ru' ins' ct' pr' mk' pl', pcDp ru ins ct pr root root ru' ins' ct' pr' → post (pcC ct pr root root) ru' ins' ct' pr' (pcC ct pr root root) mk' 0 pl') : wpX50_drop post ru ins ct pr n mk br pl root := by
  have hn := hI.1
  have hP := hI.prm
  unfold wpX50_drop
  refine T50_isRowB (fun a b => T50_mark hn.2 hP ⟨a, b⟩ (fun mk1 hm => ?_)) h0
  have hr : 1 ≤ root ∧ root ≤ n := ⟨a, b⟩
  have top : ∀ r, root ≤ r → r ≤ n → pcC ct pr root r = pcC ct pr root root := by
    intro r h h2
    have : ∀ d : Nat, root + d ≤ n → pcC ct pr root (root + d) = pcC ct pr root root := by
      intro d
      induction d with
      | zero => intro _; rw [show root + ((0 : Nat) : Int) = root by omega]
      | succ d ih =>
        intro hd
        rw [pcC_f (by omega) (fun w => by have := pcNd_b hP hr w; omega), show root + ((d + 1 : Nat) : Int) - 1 = root + d by omega]
        exact ih (by omega)
    have := this (r - root).toNat (by omega)
    rw [show root + ((r - root).toNat : Int) = r by omega] at this; exact this
  refine wloop (fun m (s : Int × Int × (Int → Int) × (Int → Int) × (Int → Int) × (Int → Int) × (Int → Int)) => wX50_drop_20 _ n mk1 m s.1 s.2.1 s.2.2.1 s.2.2.2.1 s.2.2.2.2.1 s.2.2.2.2.2.1 s.2.2.2.2.2.2)
    (fun s => (1 ≤ s.2.1 ∧ s.2.1 ≤ n + 1) ∧ s.1 = pcC ct pr root (s.2.1 - 1) ∧ pcDp ru ins ct pr root (s.2.1 - 1) s.2.2.1 s.2.2.2.1 s.2.2.2.2.1 s.2.2.2.2.2.1 ∧ (∀ r, 1 ≤ r → r < s.2.1 → pcNd ct pr root r → s.2.2.2.2.2.2 r = pcC ct pr root r) ∧ ∀ r, s.2.1 ≤ r → r ≤ n → (s.2.2.1 r = ru r ∧ s.2.2.2.1 r = ins r ∧ s.2.2.2.2.1 r = ct r) ∧ ∀ i, 0 ≤ i → i < 3 → s.2.2.2.2.2.1 (3 * r + i) = pr (3 * r + i)) (fun s => (n + 1 - s.2.1).toNat) ?_ (0, 1, ru, ins, ct, pr, pl) ⟨by dsimp only; omega, rfl, fun r c d => by dsimp only at d; omega, fun r c d => by dsimp only at d; omega, fun r _ _ => ⟨⟨rfl, rfl, rfl⟩, fun _ _ _ => rfl⟩⟩
  rintro ⟨c, x, ru1, ins1, ct1, pr1, pl1⟩ ⟨hx, hc, hD, hL, hB⟩ m ih
  dsimp only at hx hc hD hL hB ih ⊢
  rw [wX50_drop_20]
  have cb := pcC_b (ct := ct) (pr := pr) (root := root) (x - 1) (by omega)
  refine ⟨fun z => ?_, fun z => ⟨by omega, fun e => ⟨by omega, fun _ e1 => ?_⟩, fun e => ?_⟩⟩
  · have ex : x = n + 1 := by omega
    subst ex
    rw [show n + 1 - 1 = n by omega] at hc hD
    rw [top n b (Int.le_refl _)] at hc
    subst hc
    exact h1 hr _ _ _ _ _ _ (fun r c d => hD r c (by omega))
  · have nn : ¬ pcNd ct pr root x := fun w => (hm x hx.1 (by omega)).mpr w e
    subst e1
    refine ih (c, x + 1, ru1, ins1, ct1, pr1, pl1) ⟨by dsimp only; omega, ?_, fun r c d w => ?_, fun r c d w => ?_, fun r c d => hB r (by dsimp only at c; omega) d⟩ (by dsimp only; omega)
    · dsimp only; rw [show x + 1 - 1 = x by omega, pcC_f hx.1 nn]; exact hc
    · dsimp only at d
      by_cases h : r = x
      · subst h; exact absurd w nn
      · exact hD r c (by omega) w
    · dsimp only at d
      by_cases h : r = x
      · subst h; exact absurd w nn
      · exact hL r c (by omega) w
  · have nd : pcNd ct pr root x := (hm x hx.1 (by omega)).mp e
    have xr := pcNd_b hP hr nd
    have cx := pcC_t hx.1 nd
    obtain ⟨⟨q1, q2, q3⟩, q4⟩ := hB x (Int.le_refl _) (by omega)
    have P := hP x hx.1 (by omega)
    refine ⟨by omega, fun c1 ec => ?_⟩
    have ec : c1 = pcC ct pr root x := by omega
    refine fun _ e2 _ e3 => ⟨by omega, fun _ e4 _ e5 _ e6 ct2 e7 => ?_⟩
    subst e2 e3 e4 e5 e6 e7
    rw [q1, q2, q3]
    refine wl2 (fun m i s => wX50_drop_85 _ c1 x (ct x) (updI pl1 x c1) m i s) (fun i s => (0 ≤ i ∧ i ≤ ct x) ∧ (∀ j, 0 ≤ j → j < i → s (3 * c1 + j) = pcC ct pr root (pr (3 * x + j))) ∧ (∀ j, i ≤ j → j < ct x → s (3 * x + j) = pr (3 * x + j)) ∧ (∀ y, y < 3 * c1 → s y = pr1 y) ∧ ∀ y, 3 * x + 3 ≤ y → s y = pr1 y) (fun i s => (ct x - i).toNat) ?_ 0 pr1 ⟨by omega, fun j _ _ => by omega, fun j j0 j1 => q4 j j0 (by omega), fun _ _ => rfl, fun _ _ => rfl⟩
    rintro i s ⟨hi, s1, s2, s3, s4⟩ m2 ih2
    rw [wX50_drop_85]
    refine ⟨fun z2 => ?_, fun z2 => ?_⟩
    · intro _ e8
      refine ⟨by omega, fun _ e9 => ?_⟩
      subst e8 e9
      have ei : i = ct x := by omega
      subst ei
      refine ih (c1, x + 1, updI ru1 c1 (ru x), updI ins1 c1 (ins x), updI ct1 c1 (ct x), s, updI pl1 x c1) ⟨by dsimp only; omega, by dsimp only; rw [show x + 1 - 1 = x by omega]; exact ec, fun r c d w => ?_, fun r c d w => ?_, fun r c d => ?_⟩ (by dsimp only; omega)
      · dsimp only at d ⊢
        by_cases h : r = x
        · subst h
          rw [← ec, updI_s, updI_s, updI_s]
          exact ⟨⟨rfl, rfl, rfl⟩, s1⟩
        · have lt := pcC_lt (ct := ct) (pr := pr) (root := root) (show 0 ≤ r by omega) (show r < x by omega) nd
          obtain ⟨⟨t1, t2, t3⟩, t4⟩ := hD r c (by omega) w
          rw [updI_n (by omega), updI_n (by omega), updI_n (by omega)]
          refine ⟨⟨t1, t2, t3⟩, fun j j0 j1 => ?_⟩
          have := (hP r c (by omega)).1
          rw [s3 _ (by omega)]; exact t4 j j0 j1
      · dsimp only at d ⊢
        by_cases h : r = x
        · subst h; rw [updI_s]; exact ec
        · rw [updI_n h]; exact hL r c (by omega) w
      · dsimp only at c ⊢
        have := hB r (by omega) d
        rw [updI_n (by omega), updI_n (by omega), updI_n (by omega)]
        exact ⟨this.1, fun j j0 j1 => by rw [s4 _ (by omega)]; exact this.2 j j0 j1⟩
    · have sp := s2 i (Int.le_refl _) (by omega)
      have pb := P.2 i hi.1 (by omega)
      rw [sp]
      have ndp := pcNd_pr hP hr hx.1 (by omega) nd hi.1 (by omega)
      have pv : updI pl1 x c1 (pr (3 * x + i)) = pcC ct pr root (pr (3 * x + i)) := by rw [updI_n (by omega)]; exact hL _ pb.1 pb.2 ndp
      refine ⟨by omega, by omega, fun _ e8 => ⟨by omega, fun _ e9 => ⟨by omega, fun _ e10 => ?_⟩⟩⟩
      subst e8 e9 e10
      rw [pv]
      refine ih2 _ _ ⟨by omega, fun j j0 j1 => ?_, fun j j0 j1 => ?_, fun y hy => ?_, fun y hy => ?_⟩ (by omega)
      · by_cases h : j = i
        · rw [h, updI_s]
        · rw [updI_n (by omega)]; exact s1 j j0 (by omega)
      · rw [updI_n (by omega)]; exact s2 j (by omega) j1
      · rw [updI_n (by omega)]; exact s3 y hy
      · rw [updI_n (by omega)]; exact s4 y hy
/-- what is left is as it should be -/
theorem pcDp_at (hP : pcPr ct pr n) (hr : 1 ≤ root ∧ root ≤ n) : ∀ (d : Nat) {m : Int}, 1 ≤ m → m ≤ pcC ct pr root d → (d : Int) ≤ root → ∃ r, (1 ≤ r ∧ r ≤ root) ∧ pcNd ct pr root r ∧ pcC ct pr root r = m
  | 0, m, h0, h, _ => by have : pcC ct pr root ((0 : Nat) : Int) = 0 := rfl; omega
  | d + 1, m, h0, h, hd => by
    by_cases w : pcNd ct pr root ((d + 1 : Nat) : Int)
    · have := pcC_t (ct := ct) (pr := pr) (root := root) (by omega) w
      rw [show ((d + 1 : Nat) : Int) - 1 = d by omega] at this
      by_cases e : m = pcC ct pr root ((d + 1 : Nat) : Int)
      · exact ⟨_, ⟨by omega, hd⟩, w, e.symm⟩
      · exact pcDp_at hP hr d h0 (by omega) (by omega)
    · have := pcC_f (ct := ct) (pr := pr) (root := root) (r := ((d + 1 : Nat) : Int)) (by omega) w
      rw [show ((d + 1 : Nat) : Int) - 1 = d by omega] at this
      exact pcDp_at hP hr d h0 (by omega) (by omega)
theorem pcDp_I {ru' ins' ct' pr' : Int → Int} (hI : pcI ru ins ct pr na nt n) (hr : 1 ≤ root ∧ root ≤ n) (D : pcDp ru ins ct pr root root ru' ins' ct' pr') : pcI ru' ins' ct' pr' na nt (pcC ct pr root root) := by
  obtain ⟨i1, i2, i3, i4⟩ := id hI
  have hP := hI.prm
  have cb := pcC_b (ct := ct) (pr := pr) (root := root) root (by omega)
  refine ⟨by omega, i2, i3, fun m m0 m1 => ?_⟩
  obtain ⟨r, rb, nd, e⟩ := pcDp_at hP hr root.toNat m0 (by rw [show ((root.toNat : Nat) : Int) = root by omega]; exact m1) (by omega)
  obtain ⟨⟨d1, d2, d3⟩, d4⟩ := D r rb.1 rb.2 nd
  obtain ⟨r1, r2, r3, r4, r5, r6⟩ := i4 r rb.1 (by omega)
  rw [e] at d1 d2 d3 d4
  unfold pcRw
  rw [d1, d2, d3]
  refine ⟨r1, r2, fun i i0 i1' => ?_, r4, r5, r6⟩
  have pb := r3 i i0 i1'
  have np := pcNd_pr hP hr rb.1 rb.2 nd i0 i1'
  have c1 := pcC_t pb.1 np
  have c2 := pcC_b (ct := ct) (pr := pr) (root := root) (pr (3 * r + i) - 1) (by omega)
  have c3 := pcC_lt (ct := ct) (pr := pr) (root := root) (show 0 ≤ pr (3 * r + i) by omega) pb.2 nd
  rw [d4 i i0 i1']
  omega
def pcCon (S : Int → Int → Int) (tr : Int → Int) (n nt r t : Int) : Prop := ((1 ≤ r ∧ r ≤ n) ∧ (1 ≤ t ∧ t ≤ nt)) ∧ ∀ j, 0 ≤ j → j < 4 → S r j = tr (4 * t + j)
theorem T50_concludes {post : Int → (Int → Int) → Prop} {t : Int} (hI : pcI ru ins ct pr na nt n) (h1 : pcCon (pcS ax tr ru ins ct pr) tr n nt root t → ∀ st', post 1 st') (h0 : ¬ pcCon (pcS ax tr ru ins ct pr) tr n nt root t → ∀ st', post 0 st') : wpX50_concludes post ax tr nt ru ins ct pr n st root t := by
  have hn := hI.1
  have ht := hI.2.2.1
  unfold wpX50_concludes
  refine T50_isRowB (fun a b => ⟨fun z => h0 (fun w => by have := w.1.2; omega) _, fun z => ⟨fun z2 => T50_work hI ⟨by omega, b⟩ (fun st' W => ?_), fun z2 => h0 (fun w => by have := w.1.2; omega) _⟩⟩) (fun z => h0 (fun w => z w.1.1) _)
  have We := W root a (Int.le_refl _)
  refine wl2 (fun m v j => wX50_concludes_33 _ root t tr st' m v j) (fun v j => (0 ≤ j ∧ j ≤ 4) ∧ ((v = 1 ∧ ∀ i, 0 ≤ i → i < j → pcS ax tr ru ins ct pr root i = tr (4 * t + i)) ∨ (v = 0 ∧ ¬ pcCon (pcS ax tr ru ins ct pr) tr n nt root t))) (fun v j => (4 - j).toNat) ?_ 1 0 ⟨by omega, Or.inl ⟨rfl, fun i x y => by omega⟩⟩
  rintro v j ⟨hj, hv⟩ m ih
  rw [wX50_concludes_33]
  refine ⟨fun z3 => ?_, fun z3 => ⟨fun e => ⟨by omega, fun _ e1 => ?_⟩, fun e => ⟨by omega, by omega, ?_⟩⟩⟩
  · rcases hv with ⟨rfl, hv⟩ | ⟨rfl, hv⟩
    · exact ⟨Or.inr rfl, h1 ⟨⟨⟨a, b⟩, by omega⟩, fun i x y => hv i x (by omega)⟩ _⟩
    · exact ⟨Or.inl rfl, h0 hv _⟩
  · subst e1
    rcases hv with ⟨e2, _⟩ | ⟨_, hv⟩
    · omega
    · exact ih _ _ ⟨by omega, Or.inr ⟨rfl, hv⟩⟩ (by omega)
  · rw [We j hj.1 (by omega)]
    refine ⟨fun y => ⟨by omega, fun _ e1 => ?_⟩, fun y => ⟨by omega, fun _ e1 => ?_⟩⟩
    · subst e1
      rcases hv with ⟨_, hv⟩ | ⟨e2, _⟩
      · refine ih _ _ ⟨by omega, Or.inl ⟨rfl, fun i x x2 => ?_⟩⟩ (by omega)
        by_cases h : i = j
        · subst h; exact y
        · exact hv i x (by omega)
      · omega
    · subst e1
      exact ih _ _ ⟨by omega, Or.inr ⟨rfl, fun w => y (w.2 j hj.1 (by omega))⟩⟩ (by omega)
end
