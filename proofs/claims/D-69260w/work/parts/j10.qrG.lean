/-! QlRewrite, the reference (X56): rewriting and uniting -/
section
variable {nm fr to ot co le fs ff fg fc kd lf rt : Int → Int} {a b n v w k x y c m oc lg o f i j L R : Int} {T0 : qA → Prop} {P Q : Int → Prop} {l : List qA} {d : List Int} {F : qFo} {D : qDr} {t : qA}
theorem qSr_g (hL : qSo L) (h7 : ¬ x = 7) : qGa (qSr L x) := by
  unfold qGa qSr
  unfold qSo at hL
  dsimp only
  by_cases z : L < 20
  · left
    rw [if_neg (show ¬ 20 ≤ L by omega), if_pos z, if_neg (fun q => by omega)]
    exact ⟨by omega, rfl, h7⟩
  · right
    rw [if_pos (show 20 ≤ L by omega), if_neg z]
    refine ⟨by omega, ?_, ?_⟩
    · split
      · decide
      · exact h7
    · split
      · decide
      · exact h7
theorem qWh_7 (hg : qGa t) (hR : qSo R) : ¬ qWh R t = 7 := by
  unfold qWh
  unfold qGa at hg
  unfold qSo at hR
  by_cases z : 20 ≤ R
  · rw [if_pos z]
    by_cases y : t.1 = 32 + (R - 20) / 2
    · rw [if_pos y]
      split
      · omega
      · split
        · omega
        · decide
    · rw [if_neg y]; decide
  · rw [if_neg z]
    split
    · omega
    · decide
theorem qWa_g (hg : qGa t) (hL : 0 ≤ L ∧ L < 16) (ht : 32 ≤ t.1) : qGa (qWa L R t) := by
  unfold qWa qGa
  unfold qGa at hg
  dsimp only
  right
  refine ⟨by omega, ?_, ?_⟩
  · split <;> omega
  · split <;> omega
theorem aF_u {g h : Int → qA} {p : Nat} (hk : 0 ≤ k ∧ k < n) (hp : p = n.toNat) (he : ∀ i, 0 ≤ i → i < n → ¬ i = k → h i = g i) (ht : h k = t) : aF h 0 n.toNat = aF (updI g k t) 0 p := by
  rw [hp]
  refine aF_c _ _ (fun i i0 i1 => ?_)
  by_cases z : i = k
  · rw [z, updI_s]; exact ht
  · rw [updI_n z]; exact he i i0 (by omega) z
theorem T56_r126 {post : Int → Int → (Int → Int) → (Int → Int) → (Int → Int) → Int → (Int → Int) → (Int → Int) → (Int → Int) → Int → (Int → Int) → (Int → Int) → (Int → Int) → (Int → Int) → Int → Int → Prop} (hF : qFb fs m) (hG : qFg (aF (qFoA fs ff fg fc) 0 m.toNat)) (hx : 0 ≤ x ∧ x < m) (hk : 0 ≤ k ∧ k < fs x) (hy : 0 ≤ y ∧ y < 16) (hL : qSo (lf y)) (hR : qSo R) (h1 : ∀ k, 0 ≤ k → k < fs x → (nm k, fr k, to k) = qAk (qFoA fs ff fg fc x) k ∧ qGa (nm k, fr k, to k)) (hv : v = qWh R (qAk (qFoA fs ff fg fc x) k))
  (hp : ∀ a' b' nm' fr' to' n' co' le' ot' oc' fs' ff' fg' fc' m' lg', qFb fs' m' → qFg (aF (qFoA fs' ff' fg' fc') 0 m'.toNat) → (aF (qFoA fs' ff' fg' fc') 0 m'.toNat, lg') = qAx 0 (lf y) R (qFoA fs ff fg fc x) k (aF (qFoA fs ff fg fc) 0 m.toNat, lg) → post a' b' nm' fr' to' n' co' le' ot' oc' fs' ff' fg' fc' m' lg') : wX56_rewriteSort_126 post k y v lf (ff x) (fg x) nm fr to (fs x) co le ot oc fs ff fg fc m lg := by
  have hs := hF.2 x hx.1 hx.2
  obtain ⟨et, ga⟩ := h1 k hk.1 hk.2
  have n7 : ¬ v = 7 := by
    rw [hv, ← et]; exact qWh_7 ga hR
  have ln : (qFoA fs ff fg fc x).2.2.length = (fs x).toNat := by
    have := qLn_A (fs := fs) (ff := ff) (fg := fg) (fc := fc) (x := x) hs.1
    omega
  unfold qAx at hp
  rw [if_pos rfl] at hp
  unfold wX56_rewriteSort_126
  refine ⟨fun v0 => ⟨hy, fun L eL => ?_⟩, fun v0 => ?_⟩
  · rw [if_neg (by omega)] at hp
    rw [← eL] at hL hp
    have fin : ∀ u1 u2 u3, (u1, u2, u3) = qSr L v → wpX56_finish (fun nm' fr' to' n' co' le' ot' oc' fs' ff' fg' fc' m' lg' => post (ff x) (fg x) nm' fr' to' n' co' le' ot' oc' fs' ff' fg' fc' m' lg') (ff x) (fg x) (updI nm k u1) (updI fr k u2) (updI to k u3) (fs x) co le ot fs ff fg fc m lg := fun u1 u2 u3 eu => by
      refine T56_fin hF hG ⟨by omega, hs.2⟩ (fun i i0 i1 => ?_) (aF_u (g := qAk (qFoA fs ff fg fc x)) (t := qSr L (qWh R (qAk (qFoA fs ff fg fc x) k))) hk ln (fun i i0 i1 ne => ?_) ?_) (fun nm' fr' to' n' co' le' ot' oc' fs' ff' fg' fc' m' lg' F' G' e => hp _ _ _ _ _ _ _ _ _ _ _ _ _ _ _ _ F' G' e)
      · by_cases z : i = k
        · rw [z, updI_s, updI_s, updI_s, eu]; exact qSr_g hL n7
        · rw [updI_n z, updI_n z, updI_n z]; exact (h1 i i0 i1).2
      · unfold qAr
        rw [updI_n ne, updI_n ne, updI_n ne]; exact (h1 i i0 i1).1
      · unfold qAr
        rw [updI_s, updI_s, updI_s, eu, hv]
    have r195 : ∀ u1 u2, u1 = (qSr L v).1 → u2 = (qSr L v).2.1 → wX56_rewriteSort_195 post k v L k u2 (ff x) (fg x) (updI nm k u1) fr to (fs x) co le ot fs ff fg fc m lg := fun u1 u2 g1 g2 => by
      unfold wX56_rewriteSort_195
      refine ⟨by omega, fun _ e1 => ⟨fun p => ⟨by omega, fun q => ⟨by omega, fun _ e2 => ?_⟩, fun q => ⟨by omega, fun _ e2 => ?_⟩⟩, fun p => ⟨by omega, fun _ e2 => ?_⟩⟩⟩
      · rw [e1, e2]
        refine fin _ _ _ ?_
        rw [g1, g2]
        unfold qSr
        dsimp only
        rw [if_neg (show ¬ L < 20 by omega), if_pos q]
      · rw [e1, e2]
        refine fin _ _ _ ?_
        rw [g1, g2]
        unfold qSr
        dsimp only
        rw [if_neg (show ¬ L < 20 by omega), if_neg q]
      · rw [e1, e2]
        refine fin _ _ _ ?_
        rw [g1, g2]
        unfold qSr
        dsimp only
        rw [if_pos (show L < 20 by omega)]
    have r167 : ∀ u1, u1 = (qSr L v).1 → wX56_rewriteSort_167 post k v L k u1 (ff x) (fg x) nm fr to (fs x) co le ot fs ff fg fc m lg := fun u1 g1 => by
      unfold wX56_rewriteSort_167
      refine ⟨by omega, fun _ e1 => ⟨fun p => ?_, fun p => ⟨by omega, fun q => ?_, fun q => ?_⟩⟩⟩
      · rw [e1]
        refine r195 _ _ g1 ?_
        unfold qSr
        dsimp only
        rw [if_neg (fun w => by omega)]
      · rw [e1]
        refine r195 _ _ g1 ?_
        unfold qSr
        dsimp only
        rw [if_pos ⟨by omega, q⟩]
      · rw [e1]
        refine r195 _ _ g1 ?_
        unfold qSr
        dsimp only
        rw [if_neg (fun w => q w.2)]
    refine ⟨fun p => ?_, fun p => r167 _ ?_⟩
    · unfold qSo at hL
      refine ⟨by omega, by omega, by omega, r167 _ ?_⟩
      unfold qSr
      dsimp only
      rw [if_pos p]
    · unfold qSr
      dsimp only
      rw [if_neg p]
  · rw [if_pos (by omega)] at hp
    exact hp _ _ _ _ _ _ _ _ _ _ _ _ _ _ _ _ hF hG rfl
theorem T56_rewriteSort {post : Int → Int → (Int → Int) → (Int → Int) → (Int → Int) → Int → (Int → Int) → (Int → Int) → (Int → Int) → Int → (Int → Int) → (Int → Int) → (Int → Int) → (Int → Int) → Int → Int → Prop} (hF : qFb fs m) (hG : qFg (aF (qFoA fs ff fg fc) 0 m.toNat)) (hx : 0 ≤ x ∧ x < m) (hk : 0 ≤ k ∧ k < fs x) (hy : 0 ≤ y ∧ y < 16) (hL : qSo (lf y)) (hR : qSo (rt y))
  (hp : ∀ a' b' nm' fr' to' n' co' le' ot' oc' fs' ff' fg' fc' m' lg', qFb fs' m' → qFg (aF (qFoA fs' ff' fg' fc') 0 m'.toNat) → (aF (qFoA fs' ff' fg' fc') 0 m'.toNat, lg') = qAx 0 (lf y) (rt y) (qFoA fs ff fg fc x) k (aF (qFoA fs ff fg fc) 0 m.toNat, lg) → post a' b' nm' fr' to' n' co' le' ot' oc' fs' ff' fg' fc' m' lg') : wpX56_rewriteSort post lf rt nm fr to co le ot oc fs ff fg fc m lg x k y := by
  have hs := hF.2 x hx.1 hx.2
  unfold wpX56_rewriteSort
  refine T56_load hF hG hx (fun nm1 fr1 to1 h1 => ⟨hy, fun R eR => ?_⟩)
  rw [← eR] at hR hp
  obtain ⟨et, ga⟩ := h1 k hk.1 hk.2
  have go : ∀ v, v = qWh R (nm1 k, fr1 k, to1 k) → wX56_rewriteSort_126 post k y v lf (ff x) (fg x) nm1 fr1 to1 (fs x) co le ot oc fs ff fg fc m lg := fun v ev => T56_r126 hF hG hx hk hy hL hR h1 (by rw [ev, et]) hp
  have hR' := hR
  unfold qSo at hR'
  unfold qWh at go
  dsimp only at go
  refine ⟨fun p => ⟨by omega, by omega, by omega, by omega, fun q => ⟨by omega, fun r => ⟨fun s v ev => ?_, fun s => ?_⟩, fun r => ?_⟩, fun q => ?_⟩, fun p => ⟨by omega, fun q v ev => ?_, fun q => ?_⟩⟩
  · exact go v (by rw [if_pos p, if_pos q, if_pos ⟨r, s⟩]; exact ev)
  · unfold wX56_rewriteSort_95
    refine ⟨by omega, fun r2 => by omega, fun _ => go (-1) ?_⟩
    rw [if_pos p, if_pos q, if_neg (fun w => s w.2), if_neg (fun w => by omega)]
  · unfold wX56_rewriteSort_95
    refine ⟨by omega, fun r2 => ⟨by omega, fun s v ev => go v ?_, fun s => go (-1) ?_⟩, fun r2 => by omega⟩
    · rw [if_pos p, if_pos q, if_neg (fun w => r w.1), if_pos ⟨r2, s⟩]; exact ev
    · rw [if_pos p, if_pos q, if_neg (fun w => r w.1), if_neg (fun w => s w.2)]
  · exact go (-1) (by rw [if_pos p, if_neg q])
  · exact go v (by rw [if_neg p, if_pos q]; exact ev)
  · exact go (-1) (by rw [if_neg p, if_neg q])
theorem T56_rewriteWay {post : Int → Int → (Int → Int) → (Int → Int) → (Int → Int) → Int → (Int → Int) → (Int → Int) → (Int → Int) → Int → (Int → Int) → (Int → Int) → (Int → Int) → (Int → Int) → Int → Int → Prop} (hF : qFb fs m) (hG : qFg (aF (qFoA fs ff fg fc) 0 m.toNat)) (hx : 0 ≤ x ∧ x < m) (hk : 0 ≤ k ∧ k < fs x) (hy : 0 ≤ y ∧ y < 16) (hL : 0 ≤ lf y ∧ lf y < 16) (hR : 0 ≤ rt y ∧ rt y < 16)
  (hp : ∀ a' b' nm' fr' to' n' co' le' ot' oc' fs' ff' fg' fc' m' lg', qFb fs' m' → qFg (aF (qFoA fs' ff' fg' fc') 0 m'.toNat) → (aF (qFoA fs' ff' fg' fc') 0 m'.toNat, lg') = qAx 1 (lf y) (rt y) (qFoA fs ff fg fc x) k (aF (qFoA fs ff fg fc) 0 m.toNat, lg) → post a' b' nm' fr' to' n' co' le' ot' oc' fs' ff' fg' fc' m' lg') : wpX56_rewriteWay post lf rt nm fr to co le ot oc fs ff fg fc m lg x k y := by
  have hs := hF.2 x hx.1 hx.2
  unfold wpX56_rewriteWay
  refine T56_load hF hG hx (fun nm1 fr1 to1 h1 => ⟨by omega, hy, hR.1, by omega, fun q => ⟨hL.1, by omega, fun u eu nm2 en => ?_⟩, fun q => ?_⟩)
  · obtain ⟨et, ga⟩ := h1 k hk.1 hk.2
    have e1 : (qAk (qFoA fs ff fg fc x) k).1 = 32 + rt y / 2 := by rw [← et]; exact q
    have ln : (qFoA fs ff fg fc x).2.2.length = (fs x).toNat := by
      have := qLn_A (fs := fs) (ff := ff) (fg := fg) (fc := fc) (x := x) hs.1
      omega
    unfold qAx at hp
    rw [if_neg (by decide), if_pos rfl, if_pos e1] at hp
    have gw : qGa (qWa (lf y) (rt y) (nm1 k, fr1 k, to1 k)) := qWa_g ga hL (by show 32 ≤ nm1 k; omega)
    have fin : ∀ f2 t2, (∀ i, ¬ i = k → f2 i = fr1 i ∧ t2 i = to1 i) → (u, f2 k, t2 k) = qWa (lf y) (rt y) (nm1 k, fr1 k, to1 k) → wpX56_finish (fun nm' fr' to' n' co' le' ot' oc' fs' ff' fg' fc' m' lg' => post (ff x) (fg x) nm' fr' to' n' co' le' ot' oc' fs' ff' fg' fc' m' lg') (ff x) (fg x) nm2 f2 t2 (fs x) co le ot fs ff fg fc m lg := fun f2 t2 oth ew => by
      rw [en]
      refine T56_fin hF hG ⟨by omega, hs.2⟩ (fun i i0 i1 => ?_) (aF_u (g := qAk (qFoA fs ff fg fc x)) (t := qWa (lf y) (rt y) (qAk (qFoA fs ff fg fc x) k)) hk ln (fun i i0 i1 ne => ?_) ?_) (fun nm' fr' to' n' co' le' ot' oc' fs' ff' fg' fc' m' lg' F' G' e => hp _ _ _ _ _ _ _ _ _ _ _ _ _ _ _ _ F' G' e)
      · by_cases z : i = k
        · rw [z, updI_s, ew]; exact gw
        · rw [updI_n z, (oth i z).1, (oth i z).2]; exact (h1 i i0 i1).2
      · unfold qAr
        rw [updI_n ne, (oth i ne).1, (oth i ne).2]; exact (h1 i i0 i1).1
      · unfold qAr
        rw [updI_s, ew, et]
    refine ⟨fun p => fin _ _ (fun _ _ => ⟨rfl, rfl⟩) ?_, fun p => fun _ e2 _ e3 _ e4 _ e5 => ?_⟩
    · unfold qWa
      rw [if_pos p, if_pos p, eu]
    · rw [e4, e5, e2, e3]
      refine fin _ _ (fun i z => by rw [updI_n z, updI_n z]; exact ⟨rfl, rfl⟩) ?_
      unfold qWa
      rw [updI_s, updI_s, if_neg p, if_neg p, eu]
  · obtain ⟨et, ga⟩ := h1 k hk.1 hk.2
    have e1 : ¬ (qAk (qFoA fs ff fg fc x) k).1 = 32 + rt y / 2 := by rw [← et]; exact q
    unfold qAx at hp
    rw [if_neg (by decide), if_pos rfl, if_neg e1] at hp
    exact hp _ _ _ _ _ _ _ _ _ _ _ _ _ _ _ _ hF hG rfl
theorem T56_rename {post : Int → Int → (Int → Int) → (Int → Int) → Prop} (hn : 0 ≤ n ∧ n ≤ 4) (hp : ∀ fr' to', (∀ k, 0 ≤ k → k < n → fr' k = qRv o f (fr k) ∧ to' k = qRv o f (to k)) → post (qRv o f a) (qRv o f b) fr' to') : wpX56_rename post a b fr to n o f := by
  unfold wpX56_rename
  refine wl3 (fun fu k fr to => wX56_rename_2 _ o f n fu k fr to) (fun k f1 t1 => (0 ≤ k ∧ k ≤ n) ∧ (∀ i, 0 ≤ i → i < k → f1 i = qRv o f (fr i) ∧ t1 i = qRv o f (to i)) ∧ ∀ i, k ≤ i → f1 i = fr i ∧ t1 i = to i) (fun k _ _ => (n - k).toNat) ?_ 0 fr to ⟨by omega, fun i i0 i1 => by omega, fun _ _ => ⟨rfl, rfl⟩⟩
  rintro k f1 t1 ⟨hk, h1, h2⟩ fu ih
  rw [wX56_rename_2]
  refine ⟨fun z => ?_, fun z => ⟨by omega, ?_⟩⟩
  · have H := hp f1 t1 (fun i i0 i1 => h1 i i0 (by omega))
    unfold qRv at H
    refine ⟨fun p => ⟨fun q => ?_, fun q => ?_⟩, fun p => ⟨fun q => ?_, fun q => ?_⟩⟩
    · rw [if_pos p, if_pos q] at H; exact H
    · rw [if_pos p, if_neg q] at H; exact H
    · rw [if_neg p, if_pos q] at H; exact H
    · rw [if_neg p, if_neg q] at H; exact H
  · have st : ∀ u, u = qRv o f (f1 k) → wX56_rename_35 (wX56_rename_2 _ o f n fu) o f k k u f1 t1 := fun u eu => by
      have nx : ∀ u2, u2 = qRv o f (t1 k) → ∀ k' : Int, k' = k + 1 → wX56_rename_2 _ o f n fu k' (updI f1 k u) (updI t1 k u2) := fun u2 eu2 k' ek => by
        rw [ek]
        refine ih _ _ _ ⟨by omega, fun i i0 i1 => ?_, fun i i0 => ?_⟩ (by omega)
        · by_cases q : i = k
          · have := h2 k (Int.le_refl _)
            rw [q, updI_s, updI_s, eu, eu2, this.1, this.2]; exact ⟨rfl, rfl⟩
          · rw [updI_n q, updI_n q]; exact h1 i i0 (by omega)
        · rw [updI_n (by omega), updI_n (by omega)]; exact h2 i (by omega)
      unfold wX56_rename_35
      refine ⟨by omega, fun _ e1 => ⟨by omega, fun q => fun _ e2 => ⟨by omega, fun _ e3 => ?_⟩, fun q => fun _ e2 _ e3 => ⟨by omega, fun _ e4 => ?_⟩⟩⟩
      · rw [e1, e2]
        exact nx f (by unfold qRv; rw [if_pos q]) _ e3
      · rw [e1, e3, e2]
        exact nx (t1 k) (by unfold qRv; rw [if_neg q]) _ e4
    refine ⟨fun q => st f (by unfold qRv; rw [if_pos q]), fun q => st (f1 k) (by unfold qRv; rw [if_neg q])⟩
theorem qGa_r (hg : qGa t) (ho : ¬ o = 7) (hf : ¬ f = 7) : qGa (qRt o f t) := by
  have e : ∀ v, qRv o f v = 7 ↔ v = 7 := fun v => by
    unfold qRv
    by_cases z : v = o
    · rw [if_pos z]; exact ⟨fun h => absurd h hf, fun h => absurd (z.symm.trans h) ho⟩
    · rw [if_neg z]
  unfold qGa at hg ⊢
  unfold qRt
  dsimp only
  rw [e, e]; exact hg
theorem T56_u169 {post : Int → Int → (Int → Int) → (Int → Int) → (Int → Int) → Int → (Int → Int) → (Int → Int) → (Int → Int) → Int → (Int → Int) → (Int → Int) → (Int → Int) → (Int → Int) → Int → Int → Prop} (hF : qFb fs m) (hG : qFg (aF (qFoA fs ff fg fc) 0 m.toNat)) (hn : 0 ≤ n ∧ n ≤ 4) (hi : 0 ≤ i ∧ i < n) (hj : 0 ≤ j ∧ j < n) (hij : ¬ i = j) (hnm : nm i = nm j) (hD : ∀ k, 0 ≤ k → k < n → (nm k, fr k, to k) = D.2.2 k ∧ qGa (nm k, fr k, to k)) (ea : a = D.1) (eb : b = D.2.1)
  (hp : ∀ a' b' nm' fr' to' n' co' le' ot' oc' fs' ff' fg' fc' m' lg', qFb fs' m' → qFg (aF (qFoA fs' ff' fg' fc') 0 m'.toNat) → (aF (qFoA fs' ff' fg' fc') 0 m'.toNat, lg') = qFin (qMT i j D).1 (qMT i j D).2.1 (aF (qMT i j D).2.2 0 n.toNat) (aF (qFoA fs ff fg fc) 0 m.toNat, lg) → post a' b' nm' fr' to' n' co' le' ot' oc' fs' ff' fg' fc' m' lg') : wX56_unite_169 post i j a b nm fr to n co le ot fs ff fg fc m lg := by
  have fin : ∀ a2 b2 f2 t2, a2 = (qMT i j D).1 → b2 = (qMT i j D).2.1 → (∀ k, 0 ≤ k → k < n → (nm k, f2 k, t2 k) = (qMT i j D).2.2 k ∧ qGa (nm k, f2 k, t2 k)) → wpX56_finish (fun nm' fr' to' n' co' le' ot' oc' fs' ff' fg' fc' m' lg' => post a2 b2 nm' fr' to' n' co' le' ot' oc' fs' ff' fg' fc' m' lg') a2 b2 nm f2 t2 n co le ot fs ff fg fc m lg := fun a2 b2 f2 t2 e1 e2 h => by
    rw [← e1, ← e2] at hp
    exact T56_fin hF hG ⟨by omega, hn.2⟩ (fun k k0 k1 => (h k k0 k1).2) (aF_c _ _ (fun k k0 k1 => (h k (by omega) (by omega)).1)) (fun nm' fr' to' n' co' le' ot' oc' fs' ff' fg' fc' m' lg' F' G' e => hp _ _ _ _ _ _ _ _ _ _ _ _ _ _ _ _ F' G' e)
  have di := (hD i hi.1 hi.2).1
  have dj := (hD j hj.1 hj.2).1
  have gi := (hD i hi.1 hi.2).2
  have gj := (hD j hj.1 hj.2).2
  unfold qMT at fin
  rw [← di, ← dj] at fin
  dsimp only at fin
  have u217 : ∀ y0, (to i = 6 ∧ y0 = to j) ∨ (¬ to i = 6 ∧ to j = 6 ∧ y0 = to i) → wX56_unite_217 post i j y0 a b nm fr to n co le ot fs ff fg fc m lg := fun y0 hy => by
    unfold wX56_unite_217
    refine ⟨by omega, fun _ e1 => ⟨by omega, fun _ e2 => ?_⟩⟩
    rw [e2, e1]
    have y7 : nm i < 10 ∧ y0 = 7 ∨ 32 ≤ nm i ∧ ¬ y0 = 7 := by
      unfold qGa at gi gj
      dsimp only at gi gj
      omega
    rcases hy with ⟨h1, h2⟩ | ⟨h1, h2, h3⟩
    · rw [if_pos h1] at fin
      refine fin _ _ _ _ ea eb (fun k k0 k1 => ?_)
      dsimp only
      obtain ⟨q1, q2⟩ := hD k k0 k1
      by_cases z : k = j
      · rw [z, updI_s, updI_n (fun e => hij e.symm), ← dj, h2]
        exact ⟨rfl, gj⟩
      · rw [updI_n z]
        by_cases y : k = i
        · rw [y, updI_s, updI_s, h2]
          refine ⟨rfl, ?_⟩
          unfold qGa at gi gj ⊢
          dsimp only at gi gj ⊢
          omega
        · rw [updI_n y, updI_n y]; exact ⟨q1, q2⟩
    · rw [if_neg h1, if_pos h2] at fin
      refine fin _ _ _ _ ea eb (fun k k0 k1 => ?_)
      dsimp only
      obtain ⟨q1, q2⟩ := hD k k0 k1
      by_cases z : k = j
      · rw [z, updI_s, updI_s, h3]
        refine ⟨rfl, ?_⟩
        unfold qGa at gi gj ⊢
        dsimp only at gi gj ⊢
        omega
      · rw [updI_n z, updI_n z]
        by_cases y : k = i
        · rw [y, updI_s, ← di, h3]; exact ⟨rfl, gi⟩
        · rw [updI_n y]; exact ⟨q1, q2⟩
  have u191 : (to i = 6 ∨ to j = 6) → wX56_unite_191 post i j a b nm fr to n co le ot fs ff fg fc m lg := fun h => by
    unfold wX56_unite_191
    exact ⟨by omega, fun p => ⟨by omega, u217 _ (Or.inl ⟨p, rfl⟩)⟩, fun p => u217 _ (Or.inr ⟨p, h.resolve_left p, rfl⟩)⟩
  unfold wX56_unite_169
  refine ⟨by omega, fun p => u191 (Or.inl p), fun p => ⟨by omega, fun q => u191 (Or.inr q), fun q => ⟨fun r => ?_, fun r => ?_⟩⟩⟩
  · rw [if_neg p, if_neg q, if_pos r] at fin
    exact fin _ _ _ _ ea eb hD
  · rw [if_neg p, if_neg q, if_neg r] at fin
    have i7 : ¬ to i = 7 ∧ ¬ to j = 7 := by
      unfold qGa at gi gj
      dsimp only at gi gj
      omega
    refine ⟨fun s => ?_, fun s => ?_⟩
    · rw [if_pos s] at fin
      unfold wX56_unite_284
      refine ⟨by omega, by omega, fun _ => T56_rename hn (fun f2 t2 h => ?_), fun s2 => absurd s s2⟩
      unfold qRd at fin
      rw [← ea, ← eb] at fin
      refine fin _ _ _ _ rfl rfl (fun k k0 k1 => ?_)
      obtain ⟨q1, q2⟩ := hD k k0 k1
      have hk := h k k0 k1
      dsimp only
      rw [hk.1, hk.2, ← q1]
      exact ⟨rfl, qGa_r q2 i7.2 i7.1⟩
    · rw [if_neg s] at fin
      unfold wX56_unite_284
      refine ⟨by omega, by omega, fun s2 => absurd s2 s, fun _ => T56_rename hn (fun f2 t2 h => ?_)⟩
      unfold qRd at fin
      rw [← ea, ← eb] at fin
      refine fin _ _ _ _ rfl rfl (fun k k0 k1 => ?_)
      obtain ⟨q1, q2⟩ := hD k k0 k1
      have hk := h k k0 k1
      dsimp only
      rw [hk.1, hk.2, ← q1]
      exact ⟨rfl, qGa_r q2 i7.1 i7.2⟩
theorem T56_unite {post : Int → Int → (Int → Int) → (Int → Int) → (Int → Int) → Int → (Int → Int) → (Int → Int) → (Int → Int) → Int → (Int → Int) → (Int → Int) → (Int → Int) → (Int → Int) → Int → Int → Prop} (hF : qFb fs m) (hG : qFg (aF (qFoA fs ff fg fc) 0 m.toNat)) (hx : 0 ≤ x ∧ x < m) (hi : 0 ≤ i ∧ i < fs x) (hj : 0 ≤ j ∧ j < fs x) (hij : ¬ i = j)
  (hp : ∀ a' b' nm' fr' to' n' co' le' ot' oc' fs' ff' fg' fc' m' lg', qFb fs' m' → qFg (aF (qFoA fs' ff' fg' fc') 0 m'.toNat) → (aF (qFoA fs' ff' fg' fc') 0 m'.toNat, lg') = qJn (qFoA fs ff fg fc x) i j (aF (qFoA fs ff fg fc) 0 m.toNat, lg) → post a' b' nm' fr' to' n' co' le' ot' oc' fs' ff' fg' fc' m' lg') : wpX56_unite post nm fr to co le ot oc fs ff fg fc m lg x i j := by
  have hs := hF.2 x hx.1 hx.2
  unfold wpX56_unite
  refine T56_load hF hG hx (fun nm1 fr1 to1 h1 => ⟨by omega, by omega, fun q => ?_, fun q => ?_⟩)
  rotate_left
  · have ei := (h1 i hi.1 hi.2).1
    have ej := (h1 j hj.1 hj.2).1
    unfold qJn at hp
    rw [← ei, ← ej, if_neg q] at hp
    exact hp _ _ _ _ _ _ _ _ _ _ _ _ _ _ _ _ hF hG rfl
  have ei := (h1 i hi.1 hi.2).1
  have ej := (h1 j hj.1 hj.2).1
  have gi := (h1 i hi.1 hi.2).2
  have gj := (h1 j hj.1 hj.2).2
  have ln : (qFoA fs ff fg fc x).2.2.length = (fs x).toNat := by
    have := qLn_A (fs := fs) (ff := ff) (fg := fg) (fc := fc) (x := x) hs.1
    omega
  have hq1 : (qAk (qFoA fs ff fg fc x) i).1 = (qAk (qFoA fs ff fg fc x) j).1 := by rw [← ei, ← ej]; exact q
  unfold qJn at hp
  rw [if_pos hq1, ln] at hp
  obtain ⟨D, eD⟩ : ∃ D, D = qMF i j ((qFoA fs ff fg fc x).1, (qFoA fs ff fg fc x).2.1, qAk (qFoA fs ff fg fc x)) := ⟨_, rfl⟩
  rw [← eD] at hp
  have go : ∀ a2 b2 f2 t2, a2 = D.1 → b2 = D.2.1 → (∀ k, 0 ≤ k → k < fs x → (nm1 k, f2 k, t2 k) = D.2.2 k ∧ qGa (nm1 k, f2 k, t2 k)) → wX56_unite_169 post i j a2 b2 nm1 f2 t2 (fs x) co le ot fs ff fg fc m lg := fun a2 b2 f2 t2 e1 e2 h => T56_u169 hF hG ⟨hs.1, hs.2⟩ hi hj hij q h e1 e2 hp
  have fi : (qAk (qFoA fs ff fg fc x) i).2.1 = fr1 i := by rw [← ei]
  have fj : (qAk (qFoA fs ff fg fc x) j).2.1 = fr1 j := by rw [← ej]
  unfold qMF at eD
  have u43 : (fr1 i = 6 ∨ fr1 j = 6) → wX56_unite_43 post i j (ff x) (fg x) nm1 fr1 to1 (fs x) co le ot fs ff fg fc m lg := fun h => by
    unfold wX56_unite_43
    refine ⟨by omega, fun p => ⟨by omega, fun u eu _ e1 _ e2 => ?_⟩, fun p => fun u eu _ e1 => ⟨by omega, fun _ e2 => ?_⟩⟩
    · rw [if_pos (show (qAk (qFoA fs ff fg fc x) i).2.1 = 6 from fi.trans p)] at eD
      dsimp only at eD
      rw [← ei, fj] at eD
      rw [e2, e1, eu]
      refine go _ _ _ _ (by rw [eD]; rfl) (by rw [eD]; rfl) (fun k k0 k1 => ?_)
      obtain ⟨q1, q2⟩ := h1 k k0 k1
      rw [eD]
      dsimp only
      by_cases z : k = j
      · rw [z, updI_s, updI_n (fun e => hij e.symm), ← ej]; exact ⟨rfl, gj⟩
      · rw [updI_n z]
        by_cases y : k = i
        · rw [y, updI_s, updI_s]
          refine ⟨rfl, ?_⟩
          unfold qGa at gi gj ⊢
          dsimp only at gi gj ⊢
          omega
        · rw [updI_n y, updI_n y]; exact ⟨q1, q2⟩
    · rw [if_neg (show ¬ (qAk (qFoA fs ff fg fc x) i).2.1 = 6 from fun w => p (fi.symm.trans w)), if_pos (show (qAk (qFoA fs ff fg fc x) j).2.1 = 6 from fj.trans (h.resolve_left p))] at eD
      dsimp only at eD
      rw [← ej, fi] at eD
      rw [e2, e1, eu]
      refine go _ _ _ _ (by rw [eD]; rfl) (by rw [eD]; rfl) (fun k k0 k1 => ?_)
      obtain ⟨q1, q2⟩ := h1 k k0 k1
      rw [eD]
      dsimp only
      by_cases z : k = j
      · rw [z, updI_s, updI_s]
        refine ⟨rfl, ?_⟩
        unfold qGa at gi gj ⊢
        dsimp only at gi gj ⊢
        omega
      · rw [updI_n z, updI_n z]
        by_cases y : k = i
        · rw [y, updI_s, ← ei]; exact ⟨rfl, gi⟩
        · rw [updI_n y]; exact ⟨q1, q2⟩
  refine ⟨fun p => u43 (Or.inl p), fun p => ⟨fun r => u43 (Or.inr r), fun r => ⟨fun s => ?_, fun s => ?_⟩⟩⟩
  · rw [if_neg (show ¬ (qAk (qFoA fs ff fg fc x) i).2.1 = 6 from fun w => p (fi.symm.trans w)), if_neg (show ¬ (qAk (qFoA fs ff fg fc x) j).2.1 = 6 from fun w => r (fj.symm.trans w)), if_pos (show (qAk (qFoA fs ff fg fc x) i).2.1 = (qAk (qFoA fs ff fg fc x) j).2.1 from fi.trans (s.trans fj.symm))] at eD
    refine go _ _ _ _ (by rw [eD]; rfl) (by rw [eD]; rfl) (fun k k0 k1 => ?_)
    rw [eD]; exact h1 k k0 k1
  · rw [if_neg (show ¬ (qAk (qFoA fs ff fg fc x) i).2.1 = 6 from fun w => p (fi.symm.trans w)), if_neg (show ¬ (qAk (qFoA fs ff fg fc x) j).2.1 = 6 from fun w => r (fj.symm.trans w)), if_neg (show ¬ (qAk (qFoA fs ff fg fc x) i).2.1 = (qAk (qFoA fs ff fg fc x) j).2.1 from fun w => s (fi.symm.trans (w.trans fj)))] at eD
    have i7 : ¬ fr1 i = 7 ∧ ¬ fr1 j = 7 := by
      unfold qGa at gi gj
      dsimp only at gi gj
      omega
    refine ⟨fun w => ?_, fun w => ?_⟩
    · rw [if_pos (show (qAk (qFoA fs ff fg fc x) i).2.1 ≤ (qAk (qFoA fs ff fg fc x) j).2.1 by rw [fi, fj]; exact w)] at eD
      dsimp only at eD
      rw [fi, fj] at eD
      unfold wX56_unite_136
      refine ⟨by omega, by omega, fun _ => T56_rename ⟨hs.1, hs.2⟩ (fun f2 t2 h => ?_), fun w2 => absurd w w2⟩
      refine go _ _ _ _ (by rw [eD]; rfl) (by rw [eD]; rfl) (fun k k0 k1 => ?_)
      obtain ⟨q1, q2⟩ := h1 k k0 k1
      have hk := h k k0 k1
      rw [eD]
      unfold qRd
      dsimp only
      rw [hk.1, hk.2, ← q1]
      exact ⟨rfl, qGa_r q2 i7.2 i7.1⟩
    · rw [if_neg (show ¬ (qAk (qFoA fs ff fg fc x) i).2.1 ≤ (qAk (qFoA fs ff fg fc x) j).2.1 by rw [fi, fj]; exact w)] at eD
      dsimp only at eD
      rw [fi, fj] at eD
      unfold wX56_unite_136
      refine ⟨by omega, by omega, fun w2 => absurd w2 w, fun _ => T56_rename ⟨hs.1, hs.2⟩ (fun f2 t2 h => ?_)⟩
      refine go _ _ _ _ (by rw [eD]; rfl) (by rw [eD]; rfl) (fun k k0 k1 => ?_)
      obtain ⟨q1, q2⟩ := h1 k k0 k1
      have hk := h k k0 k1
      rw [eD]
      unfold qRd
      dsimp only
      rw [hk.1, hk.2, ← q1]
      exact ⟨rfl, qGa_r q2 i7.1 i7.2⟩
end
