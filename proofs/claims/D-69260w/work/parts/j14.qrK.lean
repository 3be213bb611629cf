/-! QlRewrite: what forms find, by what is given; find, findAll -/
def qFa (fn fa fb : Int → Int) (nf : Int) (c u v : Int) : Prop := ∃ r, (0 ≤ r ∧ r < nf) ∧ fn r = c ∧ fa r = u ∧ fb r = v
/-- a variable stands in a form, or is none -/
def qSd (f : qFo) (v : Int) : Prop := v < 0 ∨ ∃ c ∈ f.2.2, c / 8 % 8 = v ∨ c % 8 = v
/-- z is an answer of f -/
def qAns (Fa : Int → Int → Int → Prop) (f : qFo) (z : Int) : Prop := ∃ g : Int → Int, (∀ c ∈ f.2.2, ∃ u v, Fa (c / 64) u v ∧ (c / 8 % 8 < 6 → g (c / 8 % 8) = u) ∧ (c % 8 < 6 → g (c % 8) = v)) ∧ (qSd f f.1 ∧ qSd f f.2.1) ∧ z = 16 * (if f.1 < 0 then 0 else g f.1) + (if f.2.1 < 0 then 0 else g f.2.1)
section
variable {fn fa fb fo fo' th rw_ sA sB fs ff fg fc G E g : Int → Int} {nf c k r x n one two z v m : Int} {P Q R : Int → Prop}
theorem qG1_k (hok : qOk fn fa fb c r G) (h : 0 ≤ G v) : qG1 fa c r G v = G v := by
  unfold qG1
  by_cases z : c / 8 % 8 < 6
  · rw [if_pos z, updI_e]
    by_cases y : v = c / 8 % 8
    · rw [if_pos y]
      have := hok.2.1 z
      rw [← y] at this
      omega
    · rw [if_neg y]
  · rw [if_neg z]
theorem qG2_k (hok : qOk fn fa fb c r G) (h : 0 ≤ G v) : qG2 fa fb c r G v = G v := by
  have e := qG1_k hok h
  unfold qG2
  by_cases z : c % 8 < 6
  · rw [if_pos z, updI_e]
    by_cases y : v = c % 8
    · rw [if_pos y]
      have := hok.2.2 z
      rw [← y] at this
      omega
    · rw [if_neg y]; exact e
  · rw [if_neg z]; exact e
theorem qG2_y (h : c % 8 < 6) : qG2 fa fb c r G (c % 8) = fb r := by
  unfold qG2
  rw [if_pos h, updI_s]
theorem qG2_x (hok : qOk fn fa fb c r G) (h : c / 8 % 8 < 6) (ha : 0 ≤ fa r) : qG2 fa fb c r G (c / 8 % 8) = fa r := by
  have e1 : qG1 fa c r G (c / 8 % 8) = fa r := by
    unfold qG1
    rw [if_pos h, updI_s]
  unfold qG2
  by_cases z : c % 8 < 6
  · rw [if_pos z, updI_e]
    by_cases y : c / 8 % 8 = c % 8
    · rw [if_pos y]
      have := hok.2.2 z
      rw [← y, e1] at this
      omega
    · rw [if_neg y]; exact e1
  · rw [if_neg z]; exact e1
theorem qG2_o (h : 0 ≤ qG2 fa fb c r G v) : 0 ≤ G v ∨ c / 8 % 8 = v ∨ c % 8 = v := by
  by_cases y : c % 8 = v
  · exact Or.inr (Or.inr y)
  · by_cases x : c / 8 % 8 = v
    · exact Or.inr (Or.inl x)
    · left
      have e : qG2 fa fb c r G v = G v := by
        unfold qG2 qG1
        split
        · rw [updI_n (fun e => y e.symm)]
          split
          · rw [updI_n (fun e => x e.symm)]
          · rfl
        · split
          · rw [updI_n (fun e => x e.symm)]
          · rfl
      rw [e] at h; exact h
theorem qMx_s (ha : ∀ r, 0 ≤ r → r < nf → 0 ≤ fa r ∧ 0 ≤ fb r) : ∀ (p : Nat) (k : Int) (G : Int → Int), qMx fn fa fb nf one two fc p k G z → ∃ E : Int → Int, (∀ v, 0 ≤ v → v < 6 → 0 ≤ G v → E v = G v) ∧ (∀ j, k ≤ j → j < k + p → ∃ r, (0 ≤ r ∧ r < nf) ∧ fn r = fc j / 64 ∧ (fc j / 8 % 8 < 6 → E (fc j / 8 % 8) = fa r) ∧ (fc j % 8 < 6 → E (fc j % 8) = fb r)) ∧ (∀ v, 0 ≤ v → v < 6 → 0 ≤ E v → 0 ≤ G v ∨ ∃ j, (k ≤ j ∧ j < k + p) ∧ (fc j / 8 % 8 = v ∨ fc j % 8 = v)) ∧ ∃ u w, (u = if one < 0 then 0 else E one) ∧ (w = if two < 0 then 0 else E two) ∧ 0 ≤ u ∧ 0 ≤ w ∧ z = 16 * u + w
  | 0, k, G, h => ⟨G, fun _ _ _ _ => rfl, fun j j0 j1 => by omega, fun v _ _ h => Or.inl h, h⟩
  | p + 1, k, G, h => by
    rw [qMx] at h
    obtain ⟨r, hr, ok, h⟩ := h
    obtain ⟨E, e1, e2, e3, e4⟩ := qMx_s ha p (k + 1) _ h
    have hab := ha r hr.1 hr.2
    refine ⟨E, fun v v0 v1 hv => ?_, fun j j0 j1 => ?_, fun v v0 v1 hv => ?_, e4⟩
    · have := qG2_k ok hv
      rw [e1 v v0 v1 (by rw [this]; exact hv), this]
    · by_cases q : j = k
      · rw [q]
        refine ⟨r, hr, ok.1, fun h6 => ?_, fun h6 => ?_⟩
        · have := qG2_x ok h6 hab.1
          rw [e1 _ (by omega) h6 (by rw [this]; exact hab.1), this]
        · have := qG2_y (fa := fa) (fb := fb) (r := r) (G := G) h6
          rw [e1 _ (by omega) h6 (by rw [this]; exact hab.2), this]
      · exact e2 j (by omega) (by omega)
    · rcases e3 v v0 v1 hv with q | ⟨j, hj, q⟩
      · rcases qG2_o q with w | w
        · exact Or.inl w
        · exact Or.inr ⟨k, by omega, w⟩
      · exact Or.inr ⟨j, by omega, q⟩
theorem qMx_c (ha : ∀ r, 0 ≤ r → r < nf → 0 ≤ fa r ∧ 0 ≤ fb r) : ∀ (p : Nat) (k : Int) (G : Int → Int), (∀ v, 0 ≤ v → v < 6 → 0 ≤ G v → g v = G v) → (∀ j, k ≤ j → j < k + p → ∃ r, (0 ≤ r ∧ r < nf) ∧ fn r = fc j / 64 ∧ (fc j / 8 % 8 < 6 → g (fc j / 8 % 8) = fa r) ∧ (fc j % 8 < 6 → g (fc j % 8) = fb r)) → ∃ E : Int → Int, (∀ z, (∃ u w, (u = if one < 0 then 0 else E one) ∧ (w = if two < 0 then 0 else E two) ∧ 0 ≤ u ∧ 0 ≤ w ∧ z = 16 * u + w) → qMx fn fa fb nf one two fc p k G z) ∧ ∀ v, 0 ≤ v → v < 6 → (0 ≤ G v ∨ ∃ j, (k ≤ j ∧ j < k + p) ∧ (fc j / 8 % 8 = v ∨ fc j % 8 = v)) → E v = g v
  | 0, k, G, hG, _ => ⟨G, fun z h => h, fun v v0 v1 h => h.elim (fun h => (hG v v0 v1 h).symm) (fun ⟨j, hj, _⟩ => by omega)⟩
  | p + 1, k, G, hG, hm => by
    obtain ⟨r, hr, r1, r2, r3⟩ := hm k (Int.le_refl _) (by omega)
    have hab := ha r hr.1 hr.2
    have ok : qOk fn fa fb (fc k) r G := by
      refine ⟨r1, fun h6 => ?_, fun h6 => ?_⟩
      · by_cases q : G (fc k / 8 % 8) < 0
        · exact Or.inl q
        · right
          rw [← hG _ (by omega) h6 (by omega)]; exact r2 h6
      · unfold qG1
        by_cases z6 : fc k / 8 % 8 < 6
        · rw [if_pos z6, updI_e]
          by_cases y : fc k % 8 = fc k / 8 % 8
          · rw [if_pos y]
            right
            have a := r2 z6
            rw [← y, r3 h6] at a
            exact a.symm
          · rw [if_neg y]
            by_cases q : G (fc k % 8) < 0
            · exact Or.inl q
            · right
              rw [← hG _ (by omega) h6 (by omega)]; exact r3 h6
        · rw [if_neg z6]
          by_cases q : G (fc k % 8) < 0
          · exact Or.inl q
          · right
            rw [← hG _ (by omega) h6 (by omega)]; exact r3 h6
    have hG' : ∀ v, 0 ≤ v → v < 6 → 0 ≤ qG2 fa fb (fc k) r G v → g v = qG2 fa fb (fc k) r G v := fun v v0 v1 hv => by
      rcases qG2_o hv with w | w | w
      · rw [qG2_k ok w]; exact hG v v0 v1 w
      · have h6 : fc k / 8 % 8 < 6 := by omega
        rw [← w, qG2_x ok h6 hab.1]; exact r2 h6
      · have h6 : fc k % 8 < 6 := by omega
        rw [← w, qG2_y h6]; exact r3 h6
    obtain ⟨E, e1, e2⟩ := qMx_c ha p (k + 1) (qG2 fa fb (fc k) r G) hG' (fun j j0 j1 => hm j (by omega) (by omega))
    refine ⟨E, fun z hz => ?_, fun v v0 v1 h => ?_⟩
    · rw [qMx]
      exact ⟨r, hr, ok, e1 z hz⟩
    · refine e2 v v0 v1 ?_
      rcases h with h | ⟨j, hj, q⟩
      · left; rw [qG2_k ok h]; exact h
      · by_cases ej : j = k
        · rw [ej] at q
          left
          rcases q with q | q
          · have h6 : fc k / 8 % 8 < 6 := by omega
            rw [← q, qG2_x ok h6 hab.1]; exact hab.1
          · have h6 : fc k % 8 < 6 := by omega
            rw [← q, qG2_y h6]; exact hab.2
        · exact Or.inr ⟨j, by omega, q⟩
theorem qMx_a {fcx : Int → Int} (ha : ∀ r, 0 ≤ r → r < nf → 0 ≤ fa r ∧ 0 ≤ fb r) (hs : 0 ≤ fs x) (h1 : ff x < 6 ∧ fg x < 6) (hG : ∀ v, 0 ≤ v → v < 6 → G v = -1) (ex : ∀ k, 0 ≤ k → k < fs x → fcx k = fc (4 * x + k)) : qMx fn fa fb nf (ff x) (fg x) fcx (fs x).toNat 0 G z ↔ qAns (qFa fn fa fb nf) (qFoA fs ff fg fc x) z := by
  have mem : ∀ c, c ∈ (qFoA fs ff fg fc x).2.2 ↔ ∃ j, (0 ≤ j ∧ j < fs x) ∧ c = fcx j := fun c => by
    unfold qFoA
    dsimp only
    rw [aF_mem]
    exact ⟨fun ⟨i, hi, e⟩ => ⟨i - 4 * x, by omega, by rw [ex _ (by omega) (by omega), show 4 * x + (i - 4 * x) = i by omega]; exact e⟩, fun ⟨j, hj, e⟩ => ⟨4 * x + j, by omega, by rw [e]; exact ex j hj.1 hj.2⟩⟩
  have e1 : (qFoA fs ff fg fc x).1 = ff x := rfl
  have e2 : (qFoA fs ff fg fc x).2.1 = fg x := rfl
  constructor
  · intro h
    obtain ⟨E, a1, a2, a3, u, w, a4, a5, a6, a7, a8⟩ := qMx_s ha _ _ _ h
    refine ⟨E, fun c hc => ?_, ⟨?_, ?_⟩, ?_⟩
    · obtain ⟨j, hj, rfl⟩ := (mem c).1 hc
      obtain ⟨r, hr, b1, b2, b3⟩ := a2 j hj.1 (by omega)
      exact ⟨fa r, fb r, ⟨r, hr, b1, rfl, rfl⟩, b2, b3⟩
    · rw [e1]
      by_cases q : ff x < 0
      · exact Or.inl q
      · right
        rw [if_neg q] at a4
        rcases a3 (ff x) (by omega) h1.1 (by omega) with w | ⟨j, hj, w⟩
        · rw [hG _ (by omega) h1.1] at w; omega
        · exact ⟨_, (mem _).2 ⟨j, by omega, rfl⟩, w⟩
    · rw [e2]
      by_cases q : fg x < 0
      · exact Or.inl q
      · right
        rw [if_neg q] at a5
        rcases a3 (fg x) (by omega) h1.2 (by omega) with w | ⟨j, hj, w⟩
        · rw [hG _ (by omega) h1.2] at w; omega
        · exact ⟨_, (mem _).2 ⟨j, by omega, rfl⟩, w⟩
    · rw [e1, e2, ← a4, ← a5]; exact a8
  · rintro ⟨g, b1, ⟨b2, b3⟩, b4⟩
    rw [e1] at b2
    rw [e2] at b3
    rw [e1, e2] at b4
    have hm : ∀ j, 0 ≤ j → j < 0 + ((fs x).toNat : Int) → ∃ r, (0 ≤ r ∧ r < nf) ∧ fn r = fcx j / 64 ∧ (fcx j / 8 % 8 < 6 → g (fcx j / 8 % 8) = fa r) ∧ (fcx j % 8 < 6 → g (fcx j % 8) = fb r) := fun j j0 j1 => by
      obtain ⟨u, v, ⟨r, hr, q1, q2, q3⟩, q4, q5⟩ := b1 (fcx j) ((mem _).2 ⟨j, by omega, rfl⟩)
      exact ⟨r, hr, q1, fun h => (q4 h).trans q2.symm, fun h => (q5 h).trans q3.symm⟩
    obtain ⟨E, c1, c2⟩ := qMx_c (one := ff x) (two := fg x) ha (fs x).toNat 0 G (fun v v0 v1 h => by rw [hG v v0 v1] at h; omega) hm
    have val : ∀ v, v < 6 → qSd (qFoA fs ff fg fc x) v → ¬ v < 0 → E v = g v ∧ 0 ≤ g v := fun v v6 hv n0 => by
      obtain ⟨c, hc, q⟩ := hv.resolve_left n0
      obtain ⟨j, hj, rfl⟩ := (mem c).1 hc
      refine ⟨c2 v (by omega) v6 (Or.inr ⟨j, by omega, q⟩), ?_⟩
      obtain ⟨r, hr, q1, q2, q3⟩ := hm j hj.1 (by omega)
      have hab := ha r hr.1 hr.2
      rcases q with q | q
      · rw [← q, q2 (by omega)]; exact hab.1
      · rw [← q, q3 (by omega)]; exact hab.2
    refine c1 z ⟨_, _, rfl, rfl, ?_, ?_, ?_⟩
    · by_cases q : ff x < 0
      · rw [if_pos q]; exact Int.le_refl _
      · rw [if_neg q, (val _ h1.1 b2 q).1]; exact (val _ h1.1 b2 q).2
    · by_cases q : fg x < 0
      · rw [if_pos q]; exact Int.le_refl _
      · rw [if_neg q, (val _ h1.2 b3 q).1]; exact (val _ h1.2 b3 q).2
    · rw [b4]
      by_cases q : ff x < 0
      · rw [if_pos q, if_pos q]
        by_cases p : fg x < 0
        · rw [if_pos p, if_pos p]
        · rw [if_neg p, if_neg p, (val _ h1.2 b3 p).1]
      · rw [if_neg q, if_neg q, (val _ h1.1 b2 q).1]
        by_cases p : fg x < 0
        · rw [if_pos p, if_pos p]
        · rw [if_neg p, if_neg p, (val _ h1.2 b3 p).1]
/-- facts as they are kept -/
def qFI (fn fa fb : Int → Int) (nf : Int) : Prop := (0 ≤ nf ∧ nf ≤ 60) ∧ ∀ r, 0 ≤ r → r < nf → (0 ≤ fa r ∧ fa r < 12) ∧ 0 ≤ fb r ∧ fb r < 12
theorem T56_find {post : (Int → Int) → (Int → Int) → (Int → Int) → (Int → Int) → (Int → Int) → Prop} (hF : qFI fn fa fb nf) (hx : 0 ≤ x ∧ x < 90) (hs : 1 ≤ fs x ∧ fs x ≤ 4) (hc : ∀ k, 0 ≤ k → k < fs x → 0 ≤ fc (4 * x + k)) (h1 : ff x < 6 ∧ fg x < 6) (hp : ∀ fo' th' rw' sA' sB', qNt x (qAns (qFa fn fa fb nf) (qFoA fs ff fg fc x)) fo fo' → post fo' th' rw' sA' sB') : wpX56_find post fn fa fb nf fs ff fg fc fo th rw_ sA sB x := by
  obtain ⟨hnf, hb⟩ := hF
  unfold wpX56_find
  refine wl2 (fun fu v G => wX56_find_2 _ fu v G) (fun v G => (0 ≤ v ∧ v ≤ 6) ∧ ∀ i, 0 ≤ i → i < v → G i = -1) (fun v _ => (6 - v).toNat) ?_ 0 th ⟨by omega, fun i i0 i1 => by omega⟩
  rintro v G ⟨hv, hG⟩ f ih
  rw [wX56_find_2]
  refine ⟨fun z rw1 erw => ?_, fun z => ⟨by omega, fun _ e1 => ⟨by omega, fun _ e2 => ?_⟩⟩⟩
  · have hG' : ∀ i, 0 ≤ i → i < 6 → G i = -1 := fun i i0 i1 => hG i i0 (by omega)
    obtain ⟨N, hN⟩ := T56_lev (n := fs x) hx ⟨rfl, hs.2⟩ hnf (fun r r0 r1 => (hb r r0 r1).1.2) (fun r r0 r1 => (hb r r0 r1).2.2) hc h1 ((fs x).toNat - 1) 0 G 1 (by omega) (Int.le_refl _) (fun i i0 i1 => by rw [hG' i i0 i1]; decide) nf.toNat (-1) (by omega) (by decide)
    refine ⟨N, hN _ fo G rw1 sA sB (by rw [erw, updI_s]) (fun _ => rfl) (fun w => absurd w (by decide)) (fun fo' rw' sA' sB' nt ag => ?_)⟩
    rw [wX56_find_30]
    refine ⟨fun _ => hp _ _ _ _ _ (fun z => ?_), fun w => absurd (by decide) w⟩
    have e := nt z
    have ea : qMr fn fa fb nf (ff x) (fg x) (fun k => fc (4 * x + k)) ((fs x).toNat - 1) 0 (-1) G z ↔ qAns (qFa fn fa fb nf) (qFoA fs ff fg fc x) z := by
      rw [qMr_m, show (fs x).toNat - 1 + 1 = (fs x).toNat by omega]
      exact qMx_a (fun r r0 r1 => ⟨(hb r r0 r1).1.1, (hb r r0 r1).2.1⟩) (by omega) h1 hG' (fun k _ _ => rfl)
    by_cases w : fo z < 0 ∧ qMr fn fa fb nf (ff x) (fg x) (fun k => fc (4 * x + k)) ((fs x).toNat - 1) 0 (-1) G z
    · rw [pif_t w] at e
      rw [pif_t ⟨w.1, ea.1 w.2⟩]; exact e
    · rw [pif_f w] at e
      rw [pif_f (fun q => w ⟨q.1, ea.2 q.2⟩)]; exact e
  · rw [e2, e1]
    refine ih _ _ ⟨by omega, fun i i0 i1 => ?_⟩ (by omega)
    by_cases q : i = v
    · rw [q, updI_s]
    · rw [updI_n q]; exact hG i i0 (by omega)
/-- for each answer the first form that has it -/
def qFst (Fa : Int → Int → Int → Prop) (FL : List qFo) (m : Int) (fo : Int → Int) : Prop := ∀ z, 0 ≤ z → z < 192 → (fo z = -1 ∧ ∀ i : Int, 0 ≤ i → i < m → ¬ qAns Fa (FL.getD i.toNat (0, 0, [])) z) ∨ ((0 ≤ fo z ∧ fo z < m) ∧ qAns Fa (FL.getD (fo z).toNat (0, 0, [])) z ∧ ∀ i : Int, 0 ≤ i → i < fo z → ¬ qAns Fa (FL.getD i.toNat (0, 0, [])) z)
theorem T56_findAll {post : (Int → Int) → Int → (Int → Int) → (Int → Int) → (Int → Int) → (Int → Int) → Prop} {S : qSS} {lg fd : Int} (hF : qFI fn fa fb nf) (I : qI S fs ff fg fc m lg) (h0 : fd = 0 → ∀ fo' th' rw' sA' sB', qFst (qFa fn fa fb nf) S.1 m fo' → post fo' 1 th' rw' sA' sB') (h1 : ¬ fd = 0 → post fo fd th rw_ sA sB) : wpX56_findAll post fn fa fb nf fs ff fg fc m fo fd th rw_ sA sB := by
  have hm := I.1.1
  have e1 : aF (qFoA fs ff fg fc) 0 m.toNat = S.1 := congrArg (fun t : qSS => t.1) I.2.2
  have at_ : ∀ i : Int, 0 ≤ i → i < m → S.1.getD i.toNat (0, 0, []) = qFoA fs ff fg fc i := fun i i0 i1 => by
    rw [← e1, aF_get _ _ _ (by omega), show (0 : Int) + (i.toNat : Int) = i by omega]
  unfold wpX56_findAll
  refine ⟨fun d0 => ?_, h1⟩
  refine wl2 (fun fu z f => wX56_findAll_15 _ fu z f) (fun z f => (0 ≤ z ∧ z ≤ 192) ∧ ∀ i, 0 ≤ i → i < z → f i = -1) (fun z _ => (192 - z).toNat) ?_ 0 fo ⟨by omega, fun i i0 i1 => by omega⟩
  rintro z f ⟨hz, hf⟩ fu ih
  rw [wX56_findAll_15]
  refine ⟨fun w => ?_, fun w => ⟨by omega, fun _ a1 => ⟨by omega, fun _ a2 => ?_⟩⟩⟩
  · refine wloop (fun fu2 (s : Int × (Int → Int) × (Int → Int) × (Int → Int) × (Int → Int) × (Int → Int)) => wX56_findAll_37 (fun f t w a b => post f 1 t w a b) fn fa fb nf fs ff fg fc m fu2 s.1 s.2.1 s.2.2.1 s.2.2.2.1 s.2.2.2.2.1 s.2.2.2.2.2) (fun s => (0 ≤ s.1 ∧ s.1 ≤ m) ∧ qFst (qFa fn fa fb nf) S.1 s.1 s.2.1) (fun s => (m - s.1).toNat) ?_ (0, f, th, rw_, sA, sB) ⟨by dsimp only; omega, fun y y0 y1 => Or.inl ⟨hf y y0 (by omega), fun i i0 i1 => by dsimp only at i1; omega⟩⟩
    rintro ⟨x, f, th, rw_, sA, sB⟩ ⟨hx, hq⟩ fu2 ih2
    dsimp only at *
    rw [wX56_findAll_37]
    refine ⟨fun y => h0 d0 _ _ _ _ _ (by rw [show m = x by omega]; exact hq), fun y => ?_⟩
    have ef := at_ x hx.1 (by omega)
    have kx := (I.2.1 _ ((aF_mem _ _).2 ⟨x, by omega, rfl⟩ : qFoA fs ff fg fc x ∈ _)).2
    have bx := I.1.2 x hx.1 (by omega)
    have lx := qLn_A (fs := fs) (ff := ff) (fg := fg) (fc := fc) (x := x) (I.1.2 x hx.1 (by omega)).1
    have kf : ff x < 6 ∧ fg x < 6 := kx.2
    refine T56_find hF (by omega) ⟨by omega, by omega⟩ (fun k k0 k1 => (qFg_k I.2.1 ⟨hx.1, by omega⟩ ⟨k0, k1⟩).1) kf (fun fo' th' rw' sA' sB' nt => ⟨by omega, fun x' ex' => ?_⟩)
    rw [ex']
    refine ih2 (x + 1, fo', th', rw', sA', sB') ⟨by dsimp only; omega, fun z z0 z1 => ?_⟩ (by dsimp only; omega)
    dsimp only
    rw [nt z]
    rw [← ef]
    rcases hq z z0 z1 with ⟨q1, q2⟩ | ⟨q1, q2, q3⟩
    · by_cases p : qAns (qFa fn fa fb nf) (S.1.getD x.toNat (0, 0, [])) z
      · rw [pif_t ⟨by omega, p⟩]
        exact Or.inr ⟨by omega, p, q2⟩
      · rw [pif_f (fun u => p u.2)]
        refine Or.inl ⟨q1, fun i i0 i1 => ?_⟩
        by_cases q : i = x
        · rw [q]; exact p
        · exact q2 i i0 (by omega)
    · rw [pif_f (fun u => by omega)]
      exact Or.inr ⟨by omega, q2, q3⟩
  · rw [a2, a1]
    refine ih _ _ ⟨by omega, fun i i0 i1 => ?_⟩ (by omega)
    by_cases q : i = z
    · rw [q, updI_s]
    · rw [updI_n q]; exact hf i i0 (by omega)
end
