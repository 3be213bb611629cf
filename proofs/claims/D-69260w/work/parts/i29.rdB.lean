/-! RuleEngine: what is worked out does not rest on what lies outside; what rules are made of is kept -/
def reAg (f g : Int → Int) : Prop := ∀ c, 0 ≤ c → c < 16384 → f c = g c
section
variable {sd hd kd fo ln pt st st' rn rn' gv gv' : Int → Int} {n s w t c a r x y k v ci tn lg round g : Int} {F : Int → Prop}
theorem reHo_cg (h : reAg rn rn') : reHo rn = reHo rn' := funext fun c => propext (and_congr_right fun b => by rw [h c b.1 b.2])
theorem reFo_cg (h : reAg rn rn') (ha : 0 ≤ a ∧ a < 16) : reFo rn a = reFo rn' a := cntI_c (fun i i0 i1 => by rw [h _ (by omega) (by omega)])
theorem rePr_cg (I : reI hd kd fo ln pt n) (h : reAg rn rn') (hr : 0 ≤ r ∧ r < n) : ∀ k : Nat, (k : Int) ≤ ln r → rePr pt rn r k = rePr pt rn' r k
  | 0, _ => rfl
  | k + 1, hk => by
    have ih := rePr_cg I h hr k (by omega)
    have nm := ((I.2 r hr.1 hr.2).2.2.2 k (by omega) (by omega)).2.1
    rw [rePr, rePr, ih, reFo_cg h nm]
theorem reSel_cg (I : reI hd kd fo ln pt n) (hst : ∀ a, 0 ≤ a → a < 16 → st a = st' a) (hr : 0 ≤ r ∧ r < n) : reSel hd kd fo ln pt st s r ↔ reSel hd kd fo ln pt st' s r := by
  have b := (I.2 r hr.1 hr.2).1.1
  unfold reSel
  rw [hst _ b.1 b.2]
theorem reWk_cg (I : reI hd kd fo ln pt n) (hst : ∀ a, 0 ≤ a → a < 16 → st a = st' a) (h : reAg rn rn') : ∀ k : Nat, (k : Int) ≤ n → reWk hd kd fo ln pt st rn s w k = reWk hd kd fo ln pt st' rn' s w k
  | 0, _ => rfl
  | k + 1, hk => by
    have ih := reWk_cg I hst h k (by omega)
    have hr : 0 ≤ (k : Int) ∧ (k : Int) < n := by omega
    have l := (I.2 k hr.1 hr.2).2.2.1
    rw [reWk, reWk, ih, pif_c (reSel_cg I hst hr), rePr_cg I h hr (ln (k : Int)).toNat (by omega)]
theorem reAl_cg (I : reI hd kd fo ln pt n) (hst : ∀ a, 0 ≤ a → a < 16 → st a = st' a) : ∀ k : Nat, (k : Int) ≤ n → reAl hd kd fo ln pt st F s k = reAl hd kd fo ln pt st' F s k
  | 0, _ => rfl
  | k + 1, hk => by
    rw [reAl, reAl, reAl_cg I hst k (by omega), pif_c (reSel_cg I hst (show 0 ≤ (k : Int) ∧ (k : Int) < n by omega))]
theorem reNx_cg {l : List Int} (h : reAg rn rn') : reAg (reNx round rn l) (reNx round rn' l) := fun c c0 c1 => by
  unfold reNx
  rw [h c c0 c1]
theorem reLp_w0 (I : reI hd kd fo ln pt n) : ∀ (k : Nat) (round : Int) (rn : Int → Int) (t w : Int), 0 ≤ w → 0 ≤ (reLp hd kd fo ln pt st n s k round rn t w).2.2.1
  | 0, _, _, _, _, h => by rw [reLp]; exact h
  | k + 1, round, rn, t, w, h => by
    have w0 := (reWk_b I (w := w) (st := st) (rn := rn) (s := s) n.toNat (by have := I.1; omega)).1
    rw [reLp]
    by_cases hW : 200000 < reWk hd kd fo ln pt st rn s w n.toNat
    · rw [if_pos hW]
      show 0 ≤ reWk hd kd fo ln pt st rn s w n.toNat
      omega
    · rw [if_neg hW]
      by_cases ex : ∃ c ∈ reAl hd kd fo ln pt st (reHo rn) s n.toNat, rn c < 0
      · rw [pif_t ex]
        exact reLp_w0 I k _ _ _ _ (by omega)
      · rw [pif_f ex]
        show 0 ≤ reWk hd kd fo ln pt st rn s w n.toNat
        omega
theorem reLp_cg (I : reI hd kd fo ln pt n) (hst : ∀ a, 0 ≤ a → a < 16 → st a = st' a) : ∀ (k : Nat) (round : Int) (rn rn' : Int → Int) (t w : Int), 0 ≤ w → reAg rn rn' → reAg (reLp hd kd fo ln pt st n s k round rn t w).1 (reLp hd kd fo ln pt st' n s k round rn' t w).1 ∧ (reLp hd kd fo ln pt st n s k round rn t w).2 = (reLp hd kd fo ln pt st' n s k round rn' t w).2
  | 0, _, _, _, _, _, _, h => by
    rw [reLp, reLp]
    exact ⟨h, rfl⟩
  | k + 1, round, rn, rn', t, w, hw, h => by
    have hn := I.1
    have w0 := (reWk_b I (w := w) (st := st) (rn := rn) (s := s) n.toNat (by omega)).1
    have eW := reWk_cg (s := s) (w := w) I hst h n.toNat (by omega)
    rw [reLp, reLp, ← eW]
    by_cases big : 200000 < reWk hd kd fo ln pt st rn s w n.toNat
    · rw [if_pos big, if_pos big]
      exact ⟨h, rfl⟩
    · rw [if_neg big, if_neg big, ← reHo_cg h, ← reAl_cg (s := s) (F := reHo rn) I hst n.toNat (by omega)]
      have ex : (∃ c ∈ reAl hd kd fo ln pt st (reHo rn) s n.toNat, rn c < 0) ↔ (∃ c ∈ reAl hd kd fo ln pt st (reHo rn) s n.toNat, rn' c < 0) := exists_congr fun c => and_congr_right fun m => by
        have b := reAl_r (st := st) (rn := rn) (s := s) (wk := w) (F := reHo rn) I (fun c h => h) hw (by omega) n.toNat (by omega) c m
        rw [h c b.1 b.2]
      by_cases q : ∃ c ∈ reAl hd kd fo ln pt st (reHo rn) s n.toNat, rn c < 0
      · rw [pif_t q, pif_t (ex.1 q)]
        exact reLp_cg I hst k _ _ _ _ _ (by omega) (reNx_cg h)
      · rw [pif_f q, pif_f (fun z => q (ex.2 z))]
        exact ⟨h, rfl⟩
theorem reSs_cg (I : reI hd kd fo ln pt n) (hst : ∀ a, 0 ≤ a → a < 16 → st a = st' a) : ∀ (j : Nat) (s : Int) (rn rn' : Int → Int) (t w g : Int), 0 ≤ w → reAg rn rn' → reAg (reSs hd kd fo ln pt st n j s rn t w g).1 (reSs hd kd fo ln pt st' n j s rn' t w g).1 ∧ (reSs hd kd fo ln pt st n j s rn t w g).2 = (reSs hd kd fo ln pt st' n j s rn' t w g).2
  | 0, _, _, _, _, _, _, _, h => by
    rw [reSs, reSs]
    exact ⟨h, rfl⟩
  | j + 1, s, rn, rn', t, w, g, hw, h => by
    rw [reSs, reSs]
    by_cases z : g = 0
    · rw [if_pos z, if_pos z]
      obtain ⟨a, b⟩ := reLp_cg (s := s) I hst 16385 1 rn rn' t w hw h
      rw [← b]
      exact reSs_cg I hst j _ _ _ _ _ _ (reLp_w0 I 16385 1 rn t w hw) a
    · rw [if_neg z, if_neg z]
      exact ⟨h, rfl⟩
theorem reZr_cg : reAg (reZr sd rn 16384) (reZr sd rn' 16384) := fun c c0 c1 => by
  unfold reZr
  rw [if_pos (show 0 ≤ c ∧ c < 16384 from ⟨c0, c1⟩), if_pos (show 0 ≤ c ∧ c < 16384 from ⟨c0, c1⟩)]
theorem reZg_cg : reAg (reZg gv 16384) (reZg gv' 16384) := fun c c0 c1 => by
  unfold reZg
  rw [if_pos (show 0 ≤ c ∧ c < 16384 from ⟨c0, c1⟩), if_pos (show 0 ≤ c ∧ c < 16384 from ⟨c0, c1⟩)]
theorem reRz_cg (I : reI hd kd fo ln pt n) (hst : ∀ a, 0 ≤ a → a < 16 → st a = st' a) : reAg (reRz sd hd kd fo ln pt st n ci rn gv).1 (reRz sd hd kd fo ln pt st' n ci rn' gv').1 ∧ reAg (reRz sd hd kd fo ln pt st n ci rn gv).2.1 (reRz sd hd kd fo ln pt st' n ci rn' gv').2.1 ∧ (reRz sd hd kd fo ln pt st n ci rn gv).2.2 = (reRz sd hd kd fo ln pt st' n ci rn' gv').2.2 := by
  have hn := I.1
  obtain ⟨a, b⟩ := reSs_cg I hst 16 0 (reZr sd rn 16384) (reZr sd rn' 16384) 0 0 0 (Int.le_refl 0) reZr_cg
  unfold reRz
  generalize reSs hd kd fo ln pt st n 16 0 (reZr sd rn 16384) 0 0 0 = S at a b ⊢
  generalize reSs hd kd fo ln pt st' n 16 0 (reZr sd rn' 16384) 0 0 0 = S' at a b ⊢
  obtain ⟨S1, S2⟩ := S
  obtain ⟨S1', S2'⟩ := S'
  dsimp only at a b ⊢
  subst b
  by_cases c0 : 0 ≤ ci
  · rw [if_pos c0, if_pos c0]
    exact ⟨reZr_cg, reZg_cg, rfl⟩
  · rw [if_neg c0, if_neg c0]
    by_cases g0 : ¬ S2.2.2 = 0
    · rw [if_pos g0, if_pos g0]
      exact ⟨reZr_cg, reZg_cg, rfl⟩
    · rw [if_neg g0, if_neg g0, ← reWk_cg (s := -1) (w := S2.2.1) I hst a n.toNat (by omega)]
      by_cases big : 200000 < reWk hd kd fo ln pt st S1 (-1) S2.2.1 n.toNat
      · rw [if_pos big, if_pos big]
        exact ⟨reZr_cg, reZg_cg, rfl⟩
      · rw [if_neg big, if_neg big, ← reHo_cg a, ← reAl_cg (s := -1) (F := reHo S1) I hst n.toNat (by omega)]
        exact ⟨a, fun c c0 c1 => by (try dsimp only); rw [reZg_cg (gv := gv) (gv' := gv') c c0 c1], rfl⟩
/-- what the reference knows is what is worked out -/
theorem reKn.rz (I : reI hd kd fo ln pt n) (K : reKn sd hd kd fo ln pt n rn gv st ci tn lg) : reAg rn (rzAll sd hd kd fo ln pt n).1 ∧ reAg gv (rzAll sd hd kd fo ln pt n).2.1 ∧ (∀ a, 0 ≤ a → a < 16 → st a = rzSt hd kd fo ln pt n a) ∧ ci = rzCi hd kd fo ln pt n ∧ tn = (rzAll sd hd kd fo ln pt n).2.2.1 ∧ lg = (rzAll sd hd kd fo ln pt n).2.2.2 := by
  obtain ⟨rn0, gv0, ⟨e, c0, c1⟩, rfl, rfl, rfl, rfl⟩ := K
  have ec : ci = rzCi hd kd fo ln pt n := e
  have p : rzP hd kd fo ln pt n st := ⟨fun z => c0 (by rw [ec]; exact z), fun z => c1 (by rw [ec]; exact z)⟩
  have es : ∀ a, 0 ≤ a → a < 16 → st a = rzSt hd kd fo ln pt n a := fun a a0 a1 => p.u (rzSt_s p) a0 a1
  obtain ⟨q1, q2, q3⟩ := reRz_cg (sd := sd) (ci := ci) (rn := rn0) (rn' := fun _ => -1) (gv := gv0) (gv' := fun _ => 0) I es
  subst ec
  exact ⟨q1, q2, es, rfl, congrArg Prod.fst q3, congrArg Prod.snd q3⟩
theorem reI.rule (I : reI hd kd fo ln pt n) (h : (0 ≤ a ∧ a < 16) ∧ reIt x ∧ reIt y) (hn : n < 16) : reI (updI (updI (updI hd (3 * n) a) (3 * n + 1) x) (3 * n + 2) y) (updI kd n (-1)) (updI fo n 0) (updI ln n 0) pt (n + 1) := by
  refine ⟨by have := I.1; omega, fun r r0 r1 => ?_⟩
  by_cases z : r = n
  · subst z
    rw [updI_n (show ¬ 3 * r = 3 * r + 2 by omega), updI_n (show ¬ 3 * r = 3 * r + 1 by omega), updI_s, updI_n (show ¬ 3 * r + 1 = 3 * r + 2 by omega), updI_s, updI_s, updI_s, updI_s, updI_s]
    exact ⟨⟨h.1, h.2⟩, ⟨by decide, fun w => absurd (by decide) w⟩, by decide, fun k k0 k1 => by omega⟩
  · have J := I.2 r r0 (by omega)
    rw [updI_n (show ¬ 3 * r = 3 * n + 2 by omega), updI_n (show ¬ 3 * r = 3 * n + 1 by omega), updI_n (show ¬ 3 * r = 3 * n by omega), updI_n (show ¬ 3 * r + 1 = 3 * n + 2 by omega), updI_n (show ¬ 3 * r + 1 = 3 * n + 1 by omega), updI_n (show ¬ 3 * r + 1 = 3 * n by omega), updI_n (show ¬ 3 * r + 2 = 3 * n + 2 by omega), updI_n (show ¬ 3 * r + 2 = 3 * n + 1 by omega), updI_n (show ¬ 3 * r + 2 = 3 * n by omega), updI_n z, updI_n z, updI_n z]
    exact J
theorem reI.part {so : Int} (I : reI hd kd fo ln pt n) (hr : 0 ≤ r ∧ r < n) (hs : 0 ≤ so ∧ so ≤ 2) (h : (0 ≤ a ∧ a < 16) ∧ reIt x ∧ reIt y) (hl : ln r < 5) : reI hd kd fo (updI ln r (ln r + 1)) (updI (updI (updI (updI pt (20 * r + 4 * ln r) so) (20 * r + 4 * ln r + 1) a) (20 * r + 4 * ln r + 2) x) (20 * r + 4 * ln r + 3) y) n := by
  refine ⟨I.1, fun i i0 i1 => ?_⟩
  have l0 := (I.2 r hr.1 hr.2).2.2.1
  obtain ⟨j1, j2, j3, j4⟩ := I.2 i i0 i1
  have j5 : 0 ≤ updI ln r (ln r + 1) i ∧ updI ln r (ln r + 1) i ≤ 5 := by
    rw [updI_e]
    split <;> omega
  refine ⟨j1, j2, j5, fun k k0 k1 => ?_⟩
  have k5 : k < 5 := by omega
  have at_ : ∀ (d e v : Int) (f : Int → Int), (0 ≤ d ∧ d ≤ 3) → (0 ≤ e ∧ e ≤ 3) → ¬ (i = r ∧ k = ln r ∧ d = e) → updI f (20 * r + 4 * ln r + e) v (20 * i + 4 * k + d) = f (20 * i + 4 * k + d) := fun d e v f hd_ he ne => updI_n (by omega)
  by_cases z : i = r ∧ k = ln r
  · obtain ⟨z1, z2⟩ := z
    subst z1
    subst z2
    rw [updI_n (show ¬ 20 * i + 4 * ln i = 20 * i + 4 * ln i + 3 by omega), updI_n (show ¬ 20 * i + 4 * ln i = 20 * i + 4 * ln i + 2 by omega), updI_n (show ¬ 20 * i + 4 * ln i = 20 * i + 4 * ln i + 1 by omega), updI_s, updI_n (show ¬ 20 * i + 4 * ln i + 1 = 20 * i + 4 * ln i + 3 by omega), updI_n (show ¬ 20 * i + 4 * ln i + 1 = 20 * i + 4 * ln i + 2 by omega), updI_s, updI_n (show ¬ 20 * i + 4 * ln i + 2 = 20 * i + 4 * ln i + 3 by omega), updI_s, updI_s]
    exact ⟨hs, h.1, h.2⟩
  · have kl : k < ln i := by
      rw [updI_e] at k1
      by_cases y : i = r
      · rw [if_pos y] at k1
        have : ¬ k = ln r := fun w => z ⟨y, w⟩
        rw [y]
        omega
      · rw [if_neg y] at k1
        exact k1
    have J := j4 k k0 kl
    have n3 : ∀ d, (0 ≤ d ∧ d ≤ 3) → ∀ e, (0 ≤ e ∧ e ≤ 3) → ¬ 20 * i + 4 * k + d = 20 * r + 4 * ln r + e := fun d hd e he w => z (by omega)
    have q : ∀ d, (0 ≤ d ∧ d ≤ 3) → updI (updI (updI (updI pt (20 * r + 4 * ln r) so) (20 * r + 4 * ln r + 1) a) (20 * r + 4 * ln r + 2) x) (20 * r + 4 * ln r + 3) y (20 * i + 4 * k + d) = pt (20 * i + 4 * k + d) := fun d hd => by
      rw [updI_n (n3 d hd 3 (by decide)), updI_n (n3 d hd 2 (by decide)), updI_n (n3 d hd 1 (by decide)), updI_n (show ¬ 20 * i + 4 * k + d = 20 * r + 4 * ln r by have := n3 d hd 0 (by decide); omega)]
    have q0 := q 0 (by decide)
    rw [Int.add_zero] at q0
    rw [q0, q 1 (by decide), q 2 (by decide), q 3 (by decide)]
    exact J
theorem reI.agg (I : reI hd kd fo ln pt n) (h : (0 ≤ x ∧ x < n) ∧ (-1 ≤ k ∧ k ≤ 3) ∧ (0 ≤ k → -6 ≤ v ∧ v ≤ -1)) : reI hd (updI kd x k) (updI fo x v) ln pt n := by
  refine ⟨I.1, fun i i0 i1 => ?_⟩
  obtain ⟨j1, j2, j3, j4⟩ := I.2 i i0 i1
  refine ⟨j1, ?_, j3, j4⟩
  by_cases z : i = x
  · rw [z, updI_s, updI_s]
    exact ⟨h.2.1, fun w => h.2.2 (by omega)⟩
  · rw [updI_n z, updI_n z]
    exact j2
theorem reSh_at {f : Int → Int} {w i d : Int} (hw : 0 < w) (hd : 0 ≤ d ∧ d < w) (hi : 0 ≤ i ∧ i < n) : reSh f w x n (w * i + d) = if x ≤ i then f (w * (i + 1) + d) else f (w * i + d) := by
  unfold reSh
  have e1 : w * (i + 1) = w * i + w := by rw [Int.mul_add, Int.mul_one]
  by_cases z : x ≤ i
  · have m1 : w * x ≤ w * i := Int.mul_le_mul_of_nonneg_left z (by omega)
    have m2 : w * (i + 1) ≤ w * n := Int.mul_le_mul_of_nonneg_left (by omega) (by omega)
    rw [if_pos z, if_pos ⟨by omega, by omega⟩, e1]
    congr 1
    omega
  · have m1 : w * (i + 1) ≤ w * x := Int.mul_le_mul_of_nonneg_left (by omega) (by omega)
    rw [if_neg z, if_neg (by omega)]
theorem reI.drop (I : reI hd kd fo ln pt n) (hx : 0 ≤ x ∧ x < n) : reI (reSh hd 3 x (n - 1)) (reSh kd 1 x (n - 1)) (reSh fo 1 x (n - 1)) (reSh ln 1 x (n - 1)) (reSh pt 20 x (n - 1)) (n - 1) := by
  refine ⟨by have := I.1; omega, fun i i0 i1 => ?_⟩
  obtain ⟨g, gd⟩ : ∃ g, g = if x ≤ i then i + 1 else i := ⟨_, rfl⟩
  have hg : 0 ≤ g ∧ g < n := by rw [gd]; split <;> omega
  have sel : ∀ (f : Int → Int) (w d : Int), (if x ≤ i then f (w * (i + 1) + d) else f (w * i + d)) = f (w * g + d) := fun f w d => by
    rw [gd]
    split <;> rfl
  have a3 : ∀ d, (0 ≤ d ∧ d < 3) → reSh hd 3 x (n - 1) (3 * i + d) = hd (3 * g + d) := fun d h => (reSh_at (by decide) h ⟨i0, i1⟩).trans (sel hd 3 d)
  have a1 : ∀ f : Int → Int, reSh f 1 x (n - 1) i = f g := fun f => by
    have e := (reSh_at (x := x) (f := f) (w := 1) (d := 0) (by decide) (by decide) ⟨i0, i1⟩).trans (sel f 1 0)
    rw [Int.one_mul, Int.add_zero, Int.one_mul, Int.add_zero] at e
    exact e
  have a20 : ∀ d, (0 ≤ d ∧ d < 20) → reSh pt 20 x (n - 1) (20 * i + d) = pt (20 * g + d) := fun d h => (reSh_at (by decide) h ⟨i0, i1⟩).trans (sel pt 20 d)
  obtain ⟨j1, j2, j3, j4⟩ := I.2 g hg.1 hg.2
  have b0 := a3 0 (by decide)
  rw [Int.add_zero, Int.add_zero] at b0
  rw [b0, a3 1 (by decide), a3 2 (by decide), a1, a1, a1]
  refine ⟨j1, j2, j3, fun k k0 k1 => ?_⟩
  have J := j4 k k0 k1
  rw [show 20 * i + 4 * k + 1 = 20 * i + (4 * k + 1) by omega, show 20 * i + 4 * k + 2 = 20 * i + (4 * k + 2) by omega, show 20 * i + 4 * k + 3 = 20 * i + (4 * k + 3) by omega, a20 _ (by omega), a20 _ (by omega), a20 _ (by omega), a20 _ (by omega), show 20 * g + (4 * k + 1) = 20 * g + 4 * k + 1 by omega, show 20 * g + (4 * k + 2) = 20 * g + 4 * k + 2 by omega, show 20 * g + (4 * k + 3) = 20 * g + 4 * k + 3 by omega]
  exact J
end
/-! what a call does, as functions on one state: what is said, heads, kinds, what is folded, lengths, parts, how many rules -/
abbrev reT : Type := (Int → Int) × (Int → Int) × (Int → Int) × (Int → Int) × (Int → Int) × (Int → Int) × Int
noncomputable def rqFact (x a b : Int) : reT → Int × reT
  | (sd, R) => pif (reFc x a b) (if sd (reCd x a b) = 0 then (1, (updI sd (reCd x a b) 1, R)) else (0, (sd, R))) (-1, (sd, R))
noncomputable def rqRemove (x a b : Int) : reT → Int × reT
  | (sd, R) => pif (reFc x a b) (if sd (reCd x a b) = 0 then (0, (sd, R)) else (1, (updI sd (reCd x a b) 0, R))) (-1, (sd, R))
noncomputable def rqRule (a x y : Int) : reT → Int × reT
  | (sd, hd, kd, fo, ln, pt, n) => pif ((0 ≤ a ∧ a < 16) ∧ reIt x ∧ reIt y) (if n = 16 then (-3, (sd, hd, kd, fo, ln, pt, n)) else (n, (sd, updI (updI (updI hd (3 * n) a) (3 * n + 1) x) (3 * n + 2) y, updI kd n (-1), updI fo n 0, updI ln n 0, pt, n + 1))) (-1, (sd, hd, kd, fo, ln, pt, n))
noncomputable def rqPart (m r so a x y : Int) : reT → Int × reT
  | (sd, hd, kd, fo, ln, pt, n) => pif ((0 ≤ r ∧ r < n) ∧ (0 ≤ a ∧ a < m) ∧ reIt x ∧ reIt y) (if ln r = 5 then (-3, (sd, hd, kd, fo, ln, pt, n)) else (ln r + 1, (sd, hd, kd, fo, updI ln r (ln r + 1), updI (updI (updI (updI pt (20 * r + 4 * ln r) so) (20 * r + 4 * ln r + 1) a) (20 * r + 4 * ln r + 2) x) (20 * r + 4 * ln r + 3) y, n))) (-1, (sd, hd, kd, fo, ln, pt, n))
noncomputable def rqAgg (x k v : Int) : reT → Int × reT
  | (sd, hd, kd, fo, ln, pt, n) => pif ((0 ≤ x ∧ x < n) ∧ (-1 ≤ k ∧ k ≤ 3) ∧ (0 ≤ k → -6 ≤ v ∧ v ≤ -1)) (1, (sd, hd, updI kd x k, updI fo x v, ln, pt, n)) (-1, (sd, hd, kd, fo, ln, pt, n))
def rqDrop (x : Int) : reT → Int × reT
  | (sd, hd, kd, fo, ln, pt, n) => if 0 ≤ x ∧ x < n then (n - 1, (sd, reSh hd 3 x (n - 1), reSh kd 1 x (n - 1), reSh fo 1 x (n - 1), reSh ln 1 x (n - 1), reSh pt 20 x (n - 1), n - 1)) else (-1, (sd, hd, kd, fo, ln, pt, n))
noncomputable def rqSafe (x : Int) : reT → Int
  | (_, hd, kd, fo, ln, pt, n) => if 0 ≤ x ∧ x < n then pif (reSf hd kd fo ln pt x) 1 0 else -1
noncomputable def rqRun : reT → Int
  | (sd, hd, kd, fo, ln, pt, n) => reRun sd hd kd fo ln pt n
noncomputable def rqStr (x : Int) : reT → Int
  | (_, hd, kd, fo, ln, pt, n) => reStr hd kd fo ln pt n x
noncomputable def rqHol (x a b : Int) : reT → Int
  | (sd, hd, kd, fo, ln, pt, n) => reHol sd hd kd fo ln pt n x a b
noncomputable def rqRou (x a b : Int) : reT → Int
  | (sd, hd, kd, fo, ln, pt, n) => reRou sd hd kd fo ln pt n x a b
noncomputable def rqCou (x a b : Int) : reT → Int
  | (sd, hd, kd, fo, ln, pt, n) => reCou sd hd kd fo ln pt n x a b
noncomputable def rqRow (x : Int) : reT → Int
  | (sd, hd, kd, fo, ln, pt, n) => reRow sd hd kd fo ln pt n x
noncomputable def rqSiz : reT → Int
  | (sd, hd, kd, fo, ln, pt, n) => reSiz sd hd kd fo ln pt n
