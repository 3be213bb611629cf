/-! RuleEngine, the reference (X55): what a rule that puts together gives; all that a rule gives -/
/-- the arrays hold M where it counts; k more may come -/
def reMq (M : reM4) (mn sm lo hi : Int → Int) (k : Int) : Prop := ∀ x, 0 ≤ x → x < 32 → (mn x = M.1 x ∧ sm x = M.2.1 x ∧ (¬ M.1 x = 0 → lo x = M.2.2.1 x ∧ hi x = M.2.2.2 x)) ∧ (0 ≤ M.1 x ∧ M.1 x + k ≤ 2000000000) ∧ (0 ≤ M.2.1 x ∧ M.2.1 x < 32) ∧ (¬ M.1 x = 0 → (0 ≤ M.2.2.1 x ∧ M.2.2.1 x < 32) ∧ 0 ≤ M.2.2.2 x ∧ M.2.2.2 x < 32)
def reM0 : reM4 := (fun _ => 0, fun _ => 0, fun _ => 0, fun _ => 0)
/-- codes that a rule gives, in their order -/
noncomputable def reHl (hd kd fo ln pt : Int → Int) (F : Int → Prop) (r : Int) : List Int := if kd r < 0 then (reCs ln pt F r).map (reHe hd r) else reFh (kd r) (hd (3 * r)) (reFl (hd (3 * r + 1)) (fo r) reM0 (reCs ln pt F r)) 32 0
section
variable {hd kd fo ln pt st rn fr gv vs pn po w w' v u mn sm lo hi : Int → Int} {n r k a b c x y s now m round ly : Int} {A B : Prop} {F : Int → Prop} {L : List (Int → Int)} {M : reM4}
theorem reMq.more {v : Int} (h : reMq M mn sm lo hi (k + 1)) (hx : 0 ≤ x ∧ x < 32) (hv : 0 ≤ v ∧ v < 32) : reMq (reFd M x v) (updI mn x (mn x + 1)) (updI sm x ((sm x + v) % 32)) (updI lo x (if mn x = 0 ∨ v < lo x then v else lo x)) (updI hi x (if mn x = 0 ∨ hi x < v then v else hi x)) k := fun y y0 y1 => by
  obtain ⟨⟨a1, a2, a3⟩, b1, b2, b3⟩ := h y y0 y1
  unfold reFd
  dsimp only
  by_cases z : y = x
  · rw [z] at a1 a2 a3 b1 b2 b3 ⊢
    simp only [updI_s]
    rw [a1, a2]
    have e1 : M.1 x = 0 → (if M.1 x = 0 ∨ v < lo x then v else lo x) = v ∧ (if M.1 x = 0 ∨ v < M.2.2.1 x then v else M.2.2.1 x) = v ∧ (if M.1 x = 0 ∨ hi x < v then v else hi x) = v ∧ (if M.1 x = 0 ∨ M.2.2.2 x < v then v else M.2.2.2 x) = v := fun q => ⟨if_pos (Or.inl q), if_pos (Or.inl q), if_pos (Or.inl q), if_pos (Or.inl q)⟩
    by_cases q : M.1 x = 0
    · obtain ⟨p1, p2, p3, p4⟩ := e1 q
      rw [p1, p2, p3, p4]
      refine ⟨⟨rfl, rfl, fun _ => ⟨rfl, rfl⟩⟩, by omega, by omega, fun _ => ⟨hv, hv⟩⟩
    · obtain ⟨q1, q2⟩ := a3 q
      obtain ⟨q3, q4⟩ := b3 q
      rw [q1, q2]
      refine ⟨⟨rfl, rfl, fun _ => ⟨rfl, rfl⟩⟩, by omega, by omega, fun _ => ⟨?_, ?_⟩⟩
      · split
        · exact hv
        · exact q3
      · split
        · exact hv
        · exact q4
  · simp only [updI_n z]
    exact ⟨⟨a1, a2, a3⟩, by omega, b2, b3⟩
theorem T55_s75f {K : (Int → Int) → (Int → Int) → (Int → Int) → (Int → Int) → (Int → Int) → (Int → Int) → (Int → Int) → (Int → Int) → (Int → Int) → Int → Prop} (I : reI hd kd fo ln pt n) (hr : 0 ≤ r ∧ r < n) (hs : reSf hd kd fo ln pt r) (hk0 : ¬ kd r < 0) (Pn : rePn ln pt r m pn (ln r)) (hF : F = reOl rn fr now) :
  ∀ (L : List (Int → Int)) (u vs po mn sm lo hi : Int → Int) (M : reM4), reAt ln pt F r pn m u L vs po → reMq M mn sm lo hi (L.length + 1) → (∀ mn' sm' lo' hi' v' po', reMq (reFl (hd (3 * r + 1)) (fo r) M (u :: L)) mn' sm' lo' hi' 0 → K rn gv v' po' fr mn' sm' lo' hi' ly) → wX55_spread_75 K r round (hd (3 * r)) 1 hd fo ln pt pn m now (L.length + 2) 1 rn gv vs po fr mn sm lo hi ly := fun L => by
  have hn := I.1
  obtain ⟨⟨i1, ix, iy⟩, ik, hl, i4⟩ := I.2 r hr.1 hr.2
  have fo6 := ik.2 hk0
  have body : ∀ (u : Int → Int) (L : List (Int → Int)) (vs po mn sm lo hi : Int → Int) (M : reM4) (f : Nat), reAt ln pt F r pn m u L vs po → reMq M mn sm lo hi (L.length + 1) → (∀ mn' sm' lo' hi', reMq (reFd M (reVl u (hd (3 * r + 1))) (reVl u (fo r))) mn' sm' lo' hi' L.length → wX55_spread_257 (wX55_spread_75 K r round (hd (3 * r)) 1 hd fo ln pt pn m now f) r ln pt rn gv vs pn m po now fr mn' sm' lo' hi' ly) → wX55_spread_75 K r round (hd (3 * r)) 1 hd fo ln pt pn m now (f + 1) 1 rn gv vs po fr mn sm lo hi ly := fun u L vs po mn sm lo hi M f H hM hK => by
    rw [wX55_spread_75]
    have bx := reAt_b I hr Pn H ix hs.1
    have bf := reAt_b I hr Pn H (it := fo r) (by unfold reIt; omega) (hs.2.2.1 hk0)
    refine ⟨fun z => absurd z (by decide), fun _ => ⟨by omega, T55_valueOf ix ⟨fun z => absurd z (by decide), fun _ => ⟨by omega, by omega, fun v ev => ?_⟩⟩⟩⟩
    rw [reVl_c H.1 ix]
    have evv : v = reVl u (fo r) := by
      rw [ev, H.1 _ (by omega) (by omega)]
      unfold reVl
      rw [if_pos (by omega)]
    rw [← evv] at bf hK
    generalize reVl u (hd (3 * r + 1)) = X at bx hK ⊢
    have G := hM.more bx bf
    obtain ⟨⟨a1, a2, a3⟩, b1, b2, b3⟩ := hM X bx.1 bx.2
    have hi_ : ∀ lo2 : Int → Int, lo2 = updI lo X (if mn X = 0 ∨ v < lo X then v else lo X) → ∀ y2 : Int, y2 = (if mn X = 0 ∨ hi X < v then v else hi X) → wX55_spread_225 (wX55_spread_75 K r round (hd (3 * r)) 1 hd fo ln pt pn m now f) r X v X y2 ln pt rn gv vs pn m po now fr mn sm lo2 hi ly := fun lo2 el y2 ey => by
      unfold wX55_spread_225
      refine ⟨bx, fun h2 eh => ⟨bx, by omega, fun v2 ev2 m2 em => ⟨by omega, by omega, fun v3 ev3 s2 es => ?_⟩⟩⟩
      rw [el, eh, ey, em, ev2, es, ev3]
      exact hK _ _ _ _ G
    have lo_ : ∀ y2 : Int, y2 = (if mn X = 0 ∨ v < lo X then v else lo X) → wX55_spread_184 (wX55_spread_75 K r round (hd (3 * r)) 1 hd fo ln pt pn m now f) r X v X y2 ln pt rn gv vs pn m po now fr mn sm lo hi ly := fun y2 ey => by
      unfold wX55_spread_184
      refine ⟨bx, fun lo2 el => ⟨bx, fun m0 => ?_, fun m0 => ⟨fun h => ?_, fun h => ?_⟩⟩⟩
      · exact hi_ lo2 (by rw [el, ey]) v (by rw [if_pos (Or.inl m0)])
      · exact hi_ lo2 (by rw [el, ey]) (hi X) (by rw [if_neg (by omega)])
      · exact hi_ lo2 (by rw [el, ey]) v (by rw [if_pos (Or.inr (by omega))])
    refine ⟨bx, fun m0 => lo_ v (by rw [if_pos (Or.inl m0)]), fun m0 => ⟨fun h => lo_ (lo X) (by rw [if_neg (by omega)]), fun h => lo_ v (by rw [if_pos (Or.inr (by omega))])⟩⟩
  induction L with
  | nil =>
    intro u vs po mn sm lo hi M H hM hK
    refine body u [] vs po mn sm lo hi M 1 H hM (fun mn' sm' lo' hi' hM' => T55_s257 I hr hs Pn hF H (fun _ v' po' => ?_) (fun u L' e => absurd e (by simp)))
    rw [wX55_spread_75]
    exact ⟨fun _ => hK _ _ _ _ v' po' hM', fun z => absurd rfl z⟩
  | cons u2 L ih =>
    intro u vs po mn sm lo hi M H hM hK
    refine body u (u2 :: L) vs po mn sm lo hi M (L.length + 2) H hM (fun mn' sm' lo' hi' hM' => T55_s257 I hr hs Pn hF H (fun e => absurd e (by simp)) (fun u3 L' e v' po' H' => ?_))
    cases e
    rw [show ((u2 :: L).length : Int) = (L.length : Int) + 1 by simp] at hM'
    exact ih u2 v' po' mn' sm' lo' hi' _ H' hM' hK
theorem T55_s286 {K : (Int → Int) → (Int → Int) → (Int → Int) → Int → Prop} {name : Int} (hr : 0 ≤ r ∧ r < 16) (hnm : 0 ≤ name ∧ name < 16) (hkd : 0 ≤ kd r ∧ kd r ≤ 3) (hM : reMq M mn sm lo hi 0) : ∀ (j : Nat) (x : Int) (S : reG4), 0 ≤ x → x + j = 32 → reGk round S j → (∀ S' : reG4, S' = reGl round now S (reFh (kd r) name M j x) → K S'.1 S'.2.1 S'.2.2.1 S'.2.2.2) → wX55_spread_286 K r round name 1 kd now mn sm lo hi (j + 1) x S.1 S.2.1 S.2.2.1 S.2.2.2 := fun j => by
  induction j with
  | zero =>
    intro x S x0 hx hk hK
    rw [wX55_spread_286]
    exact ⟨fun _ => hK S rfl, fun z => absurd (by omega) z⟩
  | succ j ih =>
    intro x S x0 hx hk hK
    rw [wX55_spread_286]
    have hk' : reGk round S ((j : Int) + 1) := by rw [show ((j + 1 : Nat) : Int) = (j : Int) + 1 by omega] at hk; exact hk
    obtain ⟨⟨a1, a2, a3⟩, b1, b2, b3⟩ := hM x x0 (by omega)
    have hk1 : reGk round S 1 := ⟨fun r0 c c0 c1 => by have := hk'.1 r0 c c0 c1; omega, hk'.2⟩
    have skip : reGk round S j := ⟨fun r0 c c0 c1 => by have := hk'.1 r0 c c0 c1; omega, hk'.2⟩
    have val : ∀ v : Int, (0 ≤ v ∧ v < 32) → ¬ M.1 x = 0 → v = (if kd r = 0 then M.1 x % 32 else if kd r = 1 then M.2.1 x else if kd r = 2 then M.2.2.1 x else M.2.2.2 x) → wpX55_code (fun (r_139 : Int) => (wpX55_give (fun (f_rounds_140 : Int → Int) (f_given_141 : Int → Int) (f_fresh_142 : Int → Int) (f_layed_143 : Int) => (zR (x + 1) ∧ (∀ x6_144 : Int, x6_144 = x + 1 → (wX55_spread_286 K r round name 1 kd now mn sm lo hi (j + 1) x6_144 f_rounds_140 f_given_141 f_fresh_142 f_layed_143)))) S.1 S.2.1 now S.2.2.1 S.2.2.2 r_139 round)) name x v := fun v hv m0 ev => by
      have fc : reFc name x v := ⟨hnm, ⟨x0, by omega⟩, hv⟩
      refine T55_code fc (T55_give (reCd_b fc) hk1 (fun S' eS => ⟨by omega, fun x2 ex => ?_⟩))
      have kk := reGs_k (now := now) (reCd_b fc) hk' (by omega)
      have eS' : S' = reGs round now S (reCd name x v) := eS
      rw [← eS'] at kk
      rw [ex]
      refine ih (x + 1) S' (by omega) (by omega) kk (fun S2 e2 => hK S2 ?_)
      rw [e2, eS', reFh, if_neg m0, ← ev]
      rfl
    refine ⟨fun z => by omega, fun _ => ⟨fun z => absurd z (by decide), fun _ => ⟨by omega, fun m0 => ⟨by omega, fun x2 ex => ?_⟩, fun m0 => ⟨hr, fun k0 => ⟨by omega, fun v ev => ?_⟩, fun k0 => ⟨fun k1 v ev => ?_, fun k1 => ⟨fun k2 v ev => ?_, fun k2 v ev => ?_⟩⟩⟩⟩⟩⟩
    · rw [ex]
      refine ih (x + 1) S (by omega) (by omega) skip (fun S2 e2 => hK S2 ?_)
      rw [e2, reFh, if_pos (by omega)]
      rfl
    · exact val v (by omega) (by omega) (by rw [if_pos k0, ev, a1])
    · exact val v (by omega) (by omega) (by rw [if_neg k0, if_pos k1, ev, a2])
    · have q := a3 (by omega)
      have q2 := b3 (by omega)
      exact val v (by omega) (by omega) (by rw [if_neg k0, if_neg k1, if_pos k2, ev, q.1])
    · have q := a3 (by omega)
      have q2 := b3 (by omega)
      exact val v (by omega) (by omega) (by rw [if_neg k0, if_neg k1, if_neg k2, ev, q.2])
theorem T55_s28 {K : (Int → Int) → (Int → Int) → Prop} (hp : ∀ a b, (∀ i, 0 ≤ i → i < 32 → a i = 0 ∧ b i = 0) → K a b) : ∃ fu : Nat, wX55_spread_28 K 1 fu 0 mn sm := by
  refine wl3 (fun f x y z => wX55_spread_28 K 1 f x y z) (fun x y z => (0 ≤ x ∧ x ≤ 32) ∧ ∀ i, 0 ≤ i → i < x → y i = 0 ∧ z i = 0) (fun x _ _ => (32 - x).toNat) ?_ 0 mn sm ⟨by decide, fun i i0 i1 => by omega⟩
  rintro x y z ⟨hx, hy⟩ f ih
  rw [wX55_spread_28]
  refine ⟨fun w => hp y z (fun i i0 i1 => hy i i0 (by omega)), fun w => ⟨fun q => absurd q (by decide), fun _ => ⟨by omega, fun y2 e2 z2 e3 => ⟨by omega, fun x2 ex => ?_⟩⟩⟩⟩
  rw [ex]
  refine ih _ _ _ ⟨by omega, fun i i0 i1 => ?_⟩ (by omega)
  rw [e2, e3]
  by_cases q : i = x
  · rw [q, updI_s, updI_s]; exact ⟨rfl, rfl⟩
  · rw [updI_n q, updI_n q]; exact hy i i0 (by omega)
theorem T55_spread {post : (Int → Int) → (Int → Int) → (Int → Int) → (Int → Int) → Int → (Int → Int) → (Int → Int) → (Int → Int) → (Int → Int) → (Int → Int) → (Int → Int) → Int → Prop} (I : reI hd kd fo ln pt n) (hr : 0 ≤ r ∧ r < n) (hs : reSf hd kd fo ln pt r) (hF : F = reOl rn fr now) (hnw : 0 ≤ round → 0 ≤ now) (hlen : ((reCs ln pt F r).length : Int) ≤ 1000000) (hk : reGk round (rn, gv, fr, ly) ((reCs ln pt F r).length + 32)) (hp : ∀ S : reG4, S = reGl round now (rn, gv, fr, ly) (reHl hd kd fo ln pt F r) → ∀ v' pn' m' po' mn' sm' lo' hi', post S.1 S.2.1 v' pn' m' po' S.2.2.1 mn' sm' lo' hi' S.2.2.2) : wpX55_spread post hd kd fo ln pt rn gv vs pn po now fr mn sm lo hi ly r round := by
  have hn := I.1
  obtain ⟨⟨i1, ix, iy⟩, ik, hl, i4⟩ := I.2 r hr.1 hr.2
  unfold reHl at hp
  unfold wpX55_spread
  refine ⟨by omega, fun nm enm => ?_⟩
  rw [enm]
  refine ⟨by omega, fun k0 => ⟨1, ?_⟩, fun k0 => ?_⟩
  · rw [if_pos k0] at hp
    have fin : ∀ (S : reG4), S = reGl round now (rn, gv, fr, ly) ((reCs ln pt F r).map (reHe hd r)) → ∀ v' pn' m' po' a1 a2 a3 a4, ∃ fu : Nat, wX55_spread_286 (fun (f_rounds_148 : Int → Int) (f_given_149 : Int → Int) (f_fresh_150 : Int → Int) (f_layed_151 : Int) => post f_rounds_148 f_given_149 v' pn' m' po' f_fresh_150 a1 a2 a3 a4 f_layed_151) r round (hd (3 * r)) 0 kd now a1 a2 a3 a4 fu 0 S.1 S.2.1 S.2.2.1 S.2.2.2 := fun S eS v' pn' m' po' a1 a2 a3 a4 => by
      refine ⟨1, ?_⟩
      rw [wX55_spread_286]
      exact ⟨fun z => absurd z (by decide), fun _ => ⟨fun _ => hp S eS v' pn' m' po' a1 a2 a3 a4, fun z => absurd rfl z⟩⟩
    rw [wX55_spread_28]
    refine ⟨fun z => absurd z (by decide), fun _ => ⟨fun _ => T55_begin I hr (fun pn' m' Pn => ?_), fun z => absurd rfl z⟩⟩
    refine T55_next1 (F := F) I hr hs Pn hF (fun mm => by rw [if_neg (by omega), updI_s]) (fun e v' po' => ⟨1, ?_⟩) (fun u L e v' po' H => ⟨L.length + 2, T55_s75n I hr hs k0 Pn hnw L u v' po' rn gv fr ly hF H ?_ (fun S eS v2 po2 => fin S (by rw [eS, e]) v2 pn' m' po2 _ _ _ _)⟩)
    · rw [wX55_spread_75]
      exact ⟨fun _ => fin (rn, gv, fr, ly) (by rw [e]; rfl) v' pn' m' po' _ _ _ _, fun z => absurd rfl z⟩
    · rw [e] at hk
      exact ⟨fun r0 c c0 c1 => by have := hk.1 r0 c c0 c1; have e3 : ((u :: L).length : Int) = L.length + 1 := by simp
                                  omega, hk.2⟩
  · rw [if_neg k0] at hp
    refine T55_s28 (fun a1 a2 ha => T55_begin I hr (fun pn' m' Pn => ?_))
    have M0 : ∀ a3 a4 : Int → Int, reMq reM0 a1 a2 a3 a4 ((reCs ln pt F r).length) := fun a3 a4 y y0 y1 => by
      obtain ⟨e1, e2⟩ := ha y y0 y1
      exact ⟨⟨e1, e2, fun z => absurd rfl z⟩, ⟨by show (0 : Int) ≤ 0; decide, by show (0 : Int) + _ ≤ _; omega⟩, by show (0 : Int) ≤ 0 ∧ (0 : Int) < 32; decide, fun z => absurd rfl z⟩
    have fin : ∀ M : reM4, M = reFl (hd (3 * r + 1)) (fo r) reM0 (reCs ln pt F r) → ∀ v' po' b1 b2 b3 b4, reMq M b1 b2 b3 b4 0 → ∃ fu : Nat, wX55_spread_286 (fun (f_rounds_170 : Int → Int) (f_given_171 : Int → Int) (f_fresh_172 : Int → Int) (f_layed_173 : Int) => post f_rounds_170 f_given_171 v' pn' m' po' f_fresh_172 b1 b2 b3 b4 f_layed_173) r round (hd (3 * r)) 1 kd now b1 b2 b3 b4 fu 0 rn gv fr ly := fun M eM v' po' b1 b2 b3 b4 hM => by
      refine ⟨33, T55_s286 (round := round) (by omega) i1 (by omega) hM 32 0 (rn, gv, fr, ly) (by decide) (by decide) ⟨fun r0 c c0 c1 => by have := hk.1 r0 c c0 c1; omega, hk.2⟩ (fun S' e' => hp S' ?_ v' pn' m' po' b1 b2 b3 b4)⟩
      rw [e', eM]
    refine T55_next1 (F := F) I hr hs Pn hF (fun mm => by rw [if_neg (by omega), updI_s]) (fun e v' po' => ⟨1, ?_⟩) (fun u L e v' po' H => ⟨L.length + 2, T55_s75f I hr hs k0 Pn hF L u v' po' a1 a2 lo hi reM0 H ?_ (fun b1 b2 b3 b4 v2 po2 hM => fin _ (by rw [e]) v2 po2 b1 b2 b3 b4 hM)⟩)
    · rw [wX55_spread_75]
      refine ⟨fun _ => fin reM0 (by rw [e]; rfl) v' po' _ _ _ _ ?_, fun z => absurd rfl z⟩
      have := M0 lo hi
      rw [e] at this; exact this
    · have := M0 lo hi
      rw [e, show ((u :: L).length : Int) = (L.length : Int) + 1 by simp] at this
      exact this
end

/-! RuleEngine, the reference (X55): how many cases; a round -/
noncomputable def reP2 (ln pt rn : Int → Int) (r : Int) : Nat → Int
  | 0 => 1
  | j + 1 => if pt (20 * r + 4 * (ln r - (j + 1))) = 0 then reFo rn (pt (20 * r + 4 * (ln r - (j + 1)) + 1)) * reP2 ln pt rn r j else reP2 ln pt rn r j
/-- what holds -/
def reHo (rn : Int → Int) (c : Int) : Prop := (0 ≤ c ∧ c < 16384) ∧ 0 ≤ rn c
/-- codes that rules give: those of a stratum s, all with s < 0 -/
noncomputable def reAl (hd kd fo ln pt st : Int → Int) (F : Int → Prop) (s : Int) : Nat → List Int
  | 0 => []
  | r + 1 => reAl hd kd fo ln pt st F s r ++ pif (reSel hd kd fo ln pt st s r) (reHl hd kd fo ln pt F r) []
noncomputable def reNx (round : Int) (rn : Int → Int) (l : List Int) : Int → Int := fun c => pif (rn c < 0 ∧ c ∈ l) round (rn c)
section
variable {hd kd fo ln pt st rn fr gv vs pn po w w' v u mn sm lo hi sd : Int → Int} {n r k a b c x y s now m round ly : Int} {A B : Prop} {F : Int → Prop} {M : reM4} {S : reG4}
theorem reP2_b : ∀ j : Nat, 0 ≤ reP2 ln pt rn r j
  | 0 => by unfold reP2; decide
  | j + 1 => by
    have ih := reP2_b j
    rw [reP2]
    split
    · exact Int.mul_nonneg reFo_b.1 ih
    · exact ih
theorem rePr_P2 : ∀ k j : Nat, (k : Int) + j = ln r → rePr pt rn r k * reP2 ln pt rn r j = rePr pt rn r (ln r).toNat
  | k, 0, h => by rw [reP2, Int.mul_one, show (ln r).toNat = k by omega]
  | k, j + 1, h => by
    have ih := rePr_P2 (k + 1) j (by omega)
    rw [← ih, reP2, show ln r - ((j : Int) + 1) = k by omega, rePr]
    by_cases z : pt (20 * r + 4 * (k : Int)) = 0
    · rw [if_pos z, if_pos z, Int.mul_assoc]
    · rw [if_neg z, if_neg z]
theorem caC_len {G : (Int → Int) → List (Int → Int)} {N : Int} (hF : ∀ c, F c → reHo rn c) (hN : 0 ≤ N) (hG : ∀ v, ((G v).length : Int) ≤ N) : ∀ (j : Nat) (c : Int) (v : Int → Int), ((caC G F x y j c v).length : Int) ≤ cntI (fun i => 0 ≤ rn (c + i)) j * N
  | 0, c, v => by unfold caC cntI; simp
  | j + 1, c, v => by
    have ih := caC_len hF hN hG j (c + 1) v
    rw [caC, List.length_append]
    have e : cntI (fun i => 0 ≤ rn (c + i)) (j + 1) = cntI (fun i => 0 ≤ rn (c + i)) (1 + j) := by rw [Nat.add_comm]
    rw [e, cntI_add (p := fun i => 0 ≤ rn (c + i)) 1 j]
    have e2 : cntI (fun i => 0 ≤ rn (c + (((1 : Nat) : Int) + i))) j = cntI (fun i => 0 ≤ rn (c + 1 + i)) j := cntI_c (fun i _ _ => by rw [show c + (((1 : Nat) : Int) + i) = c + 1 + i by omega])
    rw [e2, Int.add_mul]
    have h1 : ((pif (F c) (match reBc x y c v with | some w => G w | none => []) ([] : List (Int → Int))).length : Int) ≤ cntI (fun i => 0 ≤ rn (c + i)) 1 * N := by
      by_cases z : F c
      · have c1 : cntI (fun i => 0 ≤ rn (c + i)) 1 = 1 := by
          have := cntI_t (p := fun i => 0 ≤ rn (c + i)) (n := 0) (by decide) (by show 0 ≤ rn (c + 0); rw [Int.add_zero]; exact (hF c z).2)
          have h0 : cntI (fun i => 0 ≤ rn (c + i)) 0 = 0 := by unfold cntI; rfl
          rw [show ((0 : Int) + 1).toNat = 1 from rfl, show (0 : Int).toNat = 0 from rfl, h0] at this
          exact this
        rw [pif_t z, c1, Int.one_mul]
        cases h : reBc x y c v with
        | none => simp; exact hN
        | some w => exact hG w
      · rw [pif_f z]
        have := (cntI_b (fun i => 0 ≤ rn (c + i)) 1).1
        have := Int.mul_nonneg this hN
        simp
        omega
    have tt := Int.add_le_add h1 ih
    rw [← Int.natCast_add] at tt
    exact tt
theorem caQ_len {P : Int → Prop} (hF : ∀ c, F c → reHo rn c) : ∀ (j : Nat) (v : Int → Int), ((caQ ln pt F P r j v).length : Int) ≤ reP2 ln pt rn r j
  | 0, v => by
    rw [caQ, reP2]
    by_cases z : rePs ln pt P r v
    · rw [pif_t z]; show (1 : Int) ≤ 1; exact Int.le_refl _
    · rw [pif_f z]; show (0 : Int) ≤ 1; decide
  | j + 1, v => by
    rw [caQ, reP2]
    by_cases z : pt (20 * r + 4 * (ln r - ((j : Int) + 1))) = 0
    · rw [if_pos z, if_pos z]
      exact caC_len hF (reP2_b j) (fun v => caQ_len hF j v) 1024 _ v
    · rw [if_neg z, if_neg z]; exact caQ_len hF j v
theorem reCs_len (hl : 0 ≤ ln r) (hF : ∀ c, F c → reHo rn c) : ((reCs ln pt F r).length : Int) ≤ rePr pt rn r (ln r).toNat := by
  have h := caQ_len (P := F) (pt := pt) (r := r) (ln := ln) hF (ln r).toNat (fun _ => -1)
  have e := rePr_P2 (pt := pt) (rn := rn) (r := r) (ln := ln) 0 (ln r).toNat (by omega)
  rw [show rePr pt rn r 0 = 1 from rfl, Int.one_mul] at e
  rw [e] at h; exact h
theorem reFh_len {k name : Int} : ∀ (j : Nat) (x : Int), (reFh k name M j x).length ≤ j
  | 0, x => by unfold reFh; simp
  | j + 1, x => by
    have ih := reFh_len (k := k) (name := name) j (x + 1)
    rw [reFh, List.length_append]
    split
    · simp; omega
    · simp; omega
theorem reHl_len : ((reHl hd kd fo ln pt F r).length : Int) ≤ (reCs ln pt F r).length + 32 := by
  unfold reHl
  split
  · rw [List.length_map]; omega
  · have := reFh_len (M := reFl (hd (3 * r + 1)) (fo r) reM0 (reCs ln pt F r)) (k := kd r) (name := hd (3 * r)) 32 0
    omega
theorem reGl_app : ∀ (l1 l2 : List Int) (S : reG4), reGl round now S (l1 ++ l2) = reGl round now (reGl round now S l1) l2
  | [], _, _ => rfl
  | c :: l1, l2, S => reGl_app l1 l2 (reGs round now S c)
theorem reGl_k : ∀ (l : List Int) (S : reG4), (∀ c ∈ l, 0 ≤ c ∧ c < 16384) → reGk round S (l.length + k) → 0 ≤ k → reGk round (reGl round now S l) k
  | [], S, _, h, _ => by
    have e : (([] : List Int).length : Int) + k = k := by simp
    rw [e] at h; exact h
  | c :: l, S, hc, h, hk => by
    refine reGl_k l (reGs round now S c) (fun d hd => hc d (List.mem_cons_of_mem _ hd)) ?_ hk
    have e : ((c :: l).length : Int) + k = (l.length : Int) + k + 1 := by simp; omega
    rw [e] at h
    exact reGs_k (hc c (List.mem_cons_self ..)) h (by omega)
theorem reGl_F : ∀ (l : List Int) (S : reG4), F = reOl S.1 S.2.2.1 now → (0 ≤ round → 0 ≤ now) → F = reOl (reGl round now S l).1 (reGl round now S l).2.2.1 now
  | [], S, h, _ => h
  | c :: l, S, h, hn => reGl_F l _ (reGs_F h hn) hn
/-- a round's effect -/
theorem reGl_n (hr0 : 0 ≤ round) : ∀ (l : List Int) (S : reG4), (reGl round now S l).1 = reNx round S.1 l ∧ (reGl round now S l).2.1 = S.2.1 ∧ (∀ c, (reGl round now S l).2.2.1 c = pif (S.1 c < 0 ∧ c ∈ l) now (S.2.2.1 c)) ∧ S.2.2.2 ≤ (reGl round now S l).2.2.2 ∧ (S.2.2.2 < (reGl round now S l).2.2.2 ↔ ∃ c ∈ l, S.1 c < 0)
  | [], S => ⟨funext fun c => by unfold reNx; rw [pif_f (fun z => absurd z.2 (by simp))]; rfl, rfl, fun c => by rw [pif_f (fun z => absurd z.2 (by simp))]; rfl, Int.le_refl _, ⟨fun z => absurd z (Int.lt_irrefl _), fun ⟨c, h, _⟩ => absurd h (by simp)⟩⟩
  | c :: l, S => by
    obtain ⟨i1, i2, i3, i4, i5⟩ := reGl_n hr0 l (reGs round now S c)
    have e : reGl round now S (c :: l) = reGl round now (reGs round now S c) l := rfl
    rw [e]
    by_cases z : S.1 c < 0
    · rw [reGs_2 (by omega) z] at i1 i2 i3 i4 i5 ⊢
      have i4' : S.2.2.2 + 1 ≤ (reGl round now (updI S.1 c round, S.2.1, updI S.2.2.1 c now, S.2.2.2 + 1) l).2.2.2 := i4
      refine ⟨i1.trans (funext fun d => ?_), i2, fun d => (i3 d).trans ?_, by omega, ⟨fun _ => ⟨c, List.mem_cons_self .., z⟩, fun _ => by omega⟩⟩
      · unfold reNx
        dsimp only
        by_cases q : d = c
        · rw [q, updI_s, pif_f (by omega), pif_t ⟨z, List.mem_cons_self ..⟩]
        · rw [updI_n q]
          by_cases q2 : S.1 d < 0 ∧ d ∈ l
          · rw [pif_t q2, pif_t ⟨q2.1, List.mem_cons_of_mem _ q2.2⟩]
          · rw [pif_f q2, pif_f (fun z3 => q2 ⟨z3.1, (List.mem_cons.1 z3.2).resolve_left q⟩)]
      · dsimp only
        by_cases q : d = c
        · rw [q, updI_s, updI_s, pif_f (by omega), pif_t ⟨z, List.mem_cons_self ..⟩]
        · rw [updI_n q, updI_n q]
          by_cases q2 : S.1 d < 0 ∧ d ∈ l
          · rw [pif_t q2, pif_t ⟨q2.1, List.mem_cons_of_mem _ q2.2⟩]
          · rw [pif_f q2, pif_f (fun z3 => q2 ⟨z3.1, (List.mem_cons.1 z3.2).resolve_left q⟩)]
    · rw [reGs_3 (by omega) z] at i1 i2 i3 i4 i5 ⊢
      refine ⟨i1.trans (funext fun d => ?_), i2, fun d => (i3 d).trans ?_, i4, i5.trans ⟨fun ⟨d, h, h2⟩ => ⟨d, List.mem_cons_of_mem _ h, h2⟩, fun ⟨d, h, h2⟩ => ?_⟩⟩
      · unfold reNx
        by_cases q2 : S.1 d < 0 ∧ d ∈ l
        · rw [pif_t q2, pif_t ⟨q2.1, List.mem_cons_of_mem _ q2.2⟩]
        · rw [pif_f q2, pif_f (fun z3 => q2 ⟨z3.1, (List.mem_cons.1 z3.2).resolve_left (fun q => z (by rw [← q]; exact z3.1))⟩)]
      · by_cases q2 : S.1 d < 0 ∧ d ∈ l
        · rw [pif_t q2, pif_t ⟨q2.1, List.mem_cons_of_mem _ q2.2⟩]
        · rw [pif_f q2, pif_f (fun z3 => q2 ⟨z3.1, (List.mem_cons.1 z3.2).resolve_left (fun q => z (by rw [← q]; exact z3.1))⟩)]
      · exact ⟨d, (List.mem_cons.1 h).resolve_left (fun q => z (by rw [← q]; exact h2)), h2⟩
/-- a count's effect -/
theorem reGl_m (hr0 : round < 0) : ∀ (l : List Int) (S : reG4), (reGl round now S l).1 = S.1 ∧ (∀ c, (reGl round now S l).2.1 c = S.2.1 c + (l.count c : Int)) ∧ (reGl round now S l).2.2 = S.2.2
  | [], S => ⟨rfl, fun c => by show S.2.1 c = _; simp, rfl⟩
  | c :: l, S => by
    obtain ⟨i1, i2, i3⟩ := reGl_m hr0 l (reGs round now S c)
    have e : reGl round now S (c :: l) = reGl round now (reGs round now S c) l := rfl
    rw [e]
    rw [reGs_1 hr0] at i1 i2 i3 ⊢
    refine ⟨i1, fun d => (i2 d).trans ?_, i3⟩
    show updI S.2.1 c (S.2.1 c + 1) d + (l.count d : Int) = _
    by_cases q : d = c
    · rw [q, updI_s, List.count_cons_self]; push_cast; omega
    · rw [updI_n q, List.count_cons_of_ne (fun z => q z.symm)]
end

/-! RuleEngine, the reference (X55): all rounds, the counts, work -/
/-- rounds of a stratum: what holds, turns, work, too much -/
noncomputable def reLp (hd kd fo ln pt st : Int → Int) (n s : Int) : Nat → Int → (Int → Int) → Int → Int → (Int → Int) × Int × Int × Int
  | 0, _, rn, t, w => (rn, t, w, 0)
  | f + 1, round, rn, t, w => if 200000 < reWk hd kd fo ln pt st rn s w n.toNat then (rn, t, reWk hd kd fo ln pt st rn s w n.toNat, 1) else
      pif (∃ c ∈ reAl hd kd fo ln pt st (reHo rn) s n.toNat, rn c < 0) (reLp hd kd fo ln pt st n s f (round + 1) (reNx round rn (reAl hd kd fo ln pt st (reHo rn) s n.toNat)) (t + 1) (reWk hd kd fo ln pt st rn s w n.toNat)) (rn, t, reWk hd kd fo ln pt st rn s w n.toNat, 0)
section
variable {hd kd fo ln pt st rn fr gv vs pn po w w' v u mn sm lo hi sd : Int → Int} {n r k a b c x y s now m round ly wk t : Int} {A B : Prop} {F : Int → Prop} {M : reM4} {S : reG4}
theorem caC_m {G : (Int → Int) → List (Int → Int)} : ∀ (j : Nat) (c : Int) (v u : Int → Int), 0 ≤ c → u ∈ caC G F x y j c v → ∃ c' w, c ≤ c' ∧ reBc x y c' v = some w ∧ u ∈ G w
  | 0, c, v, u, _, h => by rw [caC] at h; exact absurd h (by simp)
  | j + 1, c, v, u, hc, h => by
    rw [caC, List.mem_append] at h
    rcases h with h | h
    · by_cases z : F c
      · rw [pif_t z] at h
        cases e : reBc x y c v with
        | none => rw [e] at h; exact absurd h (by simp)
        | some w => rw [e] at h; exact ⟨c, w, Int.le_refl _, e, h⟩
      · rw [pif_f z] at h; exact absurd h (by simp)
    · obtain ⟨c', w, h1, h2, h3⟩ := caC_m j (c + 1) v u (by omega) h
      exact ⟨c', w, by omega, h2, h3⟩
theorem caQ_v {P : Int → Prop} (I : reI hd kd fo ln pt n) (hr : 0 ≤ r ∧ r < n) : ∀ (j : Nat) (v u : Int → Int), (j : Int) ≤ ln r → u ∈ caQ ln pt F P r j v → (∀ i, 0 ≤ reVl v i → reVl u i = reVl v i) ∧ ∀ k, ln r - j ≤ k → k < ln r → pt (20 * r + 4 * k) = 0 → (0 ≤ reVl u (pt (20 * r + 4 * k + 2)) ∧ reVl u (pt (20 * r + 4 * k + 2)) < 32) ∧ 0 ≤ reVl u (pt (20 * r + 4 * k + 3)) ∧ reVl u (pt (20 * r + 4 * k + 3)) < 32
  | 0, v, u, _, h => by
    rw [caQ] at h
    by_cases z : rePs ln pt P r v
    · rw [pif_t z, List.mem_singleton] at h
      rw [h]
      exact ⟨fun _ _ => rfl, fun k k0 k1 => by omega⟩
    · rw [pif_f z] at h; exact absurd h (by simp)
  | j + 1, v, u, hj, h => by
    have i4 := (I.2 r hr.1 hr.2).2.2.2 (ln r - ((j : Int) + 1)) (by omega) (by omega)
    rw [caQ] at h
    by_cases z : pt (20 * r + 4 * (ln r - ((j : Int) + 1))) = 0
    · rw [if_pos z] at h
      obtain ⟨c', w, h1, h2, h3⟩ := caC_m 1024 _ v u (by omega) h
      have b := reBc_v (by omega) h2
      have ih := caQ_v I hr j w u (by omega) h3
      refine ⟨fun i hi => (ih.1 i (by rw [b.2 i hi]; exact hi)).trans (b.2 i hi), fun k k0 k1 kz => ?_⟩
      by_cases q : k = ln r - ((j : Int) + 1)
      · rw [q, ih.1 _ (by rw [b.1.1]; omega), ih.1 _ (by rw [b.1.2]; omega), b.1.1, b.1.2]; omega
      · exact ih.2 k (by omega) k1 kz
    · rw [if_neg z] at h
      have ih := caQ_v I hr j v u (by omega) h
      refine ⟨ih.1, fun k k0 k1 kz => ?_⟩
      by_cases q : k = ln r - ((j : Int) + 1)
      · rw [q] at kz; exact absurd kz z
      · exact ih.2 k (by omega) k1 kz
theorem reCs_v (I : reI hd kd fo ln pt n) (hr : 0 ≤ r ∧ r < n) (hu : u ∈ reCs ln pt F r) {it : Int} (hi : reIt it) (hb : reBd ln pt r it) : 0 ≤ reVl u it ∧ reVl u it < 32 := by
  have hl := (I.2 r hr.1 hr.2).2.2.1
  have h := caQ_v (P := F) I hr (ln r).toNat _ u (by omega) hu
  rcases hb with hb | ⟨k, hk, kz, e⟩
  · unfold reVl
    unfold reIt at hi
    rw [if_neg (by omega)]; omega
  · have q := h.2 k (by omega) hk.2 kz
    rcases e with e | e
    · rw [← e]; exact q.1
    · rw [← e]; exact q.2
theorem reFl_q {hx fx : Int} : ∀ (L : List (Int → Int)) (M : reM4), (∀ u ∈ L, (0 ≤ reVl u hx ∧ reVl u hx < 32) ∧ 0 ≤ reVl u fx ∧ reVl u fx < 32) → reMq M M.1 M.2.1 M.2.2.1 M.2.2.2 L.length → reMq (reFl hx fx M L) (reFl hx fx M L).1 (reFl hx fx M L).2.1 (reFl hx fx M L).2.2.1 (reFl hx fx M L).2.2.2 0
  | [], M, _, h => h
  | u :: L, M, hL, h => by
    rw [show ((u :: L).length : Int) = (L.length : Int) + 1 by simp] at h
    have q := hL u (List.mem_cons_self ..)
    exact reFl_q L (reFd M (reVl u hx) (reVl u fx)) (fun u hu => hL u (List.mem_cons_of_mem _ hu)) (h.more q.1 q.2)
theorem reFh_r {name : Int} (hn : 0 ≤ name ∧ name < 16) (hM : reMq M M.1 M.2.1 M.2.2.1 M.2.2.2 0) : ∀ (j : Nat) (x : Int), 0 ≤ x → x + j ≤ 32 → ∀ c ∈ reFh k name M j x, 0 ≤ c ∧ c < 16384
  | 0, x, _, _, c, h => by rw [reFh] at h; exact absurd h (by simp)
  | j + 1, x, x0, x1, c, h => by
    rw [reFh, List.mem_append] at h
    rcases h with h | h
    · obtain ⟨_, b1, b2, b3⟩ := hM x x0 (by omega)
      by_cases z : M.1 x = 0
      · rw [if_pos z] at h; exact absurd h (by simp)
      · rw [if_neg z, List.mem_singleton] at h
        have b3 := b3 z
        rw [h]
        refine reCd_b ⟨hn, ⟨x0, by omega⟩, ?_⟩
        split
        · omega
        · split
          · exact b2
          · split
            · exact b3.1
            · exact b3.2
    · exact reFh_r hn hM j (x + 1) (by omega) (by omega) c h
theorem reHl_r (I : reI hd kd fo ln pt n) (hr : 0 ≤ r ∧ r < n) (hs : reSf hd kd fo ln pt r) (hlen : ((reCs ln pt F r).length : Int) ≤ 1000000) : ∀ c ∈ reHl hd kd fo ln pt F r, 0 ≤ c ∧ c < 16384 := fun c hc => by
  obtain ⟨⟨i1, ix, iy⟩, ik, hl, i4⟩ := I.2 r hr.1 hr.2
  unfold reHl at hc
  by_cases k0 : kd r < 0
  · rw [if_pos k0, List.mem_map] at hc
    obtain ⟨u, hu, e⟩ := hc
    rw [← e]
    exact reCd_b ⟨i1, reCs_v I hr hu ix hs.1, reCs_v I hr hu iy (hs.2.1 k0)⟩
  · rw [if_neg k0] at hc
    have f6 := ik.2 k0
    refine reFh_r i1 (reFl_q _ reM0 (fun u hu => ⟨reCs_v I hr hu ix hs.1, reCs_v I hr hu (by unfold reIt; omega) (hs.2.2.1 k0)⟩) (fun x x0 x1 => ⟨⟨rfl, rfl, fun _ => ⟨rfl, rfl⟩⟩, ⟨by show (0 : Int) ≤ 0; decide, by show (0 : Int) + _ ≤ _; omega⟩, by show (0 : Int) ≤ 0 ∧ (0 : Int) < 32; decide, fun z => absurd rfl z⟩)) 32 0 (by decide) (by decide) c hc
theorem reWk_s (I : reI hd kd fo ln pt n) (hw : 0 ≤ wk) : ∀ (k : Nat), (k : Int) ≤ n → ∀ r : Int, 0 ≤ r → r < k → reSel hd kd fo ln pt st s r → wk + rePr pt rn r (ln r).toNat ≤ reWk hd kd fo ln pt st rn s wk k
  | 0, _, r, r0, r1, _ => by omega
  | k + 1, hk, r, r0, r1, hsel => by
    rw [reWk]
    have pb := (rePr_b (pt := pt) (rn := rn) (r := (k : Int)) (ln k).toNat).1
    by_cases z : r = k
    · rw [z] at hsel ⊢
      rw [pif_t hsel]
      have := (reWk_b I (w := wk) (st := st) (rn := rn) (s := s) k (by omega)).1
      omega
    · have ih := reWk_s I hw k (by omega) r r0 (by omega) hsel
      by_cases q : reSel hd kd fo ln pt st s k
      · rw [pif_t q]; omega
      · rw [pif_f q]; exact ih
theorem reAl_len (I : reI hd kd fo ln pt n) (hF : ∀ c, F c → reHo rn c) : ∀ k : Nat, (k : Int) ≤ n → ((reAl hd kd fo ln pt st F s k).length : Int) ≤ reWk hd kd fo ln pt st rn s wk k - wk + 32 * k
  | 0, _ => by unfold reAl reWk; simp
  | k + 1, hk => by
    have ih := reAl_len I hF k (by omega)
    have hl := (I.2 k (by omega) (by omega)).2.2.1
    rw [reAl, reWk, List.length_append]
    by_cases q : reSel hd kd fo ln pt st s k
    · rw [pif_t q, pif_t q]
      have h1 := reHl_len (hd := hd) (kd := kd) (fo := fo) (ln := ln) (pt := pt) (F := F) (r := (k : Int))
      have h2 := reCs_len (rn := rn) (pt := pt) hl.1 hF
      omega
    · rw [pif_f q, pif_f q]
      have : (([] : List Int).length : Int) = 0 := rfl
      omega
/-- rules of a stratum, one round -/
theorem T55_w145 {K : (Int → Int) → (Int → Int) → (Int → Int) → (Int → Int) → Int → (Int → Int) → (Int → Int) → (Int → Int) → (Int → Int) → (Int → Int) → (Int → Int) → Int → Prop} (I : reI hd kd fo ln pt n) (hs0 : 0 ≤ s) (hr0 : 0 ≤ round) (hn0 : 0 ≤ now) (hF : F = reOl rn fr now) (hFH : F = reHo rn) (hw : 0 ≤ wk) (hW : reWk hd kd fo ln pt st rn s wk n.toNat ≤ 200000)
  (hK : ∀ S : reG4, S = reGl round now (rn, gv, fr, 0) (reAl hd kd fo ln pt st F s n.toNat) → ∀ v' pn' m' po' mn' sm' lo' hi', K S.1 S.2.1 v' pn' m' po' S.2.2.1 mn' sm' lo' hi' S.2.2.2) :
  ∀ (j k : Nat) (vs pn : Int → Int) (pc : Int) (po mn sm lo hi : Int → Int) (S : reG4), (k : Int) + j = n → S = reGl round now (rn, gv, fr, 0) (reAl hd kd fo ln pt st F s k) → reGk round S 0 → wX55_work_145 K s round hd kd fo ln pt n st now 0 (j + 1) k S.1 S.2.1 vs pn pc po S.2.2.1 mn sm lo hi S.2.2.2 := fun j => by
  have hn := I.1
  induction j with
  | zero =>
    intro k vs pn pc po mn sm lo hi S hk eS gk
    rw [wX55_work_145]
    have e : k = n.toNat := by omega
    rw [e] at eS
    exact ⟨fun _ => hK S eS _ _ _ _ _ _ _ _, fun z => absurd (by omega) z⟩
  | succ j ih =>
    intro k vs pn pc po mn sm lo hi S hk eS gk
    rw [wX55_work_145]
    have hl := (I.2 k (by omega) (by omega)).2.2.1
    have hd0 := (I.2 k (by omega) (by omega)).1.1
    have eA : reAl hd kd fo ln pt st F s (k + 1) = reAl hd kd fo ln pt st F s k ++ pif (reSel hd kd fo ln pt st s k) (reHl hd kd fo ln pt F k) [] := rfl
    have skip : ¬ reSel hd kd fo ln pt st s k → wX55_work_145 K s round hd kd fo ln pt n st now 0 (j + 1) ((k : Int) + 1) S.1 S.2.1 vs pn pc po S.2.2.1 mn sm lo hi S.2.2.2 := fun no => by
      have J := ih (k + 1) vs pn pc po mn sm lo hi S (by omega) (by rw [eA, pif_f no, List.append_nil]; exact eS) gk
      rw [show ((k + 1 : Nat) : Int) = (k : Int) + 1 by omega] at J
      exact J
    refine ⟨fun z => by omega, fun _ => ⟨fun _ => T55_isSafeB I ⟨by omega, by omega⟩ (fun sf => ⟨by omega, by omega, fun e => ?_, fun e => ⟨by omega, fun x2 ex => by rw [ex]; exact skip (fun z => z.2.elim (fun q => by omega) e)⟩⟩) (fun sf => ⟨by omega, fun x2 ex => by rw [ex]; exact skip (fun z => sf z.1)⟩), fun z => absurd rfl z⟩⟩
    have sel : reSel hd kd fo ln pt st s k := ⟨sf, Or.inr e⟩
    have l1 := reWk_s (rn := rn) I hw n.toNat (by omega) k (by omega) (by omega) sel
    have l2 := reCs_len (rn := rn) (pt := pt) (F := F) hl.1 (fun c hc => by rw [hFH] at hc; exact hc)
    have hlen : ((reCs ln pt F k).length : Int) ≤ 1000000 := by omega
    have hFS : F = reOl S.1 S.2.2.1 now := by
      rw [eS]; exact reGl_F _ (rn, gv, fr, 0) hF (fun _ => hn0)
    refine T55_spread (F := F) (gv := S.2.1) (ly := S.2.2.2) I ⟨by omega, by omega⟩ sf hFS (fun _ => hn0) hlen ⟨fun r0 => by omega, gk.2⟩ (fun S' e' v' pn' m' po' mn' sm' lo' hi' => ⟨by omega, fun x2 ex => ?_⟩)
    have eS' : S' = reGl round now S (reHl hd kd fo ln pt F k) := e'
    have gk' : reGk round S' 0 := by
      rw [eS']
      exact reGl_k _ S (reHl_r I ⟨by omega, by omega⟩ sf hlen) ⟨fun r0 => by omega, gk.2⟩ (Int.le_refl 0)
    have J := ih (k + 1) v' pn' m' po' mn' sm' lo' hi' S' (by omega) (by rw [eA, pif_t sel]; exact eS'.trans ((congrArg (fun Z => reGl round now Z (reHl hd kd fo ln pt F k)) eS).trans (reGl_app _ _ _).symm)) gk'
    rw [show ((k + 1 : Nat) : Int) = (k : Int) + 1 by omega] at J
    rw [ex]; exact J
theorem reAl_r (I : reI hd kd fo ln pt n) (hFH : ∀ c, F c → reHo rn c) (hw : 0 ≤ wk) (hW : reWk hd kd fo ln pt st rn s wk n.toNat ≤ 200000) : ∀ k : Nat, (k : Int) ≤ n → ∀ c ∈ reAl hd kd fo ln pt st F s k, 0 ≤ c ∧ c < 16384
  | 0, _, c, h => by rw [reAl] at h; exact absurd h (by simp)
  | k + 1, hk, c, h => by
    have hn := I.1
    have hl := (I.2 k (by omega) (by omega)).2.2.1
    rw [reAl, List.mem_append] at h
    rcases h with h | h
    · exact reAl_r I hFH hw hW k (by omega) c h
    · by_cases q : reSel hd kd fo ln pt st s k
      · rw [pif_t q] at h
        have l1 := reWk_s (rn := rn) I hw n.toNat (by omega) k (by omega) (by omega) q
        have l2 := reCs_len (rn := rn) (pt := pt) (F := F) hl.1 hFH
        exact reHl_r I ⟨by omega, by omega⟩ q.1 (by omega) c h
      · rw [pif_f q] at h; exact absurd h (by simp)
theorem T55_w109 {K : (Int → Int) → (Int → Int) → Int → (Int → Int) → (Int → Int) → Int → (Int → Int) → Int → (Int → Int) → (Int → Int) → (Int → Int) → (Int → Int) → (Int → Int) → Int → Int → Int → Prop} (I : reI hd kd fo ln pt n) (hs0 : 0 ≤ s) (hst : ∀ a, 0 ≤ a → a < 16 → 0 ≤ st a) :
  ∀ (f : Nat) (round : Int) (rn fr : Int → Int) (t wk : Int) (vs pn : Int → Int) (pc : Int) (po : Int → Int) (now : Int) (mn sm lo hi : Int → Int) (ly : Int), cntI (fun c => rn c < 0) 16384 < f → (1 ≤ round ∧ round + f ≤ 40000) → (0 ≤ t ∧ t + f ≤ 400000) → (∀ c, 0 ≤ c → c < 16384 → fr c ≤ t) → (0 ≤ wk ∧ wk ≤ 200000) → 0 < ly → (∀ R, R = reLp hd kd fo ln pt st n s f round rn t wk → ∀ v' pn' m' po' now' fr' mn' sm' lo' hi' ly', (∀ c, 0 ≤ c → c < 16384 → fr' c ≤ R.2.1) → K R.1 gv R.2.1 v' pn' m' po' now' fr' mn' sm' lo' hi' ly' R.2.2.1 R.2.2.2) → wX55_work_109 K s hd kd fo ln pt n st (f + 1) round rn gv t vs pn pc po now fr mn sm lo hi ly wk 0 := fun f => by
  have hn := I.1
  induction f with
  | zero =>
    intro round rn fr t wk vs pn pc po now mn sm lo hi ly hc
    have := (cntI_b (fun c => rn c < 0) 16384).1
    omega
  | succ f ih =>
    intro round rn fr t wk vs pn pc po now mn sm lo hi ly hc hr ht hfr hw hly hK
    rw [wX55_work_109]
    have hF : reHo rn = reOl rn fr (t + 1) := funext fun c => propext ⟨fun h => ⟨h.1, h.2, Or.inr (by have := hfr c h.1.1 h.1.2; omega)⟩, fun h => ⟨h.1, h.2.1⟩⟩
    have ini : reGk round (rn, gv, fr, 0) 0 := ⟨fun z => by omega, fun _ => ⟨by show (0 : Int) ≤ 0; decide, by show (0 : Int) + cntI (fun c => rn c < 0) 16384 ≤ 16384; have := (cntI_b (fun c => rn c < 0) 16384).2; omega⟩⟩
    rw [reLp] at hK
    refine ⟨fun z => by omega, fun _ => ⟨fun _ => ⟨by omega, fun nw enw => T55_addWork I (Or.inr hst) hw ?_⟩, fun z => absurd rfl z⟩⟩
    by_cases big : 200000 < reWk hd kd fo ln pt st rn s wk n.toNat
    · rw [if_neg (by omega)]
      rw [if_pos big] at hK
      refine ⟨1, ?_⟩
      have fin : ∀ v' pn' m' po' mn' sm' lo' hi', wX55_work_197 (wX55_work_109 K s hd kd fo ln pt n st (f + 1)) round rn gv t v' pn' m' po' nw fr mn' sm' lo' hi' 0 (reWk hd kd fo ln pt st rn s wk n.toNat) 1 := fun v' pn' m' po' mn' sm' lo' hi' => by
        unfold wX55_work_197
        refine ⟨fun _ => ⟨by omega, fun x2 ex => ?_⟩, fun z => absurd (by decide) z⟩
        rw [wX55_work_109]
        exact ⟨fun _ => hK _ rfl v' pn' m' po' nw fr mn' sm' lo' hi' 0 hfr, fun z => absurd (by decide) z⟩
      rw [wX55_work_145]
      exact ⟨fun _ => fin _ _ _ _ _ _ _ _, fun _ => ⟨fun z => absurd z (by decide), fun _ => fin _ _ _ _ _ _ _ _⟩⟩
    rw [if_pos (by omega)]
    rw [if_neg big] at hK
    have rng := reAl_r (F := reHo rn) (rn := rn) (s := s) (st := st) (wk := wk) I (fun c h => h) hw.1 (by omega) n.toNat (by omega)
    refine ⟨n.toNat + 1, T55_w145 (F := reHo rn) (rn := rn) (gv := gv) (fr := fr) (wk := wk) I hs0 (by omega) (by omega) (by rw [enw]; exact hF) rfl hw.1 (by omega) (fun S eS v' pn' m' po' mn' sm' lo' hi' => ?_) n.toNat 0 vs pn pc po mn sm lo hi (rn, gv, fr, 0) (by omega) rfl ini⟩
    obtain ⟨q1, q2, q3, q4, q5⟩ := reGl_n (now := nw) (round := round) (by omega) (reAl hd kd fo ln pt st (reHo rn) s n.toNat) (rn, gv, fr, 0)
    rw [← eS] at q1 q2 q3 q4 q5
    have q4' : 0 ≤ S.2.2.2 := q4
    have q5' : 0 < S.2.2.2 ↔ ∃ c ∈ reAl hd kd fo ln pt st (reHo rn) s n.toNat, rn c < 0 := q5
    have q2' : S.2.1 = gv := q2
    unfold wX55_work_197
    rw [q2']
    refine ⟨fun l0 => ⟨by omega, fun x2 ex => ?_⟩, fun l0 => ⟨by omega, fun t2 et => ⟨by omega, fun x2 ex => ?_⟩⟩⟩
    · have no : ¬ ∃ c ∈ reAl hd kd fo ln pt st (reHo rn) s n.toNat, rn c < 0 := fun z => by have := q5'.2 z; omega
      rw [pif_f no] at hK
      have e1 : S.1 = rn := by
        rw [q1]
        funext c
        unfold reNx
        exact pif_f (fun z => no ⟨c, z.2, z.1⟩)
      have e3 : ∀ c, 0 ≤ c → c < 16384 → S.2.2.1 c ≤ t := fun c c0 c1 => by
        rw [q3 c]
        have : pif (rn c < 0 ∧ c ∈ reAl hd kd fo ln pt st (reHo rn) s n.toNat) nw (fr c) = fr c := pif_f (fun z => no ⟨c, z.2, z.1⟩)
        show pif (rn c < 0 ∧ c ∈ reAl hd kd fo ln pt st (reHo rn) s n.toNat) nw (fr c) ≤ t
        rw [this]; exact hfr c c0 c1
      rw [wX55_work_109, e1]
      exact ⟨fun _ => hK _ rfl v' pn' m' po' nw S.2.2.1 mn' sm' lo' hi' _ e3, fun z => absurd l0 z⟩
    · have yes : ∃ c ∈ reAl hd kd fo ln pt st (reHo rn) s n.toNat, rn c < 0 := q5'.1 (by omega)
      rw [pif_t yes] at hK
      obtain ⟨c0, m0, n0⟩ := yes
      have c0r := rng c0 m0
      rw [ex, et]
      have q1' : S.1 = reNx round rn (reAl hd kd fo ln pt st (reHo rn) s n.toNat) := q1
      rw [q1']
      refine ih (round + 1) _ S.2.2.1 (t + 1) _ v' pn' m' po' nw mn' sm' lo' hi' S.2.2.2 ?_ (by omega) (by omega) (fun c c0 c1 => ?_) ⟨?_, by omega⟩ (by omega) hK
      · have key := cntI_ltr (p := fun c => reNx round rn (reAl hd kd fo ln pt st (reHo rn) s n.toNat) c < 0) (q := fun c => rn c < 0) (j := c0) 16384 (fun i i0 i1 h => ?_) c0r.1 c0r.2 n0 (fun h => ?_)
        · generalize cntI (fun c => reNx round rn (reAl hd kd fo ln pt st (reHo rn) s n.toNat) c < 0) 16384 = X at key ⊢
          generalize cntI (fun c => rn c < 0) 16384 = Y at key hc
          omega
        · have h' : reNx round rn (reAl hd kd fo ln pt st (reHo rn) s n.toNat) (i : Int) < 0 := h
          unfold reNx at h'
          by_cases z : rn (i : Int) < 0 ∧ (i : Int) ∈ reAl hd kd fo ln pt st (reHo rn) s n.toNat
          · exact z.1
          · rw [pif_f z] at h'; exact h'
        · have h' : reNx round rn (reAl hd kd fo ln pt st (reHo rn) s n.toNat) c0 < 0 := h
          unfold reNx at h'
          rw [pif_t ⟨n0, m0⟩] at h'
          omega
      · rw [q3 c]
        show pif (rn c < 0 ∧ c ∈ reAl hd kd fo ln pt st (reHo rn) s n.toNat) nw (fr c) ≤ t + 1
        by_cases z : rn c < 0 ∧ c ∈ reAl hd kd fo ln pt st (reHo rn) s n.toNat
        · rw [pif_t z]; omega
        · rw [pif_f z]; have := hfr c c0 c1; omega
      · have := (reWk_b I (w := wk) (st := st) (rn := rn) (s := s) n.toNat (by omega)).1
        omega
end
