/-! RuleEngine, the reference (X55): all strata, the counts, work -/
noncomputable def reSs (hd kd fo ln pt st : Int → Int) (n : Int) : Nat → Int → (Int → Int) → Int → Int → Int → (Int → Int) × Int × Int × Int
  | 0, _, rn, t, w, g => (rn, t, w, g)
  | j + 1, s, rn, t, w, g => if g = 0 then reSs hd kd fo ln pt st n j (s + 1) (reLp hd kd fo ln pt st n s 16385 1 rn t w).1 (reLp hd kd fo ln pt st n s 16385 1 rn t w).2.1 (reLp hd kd fo ln pt st n s 16385 1 rn t w).2.2.1 (reLp hd kd fo ln pt st n s 16385 1 rn t w).2.2.2 else (rn, t, w, g)
def reZr (sd f : Int → Int) (x : Int) : Int → Int := fun c => if 0 ≤ c ∧ c < x then (if sd c = 0 then -1 else 0) else f c
def reZg (f : Int → Int) (x : Int) : Int → Int := fun c => if 0 ≤ c ∧ c < x then 0 else f c
/-- what is worked out: rounds, given, turns, too much -/
noncomputable def reRz (sd hd kd fo ln pt st : Int → Int) (n ci : Int) (rn gv : Int → Int) : (Int → Int) × (Int → Int) × Int × Int :=
  if 0 ≤ ci then (reZr sd rn 16384, reZg gv 16384, 0, 0)
  else if ¬ (reSs hd kd fo ln pt st n 16 0 (reZr sd rn 16384) 0 0 0).2.2.2 = 0 then (reZr sd (reSs hd kd fo ln pt st n 16 0 (reZr sd rn 16384) 0 0 0).1 16384, reZg (reZg gv 16384) 16384, (reSs hd kd fo ln pt st n 16 0 (reZr sd rn 16384) 0 0 0).2.1, 1)
  else if 200000 < reWk hd kd fo ln pt st (reSs hd kd fo ln pt st n 16 0 (reZr sd rn 16384) 0 0 0).1 (-1) (reSs hd kd fo ln pt st n 16 0 (reZr sd rn 16384) 0 0 0).2.2.1 n.toNat then (reZr sd (reSs hd kd fo ln pt st n 16 0 (reZr sd rn 16384) 0 0 0).1 16384, reZg (reZg gv 16384) 16384, (reSs hd kd fo ln pt st n 16 0 (reZr sd rn 16384) 0 0 0).2.1, 1)
  else ((reSs hd kd fo ln pt st n 16 0 (reZr sd rn 16384) 0 0 0).1, (fun c => reZg gv 16384 c + ((reAl hd kd fo ln pt st (reHo (reSs hd kd fo ln pt st n 16 0 (reZr sd rn 16384) 0 0 0).1) (-1) n.toNat).count c : Int)), (reSs hd kd fo ln pt st n 16 0 (reZr sd rn 16384) 0 0 0).2.1, 0)
section
variable {hd kd fo ln pt st rn fr gv vs pn po w w' v u mn sm lo hi sd : Int → Int} {n r k a b c x y s now m round ly wk t ci g : Int} {A B : Prop} {F : Int → Prop} {M : reM4} {S : reG4}
theorem reLp_b (I : reI hd kd fo ln pt n) : ∀ (f : Nat) (round : Int) (rn : Int → Int) (t w : Int), 0 ≤ w → w ≤ 200000 → (t ≤ (reLp hd kd fo ln pt st n s f round rn t w).2.1 ∧ (reLp hd kd fo ln pt st n s f round rn t w).2.1 ≤ t + f) ∧ ((reLp hd kd fo ln pt st n s f round rn t w).2.2.2 = 0 ∧ 0 ≤ (reLp hd kd fo ln pt st n s f round rn t w).2.2.1 ∧ (reLp hd kd fo ln pt st n s f round rn t w).2.2.1 ≤ 200000 ∨ (reLp hd kd fo ln pt st n s f round rn t w).2.2.2 = 1)
  | 0, round, rn, t, w, h0, h1 => by unfold reLp; exact ⟨⟨Int.le_refl _, by show t ≤ t + ((0 : Nat) : Int); omega⟩, Or.inl ⟨rfl, h0, h1⟩⟩
  | f + 1, round, rn, t, w, h0, h1 => by
    have wb := (reWk_b I (w := w) (st := st) (rn := rn) (s := s) n.toNat (by have := I.1; omega)).1
    rw [reLp]
    by_cases z : 200000 < reWk hd kd fo ln pt st rn s w n.toNat
    · rw [if_pos z]; exact ⟨⟨Int.le_refl _, by show t ≤ t + ((f + 1 : Nat) : Int); omega⟩, Or.inr rfl⟩
    · rw [if_neg z]
      by_cases q : ∃ c ∈ reAl hd kd fo ln pt st (reHo rn) s n.toNat, rn c < 0
      · rw [pif_t q]
        have ih := reLp_b I f (round + 1) (reNx round rn (reAl hd kd fo ln pt st (reHo rn) s n.toNat)) (t + 1) (reWk hd kd fo ln pt st rn s w n.toNat) (by omega) (by omega)
        exact ⟨⟨by omega, by omega⟩, ih.2⟩
      · rw [pif_f q]; exact ⟨⟨Int.le_refl _, by show t ≤ t + ((f + 1 : Nat) : Int); omega⟩, Or.inl ⟨rfl, by show 0 ≤ reWk hd kd fo ln pt st rn s w n.toNat; omega, by show reWk hd kd fo ln pt st rn s w n.toNat ≤ 200000; omega⟩⟩
theorem reGk.le {k' : Int} (h : reGk round S k) (hk : k' ≤ k) : reGk round S k' := ⟨fun r0 c c0 c1 => by have := h.1 r0 c c0 c1; omega, h.2⟩
theorem T55_w82 {K : (Int → Int) → (Int → Int) → Int → (Int → Int) → (Int → Int) → Int → (Int → Int) → Int → (Int → Int) → (Int → Int) → (Int → Int) → (Int → Int) → (Int → Int) → Int → Int → Int → Prop} (I : reI hd kd fo ln pt n) (hst : ∀ a, 0 ≤ a → a < 16 → 0 ≤ st a) (hci : ci < 0) :
  ∀ (j : Nat) (s : Int) (rn fr : Int → Int) (t wk g : Int) (vs pn : Int → Int) (pc : Int) (po : Int → Int) (now : Int) (mn sm lo hi : Int → Int) (ly : Int), s + j = 16 → 0 ≤ s → (0 ≤ t ∧ t ≤ s * 16385) → (∀ c, 0 ≤ c → c < 16384 → fr c ≤ t) → (g = 0 ∧ 0 ≤ wk ∧ wk ≤ 200000 ∨ g = 1) → (∀ R, R = reSs hd kd fo ln pt st n j s rn t wk g → ∀ v' pn' m' po' now' fr' mn' sm' lo' hi' ly', (R.2.2.2 = 0 ∧ 0 ≤ R.2.2.1 ∧ R.2.2.1 ≤ 200000 ∨ R.2.2.2 = 1) → K R.1 gv R.2.1 v' pn' m' po' now' fr' mn' sm' lo' hi' ly' R.2.2.1 R.2.2.2) → wX55_work_82 K hd kd fo ln pt n st ci (j + 1) s rn gv t vs pn pc po now fr mn sm lo hi ly wk g := fun j => by
  induction j with
  | zero =>
    intro s rn fr t wk g vs pn pc po now mn sm lo hi ly hs s0 ht hfr hg hK
    rw [wX55_work_82]
    exact ⟨fun _ => hK _ rfl _ _ _ _ _ _ _ _ _ _ _ hg, fun z => absurd (by omega) z⟩
  | succ j ih =>
    intro s rn fr t wk g vs pn pc po now mn sm lo hi ly hs s0 ht hfr hg hK
    rw [wX55_work_82]
    rw [reSs] at hK
    refine ⟨fun z => by omega, fun _ => ⟨fun z => by omega, fun _ => ⟨fun g0 => ?_, fun g0 => ?_⟩⟩⟩
    · rw [if_pos g0] at hK
      rw [g0]
      have hw : 0 ≤ wk ∧ wk ≤ 200000 := by omega
      have lb := reLp_b (st := st) (s := s) I 16385 1 rn t wk hw.1 hw.2
      refine ⟨16386, T55_w109 I s0 hst 16385 1 rn fr t wk vs pn pc po now mn sm lo hi 1 (by have := (cntI_b (fun c => rn c < 0) 16384).2; omega) (by decide) (by omega) hfr hw (by decide) (fun R eR v' pn' m' po' now' fr' mn' sm' lo' hi' ly' hf' => ⟨by omega, fun x2 ex => ?_⟩)⟩
      rw [← eR] at hK lb
      rw [ex]
      exact ih (s + 1) R.1 fr' R.2.1 R.2.2.1 R.2.2.2 v' pn' m' po' now' mn' sm' lo' hi' ly' (by omega) (by omega) (by omega) hf' (lb.2.elim (fun q => Or.inl ⟨q.1, q.2⟩) Or.inr) hK
    · rw [if_neg g0] at hK
      exact hK _ rfl _ _ _ _ _ _ _ _ _ _ _ hg
theorem T55_w252 {K : (Int → Int) → (Int → Int) → (Int → Int) → (Int → Int) → Int → (Int → Int) → (Int → Int) → (Int → Int) → (Int → Int) → (Int → Int) → (Int → Int) → Int → Prop} (I : reI hd kd fo ln pt n) (hci : ci < 0) (hw : 0 ≤ wk) (hW : reWk hd kd fo ln pt st rn (-1) wk n.toNat ≤ 200000) (hg0 : ∀ c, 0 ≤ c → c < 16384 → gv c = 0)
  (hK : ∀ S : reG4, S = reGl (-1) (-1) (rn, gv, fr, ly) (reAl hd kd fo ln pt st (reHo rn) (-1) n.toNat) → ∀ v' pn' m' po' mn' sm' lo' hi', K S.1 S.2.1 v' pn' m' po' S.2.2.1 mn' sm' lo' hi' S.2.2.2) :
  ∃ fu : Nat, wX55_work_252 K hd kd fo ln pt n ci (-1) 0 fu 0 rn gv vs pn s po fr mn sm lo hi ly := by
  have hn := I.1
  have hF : reHo rn = reOl rn fr (-1) := funext fun c => propext ⟨fun h => ⟨h.1, h.2, Or.inl (by decide)⟩, fun h => ⟨h.1, h.2.1⟩⟩
  have go : ∀ (j k : Nat) (vs pn : Int → Int) (pc : Int) (po mn sm lo hi : Int → Int) (S : reG4), (k : Int) + j = n → S = reGl (-1) (-1) (rn, gv, fr, ly) (reAl hd kd fo ln pt st (reHo rn) (-1) k) → reGk (-1) S (1100000 * j) → wX55_work_252 K hd kd fo ln pt n ci (-1) 0 (j + 1) k S.1 S.2.1 vs pn pc po S.2.2.1 mn sm lo hi S.2.2.2 := fun j => by
    induction j with
    | zero =>
      intro k vs pn pc po mn sm lo hi S hk eS gk
      rw [wX55_work_252]
      have e : k = n.toNat := by omega
      rw [e] at eS
      exact ⟨fun _ => hK S eS _ _ _ _ _ _ _ _, fun z => absurd (by omega) z⟩
    | succ j ih =>
      intro k vs pn pc po mn sm lo hi S hk eS gk
      rw [wX55_work_252]
      have hl := (I.2 k (by omega) (by omega)).2.2.1
      have eA : reAl hd kd fo ln pt st (reHo rn) (-1) (k + 1) = reAl hd kd fo ln pt st (reHo rn) (-1) k ++ pif (reSel hd kd fo ln pt st (-1) k) (reHl hd kd fo ln pt (reHo rn) k) [] := rfl
      refine ⟨fun z => by omega, fun _ => ⟨fun z => by omega, fun _ => ⟨fun _ => T55_isSafeB I ⟨by omega, by omega⟩ (fun sf => ?_) (fun sf => ⟨by omega, fun x2 ex => ?_⟩), fun z => absurd rfl z⟩⟩⟩
      · have sel : reSel hd kd fo ln pt st (-1) k := ⟨sf, Or.inl (by decide)⟩
        have l1 := reWk_s (rn := rn) I hw n.toNat (by omega) k (by omega) (by omega) sel
        have l2 := reCs_len (rn := rn) (pt := pt) (F := reHo rn) hl.1 (fun c hc => hc)
        have hlen : ((reCs ln pt (reHo rn) k).length : Int) ≤ 1000000 := by omega
        have l3 := reHl_len (hd := hd) (kd := kd) (fo := fo) (ln := ln) (pt := pt) (F := reHo rn) (r := (k : Int))
        have hFS : reHo rn = reOl S.1 S.2.2.1 (-1) := by
          rw [eS]; exact reGl_F _ (rn, gv, fr, ly) hF (fun z => absurd z (by decide))
        refine T55_spread (F := reHo rn) (gv := S.2.1) (ly := S.2.2.2) I ⟨by omega, by omega⟩ sf hFS (fun z => absurd z (by decide)) hlen (gk.le (by omega)) (fun S' e' v' pn' m' po' mn' sm' lo' hi' => ⟨by omega, fun x2 ex => ?_⟩)
        have eS' : S' = reGl (-1) (-1) S (reHl hd kd fo ln pt (reHo rn) k) := e'
        have gk' : reGk (-1) S' (1100000 * j) := by
          rw [eS']
          exact reGl_k _ S (reHl_r I ⟨by omega, by omega⟩ sf hlen) (gk.le (by omega)) (by omega)
        have J := ih (k + 1) v' pn' m' po' mn' sm' lo' hi' S' (by omega) (by rw [eA, pif_t sel]; exact eS'.trans ((congrArg (fun Z => reGl (-1) (-1) Z (reHl hd kd fo ln pt (reHo rn) k)) eS).trans (reGl_app _ _ _).symm)) gk'
        rw [show ((k + 1 : Nat) : Int) = (k : Int) + 1 by omega] at J
        rw [ex]; exact J
      · have J := ih (k + 1) vs pn pc po mn sm lo hi S (by omega) (by rw [eA, pif_f (fun z => sf z.1), List.append_nil]; exact eS) (gk.le (by omega))
        rw [show ((k + 1 : Nat) : Int) = (k : Int) + 1 by omega] at J
        rw [ex]; exact J
  exact ⟨_, go n.toNat 0 vs pn s po mn sm lo hi (rn, gv, fr, ly) (by omega) rfl ⟨fun _ c c0 c1 => by show 0 ≤ gv c ∧ gv c + _ ≤ _; rw [hg0 c c0 c1]; omega, fun z => absurd z (by decide)⟩⟩
theorem reZr_u {f : Int → Int} (hx : 0 ≤ x) : updI (reZr sd f x) x (if sd x = 0 then -1 else 0) = reZr sd f (x + 1) := funext fun c => by
  unfold reZr
  rw [updI_e]
  by_cases z : c = x
  · rw [if_pos z, if_pos (show 0 ≤ c ∧ c < x + 1 by omega), z]
  · rw [if_neg z]
    by_cases q : 0 ≤ c ∧ c < x
    · rw [if_pos q, if_pos (show 0 ≤ c ∧ c < x + 1 by omega)]
    · rw [if_neg q, if_neg (show ¬ (0 ≤ c ∧ c < x + 1) by omega)]
theorem reZg_u {f : Int → Int} (hx : 0 ≤ x) : updI (reZg f x) x 0 = reZg f (x + 1) := funext fun c => by
  unfold reZg
  rw [updI_e]
  by_cases z : c = x
  · rw [if_pos z, if_pos (by omega)]
  · rw [if_neg z]
    by_cases q : 0 ≤ c ∧ c < x
    · rw [if_pos q, if_pos (by omega)]
    · rw [if_neg q, if_neg (by omega)]
theorem reZr_0 {f : Int → Int} : reZr sd f 0 = f := funext fun c => by unfold reZr; rw [if_neg (by omega)]
theorem reZg_0 {f : Int → Int} : reZg f 0 = f := funext fun c => by unfold reZg; rw [if_neg (by omega)]
theorem T55_w23 {K : (Int → Int) → (Int → Int) → (Int → Int) → Prop} (hp : K (reZr sd rn 16384) (reZg gv 16384) (reZg fr 16384)) : ∃ fu : Nat, wX55_work_23 K sd fu 0 rn gv fr := by
  refine wl4 (fun f x a b c => wX55_work_23 K sd f x a b c) (fun x a b c => (0 ≤ x ∧ x ≤ 16384) ∧ a = reZr sd rn x ∧ b = reZg gv x ∧ c = reZg fr x) (fun x _ _ _ => (16384 - x).toNat) ?_ 0 rn gv fr ⟨by decide, reZr_0.symm, reZg_0.symm, reZg_0.symm⟩
  rintro x a b c ⟨hx, ea, eb, ec⟩ f ih
  rw [wX55_work_23]
  refine ⟨fun w => ?_, fun w => ⟨by omega, fun z a2 e2 b2 e3 c2 e4 => ⟨by omega, fun x2 ex => ?_⟩, fun z a2 e2 b2 e3 c2 e4 => ⟨by omega, fun x2 ex => ?_⟩⟩⟩
  · rw [ea, eb, ec, show x = 16384 by omega]; exact hp
  · rw [ex]
    have u := reZr_u (sd := sd) (f := rn) hx.1
    rw [if_pos z] at u
    exact ih _ _ _ _ ⟨by omega, by rw [e2, ea, u], by rw [e3, eb, reZg_u hx.1], by rw [e4, ec, reZg_u hx.1]⟩ (by omega)
  · rw [ex]
    have u := reZr_u (sd := sd) (f := rn) hx.1
    rw [if_neg z] at u
    exact ih _ _ _ _ ⟨by omega, by rw [e2, ea, u], by rw [e3, eb, reZg_u hx.1], by rw [e4, ec, reZg_u hx.1]⟩ (by omega)
theorem T55_w296 {K : (Int → Int) → (Int → Int) → Prop} (hp : K (if g = 0 then rn else reZr sd rn 16384) (if g = 0 then gv else reZg gv 16384)) : ∃ fu : Nat, wX55_work_296 K sd g fu 0 rn gv := by
  by_cases g0 : g = 0
  · rw [if_pos g0, if_pos g0] at hp
    refine ⟨1, ?_⟩
    rw [wX55_work_296]
    exact ⟨fun z => absurd z (by decide), fun _ => ⟨fun _ => hp, fun z => absurd g0 z⟩⟩
  rw [if_neg g0, if_neg g0] at hp
  refine wl3 (fun f x a b => wX55_work_296 K sd g f x a b) (fun x a b => (0 ≤ x ∧ x ≤ 16384) ∧ a = reZr sd rn x ∧ b = reZg gv x) (fun x _ _ => (16384 - x).toNat) ?_ 0 rn gv ⟨by decide, reZr_0.symm, reZg_0.symm⟩
  rintro x a b ⟨hx, ea, eb⟩ f ih
  rw [wX55_work_296]
  refine ⟨fun w => ?_, fun w => ⟨fun z => absurd z g0, fun _ => ⟨by omega, fun z a2 e2 b2 e3 => ⟨by omega, fun x2 ex => ?_⟩, fun z a2 e2 b2 e3 => ⟨by omega, fun x2 ex => ?_⟩⟩⟩⟩
  · rw [ea, eb, show x = 16384 by omega]; exact hp
  · rw [ex]
    have u := reZr_u (sd := sd) (f := rn) hx.1
    rw [if_pos z] at u
    exact ih _ _ _ ⟨by omega, by rw [e2, ea, u], by rw [e3, eb, reZg_u hx.1]⟩ (by omega)
  · rw [ex]
    have u := reZr_u (sd := sd) (f := rn) hx.1
    rw [if_neg z] at u
    exact ih _ _ _ ⟨by omega, by rw [e2, ea, u], by rw [e3, eb, reZg_u hx.1]⟩ (by omega)
end

/-! RuleEngine, the reference (X55): work, and what is told -/
/-- all is worked out -/
def reKn (sd hd kd fo ln pt : Int → Int) (n : Int) (rn gv st : Int → Int) (ci tn lg : Int) : Prop := ∃ rn0 gv0 : Int → Int, (ci = reCi (reEd hd kd fo ln pt n 1) (reEd hd kd fo ln pt n 2) ∧ (0 ≤ ci → ∀ a, 0 ≤ a → a < 16 → st a = 0) ∧ (ci = -1 → reLs (reEd hd kd fo ln pt n 1) (reEd hd kd fo ln pt n 2) st ∧ ∀ a, 0 ≤ a → a < 16 → st a ≤ 15)) ∧ rn = (reRz sd hd kd fo ln pt st n ci rn0 gv0).1 ∧ gv = (reRz sd hd kd fo ln pt st n ci rn0 gv0).2.1 ∧ tn = (reRz sd hd kd fo ln pt st n ci rn0 gv0).2.2.1 ∧ lg = (reRz sd hd kd fo ln pt st n ci rn0 gv0).2.2.2
section
variable {hd kd fo ln pt st rn fr gv vs pn po w w' v u mn sm lo hi sd nd cm : Int → Int} {n r k a b c x y s now m round ly wk t ci g kn tn lg pc : Int} {A B : Prop} {F : Int → Prop} {M : reM4} {S : reG4}
theorem T55_w252x {K : (Int → Int) → (Int → Int) → (Int → Int) → (Int → Int) → Int → (Int → Int) → (Int → Int) → (Int → Int) → (Int → Int) → (Int → Int) → (Int → Int) → Int → Prop} (h : 0 ≤ ci ∨ ¬ g = 0) (hK : K rn gv vs pn pc po fr mn sm lo hi ly) : ∃ fu : Nat, wX55_work_252 K hd kd fo ln pt n ci (-1) g fu 0 rn gv vs pn pc po fr mn sm lo hi ly := by
  refine ⟨1, ?_⟩
  rw [wX55_work_252]
  exact ⟨fun _ => hK, fun _ => ⟨fun _ => hK, fun z => ⟨fun q => absurd q (h.resolve_left z), fun _ => hK⟩⟩⟩
theorem T55_work {post : Int → (Int → Int) → (Int → Int) → (Int → Int) → Int → Int → (Int → Int) → (Int → Int) → (Int → Int) → (Int → Int) → Int → (Int → Int) → Int → (Int → Int) → (Int → Int) → (Int → Int) → (Int → Int) → (Int → Int) → Int → Int → Int → Prop} (I : reI hd kd fo ln pt n) (hKn : ¬ kn = 0 → reKn sd hd kd fo ln pt n rn gv st ci tn lg) (hp : ∀ kn' rn' gv' st' ci' tn' nd' cm' vs' pn' pc' po' now' fr' mn' sm' lo' hi' ly' wk' lg', ¬ kn' = 0 → reKn sd hd kd fo ln pt n rn' gv' st' ci' tn' lg' → post kn' rn' gv' st' ci' tn' nd' cm' vs' pn' pc' po' now' fr' mn' sm' lo' hi' ly' wk' lg') : wpX55_work post sd hd kd fo ln pt n kn rn gv st ci tn nd cm vs pn pc po now fr mn sm lo hi ly wk lg := by
  have hn := I.1
  unfold wpX55_work
  refine ⟨fun _ => ?_, fun k0 => hp _ _ _ _ _ _ _ _ _ _ _ _ _ _ _ _ _ _ _ _ _ k0 (hKn k0)⟩
  refine T55_need I (fun nd' cm' hN => ?_)
  generalize eci : reCi (reEd hd kd fo ln pt n 1) (reEd hd kd fo ln pt n 2) = ci'
  have cib : 0 ≤ ci' ∨ ci' = -1 := by
    have fb := (fstI_s (reQ (reEd hd kd fo ln pt n 1) (reEd hd kd fo ln pt n 2)) 16).1.1
    rw [← eci]
    unfold reCi
    split
    · exact Or.inl fb
    · exact Or.inr rfl
  have L := T55_layer (st := st) (post := fun (f_strata_5 : Int → Int) => ((0 ≤ ci' → ∀ a, 0 ≤ a → a < 16 → f_strata_5 a = 0) ∧ (ci' = -1 → reLs (reEd hd kd fo ln pt n 1) (reEd hd kd fo ln pt n 2) f_strata_5 ∧ ∀ a, 0 ≤ a → a < 16 → f_strata_5 a ≤ 15))) hN (fun a b h => reEd_r I h) (fun a b h => reEd_2 h) (fun c0 s hs => ⟨fun _ => hs, fun z => by omega⟩) (fun c1 s ls l15 => ⟨fun z => by omega, fun _ => ⟨ls, l15⟩⟩)
  clear L
  have main : ∀ s : Int → Int, ((0 ≤ ci' → ∀ a, 0 ≤ a → a < 16 → s a = 0) ∧ (ci' = -1 → reLs (reEd hd kd fo ln pt n 1) (reEd hd kd fo ln pt n 2) s ∧ ∀ a, 0 ≤ a → a < 16 → s a ≤ 15)) → ∃ fu : Nat, wX55_work_23 (fun (f_rounds_20 : Int → Int) (f_given_21 : Int → Int) (f_fresh_22 : Int → Int) => (∃ fu : Nat, wX55_work_82 (fun (f_rounds_102 : Int → Int) (f_given_103 : Int → Int) (f_turns_104 : Int) (f_values_105 : Int → Int) (f_plain_106 : Int → Int) (f_plainCount_107 : Int) (f_pointers_108 : Int → Int) (f_now_109 : Int) (f_fresh_110 : Int → Int) (f_many_111 : Int → Int) (f_sums_112 : Int → Int) (f_lows_113 : Int → Int) (f_highs_114 : Int → Int) (f_layed_115 : Int) (f_worked_116 : Int) (f_large_117 : Int) => wX55_work_226 post sd hd kd fo ln pt n f_rounds_102 f_given_103 s ci' f_turns_104 nd' cm' f_values_105 f_plain_106 f_plainCount_107 f_pointers_108 f_fresh_110 f_many_111 f_sums_112 f_lows_113 f_highs_114 f_layed_115 f_worked_116 f_large_117) hd kd fo ln pt n s ci' fu 0 f_rounds_20 f_given_21 0 vs pn pc po now f_fresh_22 mn sm lo hi ly 0 0)) sd fu 0 rn gv fr := fun s hs => by
    refine T55_w23 ?_
    have HP : ∀ rn2 gv2 tn2 lg2, rn2 = (reRz sd hd kd fo ln pt s n ci' rn gv).1 → gv2 = (reRz sd hd kd fo ln pt s n ci' rn gv).2.1 → tn2 = (reRz sd hd kd fo ln pt s n ci' rn gv).2.2.1 → lg2 = (reRz sd hd kd fo ln pt s n ci' rn gv).2.2.2 → ∀ vs2 pn2 pc2 po2 fr2 mn2 sm2 lo2 hi2 ly2 wk2, post 1 rn2 gv2 s ci' tn2 nd' cm' vs2 pn2 pc2 po2 (-1) fr2 mn2 sm2 lo2 hi2 ly2 wk2 lg2 := fun rn2 gv2 tn2 lg2 e1 e2 e3 e4 vs2 pn2 pc2 po2 fr2 mn2 sm2 lo2 hi2 ly2 wk2 => hp 1 rn2 gv2 s ci' tn2 nd' cm' vs2 pn2 pc2 po2 (-1) fr2 mn2 sm2 lo2 hi2 ly2 wk2 lg2 (by decide) ⟨rn, gv, ⟨eci.symm, hs⟩, e1, e2, e3, e4⟩
    unfold reRz at HP
    rcases cib with c0 | c1
    · rw [if_pos c0] at HP
      refine ⟨1, ?_⟩
      rw [wX55_work_82]
      refine ⟨fun z => absurd z (by decide), fun _ => ⟨fun _ => ?_, fun z => absurd c0 z⟩⟩
      unfold wX55_work_226
      exact ⟨fun _ => T55_w252x (Or.inl c0) (T55_w296 (by rw [if_pos rfl, if_pos rfl]; exact HP _ _ _ _ rfl rfl rfl rfl _ _ _ _ _ _ _ _ _ _ _)), fun z => absurd c0 z⟩
    · have ncz : ¬ 0 ≤ ci' := by omega
      rw [if_neg ncz] at HP
      have hs1 := hs.2 c1
      have hst : ∀ a, 0 ≤ a → a < 16 → 0 ≤ s a := hs1.1.1.1
      refine ⟨17, T55_w82 I hst (by omega) 16 0 (reZr sd rn 16384) (reZg fr 16384) 0 0 0 vs pn pc po now mn sm lo hi ly (by decide) (by decide) (by decide) (fun c c0 c1 => by unfold reZg; rw [if_pos ⟨c0, c1⟩]; decide) (Or.inl ⟨rfl, by decide, by decide⟩) (fun R eR v1 pn1 m1 po1 now1 fr1 mn1 sm1 lo1 hi1 ly1 hb => ?_)⟩

      rw [← eR] at HP
      unfold wX55_work_226
      refine ⟨fun z => absurd z ncz, fun _ => ⟨fun l0 => ?_, fun l0 => ?_⟩⟩
      · rw [if_neg (fun z => z l0)] at HP
        have hw : 0 ≤ R.2.2.1 ∧ R.2.2.1 ≤ 200000 := by omega
        refine T55_addWork I (Or.inl (by decide)) hw ?_
        by_cases big : 200000 < reWk hd kd fo ln pt s R.1 (-1) R.2.2.1 n.toNat
        · rw [if_pos big] at HP
          rw [if_neg (by omega)]
          exact T55_w252x (Or.inr (by decide)) (T55_w296 (by rw [if_neg (by decide), if_neg (by decide)]; exact HP _ _ _ _ rfl rfl rfl rfl _ _ _ _ _ _ _ _ _ _ _))
        · rw [if_neg big] at HP
          rw [if_pos (by omega)]
          refine T55_w252 (st := s) (wk := R.2.2.1) I (by omega) hw.1 (by omega) (fun c c0 c1 => by unfold reZg; rw [if_pos ⟨c0, c1⟩]) (fun S eS v2 pn2 m2 po2 mn2 sm2 lo2 hi2 => T55_w296 ?_)
          rw [if_pos rfl, if_pos rfl]
          obtain ⟨q1, q2, _⟩ := reGl_m (now := -1) (round := -1) (by decide) (reAl hd kd fo ln pt s (reHo R.1) (-1) n.toNat) (R.1, reZg gv 16384, fr1, ly1)
          rw [← eS] at q1 q2
          exact HP _ _ _ _ q1 (funext fun c => q2 c) rfl rfl _ _ _ _ _ _ _ _ _ _ _
      · rw [if_pos l0] at HP
        have l1 : R.2.2.2 = 1 := by omega
        exact T55_w252x (Or.inr l0) (T55_w296 (by rw [if_neg l0, if_neg l0]; exact HP _ _ _ _ rfl rfl rfl l1 _ _ _ _ _ _ _ _ _ _ _))
  rw [← eci] at main ⊢
  exact T55_layer hN (fun a b h => reEd_r I h) (fun a b h => reEd_2 h) (fun c0 s hs => main s ⟨fun _ => hs, fun z => by omega⟩) (fun c1 s ls l15 => main s ⟨fun z => by omega, fun _ => ⟨ls, l15⟩⟩)
end

/-! RuleEngine, the reference (X55): what is told -/
section
variable {hd kd fo ln pt st rn fr gv vs pn po w w' v u mn sm lo hi sd nd cm : Int → Int} {n r k a b c x y s now m round ly wk t ci g kn tn lg pc : Int} {A B : Prop}
theorem T55_run {post : Int → Int → (Int → Int) → (Int → Int) → (Int → Int) → Int → Int → (Int → Int) → (Int → Int) → (Int → Int) → (Int → Int) → Int → (Int → Int) → Int → (Int → Int) → (Int → Int) → (Int → Int) → (Int → Int) → (Int → Int) → Int → Int → Int → Prop} (I : reI hd kd fo ln pt n) (hKn : ¬ kn = 0 → reKn sd hd kd fo ln pt n rn gv st ci tn lg) (hp : ∀ kn' rn' gv' st' ci' tn' nd' cm' vs' pn' pc' po' now' fr' mn' sm' lo' hi' ly' wk' lg', ¬ kn' = 0 → reKn sd hd kd fo ln pt n rn' gv' st' ci' tn' lg' → post (if ci' < 0 then (if lg' = 0 then tn' else -4) else -10 - ci') kn' rn' gv' st' ci' tn' nd' cm' vs' pn' pc' po' now' fr' mn' sm' lo' hi' ly' wk' lg') : wpX55_run post sd hd kd fo ln pt n kn rn gv st ci tn nd cm vs pn pc po now fr mn sm lo hi ly wk lg := by
  unfold wpX55_run
  refine T55_work I hKn (fun kn' rn' gv' st' ci' tn' nd' cm' vs' pn' pc' po' now' fr' mn' sm' lo' hi' ly' wk' lg' k1 Kn => ?_)
  have H := hp kn' rn' gv' st' ci' tn' nd' cm' vs' pn' pc' po' now' fr' mn' sm' lo' hi' ly' wk' lg' k1 Kn
  have cib : ci' < 16 := by
    obtain ⟨_, _, ⟨e, _⟩, _⟩ := Kn
    have fb := (fstI_s (reQ (reEd hd kd fo ln pt n 1) (reEd hd kd fo ln pt n 2)) 16).1.2
    rw [e]
    unfold reCi
    split
    · omega
    · decide
  refine ⟨fun c0 => ⟨fun l0 => ?_, fun l0 => ?_⟩, fun c0 => ⟨by omega, ?_⟩⟩
  · rw [if_pos c0, if_pos l0] at H; exact H
  · rw [if_pos c0, if_neg l0] at H; exact H
  · rw [if_neg c0] at H; exact H
theorem T55_stratum {post : Int → Int → (Int → Int) → (Int → Int) → (Int → Int) → Int → Int → (Int → Int) → (Int → Int) → (Int → Int) → (Int → Int) → Int → (Int → Int) → Int → (Int → Int) → (Int → Int) → (Int → Int) → (Int → Int) → (Int → Int) → Int → Int → Int → Prop} (I : reI hd kd fo ln pt n) (hKn : ¬ kn = 0 → reKn sd hd kd fo ln pt n rn gv st ci tn lg) (h1 : ¬ (0 ≤ x ∧ x < 16) → post (-1) kn rn gv st ci tn nd cm vs pn pc po now fr mn sm lo hi ly wk lg) (hp : (0 ≤ x ∧ x < 16) → ∀ kn' rn' gv' st' ci' tn' nd' cm' vs' pn' pc' po' now' fr' mn' sm' lo' hi' ly' wk' lg', ¬ kn' = 0 → reKn sd hd kd fo ln pt n rn' gv' st' ci' tn' lg' → post (if ci' < 0 then st' x else -2) kn' rn' gv' st' ci' tn' nd' cm' vs' pn' pc' po' now' fr' mn' sm' lo' hi' ly' wk' lg') : wpX55_stratum post sd hd kd fo ln pt n kn rn gv st ci tn nd cm vs pn pc po now fr mn sm lo hi ly wk lg x := by
  unfold wpX55_stratum
  refine T55_isNameB (fun x0 x1 => T55_work I hKn (fun kn' rn' gv' st' ci' tn' nd' cm' vs' pn' pc' po' now' fr' mn' sm' lo' hi' ly' wk' lg' k1 Kn => ?_)) h1
  have H := hp ⟨x0, x1⟩ kn' rn' gv' st' ci' tn' nd' cm' vs' pn' pc' po' now' fr' mn' sm' lo' hi' ly' wk' lg' k1 Kn
  refine ⟨fun c0 => ⟨⟨x0, x1⟩, ?_⟩, fun c0 => ?_⟩
  · rw [if_pos c0] at H; exact H
  · rw [if_neg c0] at H; exact H
theorem T55_holds {post : Int → Int → (Int → Int) → (Int → Int) → (Int → Int) → Int → Int → (Int → Int) → (Int → Int) → (Int → Int) → (Int → Int) → Int → (Int → Int) → Int → (Int → Int) → (Int → Int) → (Int → Int) → (Int → Int) → (Int → Int) → Int → Int → Int → Prop} (I : reI hd kd fo ln pt n) (hKn : ¬ kn = 0 → reKn sd hd kd fo ln pt n rn gv st ci tn lg) (h1 : ¬ reFc x a b → post (-1) kn rn gv st ci tn nd cm vs pn pc po now fr mn sm lo hi ly wk lg) (hp : reFc x a b → ∀ kn' rn' gv' st' ci' tn' nd' cm' vs' pn' pc' po' now' fr' mn' sm' lo' hi' ly' wk' lg', ¬ kn' = 0 → reKn sd hd kd fo ln pt n rn' gv' st' ci' tn' lg' → post (if ¬ sd (reCd x a b) = 0 then 1 else if 0 ≤ rn' (reCd x a b) then 2 else 0) kn' rn' gv' st' ci' tn' nd' cm' vs' pn' pc' po' now' fr' mn' sm' lo' hi' ly' wk' lg') : wpX55_holds post sd hd kd fo ln pt n kn rn gv st ci tn nd cm vs pn pc po now fr mn sm lo hi ly wk lg x a b := by
  unfold wpX55_holds
  refine T55_isFactB (fun f => T55_work I hKn (fun kn' rn' gv' st' ci' tn' nd' cm' vs' pn' pc' po' now' fr' mn' sm' lo' hi' ly' wk' lg' k1 Kn => T55_code f ⟨reCd_b f, fun s0 => ⟨fun r0 => ?_, fun r0 => ?_⟩, fun s0 => ?_⟩)) h1
  · have H := hp f kn' rn' gv' st' ci' tn' nd' cm' vs' pn' pc' po' now' fr' mn' sm' lo' hi' ly' wk' lg' k1 Kn
    rw [if_neg (fun z => z s0), if_neg (by omega)] at H; exact H
  · have H := hp f kn' rn' gv' st' ci' tn' nd' cm' vs' pn' pc' po' now' fr' mn' sm' lo' hi' ly' wk' lg' k1 Kn
    rw [if_neg (fun z => z s0), if_pos (by omega)] at H; exact H
  · have H := hp f kn' rn' gv' st' ci' tn' nd' cm' vs' pn' pc' po' now' fr' mn' sm' lo' hi' ly' wk' lg' k1 Kn
    rw [if_pos s0] at H; exact H
theorem T55_round {post : Int → Int → (Int → Int) → (Int → Int) → (Int → Int) → Int → Int → (Int → Int) → (Int → Int) → (Int → Int) → (Int → Int) → Int → (Int → Int) → Int → (Int → Int) → (Int → Int) → (Int → Int) → (Int → Int) → (Int → Int) → Int → Int → Int → Prop} (I : reI hd kd fo ln pt n) (hKn : ¬ kn = 0 → reKn sd hd kd fo ln pt n rn gv st ci tn lg) (h1 : ¬ reFc x a b → post (-1) kn rn gv st ci tn nd cm vs pn pc po now fr mn sm lo hi ly wk lg) (hp : reFc x a b → ∀ kn' rn' gv' st' ci' tn' nd' cm' vs' pn' pc' po' now' fr' mn' sm' lo' hi' ly' wk' lg', ¬ kn' = 0 → reKn sd hd kd fo ln pt n rn' gv' st' ci' tn' lg' → post (if 0 ≤ rn' (reCd x a b) then rn' (reCd x a b) else -2) kn' rn' gv' st' ci' tn' nd' cm' vs' pn' pc' po' now' fr' mn' sm' lo' hi' ly' wk' lg') : wpX55_round post sd hd kd fo ln pt n kn rn gv st ci tn nd cm vs pn pc po now fr mn sm lo hi ly wk lg x a b := by
  unfold wpX55_round
  refine T55_isFactB (fun f => T55_work I hKn (fun kn' rn' gv' st' ci' tn' nd' cm' vs' pn' pc' po' now' fr' mn' sm' lo' hi' ly' wk' lg' k1 Kn => T55_code f ⟨reCd_b f, fun r0 => ?_, fun r0 => ?_⟩)) h1
  · have H := hp f kn' rn' gv' st' ci' tn' nd' cm' vs' pn' pc' po' now' fr' mn' sm' lo' hi' ly' wk' lg' k1 Kn
    rw [if_neg (by omega)] at H; exact H
  · have H := hp f kn' rn' gv' st' ci' tn' nd' cm' vs' pn' pc' po' now' fr' mn' sm' lo' hi' ly' wk' lg' k1 Kn
    rw [if_pos (by omega)] at H; exact H
theorem T55_counts {post : Int → Int → (Int → Int) → (Int → Int) → (Int → Int) → Int → Int → (Int → Int) → (Int → Int) → (Int → Int) → (Int → Int) → Int → (Int → Int) → Int → (Int → Int) → (Int → Int) → (Int → Int) → (Int → Int) → (Int → Int) → Int → Int → Int → Prop} (I : reI hd kd fo ln pt n) (hKn : ¬ kn = 0 → reKn sd hd kd fo ln pt n rn gv st ci tn lg) (h1 : ¬ reFc x a b → post (-1) kn rn gv st ci tn nd cm vs pn pc po now fr mn sm lo hi ly wk lg) (hp : reFc x a b → ∀ kn' rn' gv' st' ci' tn' nd' cm' vs' pn' pc' po' now' fr' mn' sm' lo' hi' ly' wk' lg', ¬ kn' = 0 → reKn sd hd kd fo ln pt n rn' gv' st' ci' tn' lg' → post (gv' (reCd x a b)) kn' rn' gv' st' ci' tn' nd' cm' vs' pn' pc' po' now' fr' mn' sm' lo' hi' ly' wk' lg') : wpX55_counts post sd hd kd fo ln pt n kn rn gv st ci tn nd cm vs pn pc po now fr mn sm lo hi ly wk lg x a b := by
  unfold wpX55_counts
  exact T55_isFactB (fun f => T55_work I hKn (fun kn' rn' gv' st' ci' tn' nd' cm' vs' pn' pc' po' now' fr' mn' sm' lo' hi' ly' wk' lg' k1 Kn => T55_code f ⟨reCd_b f, hp f kn' rn' gv' st' ci' tn' nd' cm' vs' pn' pc' po' now' fr' mn' sm' lo' hi' ly' wk' lg' k1 Kn⟩)) h1
/-- the first code that holds, from x on -/
noncomputable def reRw (rn : Int → Int) (x : Int) : Int := if fstI (fun i => x ≤ i ∧ 0 ≤ rn i) 16384 < 16384 then fstI (fun i => x ≤ i ∧ 0 ≤ rn i) 16384 else -2
theorem T55_row26 {K : Int → Prop} (hx : 0 ≤ x) (hp : K (if x ≤ 16384 then fstI (fun i => x ≤ i ∧ 0 ≤ rn i) 16384 else x)) (hx2 : x ≤ 16384) : ∃ fu : Nat, wX55_row_26 K rn fu x := by
  obtain ⟨hb, h1, h2⟩ := fstI_s (fun i => x ≤ i ∧ 0 ≤ rn i) 16384
  rw [if_pos hx2] at hp
  have fx : x ≤ fstI (fun i => x ≤ i ∧ 0 ≤ rn i) 16384 := by
    rcases Int.lt_or_le (fstI (fun i => x ≤ i ∧ 0 ≤ rn i) 16384) 16384 with z | z
    · exact (h1 z).1
    · omega
  generalize fstI (fun i => x ≤ i ∧ 0 ≤ rn i) 16384 = F at hb h1 h2 hp fx
  have hb2 : F ≤ 16384 := hb.2
  refine wloop (fun f y => wX55_row_26 K rn f y) (fun y => x ≤ y ∧ y ≤ F) (fun y => (16384 - y).toNat) ?_ x ⟨Int.le_refl _, fx⟩
  rintro y ⟨y0, y1⟩ f ih
  rw [wX55_row_26]
  refine ⟨fun z => ?_, fun z => ⟨by omega, fun q => ?_, fun q => ⟨by omega, fun y2 ey => ?_⟩⟩⟩
  · rw [show y = F by omega]; exact hp
  · have e : y = F := by
      rcases Int.lt_or_eq_of_le y1 with w | w
      · exact absurd ⟨y0, q⟩ (h2 y (by omega) w)
      · exact w
    rw [e]; exact hp
  · have ne : ¬ F = y := fun w => by
      have := (h1 (by show F < ((16384 : Nat) : Int); omega)).2
      rw [w] at this; exact q this
    rw [ey]
    exact ih _ ⟨by omega, by omega⟩ (by omega)
theorem T55_row {post : Int → Int → (Int → Int) → (Int → Int) → (Int → Int) → Int → Int → (Int → Int) → (Int → Int) → (Int → Int) → (Int → Int) → Int → (Int → Int) → Int → (Int → Int) → (Int → Int) → (Int → Int) → (Int → Int) → (Int → Int) → Int → Int → Int → Prop} (I : reI hd kd fo ln pt n) (hKn : ¬ kn = 0 → reKn sd hd kd fo ln pt n rn gv st ci tn lg) (hp : ∀ kn' rn' gv' st' ci' tn' nd' cm' vs' pn' pc' po' now' fr' mn' sm' lo' hi' ly' wk' lg', ¬ kn' = 0 → reKn sd hd kd fo ln pt n rn' gv' st' ci' tn' lg' → post (if x < 16384 then reRw rn' (if 0 ≤ x then x + 1 else 0) else -2) kn' rn' gv' st' ci' tn' nd' cm' vs' pn' pc' po' now' fr' mn' sm' lo' hi' ly' wk' lg') : wpX55_row post sd hd kd fo ln pt n kn rn gv st ci tn nd cm vs pn pc po now fr mn sm lo hi ly wk lg x := by
  unfold wpX55_row
  refine T55_work I hKn (fun kn' rn' gv' st' ci' tn' nd' cm' vs' pn' pc' po' now' fr' mn' sm' lo' hi' ly' wk' lg' k1 Kn => ?_)
  have H := hp kn' rn' gv' st' ci' tn' nd' cm' vs' pn' pc' po' now' fr' mn' sm' lo' hi' ly' wk' lg' k1 Kn
  unfold reRw at H
  refine ⟨fun z => ?_, fun z => ?_⟩
  · rw [if_pos z] at H
    refine ⟨fun z0 => ⟨by omega, fun x2 ex => ?_⟩, fun z0 => T55_row26 (by decide) ?_ (by decide)⟩
    · rw [if_pos z0] at H
      rw [ex]
      refine T55_row26 (by omega) ?_ (by omega)
      rw [if_pos (by omega)]
      refine ⟨fun q => ?_, fun q => ?_⟩
      · rw [if_neg (by omega)] at H; exact H
      · rw [if_pos (by omega)] at H; exact H
    · rw [if_neg z0] at H
      rw [if_pos (by decide)]
      refine ⟨fun q => ?_, fun q => ?_⟩
      · rw [if_neg (by omega)] at H; exact H
      · rw [if_pos (by omega)] at H; exact H
  · rw [if_neg z] at H
    exact H
theorem T55_size {post : Int → Int → (Int → Int) → (Int → Int) → (Int → Int) → Int → Int → (Int → Int) → (Int → Int) → (Int → Int) → (Int → Int) → Int → (Int → Int) → Int → (Int → Int) → (Int → Int) → (Int → Int) → (Int → Int) → (Int → Int) → Int → Int → Int → Prop} (I : reI hd kd fo ln pt n) (hKn : ¬ kn = 0 → reKn sd hd kd fo ln pt n rn gv st ci tn lg) (hp : ∀ kn' rn' gv' st' ci' tn' nd' cm' vs' pn' pc' po' now' fr' mn' sm' lo' hi' ly' wk' lg', ¬ kn' = 0 → reKn sd hd kd fo ln pt n rn' gv' st' ci' tn' lg' → post (cntI (fun c => 0 ≤ rn' c) 16384) kn' rn' gv' st' ci' tn' nd' cm' vs' pn' pc' po' now' fr' mn' sm' lo' hi' ly' wk' lg') : wpX55_size post sd hd kd fo ln pt n kn rn gv st ci tn nd cm vs pn pc po now fr mn sm lo hi ly wk lg := by
  unfold wpX55_size
  refine T55_work I hKn (fun kn' rn' gv' st' ci' tn' nd' cm' vs' pn' pc' po' now' fr' mn' sm' lo' hi' ly' wk' lg' k1 Kn => ?_)
  have H := hp kn' rn' gv' st' ci' tn' nd' cm' vs' pn' pc' po' now' fr' mn' sm' lo' hi' ly' wk' lg' k1 Kn
  refine wl2 (fun f a x => wX55_size_8 _ rn' f a x) (fun a x => (0 ≤ x ∧ x ≤ 16384) ∧ a = cntI (fun c => 0 ≤ rn' c) x.toNat) (fun _ x => (16384 - x).toNat) ?_ 0 0 ⟨by decide, by unfold cntI; rfl⟩
  rintro a x ⟨hx, ea⟩ f ih
  rw [wX55_size_8]
  have cb := cntI_b (fun c => 0 ≤ rn' c) x.toNat
  refine ⟨fun z => ?_, fun z => ⟨by omega, fun q => ⟨by omega, fun a2 e2 => ⟨by omega, fun x2 ex => ?_⟩⟩, fun q => ⟨by omega, fun a2 e2 => ⟨by omega, fun x2 ex => ?_⟩⟩⟩⟩
  · rw [ea, show x.toNat = 16384 by omega]; exact H
  · rw [ex, e2]
    exact ih _ _ ⟨by omega, by rw [cntI_f hx.1 (by omega), ea, Int.add_zero]⟩ (by omega)
  · rw [ex, e2]
    exact ih _ _ ⟨by omega, by rw [cntI_t hx.1 (by omega), ea]⟩ (by omega)
end
