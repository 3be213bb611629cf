/-! QlRewrite, the reference (X56): what is told -/
def qAny (Fa : Int → Int → Int → Prop) (S : qSS) (z : Int) : Prop := ∃ f ∈ S.1, qAns Fa f z
noncomputable def qNth (P : Int → Prop) (i : Int) : Int := if fstI (fun z => P z ∧ cntI P z.toNat = i) 192 < 192 then fstI (fun z => P z ∧ cntI P z.toNat = i) 192 else -1
noncomputable def qWhy (Fa : Int → Int → Int → Prop) (S : qSS) (z : Int) : Int := if fstI (fun i => qAns Fa (S.1.getD i.toNat (0, 0, [])) z) S.1.length < S.1.length then fstI (fun i => qAns Fa (S.1.getD i.toNat (0, 0, [])) z) S.1.length else -1
def qRdy (sz : Int → Int) (nq q : Int) : Prop := (0 ≤ q ∧ q < nq) ∧ ¬ sz q = 0
noncomputable def qTl (R : Prop) (S : qSS) (v : Int) : Int := pif R (if S.2 = 0 then v else -3) (-1)
def qFmA (S : qSS) (i w : Int) : Int := if (0 ≤ i ∧ i < S.1.length) ∧ 0 ≤ w ∧ w < 7 then (if w = 0 then ((S.1.getD i.toNat (0, 0, [])).2.2.length : Int) else if w = 1 then (S.1.getD i.toNat (0, 0, [])).1 else if w = 2 then (S.1.getD i.toNat (0, 0, [])).2.1 else if w - 3 < (S.1.getD i.toNat (0, 0, [])).2.2.length then (S.1.getD i.toNat (0, 0, [])).2.2.getD (w - 3).toNat 0 else -1) else -1
section
variable {nm fr to ot co le fs ff fg fc fo fo' th rw_ sA sB kd lf rt fn fa fb an sz qn qf qt : Int → Int} {a b c n v w k x y m oc lg lk fd na nf nq q r h i z : Int} {A B : Prop} {Fa : Int → Int → Int → Prop} {S : qSS}
theorem qFst_a (H : qFst Fa S.1 m fo) (hm : (S.1.length : Int) = m) (z0 : 0 ≤ z) (z1 : z < 192) : (0 ≤ fo z ↔ qAny Fa S z) ∧ (fo z < 0 → fo z = -1) ∧ (0 ≤ fo z → fo z = qWhy Fa S z) ∧ (¬ 0 ≤ fo z → qWhy Fa S z = -1) := by
  have toI : qAny Fa S z ↔ ∃ i : Int, (0 ≤ i ∧ i < m) ∧ qAns Fa (S.1.getD i.toNat (0, 0, [])) z := by
    constructor
    · rintro ⟨f, hf, ha⟩
      obtain ⟨i, hi, e⟩ := List.mem_iff_getElem.1 hf
      refine ⟨i, by omega, ?_⟩
      rw [List.getD_eq_getElem?_getD, show (i : Int).toNat = i by omega, List.getElem?_eq_getElem hi, Option.getD_some, e]
      exact ha
    · rintro ⟨i, hi, ha⟩
      have h' : i.toNat < S.1.length := by omega
      rw [List.getD_eq_getElem?_getD, List.getElem?_eq_getElem h', Option.getD_some] at ha
      exact ⟨_, List.getElem_mem h', ha⟩
  rcases H z z0 z1 with ⟨h1, h2⟩ | ⟨h1, h2, h3⟩
  · have e : fstI (fun i => qAns Fa (S.1.getD i.toNat (0, 0, [])) z) S.1.length = S.1.length := fstI_u (by omega) (Int.le_refl _) (fun w => absurd w (Int.lt_irrefl _)) (fun j j0 j1 => h2 j j0 (by omega))
    refine ⟨⟨fun w => by omega, fun w => ?_⟩, fun _ => h1, fun w => by omega, fun _ => ?_⟩
    · obtain ⟨i, hi, ha⟩ := toI.1 w
      exact absurd ha (h2 i hi.1 hi.2)
    · unfold qWhy
      rw [e, if_neg (Int.lt_irrefl _)]
  · have e : fstI (fun i => qAns Fa (S.1.getD i.toNat (0, 0, [])) z) S.1.length = fo z := fstI_u h1.1 (by omega) (fun _ => h2) h3
    refine ⟨⟨fun _ => toI.2 ⟨fo z, h1, h2⟩, fun _ => h1.1⟩, fun w => by omega, fun _ => ?_, fun w => absurd h1.1 w⟩
    unfold qWhy
    rw [e, if_pos (by omega)]
theorem T56_r21 {K : Int → Prop} {P : Int → Prop} (hP : ∀ z, 0 ≤ z → z < 192 → (0 ≤ fo z ↔ P z)) (hK : K (cntI P 192)) : ∃ fu : Nat, wX56_run_21 K fo fu 0 0 := by
  refine wl2 (fun fu c z => wX56_run_21 K fo fu c z) (fun c z => (0 ≤ z ∧ z ≤ 192) ∧ c = cntI P z.toNat) (fun _ z => (192 - z).toNat) ?_ 0 0 ⟨by decide, rfl⟩
  rintro c z ⟨hz, rfl⟩ f ih
  have cb := cntI_b P z.toNat
  rw [wX56_run_21]
  refine ⟨fun w => by rw [show z.toNat = 192 by omega]; exact hK, fun w => ⟨by omega, fun s => ⟨by omega, fun _ e1 => ⟨by omega, fun _ e2 => ?_⟩⟩, fun s => ⟨by omega, fun _ e1 => ⟨by omega, fun _ e2 => ?_⟩⟩⟩⟩
  · rw [e2, e1]
    refine ih _ _ ⟨by omega, ?_⟩ (by omega)
    rw [cntI_f hz.1 (fun p => by have := (hP z hz.1 (by omega)).2 p; omega)]; omega
  · rw [e2, e1]
    refine ih _ _ ⟨by omega, ?_⟩ (by omega)
    rw [cntI_t hz.1 ((hP z hz.1 (by omega)).1 (by omega))]
theorem T56_n22 {K1 : Int → Prop} {K0 : Prop} {P : Int → Prop} (hP : ∀ z, 0 ≤ z → z < 192 → (0 ≤ fo z ↔ P z)) (h1 : 0 ≤ i → 0 ≤ qNth P i → K1 (qNth P i)) (h0 : ¬ (0 ≤ i ∧ 0 ≤ qNth P i) → K0) (hi : -2147483648 ≤ i ∧ i < 2147483648) : ∃ fu : Nat, wX56_answer_22 K1 K0 i fo fu i 0 := by
  refine wl2 (fun fu c z => wX56_answer_22 K1 K0 i fo fu c z) (fun c z => (0 ≤ z ∧ z ≤ 192) ∧ c = i - cntI P z.toNat ∧ (0 ≤ i → 0 ≤ c)) (fun _ z => (192 - z).toNat) ?_ i 0 ⟨by decide, by rw [show (0 : Int).toNat = 0 from rfl]; show i = i - 0; omega, fun h => h⟩
  rintro c z ⟨hz, ec, hc⟩ f ih
  have cb := cntI_b P z.toNat
  rw [wX56_answer_22]
  have past : ∀ y, 0 ≤ y → y < z → ¬ (P y ∧ cntI P y.toNat = i) ∨ ¬ 0 ≤ i := fun y y0 y1 => by
    by_cases hi0 : 0 ≤ i
    · left
      rintro ⟨p, e⟩
      have e1 := cntI_t y0 p
      have mono : cntI P (y + 1).toNat ≤ cntI P z.toNat := by
        have hle : (y + 1).toNat ≤ z.toNat := by omega
        obtain ⟨d, ed⟩ : ∃ d, z.toNat = (y + 1).toNat + d := ⟨z.toNat - (y + 1).toNat, by omega⟩
        rw [ed, cntI_add]
        have := (cntI_b (fun i => P (((y + 1).toNat : Int) + i)) d).1
        omega
      have := hc hi0
      omega
    · exact Or.inr hi0
  refine ⟨fun w => h0 (fun h => ?_), fun w => ⟨fun n0 => h0 (fun h => by omega), fun n0 => ⟨by omega, fun s => ⟨fun c0 => ?_, fun c0 => ⟨by omega, fun _ e1 => ⟨by omega, fun _ e2 => ?_⟩⟩⟩, fun s => ⟨by omega, fun _ e2 => ?_⟩⟩⟩⟩
  · have e : fstI (fun z => P z ∧ cntI P z.toNat = i) 192 = 192 := fstI_u (by decide) (by decide) (fun w => absurd w (by decide)) (fun j j0 j1 => (past j j0 (by omega)).resolve_right (fun q => q h.1))
    have h2 := h.2
    unfold qNth at h2
    rw [e, if_neg (by decide)] at h2
    exact absurd h2 (by decide)
  · have e : fstI (fun z => P z ∧ cntI P z.toNat = i) 192 = z := fstI_u hz.1 (by omega) (fun _ => ⟨(hP z hz.1 (by omega)).1 s, by omega⟩) (fun j j0 j1 => (past j j0 j1).resolve_right (fun q => q (by omega)))
    have en : qNth P i = z := by
      unfold qNth
      rw [e, if_pos (by omega)]
    rw [en] at h1
    exact h1 (by omega) hz.1
  · rw [e2, e1]
    refine ih _ _ ⟨by omega, ?_, fun h => by have := hc h; omega⟩ (by omega)
    rw [cntI_t hz.1 ((hP z hz.1 (by omega)).1 s)]; omega
  · rw [e2]
    refine ih _ _ ⟨by omega, ?_, hc⟩ (by omega)
    rw [cntI_f hz.1 (fun p => s ((hP z hz.1 (by omega)).2 p))]; omega
theorem T56_forms {post : Int → Int → Int → (Int → Int) → (Int → Int) → (Int → Int) → Int → (Int → Int) → (Int → Int) → (Int → Int) → Int → (Int → Int) → (Int → Int) → (Int → Int) → (Int → Int) → Int → Int → Int → Int → Prop} (hA : qAi kd lf rt na) (hQ : qQI an sz qn qf qt nq) (hC : qCh kd lf rt na Fa an sz qn qf qt fs ff fg fc m lg lk fd fo) (hp : ∀ a' b' nm' fr' to' n' co' le' ot' oc' fs' ff' fg' fc' m' lg' lk' fd', qCh kd lf rt na Fa an sz qn qf qt fs' ff' fg' fc' m' lg' lk' fd' fo → post (qTl (qRdy sz nq q) (qQz kd lf rt na (an q) (aF (qAr qn qf qt) (4 * q) (sz q).toNat)) (((qQz kd lf rt na (an q) (aF (qAr qn qf qt) (4 * q) (sz q).toNat)).1.length : Int))) a' b' nm' fr' to' n' co' le' ot' oc' fs' ff' fg' fc' m' lg' lk' fd') : wpX56_forms post kd lf rt na an sz qn qf qt nq a b nm fr to n co le ot oc fs ff fg fc m lg lk fd q := by
  unfold wpX56_forms
  refine T56_ready (Fa := Fa) (fo := fo) hA hQ hC (fun nr => ⟨fun z => absurd z (by decide), fun _ => ?_⟩) (fun hq hs a' b' nm' fr' to' n' co' le' ot' oc' fs' ff' fg' fc' m' lg' fd' I Hd => ?_)
  · have H := hp a b nm fr to n co le ot oc fs ff fg fc m lg lk fd hC
    unfold qTl at H
    rw [pif_f (show ¬ qRdy sz nq q from nr)] at H
    exact H
  have el : ((qQz kd lf rt na (an q) (aF (qAr qn qf qt) (4 * q) (sz q).toNat)).1.length : Int) = m' := by
    have e1 : aF (qFoA fs' ff' fg' fc') 0 m'.toNat = (qQz kd lf rt na (an q) (aF (qAr qn qf qt) (4 * q) (sz q).toNat)).1 := congrArg (fun t : qSS => t.1) I.2.2
    have := I.1.1
    rw [← e1, aF_len]; omega
  have cc : qCh kd lf rt na Fa an sz qn qf qt fs' ff' fg' fc' m' lg' q fd' fo := fun q' e q0 q6 => by
    subst e
    exact ⟨I, Hd⟩
  have H := hp a' b' nm' fr' to' n' co' le' ot' oc' fs' ff' fg' fc' m' lg' q fd' cc
  unfold qTl at H
  rw [pif_t (show qRdy sz nq q from ⟨hq, hs⟩)] at H
  by_cases l0 : (qQz kd lf rt na (an q) (aF (qAr qn qf qt) (4 * q) (sz q).toNat)).2 = 0
  · rw [if_pos l0] at H ⊢
    rw [el] at H
    exact ⟨fun _ => H, fun z => absurd (by decide) z⟩
  · rw [if_neg l0] at H ⊢
    exact ⟨fun z => absurd z (by decide), fun _ => H⟩
theorem T56_form {post : Int → Int → Int → (Int → Int) → (Int → Int) → (Int → Int) → Int → (Int → Int) → (Int → Int) → (Int → Int) → Int → (Int → Int) → (Int → Int) → (Int → Int) → (Int → Int) → Int → Int → Int → Int → Prop} (hA : qAi kd lf rt na) (hQ : qQI an sz qn qf qt nq) (hC : qCh kd lf rt na Fa an sz qn qf qt fs ff fg fc m lg lk fd fo) (hw : -2147483648 ≤ w ∧ w < 2147483648) (hp : ∀ a' b' nm' fr' to' n' co' le' ot' oc' fs' ff' fg' fc' m' lg' lk' fd', qCh kd lf rt na Fa an sz qn qf qt fs' ff' fg' fc' m' lg' lk' fd' fo → post (qTl (qRdy sz nq q) (qQz kd lf rt na (an q) (aF (qAr qn qf qt) (4 * q) (sz q).toNat)) (qFmA (qQz kd lf rt na (an q) (aF (qAr qn qf qt) (4 * q) (sz q).toNat)) i w)) a' b' nm' fr' to' n' co' le' ot' oc' fs' ff' fg' fc' m' lg' lk' fd') : wpX56_form post kd lf rt na an sz qn qf qt nq a b nm fr to n co le ot oc fs ff fg fc m lg lk fd q i w := by
  unfold wpX56_form
  refine T56_ready (Fa := Fa) (fo := fo) hA hQ hC (fun nr => ⟨fun z => absurd z (by decide), fun _ => ?_⟩) (fun hq hs a' b' nm' fr' to' n' co' le' ot' oc' fs' ff' fg' fc' m' lg' fd' I Hd => ?_)
  · have H := hp a b nm fr to n co le ot oc fs ff fg fc m lg lk fd hC
    unfold qTl at H
    rw [pif_f (show ¬ qRdy sz nq q from nr)] at H
    exact H
  have e1 : aF (qFoA fs' ff' fg' fc') 0 m'.toNat = (qQz kd lf rt na (an q) (aF (qAr qn qf qt) (4 * q) (sz q).toNat)).1 := congrArg (fun t : qSS => t.1) I.2.2
  have mb := I.1.1
  have el : ((qQz kd lf rt na (an q) (aF (qAr qn qf qt) (4 * q) (sz q).toNat)).1.length : Int) = m' := by
    rw [← e1, aF_len]; omega
  have cc : qCh kd lf rt na Fa an sz qn qf qt fs' ff' fg' fc' m' lg' q fd' fo := fun q' e q0 q6 => by
    subst e
    exact ⟨I, Hd⟩
  have H := hp a' b' nm' fr' to' n' co' le' ot' oc' fs' ff' fg' fc' m' lg' q fd' cc
  unfold qTl at H
  rw [pif_t (show qRdy sz nq q from ⟨hq, hs⟩)] at H
  by_cases l0 : (qQz kd lf rt na (an q) (aF (qAr qn qf qt) (4 * q) (sz q).toNat)).2 = 0
  · rw [if_pos l0] at H ⊢
    unfold qFmA at H
    rw [el] at H
    refine ⟨fun _ => T56_isInB (fun hi => T56_isInB (fun h7 => ?_) (fun h7 => ?_)) (fun hi => ?_), fun z => absurd (by decide) z⟩
    · have ef : (qQz kd lf rt na (an q) (aF (qAr qn qf qt) (4 * q) (sz q).toNat)).1.getD i.toNat (0, 0, []) = qFoA fs' ff' fg' fc' i := by
        rw [← e1, aF_get _ _ _ (by omega), show (0 : Int) + (i.toNat : Int) = i by omega]
      have ib := I.1.2 i hi.1 hi.2
      have ln := qLn_A (fs := fs') (ff := ff') (fg := fg') (fc := fc') (x := i) ib.1
      rw [if_pos ⟨hi, h7⟩, ef, ln] at H
      refine ⟨fun w0 => ?_, fun w0 => ⟨fun w3 => ⟨by omega, by omega, fun l3 => ?_, fun l3 => ⟨by omega, ?_⟩⟩, fun w3 => ⟨fun w1 => ?_, fun w1 => ?_⟩⟩⟩
      · rw [if_pos w0] at H
        exact ⟨by omega, H⟩
      · rw [if_neg w0, if_neg (by omega), if_neg (by omega), if_neg (by omega)] at H; exact H
      · rw [if_neg w0, if_neg (by omega), if_neg (by omega), if_pos (by omega)] at H
        have eg : (qFoA fs' ff' fg' fc' i).2.2.getD (w - 3).toNat 0 = fc' (4 * i + w - 3) := by
          unfold qFoA
          dsimp only
          rw [aF_get _ _ _ (by omega), show 4 * i + ((w - 3).toNat : Int) = 4 * i + w - 3 by omega]
        rw [eg] at H; exact H
      · rw [if_neg w0, if_pos w1] at H
        exact ⟨by omega, H⟩
      · rw [if_neg w0, if_neg w1, if_pos (by omega)] at H
        exact ⟨by omega, H⟩
    · rw [if_neg (fun u => h7 u.2)] at H; exact H
    · rw [if_neg (fun u => hi u.1)] at H; exact H
  · rw [if_neg l0] at H ⊢
    exact ⟨fun z => absurd z (by decide), fun _ => H⟩
theorem T56_run {post : Int → Int → Int → (Int → Int) → (Int → Int) → (Int → Int) → Int → (Int → Int) → (Int → Int) → (Int → Int) → Int → (Int → Int) → (Int → Int) → (Int → Int) → (Int → Int) → Int → Int → Int → (Int → Int) → Int → (Int → Int) → (Int → Int) → (Int → Int) → (Int → Int) → Prop} (hA : qAi kd lf rt na) (hF : qFI fn fa fb nf) (hQ : qQI an sz qn qf qt nq) (hC : qCh kd lf rt na (qFa fn fa fb nf) an sz qn qf qt fs ff fg fc m lg lk fd fo) (hp : ∀ a' b' nm' fr' to' n' co' le' ot' oc' fs' ff' fg' fc' m' lg' lk' fo' fd' th' rw' sA' sB', qCh kd lf rt na (qFa fn fa fb nf) an sz qn qf qt fs' ff' fg' fc' m' lg' lk' fd' fo' → post (qTl (qRdy sz nq q) (qQz kd lf rt na (an q) (aF (qAr qn qf qt) (4 * q) (sz q).toNat)) (cntI (qAny (qFa fn fa fb nf) (qQz kd lf rt na (an q) (aF (qAr qn qf qt) (4 * q) (sz q).toNat))) 192)) a' b' nm' fr' to' n' co' le' ot' oc' fs' ff' fg' fc' m' lg' lk' fo' fd' th' rw' sA' sB') : wpX56_run post kd lf rt na fn fa fb nf an sz qn qf qt nq a b nm fr to n co le ot oc fs ff fg fc m lg lk fo fd th rw_ sA sB q := by
  unfold wpX56_run
  refine T56_ready (Fa := qFa fn fa fb nf) (fo := fo) hA hQ hC (fun nr => ⟨fun z => absurd z (by decide), fun _ => ?_⟩) (fun hq hs a' b' nm' fr' to' n' co' le' ot' oc' fs' ff' fg' fc' m' lg' fd' I Hd => ?_)
  · have H := hp a b nm fr to n co le ot oc fs ff fg fc m lg lk fo fd th rw_ sA sB hC
    unfold qTl at H
    rw [pif_f (show ¬ qRdy sz nq q from nr)] at H
    exact H
  have e2 : lg' = (qQz kd lf rt na (an q) (aF (qAr qn qf qt) (4 * q) (sz q).toNat)).2 := congrArg (fun t : qSS => t.2) I.2.2
  have mb := I.1.1
  have el : ((qQz kd lf rt na (an q) (aF (qAr qn qf qt) (4 * q) (sz q).toNat)).1.length : Int) = m' := by
    have e1 : aF (qFoA fs' ff' fg' fc') 0 m'.toNat = (qQz kd lf rt na (an q) (aF (qAr qn qf qt) (4 * q) (sz q).toNat)).1 := congrArg (fun t : qSS => t.1) I.2.2
    rw [← e1, aF_len]; omega
  unfold qTl at hp
  rw [pif_t (show qRdy sz nq q from ⟨hq, hs⟩)] at hp
  by_cases l0 : (qQz kd lf rt na (an q) (aF (qAr qn qf qt) (4 * q) (sz q).toNat)).2 = 0
  · rw [if_pos l0] at hp ⊢
    refine ⟨fun _ => T56_findAll hF I (fun d0 fo' th' rw' sA' sB' Hf => ?_) (fun d0 => ?_), fun z => absurd (by decide) z⟩
    · have cc : qCh kd lf rt na (qFa fn fa fb nf) an sz qn qf qt fs' ff' fg' fc' m' lg' q 1 fo' := fun q' e q0 q6 => by
        subst e
        exact ⟨I, fun _ => Hf⟩
      have G := fun th' rw' sA' sB' => hp a' b' nm' fr' to' n' co' le' ot' oc' fs' ff' fg' fc' m' lg' q fo' 1 th' rw' sA' sB' cc
      exact T56_r21 (fun z z0 z1 => (qFst_a Hf el z0 z1).1) (G _ _ _ _)
    · have Hf := Hd d0
      have cc : qCh kd lf rt na (qFa fn fa fb nf) an sz qn qf qt fs' ff' fg' fc' m' lg' q fd' fo := fun q' e q0 q6 => by
        subst e
        exact ⟨I, fun _ => Hf⟩
      have G := fun th' rw' sA' sB' => hp a' b' nm' fr' to' n' co' le' ot' oc' fs' ff' fg' fc' m' lg' q fo fd' th' rw' sA' sB' cc
      exact T56_r21 (fun z z0 z1 => (qFst_a Hf el z0 z1).1) (G _ _ _ _)
  · rw [if_neg l0] at hp ⊢
    refine ⟨fun z => absurd z (by decide), fun _ => hp _ _ _ _ _ _ _ _ _ _ _ _ _ _ _ _ _ _ _ _ _ _ _ (fun q' e q0 q6 => ?_)⟩
    subst e
    exact ⟨I, Hd⟩
theorem T56_answer {post : Int → Int → Int → (Int → Int) → (Int → Int) → (Int → Int) → Int → (Int → Int) → (Int → Int) → (Int → Int) → Int → (Int → Int) → (Int → Int) → (Int → Int) → (Int → Int) → Int → Int → Int → (Int → Int) → Int → (Int → Int) → (Int → Int) → (Int → Int) → (Int → Int) → Prop} (hA : qAi kd lf rt na) (hF : qFI fn fa fb nf) (hQ : qQI an sz qn qf qt nq) (hC : qCh kd lf rt na (qFa fn fa fb nf) an sz qn qf qt fs ff fg fc m lg lk fd fo) (hi : -2147483648 ≤ i ∧ i < 2147483648) (hp : ∀ a' b' nm' fr' to' n' co' le' ot' oc' fs' ff' fg' fc' m' lg' lk' fo' fd' th' rw' sA' sB', qCh kd lf rt na (qFa fn fa fb nf) an sz qn qf qt fs' ff' fg' fc' m' lg' lk' fd' fo' → post (qTl (qRdy sz nq q) (qQz kd lf rt na (an q) (aF (qAr qn qf qt) (4 * q) (sz q).toNat)) (if 0 ≤ i then qNth (qAny (qFa fn fa fb nf) (qQz kd lf rt na (an q) (aF (qAr qn qf qt) (4 * q) (sz q).toNat))) i else -1)) a' b' nm' fr' to' n' co' le' ot' oc' fs' ff' fg' fc' m' lg' lk' fo' fd' th' rw' sA' sB') : wpX56_answer post kd lf rt na fn fa fb nf an sz qn qf qt nq a b nm fr to n co le ot oc fs ff fg fc m lg lk fo fd th rw_ sA sB q i := by
  unfold wpX56_answer
  refine T56_ready (Fa := qFa fn fa fb nf) (fo := fo) hA hQ hC (fun nr => ⟨fun z => absurd z (by decide), fun _ => ?_⟩) (fun hq hs a' b' nm' fr' to' n' co' le' ot' oc' fs' ff' fg' fc' m' lg' fd' I Hd => ?_)
  · have H := hp a b nm fr to n co le ot oc fs ff fg fc m lg lk fo fd th rw_ sA sB hC
    unfold qTl at H
    rw [pif_f (show ¬ qRdy sz nq q from nr)] at H
    exact H
  have e2 : lg' = (qQz kd lf rt na (an q) (aF (qAr qn qf qt) (4 * q) (sz q).toNat)).2 := congrArg (fun t : qSS => t.2) I.2.2
  have mb := I.1.1
  have el : ((qQz kd lf rt na (an q) (aF (qAr qn qf qt) (4 * q) (sz q).toNat)).1.length : Int) = m' := by
    have e1 : aF (qFoA fs' ff' fg' fc') 0 m'.toNat = (qQz kd lf rt na (an q) (aF (qAr qn qf qt) (4 * q) (sz q).toNat)).1 := congrArg (fun t : qSS => t.1) I.2.2
    rw [← e1, aF_len]; omega
  unfold qTl at hp
  rw [pif_t (show qRdy sz nq q from ⟨hq, hs⟩)] at hp
  by_cases l0 : (qQz kd lf rt na (an q) (aF (qAr qn qf qt) (4 * q) (sz q).toNat)).2 = 0
  · rw [if_pos l0] at hp ⊢
    refine ⟨fun _ => T56_findAll hF I (fun d0 fo' th' rw' sA' sB' Hf => ?_) (fun d0 => ?_), fun z => absurd (by decide) z⟩
    · have cc : qCh kd lf rt na (qFa fn fa fb nf) an sz qn qf qt fs' ff' fg' fc' m' lg' q 1 fo' := fun q' e q0 q6 => by
        subst e
        exact ⟨I, fun _ => Hf⟩
      have G := fun th' rw' sA' sB' => hp a' b' nm' fr' to' n' co' le' ot' oc' fs' ff' fg' fc' m' lg' q fo' 1 th' rw' sA' sB' cc
      exact T56_n22 (fun z z0 z1 => (qFst_a Hf el z0 z1).1) (fun i0 _ => by
        have g := G
        rw [if_pos i0] at g
        exact g _ _ _ _) (fun no => by
        have g := G
        by_cases i0 : 0 ≤ i
        · rw [if_pos i0] at g
          have n0 : ¬ 0 ≤ qNth (qAny (qFa fn fa fb nf) (qQz kd lf rt na (an q) (aF (qAr qn qf qt) (4 * q) (sz q).toNat))) i := fun u => no ⟨i0, u⟩
          have e : qNth (qAny (qFa fn fa fb nf) (qQz kd lf rt na (an q) (aF (qAr qn qf qt) (4 * q) (sz q).toNat))) i = -1 := by
            unfold qNth at n0 ⊢
            split
            · rename_i hh
              rw [if_pos hh] at n0
              have := (fstI_s (fun z => (qAny (qFa fn fa fb nf) (qQz kd lf rt na (an q) (aF (qAr qn qf qt) (4 * q) (sz q).toNat))) z ∧ cntI (qAny (qFa fn fa fb nf) (qQz kd lf rt na (an q) (aF (qAr qn qf qt) (4 * q) (sz q).toNat))) z.toNat = i) 192).1.1
              omega
            · rfl
          rw [e] at g
          exact g _ _ _ _
        · rw [if_neg i0] at g
          exact g _ _ _ _) hi
    · have Hf := Hd d0
      have cc : qCh kd lf rt na (qFa fn fa fb nf) an sz qn qf qt fs' ff' fg' fc' m' lg' q fd' fo := fun q' e q0 q6 => by
        subst e
        exact ⟨I, fun _ => Hf⟩
      have G := fun th' rw' sA' sB' => hp a' b' nm' fr' to' n' co' le' ot' oc' fs' ff' fg' fc' m' lg' q fo fd' th' rw' sA' sB' cc
      exact T56_n22 (fun z z0 z1 => (qFst_a Hf el z0 z1).1) (fun i0 _ => by
        have g := G
        rw [if_pos i0] at g
        exact g _ _ _ _) (fun no => by
        have g := G
        by_cases i0 : 0 ≤ i
        · rw [if_pos i0] at g
          have n0 : ¬ 0 ≤ qNth (qAny (qFa fn fa fb nf) (qQz kd lf rt na (an q) (aF (qAr qn qf qt) (4 * q) (sz q).toNat))) i := fun u => no ⟨i0, u⟩
          have e : qNth (qAny (qFa fn fa fb nf) (qQz kd lf rt na (an q) (aF (qAr qn qf qt) (4 * q) (sz q).toNat))) i = -1 := by
            unfold qNth at n0 ⊢
            split
            · rename_i hh
              rw [if_pos hh] at n0
              have := (fstI_s (fun z => (qAny (qFa fn fa fb nf) (qQz kd lf rt na (an q) (aF (qAr qn qf qt) (4 * q) (sz q).toNat))) z ∧ cntI (qAny (qFa fn fa fb nf) (qQz kd lf rt na (an q) (aF (qAr qn qf qt) (4 * q) (sz q).toNat))) z.toNat = i) 192).1.1
              omega
            · rfl
          rw [e] at g
          exact g _ _ _ _
        · rw [if_neg i0] at g
          exact g _ _ _ _) hi
  · rw [if_neg l0] at hp ⊢
    refine ⟨fun z => absurd z (by decide), fun _ => hp _ _ _ _ _ _ _ _ _ _ _ _ _ _ _ _ _ _ _ _ _ _ _ (fun q' e q0 q6 => ?_)⟩
    subst e
    exact ⟨I, Hd⟩
theorem T56_why {post : Int → Int → Int → (Int → Int) → (Int → Int) → (Int → Int) → Int → (Int → Int) → (Int → Int) → (Int → Int) → Int → (Int → Int) → (Int → Int) → (Int → Int) → (Int → Int) → Int → Int → Int → (Int → Int) → Int → (Int → Int) → (Int → Int) → (Int → Int) → (Int → Int) → Prop} (hA : qAi kd lf rt na) (hF : qFI fn fa fb nf) (hQ : qQI an sz qn qf qt nq) (hC : qCh kd lf rt na (qFa fn fa fb nf) an sz qn qf qt fs ff fg fc m lg lk fd fo) (hp : ∀ a' b' nm' fr' to' n' co' le' ot' oc' fs' ff' fg' fc' m' lg' lk' fo' fd' th' rw' sA' sB', qCh kd lf rt na (qFa fn fa fb nf) an sz qn qf qt fs' ff' fg' fc' m' lg' lk' fd' fo' → post (qTl (qRdy sz nq q) (qQz kd lf rt na (an q) (aF (qAr qn qf qt) (4 * q) (sz q).toNat)) (if 0 ≤ z ∧ z < 192 then qWhy (qFa fn fa fb nf) (qQz kd lf rt na (an q) (aF (qAr qn qf qt) (4 * q) (sz q).toNat)) z else -1)) a' b' nm' fr' to' n' co' le' ot' oc' fs' ff' fg' fc' m' lg' lk' fo' fd' th' rw' sA' sB') : wpX56_why post kd lf rt na fn fa fb nf an sz qn qf qt nq a b nm fr to n co le ot oc fs ff fg fc m lg lk fo fd th rw_ sA sB q z := by
  unfold wpX56_why
  refine T56_ready (Fa := qFa fn fa fb nf) (fo := fo) hA hQ hC (fun nr => ⟨fun z => absurd z (by decide), fun _ => ?_⟩) (fun hq hs a' b' nm' fr' to' n' co' le' ot' oc' fs' ff' fg' fc' m' lg' fd' I Hd => ?_)
  · have H := hp a b nm fr to n co le ot oc fs ff fg fc m lg lk fo fd th rw_ sA sB hC
    unfold qTl at H
    rw [pif_f (show ¬ qRdy sz nq q from nr)] at H
    exact H
  have e2 : lg' = (qQz kd lf rt na (an q) (aF (qAr qn qf qt) (4 * q) (sz q).toNat)).2 := congrArg (fun t : qSS => t.2) I.2.2
  have mb := I.1.1
  have el : ((qQz kd lf rt na (an q) (aF (qAr qn qf qt) (4 * q) (sz q).toNat)).1.length : Int) = m' := by
    have e1 : aF (qFoA fs' ff' fg' fc') 0 m'.toNat = (qQz kd lf rt na (an q) (aF (qAr qn qf qt) (4 * q) (sz q).toNat)).1 := congrArg (fun t : qSS => t.1) I.2.2
    rw [← e1, aF_len]; omega
  unfold qTl at hp
  rw [pif_t (show qRdy sz nq q from ⟨hq, hs⟩)] at hp
  by_cases l0 : (qQz kd lf rt na (an q) (aF (qAr qn qf qt) (4 * q) (sz q).toNat)).2 = 0
  · rw [if_pos l0] at hp ⊢
    refine ⟨fun _ => T56_findAll hF I (fun d0 fo' th' rw' sA' sB' Hf => ?_) (fun d0 => ?_), fun z => absurd (by decide) z⟩
    · have cc : qCh kd lf rt na (qFa fn fa fb nf) an sz qn qf qt fs' ff' fg' fc' m' lg' q 1 fo' := fun q' e q0 q6 => by
        subst e
        exact ⟨I, fun _ => Hf⟩
      have G := fun th' rw' sA' sB' => hp a' b' nm' fr' to' n' co' le' ot' oc' fs' ff' fg' fc' m' lg' q fo' 1 th' rw' sA' sB' cc
      refine ⟨fun z0 => ?_, fun z0 => ⟨fun z1 => ?_, fun z1 => ⟨by omega, fun w => ?_, fun w => ?_⟩⟩⟩
      · rw [if_neg (fun u => by omega)] at G
        exact G _ _ _ _
      · rw [if_neg (fun u => by omega)] at G
        exact G _ _ _ _
      · have a := (qFst_a Hf el (by omega) (show z < 192 by omega)).2.2.1 w
        rw [if_pos ⟨by omega, by omega⟩] at G
        rw [a]
        exact G _ _ _ _
      · have a := (qFst_a Hf el (by omega) (show z < 192 by omega)).2.2.2 w
        rw [if_pos ⟨by omega, by omega⟩, a] at G
        exact G _ _ _ _
    · have Hf := Hd d0
      have cc : qCh kd lf rt na (qFa fn fa fb nf) an sz qn qf qt fs' ff' fg' fc' m' lg' q fd' fo := fun q' e q0 q6 => by
        subst e
        exact ⟨I, fun _ => Hf⟩
      have G := fun th' rw' sA' sB' => hp a' b' nm' fr' to' n' co' le' ot' oc' fs' ff' fg' fc' m' lg' q fo fd' th' rw' sA' sB' cc
      refine ⟨fun z0 => ?_, fun z0 => ⟨fun z1 => ?_, fun z1 => ⟨by omega, fun w => ?_, fun w => ?_⟩⟩⟩
      · rw [if_neg (fun u => by omega)] at G
        exact G _ _ _ _
      · rw [if_neg (fun u => by omega)] at G
        exact G _ _ _ _
      · have a := (qFst_a Hf el (by omega) (show z < 192 by omega)).2.2.1 w
        rw [if_pos ⟨by omega, by omega⟩] at G
        rw [a]
        exact G _ _ _ _
      · have a := (qFst_a Hf el (by omega) (show z < 192 by omega)).2.2.2 w
        rw [if_pos ⟨by omega, by omega⟩, a] at G
        exact G _ _ _ _
  · rw [if_neg l0] at hp ⊢
    refine ⟨fun z => absurd z (by decide), fun _ => hp _ _ _ _ _ _ _ _ _ _ _ _ _ _ _ _ _ _ _ _ _ _ _ (fun q' e q0 q6 => ?_)⟩
    subst e
    exact ⟨I, Hd⟩
end
