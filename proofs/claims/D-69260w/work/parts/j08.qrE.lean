/-! QlRewrite, the reference (X56): a form is kept -/
abbrev qFo : Type := Int × Int × List Int
def qFoA (fs ff fg fc : Int → Int) (i : Int) : qFo := (ff i, fg i, aF fc (4 * i) (fs i).toNat)
def qOn (a : Int) : Int := if a < 0 then -1 else 0
def qTw (a b : Int) : Int := if b < 0 then -1 else if b = a then 0 else 1
noncomputable def qKp (S : List qFo × Int) (f : qFo) : List qFo × Int := pif (f ∈ S.1) S (if S.1.length = 90 then (S.1, 1) else (S.1 ++ [f], S.2))
/-- arrays that hold forms -/
def qFb (fs : Int → Int) (m : Int) : Prop := (0 ≤ m ∧ m ≤ 90) ∧ ∀ i, 0 ≤ i → i < m → 0 ≤ fs i ∧ fs i ≤ 4
section
variable {nm fr to ot co le fs ff fg fc : Int → Int} {a b n v w k x y c m oc lg one two : Int} {T0 : qA → Prop} {P Q : Int → Prop}
theorem T56_th53 {K : Int → Prop} (hx : 0 ≤ x ∧ x < 90) (hn : 0 ≤ n ∧ n ≤ 4) (hc : c = 0 ∨ c = 1) (hK : ∀ r, (r = 0 ∨ r = 1) → (¬ r = 0 ↔ (c = 1 ∧ ∀ k, 0 ≤ k → k < n → fc (4 * x + k) = le k)) → K r) : ∃ fu : Nat, wX56_isThere_53 K x n le fc fu c 0 := by
  refine wl2 (fun fu r k => wX56_isThere_53 K x n le fc fu r k) (fun r k => (0 ≤ k ∧ k ≤ n) ∧ (r = 0 ∨ r = 1) ∧ (¬ r = 0 ↔ (c = 1 ∧ ∀ i, 0 ≤ i → i < k → fc (4 * x + i) = le i))) (fun _ k => (n - k).toNat) ?_ c 0 ⟨by omega, hc, ⟨fun h => ⟨hc.resolve_left h, fun i i0 i1 => by omega⟩, fun h => by omega⟩⟩
  rintro r k ⟨hk, hr, he⟩ f ih
  rw [wX56_isThere_53]
  refine ⟨fun z => hK r hr (he.trans ⟨fun h => ⟨h.1, fun i i0 i1 => h.2 i i0 (by omega)⟩, fun h => ⟨h.1, fun i i0 i1 => h.2 i i0 (by omega)⟩⟩), fun z => ⟨fun y => hK r hr ⟨fun h => absurd y h, fun h => he.2 ⟨h.1, fun i i0 i1 => h.2 i i0 (by omega)⟩⟩, fun y => ⟨by omega, by omega, fun q => ⟨by omega, fun _ e => ?_⟩, fun q => ⟨by omega, fun _ e => ?_⟩⟩⟩⟩
  · rw [e]
    refine ih _ _ ⟨by omega, Or.inr rfl, ⟨fun _ => ⟨(he.1 y).1, fun i i0 i1 => ?_⟩, fun _ => by decide⟩⟩ (by omega)
    by_cases p : i = k
    · rw [p]; exact q
    · exact (he.1 y).2 i i0 (by omega)
  · rw [e]
    refine ih _ _ ⟨by omega, Or.inl rfl, ⟨fun h => absurd rfl h, fun h => absurd (h.2 k hk.1 (by omega)) q⟩⟩ (by omega)
theorem T56_isThere {post : Int → Prop} (hF : qFb fs m) (hn : 0 ≤ n ∧ n ≤ 4) (h1 : (one, two, aF le 0 n.toNat) ∈ aF (qFoA fs ff fg fc) 0 m.toNat → post 1) (h0 : ¬ (one, two, aF le 0 n.toNat) ∈ aF (qFoA fs ff fg fc) 0 m.toNat → post 0) : wpX56_isThere post n le fs ff fg fc m one two := by
  unfold wpX56_isThere
  obtain ⟨hm, hb⟩ := hF
  have mem : (one, two, aF le 0 n.toNat) ∈ aF (qFoA fs ff fg fc) 0 m.toNat ↔ ∃ i, (0 ≤ i ∧ i < m) ∧ ff i = one ∧ fg i = two ∧ fs i = n ∧ ∀ k, 0 ≤ k → k < n → fc (4 * i + k) = le k := by
    rw [aF_mem]
    constructor
    · rintro ⟨i, hi, e⟩
      unfold qFoA at e
      injection e with e1 e2
      injection e2 with e3 e4
      have e5 := (aF_eq _ _ _ _).1 e4
      have hbi := hb i hi.1 (by omega)
      refine ⟨i, by omega, e1.symm, e3.symm, by omega, fun k k0 k1 => ?_⟩
      have := e5.2 k k0 (by omega)
      rw [Int.zero_add] at this
      exact this.symm
    · rintro ⟨i, hi, e1, e2, e3, e4⟩
      refine ⟨i, by omega, ?_⟩
      unfold qFoA
      rw [e1, e2, e3]
      have : aF le 0 n.toNat = aF fc (4 * i) n.toNat := (aF_eq _ _ _ _).2 ⟨rfl, fun k k0 k1 => by rw [Int.zero_add]; exact (e4 k k0 (by omega)).symm⟩
      rw [this]
  rw [mem] at h1 h0
  refine wloop (fun fu i => wX56_isThere_2 (post 1) (post 0) one two n le fs ff fg fc m fu i) (fun i => (0 ≤ i ∧ i ≤ m) ∧ ∀ j, 0 ≤ j → j < i → ¬ (ff j = one ∧ fg j = two ∧ fs j = n ∧ ∀ k, 0 ≤ k → k < n → fc (4 * j + k) = le k)) (fun i => (m - i).toNat) ?_ 0 ⟨by omega, fun i i0 i1 => by omega⟩
  rintro i ⟨hi, hno⟩ f ih
  rw [wX56_isThere_2]
  refine ⟨fun z => h0 (fun ⟨j, hj, e⟩ => hno j hj.1 (by omega) e), fun z => ⟨by omega, ?_⟩⟩
  have nxt : ¬ (ff i = one ∧ fg i = two ∧ fs i = n ∧ ∀ k, 0 ≤ k → k < n → fc (4 * i + k) = le k) → ∀ i' : Int, i' = i + 1 → wX56_isThere_2 (post 1) (post 0) one two n le fs ff fg fc m f i' := fun ne i' e => by
    rw [e]
    refine ih _ ⟨by omega, fun j j0 j1 => ?_⟩ (by omega)
    by_cases p : j = i
    · rw [p]; exact ne
    · exact hno j j0 (by omega)
  refine ⟨fun e1 => ⟨fun e2 => ⟨fun e3 => ?_, fun e3 => ?_⟩, fun e2 => ?_⟩, fun e1 => ?_⟩
  · exact T56_th53 (by omega) hn (Or.inr rfl) (fun r hr he => ⟨fun z0 => ⟨by omega, nxt (fun w => (he.2 ⟨rfl, w.2.2.2⟩) z0)⟩, fun z0 => h1 ⟨i, by omega, e1, e2, e3, (he.1 z0).2⟩⟩)
  · exact T56_th53 (by omega) hn (Or.inl rfl) (fun r hr he => ⟨fun z0 => ⟨by omega, nxt (fun w => e3 w.2.2.1)⟩, fun z0 => absurd (he.1 z0).1 (by decide)⟩)
  · exact T56_th53 (by omega) hn (Or.inl rfl) (fun r hr he => ⟨fun z0 => ⟨by omega, nxt (fun w => e2 w.2.1)⟩, fun z0 => absurd (he.1 z0).1 (by decide)⟩)
  · exact T56_th53 (by omega) hn (Or.inl rfl) (fun r hr he => ⟨fun z0 => ⟨by omega, nxt (fun w => e1 w.1)⟩, fun z0 => absurd (he.1 z0).1 (by decide)⟩)
theorem T56_keep {post : (Int → Int) → (Int → Int) → (Int → Int) → (Int → Int) → Int → Int → Prop} (hF : qFb fs m) (hn : 0 ≤ n ∧ n ≤ 4) (hno : ¬ (one, two, aF le 0 n.toNat) ∈ aF (qFoA fs ff fg fc) 0 m.toNat)
  (hp : ∀ fs' ff' fg' fc' m' lg', qFb fs' m' → (aF (qFoA fs' ff' fg' fc') 0 m'.toNat, lg') = qKp (aF (qFoA fs ff fg fc) 0 m.toNat, lg) (one, two, aF le 0 n.toNat) → post fs' ff' fg' fc' m' lg') : wpX56_keep post n le fs ff fg fc m lg one two := by
  unfold wpX56_keep
  obtain ⟨hm, hb⟩ := id hF
  have e0 : qKp (aF (qFoA fs ff fg fc) 0 m.toNat, lg) (one, two, aF le 0 n.toNat) = (if (aF (qFoA fs ff fg fc) 0 m.toNat).length = 90 then (aF (qFoA fs ff fg fc) 0 m.toNat, 1) else (aF (qFoA fs ff fg fc) 0 m.toNat ++ [(one, two, aF le 0 n.toNat)], lg)) := pif_f hno
  rw [aF_len] at e0
  refine ⟨fun z => hp _ _ _ _ _ _ hF (by rw [e0, if_pos (by omega)]), fun z => ⟨by omega, fun _ e1 _ e2 _ e3 => ?_⟩⟩
  rw [if_neg (by omega)] at e0
  refine wl2 (fun fu k g => wX56_keep_50 _ n le m fu k g) (fun k g => (0 ≤ k ∧ k ≤ n) ∧ (∀ i, i < 4 * m → g i = fc i) ∧ ∀ i, 0 ≤ i → i < k → g (4 * m + i) = le i) (fun k _ => (n - k).toNat) ?_ 0 fc ⟨by omega, fun _ _ => rfl, fun i i0 i1 => by omega⟩
  rintro k g ⟨hk, g0, g1⟩ f ih
  rw [wX56_keep_50]
  refine ⟨fun q => ⟨by omega, fun _ e4 => ?_⟩, fun q => ⟨by omega, fun _ e4 => ⟨by omega, fun _ e5 => ⟨by omega, fun _ e6 => ?_⟩⟩⟩⟩
  · rw [e4, e1, e2, e3]
    refine hp _ _ _ _ _ _ ⟨by omega, fun i i0 i1 => ?_⟩ ?_
    · rw [updI_e]
      by_cases p : i = m
      · rw [if_pos p]; exact hn
      · rw [if_neg p]; exact hb i i0 (by omega)
    · rw [e0, show (m + 1).toNat = m.toNat + 1 by omega, aF_s, show (0 : Int) + (m.toNat : Int) = m by omega]
      congr 1
      congr 1
      · refine aF_c _ _ (fun i i0 i1 => ?_)
        have hbi := hb i (by omega) (by omega)
        unfold qFoA
        rw [updI_n (by omega), updI_n (by omega), updI_n (by omega)]
        have : aF g (4 * i) (fs i).toNat = aF fc (4 * i) (fs i).toNat := aF_c _ _ (fun j j0 j1 => g0 j (by omega))
        rw [this]
      · unfold qFoA
        rw [updI_s, updI_s, updI_s]
        have : aF g (4 * m) n.toNat = aF le 0 n.toNat := (aF_eq _ _ _ _).2 ⟨rfl, fun j j0 j1 => by rw [Int.zero_add]; exact g1 j j0 (by omega)⟩
        rw [this]
  · rw [e6, e5, e4]
    refine ih _ _ ⟨by omega, fun i i1 => by rw [updI_n (by omega)]; exact g0 i i1, fun i i0 i1 => ?_⟩ (by omega)
    by_cases p : i = k
    · rw [p, updI_s]
    · rw [updI_n (by omega)]; exact g1 i i0 (by omega)
/-- good atoms, good codes -/
def qGa (t : qA) : Prop := ((0 ≤ t.1 ∧ t.1 < 10) ∧ t.2.2 = 7 ∧ ¬ t.2.1 = 7) ∨ ((32 ≤ t.1 ∧ t.1 < 40) ∧ ¬ t.2.2 = 7 ∧ ¬ t.2.1 = 7)
def qDe (c : Int) : qA := (c / 64, c / 8 % 8, c % 8)
def qGc (c : Int) : Prop := 0 ≤ c ∧ qGa (qDe c)
theorem qGa_n {t : qA} (h : qGa t) : 0 ≤ t.1 ∧ t.1 < 64 := by
  unfold qGa at h
  omega
theorem qRe_7 {a b : Int} {T : qA → Prop} : ∀ (k : Nat) (V : Int → Prop), qRe a b T k V → ¬ V 7
  | 0, V, h => h 7
  | k + 1, V, h => by
    obtain ⟨U, v, h1, h2, h3⟩ := h
    intro z
    rcases (h3 7).1 z with y | y
    · exact qRe_7 k U h1 y
    · exact h2.1.2.1 y.symm
theorem qGa_s {V : Int → Prop} {t : qA} (h7 : ¬ V 7) (h : qGa t) : qGa (qSt V t) := by
  have e : ∀ x, qSu V x = 7 ↔ x = 7 := fun x => ⟨fun h => (qSu_v (by decide) h).1, fun h => by rw [h]; exact qSu_f h7⟩
  unfold qGa at h ⊢
  unfold qSt
  dsimp only
  rw [e, e]; exact h
theorem qRow_g {a b : Int} {l : List qA} {r : Int → Int} {d : List Int} (H : qRow a b l r d) (hl : ∀ t ∈ l, qGa t) (hr : ∀ v, 2 ≤ r v ∧ r v ≤ 5) : ∀ u ∈ d, qGc u := fun u hu => by
  obtain ⟨t, ht, e⟩ := List.mem_map.1 (H.1.mem_iff.1 hu)
  have g := hl t ht
  have gn := qGa_n g
  have one : ∀ v, (0 ≤ qCo a b r v ∧ qCo a b r v ≤ 7) ∧ (qCo a b r v = 7 ↔ v = 7) := fun v => by
    unfold qCo
    have := hr v
    by_cases z : v = 6 ∨ v = 7
    · rw [if_pos z]; exact ⟨by omega, Iff.rfl⟩
    · rw [if_neg z]
      by_cases za : v = a
      · rw [if_pos za]; exact ⟨by decide, ⟨fun h => absurd h (by decide), fun h => absurd (Or.inr h) z⟩⟩
      · rw [if_neg za]
        by_cases zb : v = b
        · rw [if_pos zb]; exact ⟨by decide, ⟨fun h => absurd h (by decide), fun h => absurd (Or.inr h) z⟩⟩
        · rw [if_neg zb]; exact ⟨by omega, ⟨fun h => by omega, fun h => absurd (Or.inr h) z⟩⟩
  have o1 := one t.2.1
  have o2 := one t.2.2
  unfold qCd at e
  unfold qGc qDe
  have d1 : u / 64 = t.1 := by omega
  have d2 : u / 8 % 8 = qCo a b r t.2.1 := by omega
  have d3 : u % 8 = qCo a b r t.2.2 := by omega
  refine ⟨by omega, ?_⟩
  rw [d1, d2, d3]
  unfold qGa at g ⊢
  dsimp only
  rw [o1.2, o2.2]; exact g
theorem qNo_way {a b oc n : Int} {nm fr to ot : Int → Int} {Q : Prop} (hO : qOo ot oc (fun v => qOt a b v ∧ ∃ k, (0 ≤ k ∧ k < n) ∧ (fr k = v ∨ to k = v))) (hoc : oc ≤ 4) (no : ∀ u, 0 ≤ u → u < 2 ^ (2 * oc).toNat → ¬ qWy oc u) : Q := by
  have hO' : qOo ot oc (qOc a b (aF (qAr nm fr to) 0 n.toNat)) := hO.cg (fun v => qOc_a.symm)
  have h0 := hO.1
  obtain ⟨u, hu, uw, _⟩ := qWay_of (r := fun v => 2 + fstI (fun k => ot k = v) 8) hO' hoc ⟨fun v hv => by
    obtain ⟨j, hj, rfl⟩ := (hO'.2.1 v).2 hv
    show 2 ≤ 2 + fstI (fun k => ot k = ot j) 8 ∧ 2 + fstI (fun k => ot k = ot j) 8 < 2 + oc
    rw [hO'.ix (by omega) hj.1 hj.2]; omega, fun v w hv hw e => by
    obtain ⟨j, hj, rfl⟩ := (hO'.2.1 v).2 hv
    obtain ⟨i, hi, rfl⟩ := (hO'.2.1 w).2 hw
    have e' : 2 + fstI (fun k => ot k = ot j) 8 = 2 + fstI (fun k => ot k = ot i) 8 := e
    rw [hO'.ix (by omega) hj.1 hj.2, hO'.ix (by omega) hi.1 hi.2] at e'
    rw [show j = i by omega]⟩
  exact absurd uw (no u hu.1 hu.2)
/-- a form is finished: named, and kept unless it is there -/
theorem T56_finish {post : (Int → Int) → (Int → Int) → (Int → Int) → Int → (Int → Int) → (Int → Int) → (Int → Int) → Int → (Int → Int) → (Int → Int) → (Int → Int) → (Int → Int) → Int → Int → Prop} (hF : qFb fs m) (hn : 0 ≤ n ∧ n ≤ 4) (hg : ∀ k, 0 ≤ k → k < n → qGa (nm k, fr k, to k))
  (hp : ∀ d, qFm a b (aF (qAr nm fr to) 0 n.toNat) d → (∀ u ∈ d, qGc u) → ∀ nm' fr' to' n' co' le' ot' oc' fs' ff' fg' fc' m' lg', qFb fs' m' → (aF (qFoA fs' ff' fg' fc') 0 m'.toNat, lg') = qKp (aF (qFoA fs ff fg fc) 0 m.toNat, lg) (qOn a, qTw a b, d) → post nm' fr' to' n' co' le' ot' oc' fs' ff' fg' fc' m' lg') : wpX56_finish post a b nm fr to n co le ot fs ff fg fc m lg := by
  unfold wpX56_finish
  refine T56_thin hn (fun nm1 fr1 to1 n1 H => ?_)
  have H' := H
  obtain ⟨hn1, ⟨kk, V, N1, N2, N3⟩, nd⟩ := H
  have hg1 : ∀ k, 0 ≤ k → k < n1 → qGa (nm1 k, fr1 k, to1 k) := fun k k0 k1 => by
    obtain ⟨s, ⟨j, hj, rfl⟩, e⟩ := (N3 (nm1 k, fr1 k, to1 k)).1 ⟨k, ⟨k0, k1⟩, rfl⟩
    rw [e]; exact qGa_s (qRe_7 kk V N1) (hg j hj.1 hj.2)
  have hnm1 : ∀ k, 0 ≤ k → k < n1 → 0 ≤ nm1 k ∧ nm1 k < 64 := fun k k0 k1 => qGa_n (hg1 k k0 k1)
  refine T56_f11 hn1 (fun ot1 oc1 O h8 => ?_)
  have few := H'.few O
  have o0 := O.1
  refine T56_f49 hn1 ⟨o0, h8⟩ hnm1 (fun u hu => ?_) (fun c co1 le1 L => ?_)
  · obtain ⟨k, hk, e⟩ := (O.2.1 u).2 hu
    exact ⟨k, by omega, e⟩
  have ls := qLs_of O (by omega) L
  have mA : ∀ (f g h : Int → Int) (q : Int) (t : qA), t ∈ aF (qAr f g h) 0 q.toNat ↔ qAt f g h q t := fun f g h q t => by
    rw [aF_mem]
    exact ⟨fun ⟨i, hi, e⟩ => ⟨i, by omega, e⟩, fun ⟨i, hi, e⟩ => ⟨i, by omega, e⟩⟩
  have fm : qFm a b (aF (qAr nm fr to) 0 n.toNat) (aF le1 0 n1.toNat) := by
    refine ⟨aF (qAr nm1 fr1 to1) 0 n1.toNat, aF_pw _ _ (fun i j i0 ij j1 => nd j i i0 ij (by omega)), ?_, ls⟩
    have e1 : (fun t => t ∈ aF (qAr nm fr to) 0 n.toNat) = qAt nm fr to n := funext fun t => propext (mA nm fr to n t)
    have e2 : (fun t => t ∈ aF (qAr nm1 fr1 to1) 0 n1.toNat) = qAt nm1 fr1 to1 n1 := funext fun t => propext (mA nm1 fr1 to1 n1 t)
    rw [e1, e2]
    exact ⟨kk, V, N1, N2, N3⟩
  have gd : ∀ u ∈ aF le1 0 n1.toNat, qGc u := by
    rcases L with ⟨_, no⟩ | ⟨_, ⟨u, hu, uw, ur⟩, _⟩
    · exact qNo_way (nm := nm1) O (by omega) no
    · exact qRow_g ur (fun t ht => by
        obtain ⟨k, hk, e⟩ := (aF_mem _ _).1 ht
        rw [e]; exact hg1 k hk.1 (by omega)) (fun v => by
        unfold qRo
        have := qDg_b (w := u) (v := fstI (fun k => ot1 k = v) 8)
        omega)
  have go : ∀ y0, y0 = qTw a b → wX56_finish_275 post y0 a nm1 fr1 to1 n1 co1 le1 ot1 oc1 fs ff fg fc m lg := fun y0 ey => by
    unfold wX56_finish_275
    have fin : ∀ o1, o1 = qOn a → wpX56_isThere (fun (r_86 : Int) => (((r_86 = 0 → (wpX56_keep (fun fs' ff' fg' fc' m' lg' => post nm1 fr1 to1 n1 co1 le1 ot1 oc1 fs' ff' fg' fc' m' lg') n1 le1 fs ff fg fc m lg o1 y0)) ∧ (¬ r_86 = 0 → (post nm1 fr1 to1 n1 co1 le1 ot1 oc1 fs ff fg fc m lg))))) n1 le1 fs ff fg fc m o1 y0 := fun o1 eo => by
      rw [eo, ey]
      refine T56_isThere hF hn1 (fun h => ⟨fun z => absurd z (by decide), fun _ => hp _ fm gd _ _ _ _ _ _ _ _ _ _ _ _ _ _ hF ?_⟩) (fun h => ⟨fun _ => T56_keep hF hn1 h (fun fs' ff' fg' fc' m' lg' F' e' => hp _ fm gd _ _ _ _ _ _ _ _ _ _ _ _ _ _ F' e'), fun z => absurd rfl z⟩)
      exact (pif_t (P := (qOn a, qTw a b, aF le1 0 n1.toNat) ∈ (aF (qFoA fs ff fg fc) 0 m.toNat, lg).1) h).symm
    exact ⟨fun z => fin 0 (by unfold qOn; rw [if_neg (by omega)]), fun z => fin (-1) (by unfold qOn; rw [if_pos (by omega)])⟩
  refine ⟨fun z => ⟨fun q => go 0 ?_, fun q => go 1 ?_⟩, fun z => go (-1) ?_⟩
  · unfold qTw; rw [if_neg (by omega), if_pos q]
  · unfold qTw; rw [if_neg (by omega), if_neg q]
  · unfold qTw; rw [if_pos (by omega)]
end
