/-! VirtualRewrite: what a call does, as functions on one state: tables (cells, sizes, keys), mappings, atoms, spans, what a run kept -/
abbrev vrS : Type := ((Int → Int) × (Int → Int) × (Int → Int)) × ((Int → Int) × Nat) × ((Int → Int) × Nat) × ((Int → Int) × Int) × (Int × (Int → Int → Int) × (Int → Int) × (Int → Int) × (Int → Prop))
noncomputable def vrKey (t k b : Int) : vrS → Int × vrS
  | ((c, sz, ky), R) => (vKey c sz ky t k b, ((c, sz, vKeyS c sz ky t k b), R))
noncomputable def vrRow (t a b d : Int) : vrS → Int × vrS
  | ((c, sz, ky), R) => (vRow c sz ky t a b d, ((vRowC c sz ky t a b d, vRowZ c sz ky t a b d, ky), R))
noncomputable def vrDrop (t i : Int) : vrS → Int × vrS
  | ((c, sz, ky), R) => (vDrop sz t i, ((vDropC c sz t i, vDropZ sz t i, ky), R))
noncomputable def vrMap (t p s k o d : Int) : vrS → Int × vrS
  | (X, (mp, M), R) => (vMap M t p s k o d, (X, (vMapM mp M t p s k o d, (vMapN M t p s k o d).toNat), R))
noncomputable def vrTri : vrS → Int
  | ((c, sz, _), (mp, M), _) => vTri c sz mp M M
noncomputable def vrAtom (p s o : Int) : vrS → Int × vrS
  | (X, Y, (at_, n), R) => (vAtom n p s o, (X, Y, (vAtomA at_ n p s o, (vAtomN n p s o).toNat), R))
noncomputable def vrSpan (v a b : Int) : vrS → Int × vrS
  | (X, Y, Z, (sp, sc), K) => (vSpan sc v, (X, Y, Z, (vSpanA sp sc v a b, vSpanN sc v), K))
def vrClear : vrS → Int × vrS
  | (X, Y, (at_, n), (sp, _), K) => ((n : Int), (X, Y, (at_, 0), (sp, 0), K))
noncomputable def vrUnions : vrS → Int
  | (_, (mp, M), (at_, n), _) => if vRdy mp at_ M n < 0 then vRdy mp at_ M n else vUc mp at_ M n
noncomputable def vrUnion (i w : Int) : vrS → Int
  | ((_, _, ky), (mp, M), (at_, n), _) => vUnion ky mp at_ M n i w
noncomputable def vrEst (i : Int) : vrS → Int
  | ((_, sz, ky), (mp, M), (at_, n), _) => vEst sz ky mp at_ M n i
noncomputable def vrRun : vrS → Int × vrS
  | ((c, sz, ky), (mp, M), (at_, n), (sp, sc), _) => (vRun c sz ky mp at_ sp sc M n, ((c, sz, ky), (mp, M), (at_, n), (sp, sc), (vKept c sz ky mp at_ sp sc M n, (vRn c sz ky mp at_ sp sc M n (vUc mp at_ M n)).2.1, (vRn c sz ky mp at_ sp sc M n (vUc mp at_ M n)).2.2.1, (vRn c sz ky mp at_ sp sc M n (vUc mp at_ M n)).2.2.2.1, vAsk at_ n)))
noncomputable def vrValue (i v : Int) : vrS → Nat × Int
  | (_, _, _, _, (cn, sv, _, _, ask)) => pif (vValT cn ask i v) (2, 0) (0, vVal cn sv i v)
def vrFound (i w : Int) : vrS → Int
  | (_, _, _, _, (cn, _, sf, s1, _)) => vFnd cn sf s1 i w
/-- what holds of the numbers -/
def vrH (c sz mp : Int → Int) (M : Nat) (at_ : Int → Int) (n : Nat) (sc : Int) : Prop := n ≤ 4 ∧ vOK c sz mp M ∧ vAt at_ n ∧ 0 ≤ sc ∧ sc ≤ 4
section
variable {c sz ky mp at_ sp : Int → Int} {M n : Nat} {sc t k b a d i p s o v : Int}
theorem vrH.q (H : vrH c sz mp M at_ n sc) : vQ mp at_ M n := ⟨by have := H.2.1.1; omega, H.1, fun m a b => ⟨(H.2.1.2.2.1 m a b).1, fun p p0 p1 => (H.2.1.2.2.1 m a b).2.2 p p0 p1⟩⟩
theorem vRow_g (h : 0 < vRow c sz ky t a b d) : ((0 ≤ t ∧ t < 4) ∧ (0 ≤ a ∧ a < 10000) ∧ (0 ≤ b ∧ b < 10000) ∧ (0 ≤ d ∧ d < 10000)) ∧ ¬ sz t = 20 := by
  unfold vRow at h
  by_cases q : (0 ≤ t ∧ t < 4) ∧ (0 ≤ a ∧ a < 10000) ∧ (0 ≤ b ∧ b < 10000) ∧ (0 ≤ d ∧ d < 10000)
  · refine ⟨q, fun e => ?_⟩
    rw [if_pos q, if_pos e] at h
    by_cases w : (ky (3 * t) ≠ 0 ∧ vTh c (sz t) t 0 a) ∨ (ky (3 * t + 1) ≠ 0 ∧ vTh c (sz t) t 1 b) ∨ (ky (3 * t + 2) ≠ 0 ∧ vTh c (sz t) t 2 d)
    · rw [pif_t w] at h; exact absurd h (by decide)
    · rw [pif_f w] at h; exact absurd h (by decide)
  · rw [if_neg q] at h; exact absurd h (by decide)
theorem vrH.row (H : vrH c sz mp M at_ n sc) : vrH (vRowC c sz ky t a b d) (vRowZ c sz ky t a b d) mp M at_ n sc := by
  obtain ⟨h1, ⟨o1, o2, o3, o4⟩, h3, h4⟩ := H
  unfold vRowC vRowZ
  by_cases q : 0 < vRow c sz ky t a b d
  · rw [if_pos q, if_pos q]
    obtain ⟨⟨g1, g2, g3, g4⟩, ne⟩ := vRow_g q
    have st := o2 t g1.1 g1.2
    refine ⟨h1, ⟨o1, fun t' a0 a1 => ?_, o3, fun t' r k a0 a1 r0 r1 k0 k1 => ?_⟩, h3, h4⟩
    · by_cases e : t' = t
      · rw [e, updI_s]; omega
      · rw [updI_n e]; exact o2 t' a0 a1
    · unfold vCell
      have old : r < sz t' → 0 ≤ c (60 * t' + 3 * r + k) ∧ c (60 * t' + 3 * r + k) < 10000 := fun w => o4 t' r k a0 a1 r0 w k0 k1
      have sb := o2 t' a0 a1
      have rr : t' = t ∧ r = sz t ∨ r < sz t' := by
        by_cases e : t' = t
        · rw [e, updI_s] at r1
          rw [e]
          by_cases e2 : r = sz t
          · exact Or.inl ⟨rfl, e2⟩
          · exact Or.inr (by omega)
        · rw [updI_n e] at r1; exact Or.inr r1
      have r20 : r < 20 := by
        rcases rr with ⟨e1, e2⟩ | w <;> omega
      by_cases e2 : 60 * t' + 3 * r + k = 60 * t + 3 * sz t + 2
      · rw [e2, updI_s]; exact g4
      rw [updI_n e2]
      by_cases e1 : 60 * t' + 3 * r + k = 60 * t + 3 * sz t + 1
      · rw [e1, updI_s]; exact g3
      rw [updI_n e1]
      by_cases e0 : 60 * t' + 3 * r + k = 60 * t + 3 * sz t
      · rw [e0, updI_s]; exact g2
      rw [updI_n e0]
      refine old ?_
      rcases rr with ⟨w1, w2⟩ | w
      · rw [w1, w2] at e0 e1 e2; omega
      · exact w
  · rw [if_neg q, if_neg q]; exact ⟨h1, ⟨o1, o2, o3, o4⟩, h3, h4⟩
theorem vrH.drop (H : vrH c sz mp M at_ n sc) : vrH (vDropC c sz t i) (vDropZ sz t i) mp M at_ n sc := by
  obtain ⟨h1, ⟨o1, o2, o3, o4⟩, h3, h4⟩ := H
  unfold vDropC vDropZ
  by_cases q : (0 ≤ t ∧ t < 4) ∧ (0 ≤ i ∧ i < sz t)
  · rw [if_pos q, if_pos q]
    have st := o2 t q.1.1 q.1.2
    refine ⟨h1, ⟨o1, fun t' a0 a1 => ?_, o3, fun t' r k a0 a1 r0 r1 k0 k1 => ?_⟩, h3, h4⟩
    · by_cases e : t' = t
      · rw [e, updI_s]; omega
      · rw [updI_n e]; exact o2 t' a0 a1
    · unfold vCell
      show 0 ≤ (if 60 * t + 3 * i ≤ 60 * t' + 3 * r + k ∧ 60 * t' + 3 * r + k < 60 * t + 3 * (sz t - 1) then c (60 * t' + 3 * r + k + 3) else c (60 * t' + 3 * r + k)) ∧ (if 60 * t + 3 * i ≤ 60 * t' + 3 * r + k ∧ 60 * t' + 3 * r + k < 60 * t + 3 * (sz t - 1) then c (60 * t' + 3 * r + k + 3) else c (60 * t' + 3 * r + k)) < 10000
      have sb := o2 t' a0 a1
      have rr : (t' = t ∧ r < sz t - 1) ∨ (¬ t' = t ∧ r < sz t') := by
        by_cases e : t' = t
        · rw [e, updI_s] at r1; exact Or.inl ⟨e, r1⟩
        · rw [updI_n e] at r1; exact Or.inr ⟨e, r1⟩
      by_cases w : 60 * t + 3 * i ≤ 60 * t' + 3 * r + k ∧ 60 * t' + 3 * r + k < 60 * t + 3 * (sz t - 1)
      · rw [if_pos w]
        rcases rr with ⟨e, w2⟩ | ⟨e, w2⟩
        · have := o4 t' (r + 1) k a0 a1 (by omega) (by rw [e]; omega) k0 k1
          unfold vCell at this
          rw [show 60 * t' + 3 * (r + 1) + k = 60 * t' + 3 * r + k + 3 by omega] at this
          exact this
        · omega
      · rw [if_neg w]
        refine o4 t' r k a0 a1 r0 ?_ k0 k1
        rcases rr with ⟨e, w2⟩ | ⟨e, w2⟩
        · rw [e]; omega
        · exact w2
  · rw [if_neg q, if_neg q]; exact ⟨h1, ⟨o1, o2, o3, o4⟩, h3, h4⟩
theorem vMapM_o {m j : Int} (hm : m < M) (hj : j < 6) : vMapM mp M t p s k o d (6 * m + j) = mp (6 * m + j) := by
  unfold vMapM
  by_cases q : vMapG M t p s k o d ∧ (M : Int) ≠ 12
  · rw [pif_t q, updI_n (by omega), updI_n (by omega), updI_n (by omega), updI_n (by omega), updI_n (by omega), updI_n (by omega)]
  · rw [pif_f q]
theorem vrMap_N : (((vMapN M t p s k o d).toNat : Nat) : Int) = vMapN M t p s k o d := by
  unfold vMapN
  by_cases q : vMapG M t p s k o d ∧ (M : Int) ≠ 12
  · rw [pif_t q]; omega
  · rw [pif_f q]; omega
theorem vMapM_n (q : vMapG M t p s k o d ∧ (M : Int) ≠ 12) : (vMapM mp M t p s k o d (6 * M) = t ∧ vMapM mp M t p s k o d (6 * M + 1) = p) ∧ (vMapM mp M t p s k o d (6 * M + 2) = s ∧ vMapM mp M t p s k o d (6 * M + 3) = k) ∧ vMapM mp M t p s k o d (6 * M + 4) = o ∧ vMapM mp M t p s k o d (6 * M + 5) = d := by
  unfold vMapM
  rw [pif_t q]
  refine ⟨⟨?_, ?_⟩, ⟨?_, ?_⟩, ?_, ?_⟩
  · rw [updI_n (by omega), updI_n (by omega), updI_n (by omega), updI_n (by omega), updI_n (by omega), updI_s]
  · rw [updI_n (by omega), updI_n (by omega), updI_n (by omega), updI_n (by omega), updI_s]
  · rw [updI_n (by omega), updI_n (by omega), updI_n (by omega), updI_s]
  · rw [updI_n (by omega), updI_n (by omega), updI_s]
  · rw [updI_n (by omega), updI_s]
  · rw [updI_s]
theorem vrH.map (H : vrH c sz mp M at_ n sc) : vrH c sz (vMapM mp M t p s k o d) (vMapN M t p s k o d).toNat at_ n sc := by
  obtain ⟨h1, ⟨o1, o2, o3, o4⟩, h3, h4⟩ := H
  refine ⟨h1, ⟨?_, o2, fun m a b => ?_, o4⟩, h3, h4⟩
  · rw [vrMap_N]
    unfold vMapN
    by_cases q : vMapG M t p s k o d ∧ (M : Int) ≠ 12
    · rw [pif_t q]; have := q.2; omega
    · rw [pif_f q]; exact o1
  · rw [vrMap_N] at b
    by_cases q : vMapG M t p s k o d ∧ (M : Int) ≠ 12
    · have b : m < (M : Int) + 1 := by unfold vMapN at b; rw [pif_t q] at b; exact b
      by_cases e : m = M
      · subst e
        obtain ⟨⟨n0, n1⟩, ⟨n2, n3⟩, n4, n5⟩ := vMapM_n (mp := mp) q
        obtain ⟨q1, q2, q3, q4, q5, q6⟩ := q.1
        rw [n0, n1]
        refine ⟨q1, q2, fun w w0 w1 => ?_⟩
        unfold vTp vCo
        by_cases z : w = 0
        · subst z
          rw [show (6 : Int) * M + 2 + 2 * 0 = 6 * M + 2 by omega, show (6 : Int) * M + 3 + 2 * 0 = 6 * M + 3 by omega, n2, n3]
          exact ⟨q3, q4⟩
        · have z : w = 1 := by omega
          subst z
          rw [show (6 : Int) * M + 2 + 2 * 1 = 6 * M + 4 by omega, show (6 : Int) * M + 3 + 2 * 1 = 6 * M + 5 by omega, n4, n5]
          exact ⟨q5, q6⟩
      · have old := o3 m a (by omega)
        have e0 := vMapM_o (mp := mp) (t := t) (p := p) (s := s) (k := k) (o := o) (d := d) (M := M) (m := m) (j := 0) (by omega) (by decide)
        rw [Int.add_zero] at e0
        rw [e0, vMapM_o (by omega) (by decide)]
        refine ⟨old.1, old.2.1, fun w w0 w1 => ?_⟩
        have ow := old.2.2 w w0 w1
        unfold vTp vCo at ow ⊢
        rw [Int.add_assoc, Int.add_assoc, vMapM_o (by omega) (by omega), vMapM_o (by omega) (by omega), ← Int.add_assoc, ← Int.add_assoc]
        exact ow
    · have b : m < (M : Int) := by unfold vMapN at b; rw [pif_f q] at b; exact b
      have e : vMapM mp M t p s k o d = mp := by unfold vMapM; exact pif_f q
      rw [e]; exact o3 m a b
theorem vrAtom_N : (((vAtomN n p s o).toNat : Nat) : Int) = vAtomN n p s o := by
  unfold vAtomN
  by_cases q : vAtomG p s o ∧ (n : Int) ≠ 4
  · rw [pif_t q]; omega
  · rw [pif_f q]; omega
theorem vrH.atom (H : vrH c sz mp M at_ n sc) : vrH c sz mp M (vAtomA at_ n p s o) (vAtomN n p s o).toNat sc := by
  obtain ⟨h1, h2, h3, h4⟩ := H
  have N := vrAtom_N (n := n) (p := p) (s := s) (o := o)
  by_cases q : vAtomG p s o ∧ (n : Int) ≠ 4
  · have e1 : vAtomN n p s o = n + 1 := by unfold vAtomN; exact pif_t q
    have e2 : vAtomA at_ n p s o = updI (updI (updI at_ (3 * n) p) (3 * n + 1) s) (3 * n + 2) o := by unfold vAtomA; exact pif_t q
    rw [e1] at N ⊢
    rw [e2]
    refine ⟨by have := q.2; omega, h2, fun i i0 i1 => ?_, h4⟩
    rw [N] at i1
    unfold vPl
    obtain ⟨g1, g2, g3⟩ := q.1
    by_cases z2 : 3 * (i / 2) + 1 + i % 2 = 3 * n + 2
    · rw [z2, updI_s]; exact g3
    rw [updI_n z2]
    by_cases z1 : 3 * (i / 2) + 1 + i % 2 = 3 * n + 1
    · rw [z1, updI_s]; exact g2
    rw [updI_n z1, updI_n (by omega)]
    exact h3 i i0 (by omega)
  · have e1 : vAtomN n p s o = n := by unfold vAtomN; exact pif_f q
    have e2 : vAtomA at_ n p s o = at_ := by unfold vAtomA; exact pif_f q
    rw [e1, e2, Int.toNat_natCast]
    exact ⟨h1, h2, h3, h4⟩
theorem vrH.span (H : vrH c sz mp M at_ n sc) : vrH c sz mp M at_ n (vSpanN sc v) := by
  obtain ⟨h1, h2, h3, h4⟩ := H
  refine ⟨h1, h2, h3, ?_⟩
  unfold vSpanN
  split <;> omega
theorem vrH.clear (H : vrH c sz mp M at_ n sc) : vrH c sz mp M at_ 0 0 := ⟨by omega, H.2.1, fun i a b => by omega, by decide⟩
end
/-- rows of cells carried over to new maps, new labels -/
def vrT (I : Nat → Prop) (ai ai' : Nat → Int → Int) (A A' : Nat → Int → Nat) (N : Nat → Int) : Prop := ∀ i j, 0 ≤ j → j < N i → I i → A' i j = A i j ∧ ai' (A i j) = ai (A i j)
section
variable {I : Nat → Prop} {ai ai' : Nat → Int → Int} {A A' : Nat → Int → Nat} {M n : Int} {c ky tb mp at_ sp : Int → Int} {sc : Int} {cn : Int} {sv : Int → Int → Int} {sf s1 : Int → Int} {ask : Int → Prop}
theorem vRC.t (H : vRC ai A c) (T : vrT I ai ai' A A' (vN M n)) (h2 : I 2) : vRC ai' A' c := fun t j a b d e => by
  obtain ⟨e1, e2⟩ := T 2 t a b h2
  rw [e1, e2]; exact H t j a b d e
theorem vRK.t (H : vRK ai A ky) (T : vrT I ai ai' A A' (vN M n)) (h3 : I 3) : vRK ai' A' ky := fun t j a b d e => by
  obtain ⟨e1, e2⟩ := T 3 t a b h3
  rw [e1, e2]; exact H t j a b d e
theorem vRM.t {pr pr' : Nat → Int} (H : vRM ai pr A tb mp M) (T : vrT I ai ai' A A' (vN M n)) (h : I 6 ∧ I 7 ∧ I 8) (hp : ∀ m, 0 ≤ m → m < M → pr' (A 6 m) = pr (A 6 m)) : vRM ai' pr' A' tb mp M := fun m a b => by
  obtain ⟨e1, -⟩ := T 6 m a b h.1
  obtain ⟨e3, e4⟩ := T 7 m a b h.2.1
  obtain ⟨e5, e6⟩ := T 8 m a b h.2.2
  rw [e1, e3, e4, e5, e6, hp m a b]; exact H m a b
theorem vRA.t {pr pr' : Nat → Int} (H : vRA ai pr A at_ n) (T : vrT I ai ai' A A' (vN M n)) (h : I 10 ∧ I 11) (hp : ∀ m, 0 ≤ m → m < n → pr' (A 10 m) = pr (A 10 m)) : vRA ai' pr' A' at_ n := fun m a b => by
  obtain ⟨e1, -⟩ := T 10 m a b h.1
  obtain ⟨e3, e4⟩ := T 11 m a b h.2
  rw [e1, e3, e4, hp m a b]; exact H m a b
theorem vRS.t (H : vRS ai A sp sc) (T : vrT I ai ai' A A' (vN M n)) (h : I 12 ∧ I 13 ∧ I 14) : vRS ai' A' sp sc := fun k a b => by
  obtain ⟨e1, e2⟩ := T 12 0 (by decide) z01 h.1
  obtain ⟨e3, e4⟩ := T 13 0 (by decide) z01 h.2.1
  obtain ⟨e5, e6⟩ := T 14 0 (by decide) z01 h.2.2
  rw [e1, e2, e3, e4, e5, e6]; exact H k a b
theorem cKa.t {ac as : Nat → Int} (H : cKa cn sv sf s1 ask ai ac as A) (T : vrT I ai ai' A A' (vN M n)) (h : I 0 ∧ I 23 ∧ I 24 ∧ I 25) : cKa cn sv sf s1 ask ai' ac as A' := by
  obtain ⟨e0, -⟩ := T 0 0 (by decide) z01 h.1
  obtain ⟨e1, e2⟩ := T 23 0 (by decide) z01 h.2.1
  obtain ⟨e3, e4⟩ := T 24 0 (by decide) z01 h.2.2.1
  obtain ⟨e5, e6⟩ := T 25 0 (by decide) z01 h.2.2.2
  obtain ⟨k1, k2, k3, k4⟩ := H
  refine ⟨by rw [e0]; exact k1, k2, fun i a b => ?_, by rw [e0]; exact k4⟩
  rw [e1, e2, e3, e4, e5, e6]; exact k3 i a b
theorem vRZ.t {z z' : Nat → Int} {sz : Int → Int} (H : vRZ z A sz) (T : vrT I ai ai' A A' (vN M n)) (h : I 1) (hz : ∀ t, 0 ≤ t → t < 4 → z' (A 1 t) = z (A 1 t)) : vRZ z' A' sz := fun t a b => by
  rw [(T 1 t a b h).1, hz t a b]; exact H t a b
end
def vShp (kd : Nat → Nat) (an : Nat → Nat) (mX32_tables : Nat → Option Nat) (mX32_mappings : Nat → Option Nat) (mX32_atoms : Nat → Option Nat) (mX32_unions : Nat → Option Nat) (mX32_spanOf : Nat → Option Nat) (mX32_spanFrom : Nat → Option Nat) (mX32_spanTo : Nat → Option Nat) (mX32_chosen : Nat → Option Nat) (mX32_kinds : Nat → Option Nat) (mX32_given : Nat → Option Nat) (mX32_rowOf : Nat → Option Nat) (mX32_answers : Nat → Option Nat) (mX32_foundBy : Nat → Option Nat) (mX32_firstBy : Nat → Option Nat) (mX32_lastBy : Nat → Option Nat) (ar : Nat → Int → Option Nat) (mX33_cells : Nat → Option Nat) (mX33_keys : Nat → Option Nat) (mX81_table : Nat → Option Nat) (mX81_templates : Nat → Option Nat) (mX81_columns : Nat → Option Nat) (mX82_places : Nat → Option Nat) (mX34_mappings : Nat → Option Nat) (mX34_slots : Nat → Option Nat) (A : Nat → Int → Nat) (g : Nat → Nat × Int) (mc ac : Int) (tb : Int → Int) : Prop :=
  Lab vK vL kd an A g (vN mc ac) ∧
  (mX32_tables (A 0 0) = some (A 4 0) ∧ mX32_mappings (A 0 0) = some (A 5 0) ∧ mX32_atoms (A 0 0) = some (A 9 0) ∧ mX32_unions (A 0 0) = some (A 15 0)) ∧
  (mX32_spanOf (A 0 0) = some (A 12 0) ∧ mX32_spanFrom (A 0 0) = some (A 13 0) ∧ mX32_spanTo (A 0 0) = some (A 14 0)) ∧
  (mX32_chosen (A 0 0) = some (A 19 0) ∧ mX32_kinds (A 0 0) = some (A 20 0) ∧ mX32_given (A 0 0) = some (A 21 0) ∧ mX32_rowOf (A 0 0) = some (A 22 0)) ∧
  (mX32_answers (A 0 0) = some (A 23 0) ∧ mX32_foundBy (A 0 0) = some (A 24 0) ∧ mX32_firstBy (A 0 0) = some (A 25 0) ∧ mX32_lastBy (A 0 0) = some (A 26 0)) ∧
  (∀ t, 0 ≤ t → t < 4 → ar (A 4 0) t = some (A 1 t) ∧ mX33_cells (A 1 t) = some (A 2 t) ∧ mX33_keys (A 1 t) = some (A 3 t)) ∧
  (∀ m, 0 ≤ m → m < mc → ar (A 5 0) m = some (A 6 m) ∧ mX81_table (A 6 m) = some (A 1 (tb m)) ∧ mX81_templates (A 6 m) = some (A 7 m) ∧ mX81_columns (A 6 m) = some (A 8 m) ∧ 0 ≤ tb m ∧ tb m < 4) ∧
  (∀ k, 0 ≤ k → k < ac → ar (A 9 0) k = some (A 10 k) ∧ mX82_places (A 10 k) = some (A 11 k)) ∧
  (∀ u, 0 ≤ u → u < 150 → ar (A 15 0) u = some (A 16 u) ∧ mX34_mappings (A 16 u) = some (A 17 u) ∧ mX34_slots (A 16 u) = some (A 18 u))
theorem vRs.tr {ky mp at_ : Int → Int} {M n : Nat} {ai ai' : Nat → Int → Int} {uc lg sc : Nat → Int} {A : Nat → Int → Nat} (h : vRs ky mp at_ M n (M ^ n) ai uc lg sc A) (e : ∀ u, 0 ≤ u → u < 150 → ai' (A 17 u) = ai (A 17 u) ∧ ai' (A 18 u) = ai (A 18 u)) : vRs ky mp at_ M n (M ^ n) ai' uc lg sc A := by
  rcases h with ⟨a, b, d, f⟩ | w
  · refine Or.inl ⟨a, b, d, fun u hu => ?_⟩
    obtain ⟨e1, e2⟩ := e u (by omega) (by omega)
    rw [e1, e2]
    exact f u hu
  · exact Or.inr w
theorem vSh.a0 {h : HpVR} {A : Nat → Int → Nat} {g : Nat → Nat × Int} {M : Int} {n : Nat} {tb : Int → Int} (S : vSh h A g M n tb) : vSh h A g M ((0 : Nat) : Int) tb := by
  obtain ⟨L, a, b, d, e, f, m, k, u⟩ := S
  refine ⟨fun i j j0 j1 => L i j j0 ?_, a, b, d, e, f, m, fun k a b => absurd b (by omega), u⟩
  unfold vN at j1 ⊢
  split at j1 <;> first | exact j1 | omega
/-- all but what is known of unions -/
def vrD (kd : Nat → Nat) (an : Nat → Nat) (ai : Nat → Int → Int) (al : Nat → Int → Int) (ar : Nat → Int → Option Nat) (mX32_tables : Nat → Option Nat) (mX32_mappings : Nat → Option Nat) (mX32_mappingCount : Nat → Int) (mX32_atoms : Nat → Option Nat) (mX32_atomCount : Nat → Int) (mX32_spanOf : Nat → Option Nat) (mX32_spanFrom : Nat → Option Nat) (mX32_spanTo : Nat → Option Nat) (mX32_spans : Nat → Int) (mX32_unions : Nat → Option Nat) (mX32_unionCount : Nat → Int) (mX32_large : Nat → Int) (mX32_known : Nat → Int) (mX32_chosen : Nat → Option Nat) (mX32_kinds : Nat → Option Nat) (mX32_given : Nat → Option Nat) (mX32_rowOf : Nat → Option Nat) (mX32_answers : Nat → Option Nat) (mX32_foundBy : Nat → Option Nat) (mX32_firstBy : Nat → Option Nat) (mX32_lastBy : Nat → Option Nat) (mX32_answerCount : Nat → Int) (mX32_asked : Nat → Int) (mX32_tooMany : Nat → Int) (mX33_cells : Nat → Option Nat) (mX33_keys : Nat → Option Nat) (mX33_size : Nat → Int) (mX34_mappings : Nat → Option Nat) (mX34_slots : Nat → Option Nat) (mX34_slotCount : Nat → Int) (mX81_table : Nat → Option Nat) (mX81_predicate : Nat → Int) (mX81_templates : Nat → Option Nat) (mX81_columns : Nat → Option Nat) (mX82_predicate : Nat → Int) (mX82_places : Nat → Option Nat) (A : Nat → Int → Nat) (g : Nat → Nat × Int) (tb c sz ky mp at_ sp : Int → Int) (M n : Nat) (sc cn : Int) (sv : Int → Int → Int) (sf s1 : Int → Int) (ask : Int → Prop) : Prop :=
  (vShp kd an mX32_tables mX32_mappings mX32_atoms mX32_unions mX32_spanOf mX32_spanFrom mX32_spanTo mX32_chosen mX32_kinds mX32_given mX32_rowOf mX32_answers mX32_foundBy mX32_firstBy mX32_lastBy ar mX33_cells mX33_keys mX81_table mX81_templates mX81_columns mX82_places mX34_mappings mX34_slots A g M n tb ∧ vRK ai A ky ∧ vRM ai mX81_predicate A tb mp M ∧ vRA ai mX82_predicate A at_ n) ∧ (mX32_atomCount (A 0 0) = n ∧ mX32_mappingCount (A 0 0) = M ∧ mX32_spans (A 0 0) = sc) ∧ vRC ai A c ∧ vRZ mX33_size A sz ∧ vRS ai A sp sc ∧ cKa cn sv sf s1 ask ai mX32_answerCount mX32_asked A
def vrU (kd : Nat → Nat) (an : Nat → Nat) (ai : Nat → Int → Int) (al : Nat → Int → Int) (ar : Nat → Int → Option Nat) (mX32_tables : Nat → Option Nat) (mX32_mappings : Nat → Option Nat) (mX32_mappingCount : Nat → Int) (mX32_atoms : Nat → Option Nat) (mX32_atomCount : Nat → Int) (mX32_spanOf : Nat → Option Nat) (mX32_spanFrom : Nat → Option Nat) (mX32_spanTo : Nat → Option Nat) (mX32_spans : Nat → Int) (mX32_unions : Nat → Option Nat) (mX32_unionCount : Nat → Int) (mX32_large : Nat → Int) (mX32_known : Nat → Int) (mX32_chosen : Nat → Option Nat) (mX32_kinds : Nat → Option Nat) (mX32_given : Nat → Option Nat) (mX32_rowOf : Nat → Option Nat) (mX32_answers : Nat → Option Nat) (mX32_foundBy : Nat → Option Nat) (mX32_firstBy : Nat → Option Nat) (mX32_lastBy : Nat → Option Nat) (mX32_answerCount : Nat → Int) (mX32_asked : Nat → Int) (mX32_tooMany : Nat → Int) (mX33_cells : Nat → Option Nat) (mX33_keys : Nat → Option Nat) (mX33_size : Nat → Int) (mX34_mappings : Nat → Option Nat) (mX34_slots : Nat → Option Nat) (mX34_slotCount : Nat → Int) (mX81_table : Nat → Option Nat) (mX81_predicate : Nat → Int) (mX81_templates : Nat → Option Nat) (mX81_columns : Nat → Option Nat) (mX82_predicate : Nat → Int) (mX82_places : Nat → Option Nat) (A : Nat → Int → Nat) (ky mp at_ : Int → Int) (M n : Nat) : Prop := ¬ mX32_known (A 0 0) = 0 → vRs ky mp at_ M n (M ^ n) ai mX32_unionCount mX32_large mX34_slotCount A
/-- the component (room VR) is in state s -/
def vrIC (kd : Nat → Nat) (an : Nat → Nat) (ai : Nat → Int → Int) (al : Nat → Int → Int) (ar : Nat → Int → Option Nat) (mX32_tables : Nat → Option Nat) (mX32_mappings : Nat → Option Nat) (mX32_mappingCount : Nat → Int) (mX32_atoms : Nat → Option Nat) (mX32_atomCount : Nat → Int) (mX32_spanOf : Nat → Option Nat) (mX32_spanFrom : Nat → Option Nat) (mX32_spanTo : Nat → Option Nat) (mX32_spans : Nat → Int) (mX32_unions : Nat → Option Nat) (mX32_unionCount : Nat → Int) (mX32_large : Nat → Int) (mX32_known : Nat → Int) (mX32_chosen : Nat → Option Nat) (mX32_kinds : Nat → Option Nat) (mX32_given : Nat → Option Nat) (mX32_rowOf : Nat → Option Nat) (mX32_answers : Nat → Option Nat) (mX32_foundBy : Nat → Option Nat) (mX32_firstBy : Nat → Option Nat) (mX32_lastBy : Nat → Option Nat) (mX32_answerCount : Nat → Int) (mX32_asked : Nat → Int) (mX32_tooMany : Nat → Int) (mX33_cells : Nat → Option Nat) (mX33_keys : Nat → Option Nat) (mX33_size : Nat → Int) (mX34_mappings : Nat → Option Nat) (mX34_slots : Nat → Option Nat) (mX34_slotCount : Nat → Int) (mX81_table : Nat → Option Nat) (mX81_predicate : Nat → Int) (mX81_templates : Nat → Option Nat) (mX81_columns : Nat → Option Nat) (mX82_predicate : Nat → Int) (mX82_places : Nat → Option Nat) (x : Nat) (s : vrS) : Prop := ∃ A g tb c sz ky mp at_ sp M n sc cn sv sf s1 ask, A 0 0 = x ∧ vrD kd an ai al ar mX32_tables mX32_mappings mX32_mappingCount mX32_atoms mX32_atomCount mX32_spanOf mX32_spanFrom mX32_spanTo mX32_spans mX32_unions mX32_unionCount mX32_large mX32_known mX32_chosen mX32_kinds mX32_given mX32_rowOf mX32_answers mX32_foundBy mX32_firstBy mX32_lastBy mX32_answerCount mX32_asked mX32_tooMany mX33_cells mX33_keys mX33_size mX34_mappings mX34_slots mX34_slotCount mX81_table mX81_predicate mX81_templates mX81_columns mX82_predicate mX82_places A g tb c sz ky mp at_ sp M n sc cn sv sf s1 ask ∧ vrU kd an ai al ar mX32_tables mX32_mappings mX32_mappingCount mX32_atoms mX32_atomCount mX32_spanOf mX32_spanFrom mX32_spanTo mX32_spans mX32_unions mX32_unionCount mX32_large mX32_known mX32_chosen mX32_kinds mX32_given mX32_rowOf mX32_answers mX32_foundBy mX32_firstBy mX32_lastBy mX32_answerCount mX32_asked mX32_tooMany mX33_cells mX33_keys mX33_size mX34_mappings mX34_slots mX34_slotCount mX81_table mX81_predicate mX81_templates mX81_columns mX82_predicate mX82_places A ky mp at_ M n ∧ vrH c sz mp M at_ n sc ∧ s = ((c, sz, ky), (mp, M), (at_, n), (sp, sc), (cn, sv, sf, s1, ask))
section
variable {kd : Nat → Nat} {an : Nat → Nat} {ai : Nat → Int → Int} {al : Nat → Int → Int} {ar : Nat → Int → Option Nat} {mX32_tables : Nat → Option Nat} {mX32_mappings : Nat → Option Nat} {mX32_mappingCount : Nat → Int} {mX32_atoms : Nat → Option Nat} {mX32_atomCount : Nat → Int} {mX32_spanOf : Nat → Option Nat} {mX32_spanFrom : Nat → Option Nat} {mX32_spanTo : Nat → Option Nat} {mX32_spans : Nat → Int} {mX32_unions : Nat → Option Nat} {mX32_unionCount : Nat → Int} {mX32_large : Nat → Int} {mX32_known : Nat → Int} {mX32_chosen : Nat → Option Nat} {mX32_kinds : Nat → Option Nat} {mX32_given : Nat → Option Nat} {mX32_rowOf : Nat → Option Nat} {mX32_answers : Nat → Option Nat} {mX32_foundBy : Nat → Option Nat} {mX32_firstBy : Nat → Option Nat} {mX32_lastBy : Nat → Option Nat} {mX32_answerCount : Nat → Int} {mX32_asked : Nat → Int} {mX32_tooMany : Nat → Int} {mX33_cells : Nat → Option Nat} {mX33_keys : Nat → Option Nat} {mX33_size : Nat → Int} {mX34_mappings : Nat → Option Nat} {mX34_slots : Nat → Option Nat} {mX34_slotCount : Nat → Int} {mX81_table : Nat → Option Nat} {mX81_predicate : Nat → Int} {mX81_templates : Nat → Option Nat} {mX81_columns : Nat → Option Nat} {mX82_predicate : Nat → Int} {mX82_places : Nat → Option Nat} {x : Nat} {s : vrS} {t k b a d i p s' o v w : Int} {MC MS : Nat}
theorem vrD.all {A : Nat → Int → Nat} {g : Nat → Nat × Int} {tb c sz ky mp at_ sp : Int → Int} {M n : Nat} {sc cn : Int} {sv : Int → Int → Int} {sf s1 : Int → Int} {ask : Int → Prop} (D : vrD kd an ai al ar mX32_tables mX32_mappings mX32_mappingCount mX32_atoms mX32_atomCount mX32_spanOf mX32_spanFrom mX32_spanTo mX32_spans mX32_unions mX32_unionCount mX32_large mX32_known mX32_chosen mX32_kinds mX32_given mX32_rowOf mX32_answers mX32_foundBy mX32_firstBy mX32_lastBy mX32_answerCount mX32_asked mX32_tooMany mX33_cells mX33_keys mX33_size mX34_mappings mX34_slots mX34_slotCount mX81_table mX81_predicate mX81_templates mX81_columns mX82_predicate mX82_places A g tb c sz ky mp at_ sp M n sc cn sv sf s1 ask) (U : vrU kd an ai al ar mX32_tables mX32_mappings mX32_mappingCount mX32_atoms mX32_atomCount mX32_spanOf mX32_spanFrom mX32_spanTo mX32_spans mX32_unions mX32_unionCount mX32_large mX32_known mX32_chosen mX32_kinds mX32_given mX32_rowOf mX32_answers mX32_foundBy mX32_firstBy mX32_lastBy mX32_answerCount mX32_asked mX32_tooMany mX33_cells mX33_keys mX33_size mX34_mappings mX34_slots mX34_slotCount mX81_table mX81_predicate mX81_templates mX81_columns mX82_predicate mX82_places A ky mp at_ M n) (H : vrH c sz mp M at_ n sc) : vAll (kd, an, ai, al, ar, mX32_tables, mX32_mappings, mX32_mappingCount, mX32_atoms, mX32_atomCount, mX32_spanOf, mX32_spanFrom, mX32_spanTo, mX32_spans, mX32_unions, mX32_unionCount, mX32_large, mX32_known, mX32_chosen, mX32_kinds, mX32_given, mX32_rowOf, mX32_answers, mX32_foundBy, mX32_firstBy, mX32_lastBy, mX32_answerCount, mX32_asked, mX32_tooMany, mX33_cells, mX33_keys, mX33_size, mX34_mappings, mX34_slots, mX34_slotCount, mX81_table, mX81_predicate, mX81_templates, mX81_columns, mX82_predicate, mX82_places) A g tb c sz ky mp at_ M n :=
  ⟨⟨H.1, by have := H.2.1.1; omega⟩, D.1.1, H.2.1, D.1.2.1, D.1.2.2.1, D.1.2.2.2, D.2.1.1, D.2.1.2.1, U⟩
theorem QVR_key {post : Int → (Nat → Int → Int) → (Nat → Int) → Prop} (R : vrIC kd an ai al ar mX32_tables mX32_mappings mX32_mappingCount mX32_atoms mX32_atomCount mX32_spanOf mX32_spanFrom mX32_spanTo mX32_spans mX32_unions mX32_unionCount mX32_large mX32_known mX32_chosen mX32_kinds mX32_given mX32_rowOf mX32_answers mX32_foundBy mX32_firstBy mX32_lastBy mX32_answerCount mX32_asked mX32_tooMany mX33_cells mX33_keys mX33_size mX34_mappings mX34_slots mX34_slotCount mX81_table mX81_predicate mX81_templates mX81_columns mX82_predicate mX82_places x s) (hb : b = 0 ∨ b = 1) (h' : ∀ ai' kn', vrIC kd an (ai') al ar mX32_tables mX32_mappings mX32_mappingCount mX32_atoms mX32_atomCount mX32_spanOf mX32_spanFrom mX32_spanTo mX32_spans mX32_unions mX32_unionCount mX32_large (kn') mX32_chosen mX32_kinds mX32_given mX32_rowOf mX32_answers mX32_foundBy mX32_firstBy mX32_lastBy mX32_answerCount mX32_asked mX32_tooMany mX33_cells mX33_keys mX33_size mX34_mappings mX34_slots mX34_slotCount mX81_table mX81_predicate mX81_templates mX81_columns mX82_predicate mX82_places x (vrKey t k b s).2 → post (vrKey t k b s).1 ai' kn') : wpVR_X32_key post kd an ai ar mX32_tables mX32_known mX33_cells mX33_keys mX33_size x t k b := by
  obtain ⟨A, g, tb, c, sz, ky, mp, at_, sp, M, n, sc, cn, sv, sf, s1, ask, ex, D, U, H, rfl⟩ := R
  obtain ⟨⟨Sp, hK, hM, hA⟩, ⟨en, em, es⟩, hC, hZ, hS, hk⟩ := id D
  have S : vSh (kd, an, ai, al, ar, mX32_tables, mX32_mappings, mX32_mappingCount, mX32_atoms, mX32_atomCount, mX32_spanOf, mX32_spanFrom, mX32_spanTo, mX32_spans, mX32_unions, mX32_unionCount, mX32_large, mX32_known, mX32_chosen, mX32_kinds, mX32_given, mX32_rowOf, mX32_answers, mX32_foundBy, mX32_firstBy, mX32_lastBy, mX32_answerCount, mX32_asked, mX32_tooMany, mX33_cells, mX33_keys, mX33_size, mX34_mappings, mX34_slots, mX34_slotCount, mX81_table, mX81_predicate, mX81_templates, mX81_columns, mX82_predicate, mX82_places) A g M n tb := Sp
  have hO := H.2.1
  subst ex
  refine CVR_key S hC hZ hK (fun t a b => (hO.2.1 t a b).2) hb (fun f => ?_) (fun f ft fk => ?_)
  · have e : vKeyS c sz ky t k b = ky := if_neg f
    have e0 : vrKey t k b ((c, sz, ky), (mp, M), (at_, n), (sp, sc), (cn, sv, sf, s1, ask)) = (vKey c sz ky t k b, ((c, sz, ky), (mp, M), (at_, n), (sp, sc), (cn, sv, sf, s1, ask))) := by
      show (vKey c sz ky t k b, ((c, sz, vKeyS c sz ky t k b), (mp, M), (at_, n), (sp, sc), (cn, sv, sf, s1, ask))) = _
      rw [e]
    rw [e0] at h'
    exact h' _ _ ⟨_, _, _, _, _, _, _, _, _, _, _, _, _, _, _, _, _, rfl, D, U, H, rfl⟩
  · have e : vKeyS c sz ky t k b = updI ky (3 * t + k) b := if_pos f
    have e0 : vrKey t k b ((c, sz, ky), (mp, M), (at_, n), (sp, sc), (cn, sv, sf, s1, ask)) = (1, ((c, sz, updI ky (3 * t + k) b), (mp, M), (at_, n), (sp, sc), (cn, sv, sf, s1, ask))) := by
      show (vKey c sz ky t k b, ((c, sz, vKeyS c sz ky t k b), (mp, M), (at_, n), (sp, sc), (cn, sv, sf, s1, ask))) = _
      rw [e, f]
    rw [e0] at h'
    have T : vrT (fun i => ¬ i = 3) ai (va_up ai (A 3 t) (updI (ai (A 3 t)) k b)) A A (vN M n) := fun i j a b' z => ⟨rfl, S.up 3 i t j ft ⟨a, b'⟩ (Or.inl (fun q => z q.symm))⟩
    have hK' : vRK (va_up ai (A 3 t) (updI (ai (A 3 t)) k b)) A (updI ky (3 * t + k) b) := fun t' j a0 a1 j0 j1 => by
      by_cases q : t' = t
      · rw [q, va_up_self]
        by_cases q2 : j = k
        · rw [q2, updI_s, updI_s]
        · rw [updI_n q2, updI_n (by omega)]; exact hK t j ft.1 ft.2 j0 j1
      · rw [S.up 3 3 t t' ft ⟨a0, a1⟩ (Or.inr (fun z => q z.symm)), updI_n (by omega)]
        exact hK t' j a0 a1 j0 j1
    exact h' _ _ ⟨A, g, tb, _, _, _, _, _, _, _, _, _, _, _, _, _, _, rfl, ⟨⟨Sp, hK', hM.t T ⟨by decide, by decide, by decide⟩ (fun _ _ _ => rfl), hA.t T ⟨by decide, by decide⟩ (fun _ _ _ => rfl)⟩, ⟨en, em, es⟩, hC.t T (by decide), hZ, hS.t T ⟨by decide, by decide, by decide⟩, hk.t T ⟨by decide, by decide, by decide, by decide⟩⟩, fun z => absurd (va_up_self _ _ _) z, H, rfl⟩
theorem QVR_row {post : Int → (Nat → Int → Int) → (Nat → Int) → Prop} (R : vrIC kd an ai al ar mX32_tables mX32_mappings mX32_mappingCount mX32_atoms mX32_atomCount mX32_spanOf mX32_spanFrom mX32_spanTo mX32_spans mX32_unions mX32_unionCount mX32_large mX32_known mX32_chosen mX32_kinds mX32_given mX32_rowOf mX32_answers mX32_foundBy mX32_firstBy mX32_lastBy mX32_answerCount mX32_asked mX32_tooMany mX33_cells mX33_keys mX33_size mX34_mappings mX34_slots mX34_slotCount mX81_table mX81_predicate mX81_templates mX81_columns mX82_predicate mX82_places x s) (h' : ∀ ai' sz', vrIC kd an (ai') al ar mX32_tables mX32_mappings mX32_mappingCount mX32_atoms mX32_atomCount mX32_spanOf mX32_spanFrom mX32_spanTo mX32_spans mX32_unions mX32_unionCount mX32_large mX32_known mX32_chosen mX32_kinds mX32_given mX32_rowOf mX32_answers mX32_foundBy mX32_firstBy mX32_lastBy mX32_answerCount mX32_asked mX32_tooMany mX33_cells mX33_keys (sz') mX34_mappings mX34_slots mX34_slotCount mX81_table mX81_predicate mX81_templates mX81_columns mX82_predicate mX82_places x (vrRow t a b d s).2 → post (vrRow t a b d s).1 ai' sz') : wpVR_X32_row post kd an ai ar mX32_tables mX33_cells mX33_keys mX33_size x t a b d := by
  obtain ⟨A, g, tb, c, sz, ky, mp, at_, sp, M, n, sc, cn, sv, sf, s1, ask, ex, D, U, H, rfl⟩ := R
  obtain ⟨⟨Sp, hK, hM, hA⟩, ⟨en, em, es⟩, hC, hZ, hS, hk⟩ := id D
  have S : vSh (kd, an, ai, al, ar, mX32_tables, mX32_mappings, mX32_mappingCount, mX32_atoms, mX32_atomCount, mX32_spanOf, mX32_spanFrom, mX32_spanTo, mX32_spans, mX32_unions, mX32_unionCount, mX32_large, mX32_known, mX32_chosen, mX32_kinds, mX32_given, mX32_rowOf, mX32_answers, mX32_foundBy, mX32_firstBy, mX32_lastBy, mX32_answerCount, mX32_asked, mX32_tooMany, mX33_cells, mX33_keys, mX33_size, mX34_mappings, mX34_slots, mX34_slotCount, mX81_table, mX81_predicate, mX81_templates, mX81_columns, mX82_predicate, mX82_places) A g M n tb := Sp
  have hO := H.2.1
  subst ex
  have H' := H.row (ky := ky) (t := t) (a := a) (b := b) (d := d)
  refine CVR_row S hC hZ hK hO.2.1 (fun f => ?_) (fun f ft fz => ?_)
  · have e : vRowC c sz ky t a b d = c := if_neg f
    have e2 : vRowZ c sz ky t a b d = sz := if_neg f
    have e0 : vrRow t a b d ((c, sz, ky), (mp, M), (at_, n), (sp, sc), (cn, sv, sf, s1, ask)) = (vRow c sz ky t a b d, ((c, sz, ky), (mp, M), (at_, n), (sp, sc), (cn, sv, sf, s1, ask))) := by
      show (vRow c sz ky t a b d, ((vRowC c sz ky t a b d, vRowZ c sz ky t a b d, ky), (mp, M), (at_, n), (sp, sc), (cn, sv, sf, s1, ask))) = _
      rw [e, e2]
    rw [e0] at h'
    exact h' _ _ ⟨_, _, _, _, _, _, _, _, _, _, _, _, _, _, _, _, _, rfl, D, U, H, rfl⟩
  · have e : vRowC c sz ky t a b d = updI (updI (updI c (60 * t + 3 * sz t) a) (60 * t + 3 * sz t + 1) b) (60 * t + 3 * sz t + 2) d := if_pos f
    have e2 : vRowZ c sz ky t a b d = updI sz t (sz t + 1) := if_pos f
    have T : vrT (fun i => ¬ i = 2) ai (va_up ai (A 2 t) (updI (updI (updI (ai (A 2 t)) (3 * sz t) a) (3 * sz t + 1) b) (3 * sz t + 2) d)) A A (vN M n) := fun i j a b' z => ⟨rfl, S.up 2 i t j ft ⟨a, b'⟩ (Or.inl (fun q => z q.symm))⟩
    have u3 : ∀ {F G : Int → Int} {i j N w : Int}, F j = G (N + j) → updI F i w j = updI G (N + i) w (N + j) := fun {F G i j N w} q => by
      by_cases z : j = i
      · rw [z, updI_s, updI_s]
      · rw [updI_n z, updI_n (by omega)]; exact q
    have hC' : vRC (va_up ai (A 2 t) (updI (updI (updI (ai (A 2 t)) (3 * sz t) a) (3 * sz t + 1) b) (3 * sz t + 2) d)) A (vRowC c sz ky t a b d) := fun t' j a0 a1 j0 j1 => by
      rw [e]
      by_cases q : t' = t
      · rw [q, va_up_self]
        rw [Int.add_assoc (60 * t) (3 * sz t) 1, Int.add_assoc (60 * t) (3 * sz t) 2]
        exact u3 (u3 (u3 (hC t j ft.1 ft.2 j0 j1)))
      · rw [S.up 2 2 t t' ft ⟨a0, a1⟩ (Or.inr (fun z => q z.symm)), updI_n (by omega), updI_n (by omega), updI_n (by omega)]
        exact hC t' j a0 a1 j0 j1
    have hZ' : vRZ (va_up mX33_size (A 1 t) (sz t + 1)) A (vRowZ c sz ky t a b d) := fun t' a0 a1 => by
      rw [e2]
      by_cases q : t' = t
      · rw [q, va_up_self, updI_s]
      · rw [S.up 1 1 t t' ft ⟨a0, a1⟩ (Or.inr (fun z => q z.symm)), updI_n q]
        exact hZ t' a0 a1
    have U' : vrU kd an ((va_up ai (A 2 t) (updI (updI (updI (ai (A 2 t)) (3 * sz t) a) (3 * sz t + 1) b) (3 * sz t + 2) d))) al ar mX32_tables mX32_mappings mX32_mappingCount mX32_atoms mX32_atomCount mX32_spanOf mX32_spanFrom mX32_spanTo mX32_spans mX32_unions mX32_unionCount mX32_large mX32_known mX32_chosen mX32_kinds mX32_given mX32_rowOf mX32_answers mX32_foundBy mX32_firstBy mX32_lastBy mX32_answerCount mX32_asked mX32_tooMany mX33_cells mX33_keys ((va_up mX33_size (A 1 t) (sz t + 1))) mX34_mappings mX34_slots mX34_slotCount mX81_table mX81_predicate mX81_templates mX81_columns mX82_predicate mX82_places A ky mp at_ M n := fun z => vRs.tr (U z) (fun u u0 u1 => ⟨(T 17 u u0 u1 (by decide)).2, (T 18 u u0 u1 (by decide)).2⟩)
    exact h' _ _ ⟨A, g, tb, _, _, _, _, _, _, _, _, _, _, _, _, _, _, rfl, ⟨⟨Sp, hK.t T (by decide), hM.t T ⟨by decide, by decide, by decide⟩ (fun _ _ _ => rfl), hA.t T ⟨by decide, by decide⟩ (fun _ _ _ => rfl)⟩, ⟨en, em, es⟩, hC', hZ', hS.t T ⟨by decide, by decide, by decide⟩, hk.t T ⟨by decide, by decide, by decide, by decide⟩⟩, U', H', rfl⟩
theorem QVR_drop {post : Int → (Nat → Int → Int) → (Nat → Int) → Prop} (R : vrIC kd an ai al ar mX32_tables mX32_mappings mX32_mappingCount mX32_atoms mX32_atomCount mX32_spanOf mX32_spanFrom mX32_spanTo mX32_spans mX32_unions mX32_unionCount mX32_large mX32_known mX32_chosen mX32_kinds mX32_given mX32_rowOf mX32_answers mX32_foundBy mX32_firstBy mX32_lastBy mX32_answerCount mX32_asked mX32_tooMany mX33_cells mX33_keys mX33_size mX34_mappings mX34_slots mX34_slotCount mX81_table mX81_predicate mX81_templates mX81_columns mX82_predicate mX82_places x s) (h' : ∀ ai' sz', vrIC kd an (ai') al ar mX32_tables mX32_mappings mX32_mappingCount mX32_atoms mX32_atomCount mX32_spanOf mX32_spanFrom mX32_spanTo mX32_spans mX32_unions mX32_unionCount mX32_large mX32_known mX32_chosen mX32_kinds mX32_given mX32_rowOf mX32_answers mX32_foundBy mX32_firstBy mX32_lastBy mX32_answerCount mX32_asked mX32_tooMany mX33_cells mX33_keys (sz') mX34_mappings mX34_slots mX34_slotCount mX81_table mX81_predicate mX81_templates mX81_columns mX82_predicate mX82_places x (vrDrop t i s).2 → post (vrDrop t i s).1 ai' sz') : wpVR_X32_drop post kd an ai ar mX32_tables mX33_cells mX33_size x t i := by
  obtain ⟨A, g, tb, c, sz, ky, mp, at_, sp, M, n, sc, cn, sv, sf, s1, ask, ex, D, U, H, rfl⟩ := R
  obtain ⟨⟨Sp, hK, hM, hA⟩, ⟨en, em, es⟩, hC, hZ, hS, hk⟩ := id D
  have S : vSh (kd, an, ai, al, ar, mX32_tables, mX32_mappings, mX32_mappingCount, mX32_atoms, mX32_atomCount, mX32_spanOf, mX32_spanFrom, mX32_spanTo, mX32_spans, mX32_unions, mX32_unionCount, mX32_large, mX32_known, mX32_chosen, mX32_kinds, mX32_given, mX32_rowOf, mX32_answers, mX32_foundBy, mX32_firstBy, mX32_lastBy, mX32_answerCount, mX32_asked, mX32_tooMany, mX33_cells, mX33_keys, mX33_size, mX34_mappings, mX34_slots, mX34_slotCount, mX81_table, mX81_predicate, mX81_templates, mX81_columns, mX82_predicate, mX82_places) A g M n tb := Sp
  have hO := H.2.1
  subst ex
  have H' := H.drop (t := t) (i := i)
  refine CVR_drop S hZ hO.2.1 (fun f => ?_) (fun ft fi => ?_)
  · have e : vDropC c sz t i = c := if_neg f
    have e2 : vDropZ sz t i = sz := if_neg f
    have e3 : vDrop sz t i = -1 := if_neg f
    have e0 : vrDrop t i ((c, sz, ky), (mp, M), (at_, n), (sp, sc), (cn, sv, sf, s1, ask)) = (-1, ((c, sz, ky), (mp, M), (at_, n), (sp, sc), (cn, sv, sf, s1, ask))) := by
      show (vDrop sz t i, ((vDropC c sz t i, vDropZ sz t i, ky), (mp, M), (at_, n), (sp, sc), (cn, sv, sf, s1, ask))) = _
      rw [e, e2, e3]
    rw [e0] at h'
    exact h' _ _ ⟨_, _, _, _, _, _, _, _, _, _, _, _, _, _, _, _, _, rfl, D, U, H, rfl⟩
  · have e : vDropC c sz t i = fun j => if 60 * t + 3 * i ≤ j ∧ j < 60 * t + 3 * (sz t - 1) then c (j + 3) else c j := if_pos ⟨ft, fi⟩
    have e2 : vDropZ sz t i = updI sz t (sz t - 1) := if_pos ⟨ft, fi⟩
    have e3 : vDrop sz t i = sz t - 1 := if_pos ⟨ft, fi⟩
    have st := hO.2.1 t ft.1 ft.2
    have T : vrT (fun i => ¬ i = 2) ai (va_up ai (A 2 t) (vCut (ai (A 2 t)) i (3 * (sz t - 1)))) A A (vN M n) := fun i j a b' z => ⟨rfl, S.up 2 i t j ft ⟨a, b'⟩ (Or.inl (fun q => z q.symm))⟩
    have hC' : vRC (va_up ai (A 2 t) (vCut (ai (A 2 t)) i (3 * (sz t - 1)))) A (vDropC c sz t i) := fun t' j a0 a1 j0 j1 => by
      rw [e]
      show _ = if 60 * t + 3 * i ≤ 60 * t' + j ∧ 60 * t' + j < 60 * t + 3 * (sz t - 1) then c (60 * t' + j + 3) else c (60 * t' + j)
      by_cases q : t' = t
      · rw [q, va_up_self]
        unfold vCut
        by_cases z : 3 * i ≤ j ∧ j < 3 * (sz t - 1)
        · rw [if_pos z, if_pos (by omega), Int.add_assoc]
          exact hC t (j + 3) ft.1 ft.2 (by omega) (by omega)
        · rw [if_neg z, if_neg (by omega)]
          exact hC t j ft.1 ft.2 j0 j1
      · rw [S.up 2 2 t t' ft ⟨a0, a1⟩ (Or.inr (fun z => q z.symm)), if_neg (by omega)]
        exact hC t' j a0 a1 j0 j1
    have hZ' : vRZ (va_up mX33_size (A 1 t) (sz t - 1)) A (vDropZ sz t i) := fun t' a0 a1 => by
      rw [e2]
      by_cases q : t' = t
      · rw [q, va_up_self, updI_s]
      · rw [S.up 1 1 t t' ft ⟨a0, a1⟩ (Or.inr (fun z => q z.symm)), updI_n q]
        exact hZ t' a0 a1
    have U' : vrU kd an ((va_up ai (A 2 t) (vCut (ai (A 2 t)) i (3 * (sz t - 1))))) al ar mX32_tables mX32_mappings mX32_mappingCount mX32_atoms mX32_atomCount mX32_spanOf mX32_spanFrom mX32_spanTo mX32_spans mX32_unions mX32_unionCount mX32_large mX32_known mX32_chosen mX32_kinds mX32_given mX32_rowOf mX32_answers mX32_foundBy mX32_firstBy mX32_lastBy mX32_answerCount mX32_asked mX32_tooMany mX33_cells mX33_keys ((va_up mX33_size (A 1 t) (sz t - 1))) mX34_mappings mX34_slots mX34_slotCount mX81_table mX81_predicate mX81_templates mX81_columns mX82_predicate mX82_places A ky mp at_ M n := fun z => vRs.tr (U z) (fun u u0 u1 => ⟨(T 17 u u0 u1 (by decide)).2, (T 18 u u0 u1 (by decide)).2⟩)
    have G := h' (va_up ai (A 2 t) (vCut (ai (A 2 t)) i (3 * (sz t - 1)))) (va_up mX33_size (A 1 t) (sz t - 1)) ⟨A, g, tb, _, _, _, _, _, _, _, _, _, _, _, _, _, _, rfl, ⟨⟨Sp, hK.t T (by decide), hM.t T ⟨by decide, by decide, by decide⟩ (fun _ _ _ => rfl), hA.t T ⟨by decide, by decide⟩ (fun _ _ _ => rfl)⟩, ⟨en, em, es⟩, hC', hZ', hS.t T ⟨by decide, by decide, by decide⟩, hk.t T ⟨by decide, by decide, by decide, by decide⟩⟩, U', H', rfl⟩
    have e4 : (vrDrop t i ((c, sz, ky), (mp, M), (at_, n), (sp, sc), (cn, sv, sf, s1, ask))).1 = sz t - 1 := e3
    rw [e4] at G
    exact G
theorem QVR_mapping {post : Int → (Nat → Nat) → (Nat → Nat) → (Nat → Int → Int) → (Nat → Int → Option Nat) → (Nat → Int) → (Nat → Int) → (Nat → Option Nat) → (Nat → Int) → (Nat → Option Nat) → (Nat → Option Nat) → Prop} (R : vrIC kd an ai al ar mX32_tables mX32_mappings mX32_mappingCount mX32_atoms mX32_atomCount mX32_spanOf mX32_spanFrom mX32_spanTo mX32_spans mX32_unions mX32_unionCount mX32_large mX32_known mX32_chosen mX32_kinds mX32_given mX32_rowOf mX32_answers mX32_foundBy mX32_firstBy mX32_lastBy mX32_answerCount mX32_asked mX32_tooMany mX33_cells mX33_keys mX33_size mX34_mappings mX34_slots mX34_slotCount mX81_table mX81_predicate mX81_templates mX81_columns mX82_predicate mX82_places x s) (hB : 3 ≤ MC ∧ 8 ≤ MS) (h' : ∀ kd' an' ai' ar' cn' kn' ta' pr' te' co', vrIC (kd') (an') (ai') al (ar') mX32_tables mX32_mappings (cn') mX32_atoms mX32_atomCount mX32_spanOf mX32_spanFrom mX32_spanTo mX32_spans mX32_unions mX32_unionCount mX32_large (kn') mX32_chosen mX32_kinds mX32_given mX32_rowOf mX32_answers mX32_foundBy mX32_firstBy mX32_lastBy mX32_answerCount mX32_asked mX32_tooMany mX33_cells mX33_keys mX33_size mX34_mappings mX34_slots mX34_slotCount (ta') (pr') (te') (co') mX82_predicate mX82_places x (vrMap t p s' k o d s).2 → post (vrMap t p s' k o d s).1 kd' an' ai' ar' cn' kn' ta' pr' te' co') : wpVR_X32_mapping MC MS post kd an ai ar mX32_tables mX32_mappings mX32_mappingCount mX32_known mX81_table mX81_predicate mX81_templates mX81_columns x t p s' k o d := by
  obtain ⟨A, g, tb, c, sz, ky, mp, at_, sp, M, n, sc, cn, sv, sf, s1, ask, ex, D, U, H, rfl⟩ := R
  obtain ⟨⟨Sp, hK, hM, hA⟩, ⟨en, em, es⟩, hC, hZ, hS, hk⟩ := id D
  have S : vSh (kd, an, ai, al, ar, mX32_tables, mX32_mappings, mX32_mappingCount, mX32_atoms, mX32_atomCount, mX32_spanOf, mX32_spanFrom, mX32_spanTo, mX32_spans, mX32_unions, mX32_unionCount, mX32_large, mX32_known, mX32_chosen, mX32_kinds, mX32_given, mX32_rowOf, mX32_answers, mX32_foundBy, mX32_firstBy, mX32_lastBy, mX32_answerCount, mX32_asked, mX32_tooMany, mX33_cells, mX33_keys, mX33_size, mX34_mappings, mX34_slots, mX34_slotCount, mX81_table, mX81_predicate, mX81_templates, mX81_columns, mX82_predicate, mX82_places) A g M n tb := Sp
  have hO := H.2.1
  subst ex
  have H' := H.map (t := t) (p := p) (s := s') (k := k) (o := o) (d := d)
  have N := vrMap_N (M := M) (t := t) (p := p) (s := s') (k := k) (o := o) (d := d)
  refine CVR_mapping S hO.1 em hB.1 hB.2 (fun f => ?_) (fun f f12 kd' an' ai' ar' cn' kn' ta' pr' te' co' A' g' S' F e1 e2 e3 e4 e5 => ?_)
  · have q1 : vMapM mp M t p s' k o d = mp := by unfold vMapM; exact pif_f f
    have q2 : vMapN M t p s' k o d = M := by unfold vMapN; exact pif_f f
    have e0 : vrMap t p s' k o d ((c, sz, ky), (mp, M), (at_, n), (sp, sc), (cn, sv, sf, s1, ask)) = (vMap M t p s' k o d, ((c, sz, ky), (mp, M), (at_, n), (sp, sc), (cn, sv, sf, s1, ask))) := by
      show (vMap M t p s' k o d, ((c, sz, ky), (vMapM mp M t p s' k o d, (vMapN M t p s' k o d).toNat), (at_, n), (sp, sc), (cn, sv, sf, s1, ask))) = _
      rw [q1, q2, Int.toNat_natCast]
    rw [e0] at h'
    exact h' _ _ _ _ _ _ _ _ _ _ ⟨_, _, _, _, _, _, _, _, _, _, _, _, _, _, _, _, _, rfl, D, U, H, rfl⟩
  · have fq : vMapG M t p s' k o d ∧ (M : Int) ≠ 12 := ⟨f, f12⟩
    have q2 : vMapN M t p s' k o d = M + 1 := by unfold vMapN; exact pif_t fq
    have q3 : vMap M t p s' k o d = M := by unfold vMap; rw [pif_t f, if_neg f12]
    have T : vrT (fun _ => True) ai ai' A A' (vN M n) := fun i j a b _ => F i j a b
    have a0 : A' 0 0 = A 0 0 := (F 0 0 (by decide) z01).1
    rw [q2] at N
    have S2 : vShp kd' an' mX32_tables mX32_mappings mX32_atoms mX32_unions mX32_spanOf mX32_spanFrom mX32_spanTo mX32_chosen mX32_kinds mX32_given mX32_rowOf mX32_answers mX32_foundBy mX32_firstBy mX32_lastBy ar' mX33_cells mX33_keys ta' te' co' mX82_places mX34_mappings mX34_slots A' g' ((vMapN M t p s' k o d).toNat : Nat) n (updI tb M t) := by rw [q2, N]; exact S'
    obtain ⟨⟨n0, n1⟩, ⟨n2, n3⟩, n4, n5⟩ := vMapM_n (mp := mp) fq
    have hM' : vRM ai' pr' A' (updI tb M t) (vMapM mp M t p s' k o d) ((vMapN M t p s' k o d).toNat : Nat) := fun m m0 m1 => by
      rw [q2, N] at m1
      by_cases z : m = M
      · rw [z, updI_s, n0, n1]
        refine ⟨rfl, e3, fun w w0 w1 => ?_⟩
        unfold vTp vCo
        by_cases w2 : w = 0
        · rw [w2, show (6 : Int) * M + 2 + 2 * 0 = 6 * M + 2 by omega, show (6 : Int) * M + 3 + 2 * 0 = 6 * M + 3 by omega, n2, n3]
          exact ⟨e5.1, e5.2.2.1⟩
        · rw [show w = 1 by omega, show (6 : Int) * M + 2 + 2 * 1 = 6 * M + 4 by omega, show (6 : Int) * M + 3 + 2 * 1 = 6 * M + 5 by omega, n4, n5]
          exact ⟨e5.2.1, e5.2.2.2⟩
      · have mM : m < M := by omega
        obtain ⟨f6, -⟩ := F 6 m m0 mM
        obtain ⟨f7, g7⟩ := F 7 m m0 mM
        obtain ⟨f8, g8⟩ := F 8 m m0 mM
        have old := hM m m0 mM
        have e0 := vMapM_o (mp := mp) (t := t) (p := p) (s := s') (k := k) (o := o) (d := d) (M := M) (m := m) (j := 0) mM (by decide)
        rw [Int.add_zero] at e0
        rw [updI_n z, e0, vMapM_o mM (by decide), f6, f7, g7, f8, g8, e4 m m0 mM]
        refine ⟨old.1, old.2.1, fun w w0 w1 => ?_⟩
        have ow := old.2.2 w w0 w1
        unfold vTp vCo at ow ⊢
        rw [Int.add_assoc, Int.add_assoc, vMapM_o mM (by omega), vMapM_o mM (by omega), ← Int.add_assoc, ← Int.add_assoc]
        exact ow
    have G := h' kd' an' ai' ar' cn' kn' ta' pr' te' co' ⟨A', g', updI tb M t, _, _, _, _, _, _, _, _, _, _, _, _, _, _, a0, ⟨⟨S2, hK.t T trivial, hM', hA.t T ⟨trivial, trivial⟩ (fun _ _ _ => rfl)⟩, ⟨by rw [a0]; exact en, by rw [a0, q2, N]; exact e1, by rw [a0]; exact es⟩, hC.t T trivial, hZ.t T trivial (fun _ _ _ => rfl), hS.t T ⟨trivial, trivial, trivial⟩, hk.t T ⟨trivial, trivial, trivial, trivial⟩⟩, fun z => absurd (show kn' (A' 0 0) = 0 by rw [a0]; exact e2) z, H', rfl⟩
    have e6 : (vrMap t p s' k o d ((c, sz, ky), (mp, M), (at_, n), (sp, sc), (cn, sv, sf, s1, ask))).1 = M := q3
    rw [e6] at G
    exact G
theorem QVR_atom {post : Int → (Nat → Nat) → (Nat → Nat) → (Nat → Int → Int) → (Nat → Int → Option Nat) → (Nat → Int) → (Nat → Int) → (Nat → Int) → (Nat → Option Nat) → Prop} (R : vrIC kd an ai al ar mX32_tables mX32_mappings mX32_mappingCount mX32_atoms mX32_atomCount mX32_spanOf mX32_spanFrom mX32_spanTo mX32_spans mX32_unions mX32_unionCount mX32_large mX32_known mX32_chosen mX32_kinds mX32_given mX32_rowOf mX32_answers mX32_foundBy mX32_firstBy mX32_lastBy mX32_answerCount mX32_asked mX32_tooMany mX33_cells mX33_keys mX33_size mX34_mappings mX34_slots mX34_slotCount mX81_table mX81_predicate mX81_templates mX81_columns mX82_predicate mX82_places x s) (hB : 2 ≤ MC ∧ 4 ≤ MS) (h' : ∀ kd' an' ai' ar' cn' kn' pr' pl', vrIC (kd') (an') (ai') al (ar') mX32_tables mX32_mappings mX32_mappingCount mX32_atoms (cn') mX32_spanOf mX32_spanFrom mX32_spanTo mX32_spans mX32_unions mX32_unionCount mX32_large (kn') mX32_chosen mX32_kinds mX32_given mX32_rowOf mX32_answers mX32_foundBy mX32_firstBy mX32_lastBy mX32_answerCount mX32_asked mX32_tooMany mX33_cells mX33_keys mX33_size mX34_mappings mX34_slots mX34_slotCount mX81_table mX81_predicate mX81_templates mX81_columns (pr') (pl') x (vrAtom p s' o s).2 → post (vrAtom p s' o s).1 kd' an' ai' ar' cn' kn' pr' pl') : wpVR_X32_atom MC MS post kd an ai ar mX32_atoms mX32_atomCount mX32_known mX82_predicate mX82_places x p s' o := by
  obtain ⟨A, g, tb, c, sz, ky, mp, at_, sp, M, n, sc, cn, sv, sf, s1, ask, ex, D, U, H, rfl⟩ := R
  obtain ⟨⟨Sp, hK, hM, hA⟩, ⟨en, em, es⟩, hC, hZ, hS, hk⟩ := id D
  have S : vSh (kd, an, ai, al, ar, mX32_tables, mX32_mappings, mX32_mappingCount, mX32_atoms, mX32_atomCount, mX32_spanOf, mX32_spanFrom, mX32_spanTo, mX32_spans, mX32_unions, mX32_unionCount, mX32_large, mX32_known, mX32_chosen, mX32_kinds, mX32_given, mX32_rowOf, mX32_answers, mX32_foundBy, mX32_firstBy, mX32_lastBy, mX32_answerCount, mX32_asked, mX32_tooMany, mX33_cells, mX33_keys, mX33_size, mX34_mappings, mX34_slots, mX34_slotCount, mX81_table, mX81_predicate, mX81_templates, mX81_columns, mX82_predicate, mX82_places) A g M n tb := Sp
  have hO := H.2.1
  subst ex
  have H' := H.atom (p := p) (s := s') (o := o)
  have N := vrAtom_N (n := n) (p := p) (s := s') (o := o)
  have n4 := H.1
  refine CVR_atom S ⟨by omega, by omega⟩ en hB.1 hB.2 (fun f => ?_) (fun f f4 kd' an' ai' ar' cn' kn' pr' pl' A' g' S' F e1 e2 e3 e4 e5 => ?_)
  · have q1 : vAtomA at_ n p s' o = at_ := by unfold vAtomA; exact pif_f f
    have q2 : vAtomN n p s' o = n := by unfold vAtomN; exact pif_f f
    have e0 : vrAtom p s' o ((c, sz, ky), (mp, M), (at_, n), (sp, sc), (cn, sv, sf, s1, ask)) = (vAtom n p s' o, ((c, sz, ky), (mp, M), (at_, n), (sp, sc), (cn, sv, sf, s1, ask))) := by
      show (vAtom n p s' o, ((c, sz, ky), (mp, M), (vAtomA at_ n p s' o, (vAtomN n p s' o).toNat), (sp, sc), (cn, sv, sf, s1, ask))) = _
      rw [q1, q2, Int.toNat_natCast]
    rw [e0] at h'
    exact h' _ _ _ _ _ _ _ _ ⟨_, _, _, _, _, _, _, _, _, _, _, _, _, _, _, _, _, rfl, D, U, H, rfl⟩
  · have fq : vAtomG p s' o ∧ (n : Int) ≠ 4 := ⟨f, f4⟩
    have q1 : vAtomA at_ n p s' o = updI (updI (updI at_ (3 * n) p) (3 * n + 1) s') (3 * n + 2) o := by unfold vAtomA; exact pif_t fq
    have q2 : vAtomN n p s' o = n + 1 := by unfold vAtomN; exact pif_t fq
    have q3 : vAtom n p s' o = n + 1 := by unfold vAtom; rw [pif_t f, if_neg f4]
    have T : vrT (fun _ => True) ai ai' A A' (vN M n) := fun i j a b _ => F i j a b
    have a0 : A' 0 0 = A 0 0 := (F 0 0 (by decide) z01).1
    rw [q2] at N
    have S2 : vShp kd' an' mX32_tables mX32_mappings mX32_atoms mX32_unions mX32_spanOf mX32_spanFrom mX32_spanTo mX32_chosen mX32_kinds mX32_given mX32_rowOf mX32_answers mX32_foundBy mX32_firstBy mX32_lastBy ar' mX33_cells mX33_keys mX81_table mX81_templates mX81_columns pl' mX34_mappings mX34_slots A' g' M ((vAtomN n p s' o).toNat : Nat) tb := by rw [q2, N]; exact S'
    have hA' : vRA ai' pr' A' (vAtomA at_ n p s' o) ((vAtomN n p s' o).toNat : Nat) := fun m m0 m1 => by
      rw [q2, N] at m1
      rw [q1]
      by_cases z : m = n
      · rw [z]
        refine ⟨by rw [updI_n (by omega), updI_n (by omega), updI_s]; exact e3, fun w w0 w1 => ?_⟩
        by_cases w2 : w = 0
        · rw [w2, Int.add_zero, updI_n (by omega), updI_s]
          exact ⟨e5.1, f.2.1.1⟩
        · rw [show w = 1 by omega, Int.add_assoc, show (1 : Int) + 1 = 2 from rfl, updI_s]
          exact ⟨e5.2, f.2.2.1⟩
      · have mM : m < n := by omega
        obtain ⟨f6, -⟩ := F 10 m m0 mM
        obtain ⟨f7, g7⟩ := F 11 m m0 mM
        have old := hA m m0 mM
        rw [f6, f7, g7, e4 m m0 mM, updI_n (by omega), updI_n (by omega), updI_n (by omega)]
        refine ⟨old.1, fun w w0 w1 => ?_⟩
        rw [updI_n (by omega), updI_n (by omega), updI_n (by omega)]
        exact old.2 w w0 w1
    have G := h' kd' an' ai' ar' cn' kn' pr' pl' ⟨A', g', tb, _, _, _, _, _, _, _, _, _, _, _, _, _, _, a0, ⟨⟨S2, hK.t T trivial, hM.t T ⟨trivial, trivial, trivial⟩ (fun _ _ _ => rfl), hA'⟩, ⟨by rw [a0, q2, N]; exact e1, by rw [a0]; exact em, by rw [a0]; exact es⟩, hC.t T trivial, hZ.t T trivial (fun _ _ _ => rfl), hS.t T ⟨trivial, trivial, trivial⟩, hk.t T ⟨trivial, trivial, trivial, trivial⟩⟩, fun z => absurd (show kn' (A' 0 0) = 0 by rw [a0]; exact e2) z, H', rfl⟩
    have e6 : (vrAtom p s' o ((c, sz, ky), (mp, M), (at_, n), (sp, sc), (cn, sv, sf, s1, ask))).1 = n + 1 := q3
    rw [e6] at G
    exact G
theorem QVR_span {post : Int → (Nat → Int → Int) → (Nat → Int) → Prop} (R : vrIC kd an ai al ar mX32_tables mX32_mappings mX32_mappingCount mX32_atoms mX32_atomCount mX32_spanOf mX32_spanFrom mX32_spanTo mX32_spans mX32_unions mX32_unionCount mX32_large mX32_known mX32_chosen mX32_kinds mX32_given mX32_rowOf mX32_answers mX32_foundBy mX32_firstBy mX32_lastBy mX32_answerCount mX32_asked mX32_tooMany mX33_cells mX33_keys mX33_size mX34_mappings mX34_slots mX34_slotCount mX81_table mX81_predicate mX81_templates mX81_columns mX82_predicate mX82_places x s) (h' : ∀ ai' sp', vrIC kd an (ai') al ar mX32_tables mX32_mappings mX32_mappingCount mX32_atoms mX32_atomCount mX32_spanOf mX32_spanFrom mX32_spanTo (sp') mX32_unions mX32_unionCount mX32_large mX32_known mX32_chosen mX32_kinds mX32_given mX32_rowOf mX32_answers mX32_foundBy mX32_firstBy mX32_lastBy mX32_answerCount mX32_asked mX32_tooMany mX33_cells mX33_keys mX33_size mX34_mappings mX34_slots mX34_slotCount mX81_table mX81_predicate mX81_templates mX81_columns mX82_predicate mX82_places x (vrSpan v a b s).2 → post (vrSpan v a b s).1 ai' sp') : wpVR_X32_span post kd an ai mX32_spanOf mX32_spanFrom mX32_spanTo mX32_spans x v a b := by
  obtain ⟨A, g, tb, c, sz, ky, mp, at_, sp, M, n, sc, cn, sv, sf, s1, ask, ex, D, U, H, rfl⟩ := R
  obtain ⟨⟨Sp, hK, hM, hA⟩, ⟨en, em, es⟩, hC, hZ, hS, hk⟩ := id D
  have S : vSh (kd, an, ai, al, ar, mX32_tables, mX32_mappings, mX32_mappingCount, mX32_atoms, mX32_atomCount, mX32_spanOf, mX32_spanFrom, mX32_spanTo, mX32_spans, mX32_unions, mX32_unionCount, mX32_large, mX32_known, mX32_chosen, mX32_kinds, mX32_given, mX32_rowOf, mX32_answers, mX32_foundBy, mX32_firstBy, mX32_lastBy, mX32_answerCount, mX32_asked, mX32_tooMany, mX33_cells, mX33_keys, mX33_size, mX34_mappings, mX34_slots, mX34_slotCount, mX81_table, mX81_predicate, mX81_templates, mX81_columns, mX82_predicate, mX82_places) A g M n tb := Sp
  have hO := H.2.1
  subst ex
  have H' := H.span (v := v)
  refine CVR_span S H.2.2.2 es (fun f => ?_) (fun fv f4 => ?_)
  · have q1 : vSpanA sp sc v a b = sp := if_neg f
    have q2 : vSpanN sc v = sc := if_neg f
    have e0 : vrSpan v a b ((c, sz, ky), (mp, M), (at_, n), (sp, sc), (cn, sv, sf, s1, ask)) = (vSpan sc v, ((c, sz, ky), (mp, M), (at_, n), (sp, sc), (cn, sv, sf, s1, ask))) := by
      show (vSpan sc v, ((c, sz, ky), (mp, M), (at_, n), (vSpanA sp sc v a b, vSpanN sc v), (cn, sv, sf, s1, ask))) = _
      rw [q1, q2]
    rw [e0] at h'
    exact h' _ _ ⟨_, _, _, _, _, _, _, _, _, _, _, _, _, _, _, _, _, rfl, D, U, H, rfl⟩
  · have q1 : vSpanA sp sc v a b = updI (updI (updI sp (3 * sc) v) (3 * sc + 1) a) (3 * sc + 2) b := if_pos ⟨fv, f4⟩
    have q2 : vSpanN sc v = sc + 1 := if_pos ⟨fv, f4⟩
    have q3 : vSpan sc v = sc + 1 := by unfold vSpan; rw [if_pos fv, if_neg f4]
    have T : vrT (fun i => ¬ i = 12 ∧ ¬ i = 13 ∧ ¬ i = 14) ai (va_up (va_up (va_up ai (A 12 0) (updI (ai (A 12 0)) sc v)) (A 13 0) (updI (ai (A 13 0)) sc a)) (A 14 0) (updI (ai (A 14 0)) sc b)) A A (vN M n) := fun i j a' b' z => ⟨rfl, by rw [S.up 14 i 0 j ⟨by decide, z01⟩ ⟨a', b'⟩ (Or.inl (fun q => z.2.2 q.symm)), S.up 13 i 0 j ⟨by decide, z01⟩ ⟨a', b'⟩ (Or.inl (fun q => z.2.1 q.symm)), S.up 12 i 0 j ⟨by decide, z01⟩ ⟨a', b'⟩ (Or.inl (fun q => z.1 q.symm))]⟩
    have hS' : vRS (va_up (va_up (va_up ai (A 12 0) (updI (ai (A 12 0)) sc v)) (A 13 0) (updI (ai (A 13 0)) sc a)) (A 14 0) (updI (ai (A 14 0)) sc b)) A (vSpanA sp sc v a b) (vSpanN sc v) := fun j j0 j1 => by
      rw [q2] at j1
      rw [q1, S.up 14 12 0 0 ⟨by decide, z01⟩ ⟨by decide, z01⟩ (Or.inl (by decide)), S.up 13 12 0 0 ⟨by decide, z01⟩ ⟨by decide, z01⟩ (Or.inl (by decide)), va_up_self, S.up 14 13 0 0 ⟨by decide, z01⟩ ⟨by decide, z01⟩ (Or.inl (by decide)), va_up_self, va_up_self]
      by_cases z : j = sc
      · rw [z, updI_s, updI_s, updI_s, updI_n (by omega), updI_n (by omega), updI_s, updI_n (by omega), updI_s, updI_s]
        exact ⟨rfl, rfl, rfl⟩
      · rw [updI_n z, updI_n z, updI_n z, updI_n (by omega), updI_n (by omega), updI_n (by omega), updI_n (by omega), updI_n (by omega), updI_n (by omega), updI_n (by omega), updI_n (by omega), updI_n (by omega)]
        exact hS j j0 (by omega)
    have U' : vrU kd an ((va_up (va_up (va_up ai (A 12 0) (updI (ai (A 12 0)) sc v)) (A 13 0) (updI (ai (A 13 0)) sc a)) (A 14 0) (updI (ai (A 14 0)) sc b))) al ar mX32_tables mX32_mappings mX32_mappingCount mX32_atoms mX32_atomCount mX32_spanOf mX32_spanFrom mX32_spanTo ((va_up mX32_spans (A 0 0) (sc + 1))) mX32_unions mX32_unionCount mX32_large mX32_known mX32_chosen mX32_kinds mX32_given mX32_rowOf mX32_answers mX32_foundBy mX32_firstBy mX32_lastBy mX32_answerCount mX32_asked mX32_tooMany mX33_cells mX33_keys mX33_size mX34_mappings mX34_slots mX34_slotCount mX81_table mX81_predicate mX81_templates mX81_columns mX82_predicate mX82_places A ky mp at_ M n := fun z => vRs.tr (U z) (fun u u0 u1 => ⟨(T 17 u u0 u1 (by decide)).2, (T 18 u u0 u1 (by decide)).2⟩)
    have G := h' (va_up (va_up (va_up ai (A 12 0) (updI (ai (A 12 0)) sc v)) (A 13 0) (updI (ai (A 13 0)) sc a)) (A 14 0) (updI (ai (A 14 0)) sc b)) (va_up mX32_spans (A 0 0) (sc + 1)) ⟨A, g, tb, _, _, _, _, _, _, _, _, _, _, _, _, _, _, rfl, ⟨⟨Sp, hK.t T (by decide), hM.t T ⟨by decide, by decide, by decide⟩ (fun _ _ _ => rfl), hA.t T ⟨by decide, by decide⟩ (fun _ _ _ => rfl)⟩, ⟨en, em, by rw [q2]; exact va_up_self _ _ _⟩, hC.t T (by decide), hZ, hS', hk.t T ⟨by decide, by decide, by decide, by decide⟩⟩, U', H', rfl⟩
    have e6 : (vrSpan v a b ((c, sz, ky), (mp, M), (at_, n), (sp, sc), (cn, sv, sf, s1, ask))).1 = sc + 1 := q3
    rw [e6] at G
    exact G
theorem QVR_clear {post : Int → (Nat → Int) → (Nat → Int) → (Nat → Int) → Prop} (R : vrIC kd an ai al ar mX32_tables mX32_mappings mX32_mappingCount mX32_atoms mX32_atomCount mX32_spanOf mX32_spanFrom mX32_spanTo mX32_spans mX32_unions mX32_unionCount mX32_large mX32_known mX32_chosen mX32_kinds mX32_given mX32_rowOf mX32_answers mX32_foundBy mX32_firstBy mX32_lastBy mX32_answerCount mX32_asked mX32_tooMany mX33_cells mX33_keys mX33_size mX34_mappings mX34_slots mX34_slotCount mX81_table mX81_predicate mX81_templates mX81_columns mX82_predicate mX82_places x s) (h' : ∀ ac' sp' kn', vrIC kd an ai al ar mX32_tables mX32_mappings mX32_mappingCount mX32_atoms (ac') mX32_spanOf mX32_spanFrom mX32_spanTo (sp') mX32_unions mX32_unionCount mX32_large (kn') mX32_chosen mX32_kinds mX32_given mX32_rowOf mX32_answers mX32_foundBy mX32_firstBy mX32_lastBy mX32_answerCount mX32_asked mX32_tooMany mX33_cells mX33_keys mX33_size mX34_mappings mX34_slots mX34_slotCount mX81_table mX81_predicate mX81_templates mX81_columns mX82_predicate mX82_places x (vrClear s).2 → post (vrClear s).1 ac' sp' kn') : wpVR_X32_clear post mX32_atomCount mX32_spans mX32_known x  := by
  obtain ⟨A, g, tb, c, sz, ky, mp, at_, sp, M, n, sc, cn, sv, sf, s1, ask, ex, D, U, H, rfl⟩ := R
  obtain ⟨⟨Sp, hK, hM, hA⟩, ⟨en, em, es⟩, hC, hZ, hS, hk⟩ := id D
  have S : vSh (kd, an, ai, al, ar, mX32_tables, mX32_mappings, mX32_mappingCount, mX32_atoms, mX32_atomCount, mX32_spanOf, mX32_spanFrom, mX32_spanTo, mX32_spans, mX32_unions, mX32_unionCount, mX32_large, mX32_known, mX32_chosen, mX32_kinds, mX32_given, mX32_rowOf, mX32_answers, mX32_foundBy, mX32_firstBy, mX32_lastBy, mX32_answerCount, mX32_asked, mX32_tooMany, mX33_cells, mX33_keys, mX33_size, mX34_mappings, mX34_slots, mX34_slotCount, mX81_table, mX81_predicate, mX81_templates, mX81_columns, mX82_predicate, mX82_places) A g M n tb := Sp
  have hO := H.2.1
  subst ex
  unfold wpVR_X32_clear
  rintro _ rfl _ rfl _ rfl _ rfl
  have T : vrT (fun _ => True) ai ai A A (vN M n) := fun i j a b _ => ⟨rfl, rfl⟩
  have S2 : vShp kd an mX32_tables mX32_mappings mX32_atoms mX32_unions mX32_spanOf mX32_spanFrom mX32_spanTo mX32_chosen mX32_kinds mX32_given mX32_rowOf mX32_answers mX32_foundBy mX32_firstBy mX32_lastBy ar mX33_cells mX33_keys mX81_table mX81_templates mX81_columns mX82_places mX34_mappings mX34_slots A g M ((0 : Nat) : Int) tb := vSh.a0 S
  have e6 : (vrClear ((c, sz, ky), (mp, M), (at_, n), (sp, sc), (cn, sv, sf, s1, ask))).1 = mX32_atomCount (A 0 0) := en.symm
  have G := h' (va_up mX32_atomCount (A 0 0) 0) (va_up mX32_spans (A 0 0) 0) (va_up mX32_known (A 0 0) 0) ⟨A, g, tb, _, _, _, _, _, _, _, 0, 0, _, _, _, _, _, rfl, ⟨⟨S2, hK, hM, fun k a b => absurd b (by omega)⟩, ⟨va_up_self _ _ _, em, va_up_self _ _ _⟩, hC, hZ, fun k a b => absurd b (by omega), hk⟩, fun z => absurd (va_up_self _ _ _) z, H.clear, rfl⟩
  rw [e6] at G
  exact G
theorem QVR_unions {post : Int → (Nat → Int → Int) → (Nat → Int) → (Nat → Int) → (Nat → Int) → (Nat → Int) → Prop} (R : vrIC kd an ai al ar mX32_tables mX32_mappings mX32_mappingCount mX32_atoms mX32_atomCount mX32_spanOf mX32_spanFrom mX32_spanTo mX32_spans mX32_unions mX32_unionCount mX32_large mX32_known mX32_chosen mX32_kinds mX32_given mX32_rowOf mX32_answers mX32_foundBy mX32_firstBy mX32_lastBy mX32_answerCount mX32_asked mX32_tooMany mX33_cells mX33_keys mX33_size mX34_mappings mX34_slots mX34_slotCount mX81_table mX81_predicate mX81_templates mX81_columns mX82_predicate mX82_places x s) (h' : ∀ ai' uc' lg' kn' sl', vrIC kd an (ai') al ar mX32_tables mX32_mappings mX32_mappingCount mX32_atoms mX32_atomCount mX32_spanOf mX32_spanFrom mX32_spanTo mX32_spans mX32_unions (uc') (lg') (kn') mX32_chosen mX32_kinds mX32_given mX32_rowOf mX32_answers mX32_foundBy mX32_firstBy mX32_lastBy mX32_answerCount mX32_asked mX32_tooMany mX33_cells mX33_keys mX33_size mX34_mappings mX34_slots (sl') mX81_table mX81_predicate mX81_templates mX81_columns mX82_predicate mX82_places x s → post (vrUnions s) ai' uc' lg' kn' sl') : wpVR_X32_unions post kd an ai ar mX32_mappings mX32_mappingCount mX32_atoms mX32_atomCount mX32_unions mX32_unionCount mX32_large mX32_known mX32_chosen mX32_kinds mX33_keys mX34_mappings mX34_slots mX34_slotCount mX81_table mX81_predicate mX81_templates mX81_columns mX82_predicate mX82_places x  := by
  obtain ⟨A, g, tb, c, sz, ky, mp, at_, sp, M, n, sc, cn, sv, sf, s1, ask, ex, D, U, H, rfl⟩ := R
  obtain ⟨⟨Sp, hK, hM, hA⟩, ⟨en, em, es⟩, hC, hZ, hS, hk⟩ := id D
  have S : vSh (kd, an, ai, al, ar, mX32_tables, mX32_mappings, mX32_mappingCount, mX32_atoms, mX32_atomCount, mX32_spanOf, mX32_spanFrom, mX32_spanTo, mX32_spans, mX32_unions, mX32_unionCount, mX32_large, mX32_known, mX32_chosen, mX32_kinds, mX32_given, mX32_rowOf, mX32_answers, mX32_foundBy, mX32_firstBy, mX32_lastBy, mX32_answerCount, mX32_asked, mX32_tooMany, mX33_cells, mX33_keys, mX33_size, mX34_mappings, mX34_slots, mX34_slotCount, mX81_table, mX81_predicate, mX81_templates, mX81_columns, mX82_predicate, mX82_places) A g M n tb := Sp
  have hO := H.2.1
  subst ex
  refine CVR_unions (D.all U H) (fun ai' uc' lg' kn' sl' F U' => ?_)
  have T : vrT (fun i => ¬ i = 17 ∧ ¬ i = 18 ∧ ¬ i = 19 ∧ ¬ i = 20) ai ai' A A (vN M n) := fun i j a b z => ⟨rfl, F i j a b z.1 z.2.1 z.2.2.1 z.2.2.2⟩
  exact h' ai' uc' lg' kn' sl' ⟨A, g, tb, _, _, _, _, _, _, _, _, _, _, _, _, _, _, rfl, ⟨⟨Sp, hK.t T (by decide), hM.t T ⟨by decide, by decide, by decide⟩ (fun _ _ _ => rfl), hA.t T ⟨by decide, by decide⟩ (fun _ _ _ => rfl)⟩, ⟨en, em, es⟩, hC.t T (by decide), hZ, hS.t T ⟨by decide, by decide, by decide⟩, hk.t T ⟨by decide, by decide, by decide, by decide⟩⟩, U', H, rfl⟩
theorem QVR_union {post : Int → (Nat → Int → Int) → (Nat → Int) → (Nat → Int) → (Nat → Int) → (Nat → Int) → Prop} (R : vrIC kd an ai al ar mX32_tables mX32_mappings mX32_mappingCount mX32_atoms mX32_atomCount mX32_spanOf mX32_spanFrom mX32_spanTo mX32_spans mX32_unions mX32_unionCount mX32_large mX32_known mX32_chosen mX32_kinds mX32_given mX32_rowOf mX32_answers mX32_foundBy mX32_firstBy mX32_lastBy mX32_answerCount mX32_asked mX32_tooMany mX33_cells mX33_keys mX33_size mX34_mappings mX34_slots mX34_slotCount mX81_table mX81_predicate mX81_templates mX81_columns mX82_predicate mX82_places x s) (h' : ∀ ai' uc' lg' kn' sl', vrIC kd an (ai') al ar mX32_tables mX32_mappings mX32_mappingCount mX32_atoms mX32_atomCount mX32_spanOf mX32_spanFrom mX32_spanTo mX32_spans mX32_unions (uc') (lg') (kn') mX32_chosen mX32_kinds mX32_given mX32_rowOf mX32_answers mX32_foundBy mX32_firstBy mX32_lastBy mX32_answerCount mX32_asked mX32_tooMany mX33_cells mX33_keys mX33_size mX34_mappings mX34_slots (sl') mX81_table mX81_predicate mX81_templates mX81_columns mX82_predicate mX82_places x s → post (vrUnion i w s) ai' uc' lg' kn' sl') : wpVR_X32_union post kd an ai ar mX32_mappings mX32_mappingCount mX32_atoms mX32_atomCount mX32_unions mX32_unionCount mX32_large mX32_known mX32_chosen mX32_kinds mX33_keys mX34_mappings mX34_slots mX34_slotCount mX81_table mX81_predicate mX81_templates mX81_columns mX82_predicate mX82_places x i w := by
  obtain ⟨A, g, tb, c, sz, ky, mp, at_, sp, M, n, sc, cn, sv, sf, s1, ask, ex, D, U, H, rfl⟩ := R
  obtain ⟨⟨Sp, hK, hM, hA⟩, ⟨en, em, es⟩, hC, hZ, hS, hk⟩ := id D
  have S : vSh (kd, an, ai, al, ar, mX32_tables, mX32_mappings, mX32_mappingCount, mX32_atoms, mX32_atomCount, mX32_spanOf, mX32_spanFrom, mX32_spanTo, mX32_spans, mX32_unions, mX32_unionCount, mX32_large, mX32_known, mX32_chosen, mX32_kinds, mX32_given, mX32_rowOf, mX32_answers, mX32_foundBy, mX32_firstBy, mX32_lastBy, mX32_answerCount, mX32_asked, mX32_tooMany, mX33_cells, mX33_keys, mX33_size, mX34_mappings, mX34_slots, mX34_slotCount, mX81_table, mX81_predicate, mX81_templates, mX81_columns, mX82_predicate, mX82_places) A g M n tb := Sp
  have hO := H.2.1
  subst ex
  refine CVR_union (D.all U H) (fun ai' uc' lg' kn' sl' F U' => ?_)
  have T : vrT (fun i => ¬ i = 17 ∧ ¬ i = 18 ∧ ¬ i = 19 ∧ ¬ i = 20) ai ai' A A (vN M n) := fun i j a b z => ⟨rfl, F i j a b z.1 z.2.1 z.2.2.1 z.2.2.2⟩
  exact h' ai' uc' lg' kn' sl' ⟨A, g, tb, _, _, _, _, _, _, _, _, _, _, _, _, _, _, rfl, ⟨⟨Sp, hK.t T (by decide), hM.t T ⟨by decide, by decide, by decide⟩ (fun _ _ _ => rfl), hA.t T ⟨by decide, by decide⟩ (fun _ _ _ => rfl)⟩, ⟨en, em, es⟩, hC.t T (by decide), hZ, hS.t T ⟨by decide, by decide, by decide⟩, hk.t T ⟨by decide, by decide, by decide, by decide⟩⟩, U', H, rfl⟩
theorem QVR_estimate {post : Int → (Nat → Int → Int) → (Nat → Int) → (Nat → Int) → (Nat → Int) → (Nat → Int) → Prop} (R : vrIC kd an ai al ar mX32_tables mX32_mappings mX32_mappingCount mX32_atoms mX32_atomCount mX32_spanOf mX32_spanFrom mX32_spanTo mX32_spans mX32_unions mX32_unionCount mX32_large mX32_known mX32_chosen mX32_kinds mX32_given mX32_rowOf mX32_answers mX32_foundBy mX32_firstBy mX32_lastBy mX32_answerCount mX32_asked mX32_tooMany mX33_cells mX33_keys mX33_size mX34_mappings mX34_slots mX34_slotCount mX81_table mX81_predicate mX81_templates mX81_columns mX82_predicate mX82_places x s) (h' : ∀ ai' uc' lg' kn' sl', vrIC kd an (ai') al ar mX32_tables mX32_mappings mX32_mappingCount mX32_atoms mX32_atomCount mX32_spanOf mX32_spanFrom mX32_spanTo mX32_spans mX32_unions (uc') (lg') (kn') mX32_chosen mX32_kinds mX32_given mX32_rowOf mX32_answers mX32_foundBy mX32_firstBy mX32_lastBy mX32_answerCount mX32_asked mX32_tooMany mX33_cells mX33_keys mX33_size mX34_mappings mX34_slots (sl') mX81_table mX81_predicate mX81_templates mX81_columns mX82_predicate mX82_places x s → post (vrEst i s) ai' uc' lg' kn' sl') : wpVR_X32_estimate post kd an ai ar mX32_mappings mX32_mappingCount mX32_atoms mX32_atomCount mX32_unions mX32_unionCount mX32_large mX32_known mX32_chosen mX32_kinds mX33_keys mX33_size mX34_mappings mX34_slots mX34_slotCount mX81_table mX81_predicate mX81_templates mX81_columns mX82_predicate mX82_places x i := by
  obtain ⟨A, g, tb, c, sz, ky, mp, at_, sp, M, n, sc, cn, sv, sf, s1, ask, ex, D, U, H, rfl⟩ := R
  obtain ⟨⟨Sp, hK, hM, hA⟩, ⟨en, em, es⟩, hC, hZ, hS, hk⟩ := id D
  have S : vSh (kd, an, ai, al, ar, mX32_tables, mX32_mappings, mX32_mappingCount, mX32_atoms, mX32_atomCount, mX32_spanOf, mX32_spanFrom, mX32_spanTo, mX32_spans, mX32_unions, mX32_unionCount, mX32_large, mX32_known, mX32_chosen, mX32_kinds, mX32_given, mX32_rowOf, mX32_answers, mX32_foundBy, mX32_firstBy, mX32_lastBy, mX32_answerCount, mX32_asked, mX32_tooMany, mX33_cells, mX33_keys, mX33_size, mX34_mappings, mX34_slots, mX34_slotCount, mX81_table, mX81_predicate, mX81_templates, mX81_columns, mX82_predicate, mX82_places) A g M n tb := Sp
  have hO := H.2.1
  subst ex
  refine CVR_estimate (D.all U H) hZ (fun ai' uc' lg' kn' sl' F U' => ?_)
  have T : vrT (fun i => ¬ i = 17 ∧ ¬ i = 18 ∧ ¬ i = 19 ∧ ¬ i = 20) ai ai' A A (vN M n) := fun i j a b z => ⟨rfl, F i j a b z.1 z.2.1 z.2.2.1 z.2.2.2⟩
  exact h' ai' uc' lg' kn' sl' ⟨A, g, tb, _, _, _, _, _, _, _, _, _, _, _, _, _, _, rfl, ⟨⟨Sp, hK.t T (by decide), hM.t T ⟨by decide, by decide, by decide⟩ (fun _ _ _ => rfl), hA.t T ⟨by decide, by decide⟩ (fun _ _ _ => rfl)⟩, ⟨en, em, es⟩, hC.t T (by decide), hZ, hS.t T ⟨by decide, by decide, by decide⟩, hk.t T ⟨by decide, by decide, by decide, by decide⟩⟩, U', H, rfl⟩
theorem QVR_run {post : Int → (Nat → Int → Int) → (Nat → Int) → (Nat → Int) → (Nat → Int) → (Nat → Int) → (Nat → Int) → (Nat → Int) → (Nat → Int) → Prop} (R : vrIC kd an ai al ar mX32_tables mX32_mappings mX32_mappingCount mX32_atoms mX32_atomCount mX32_spanOf mX32_spanFrom mX32_spanTo mX32_spans mX32_unions mX32_unionCount mX32_large mX32_known mX32_chosen mX32_kinds mX32_given mX32_rowOf mX32_answers mX32_foundBy mX32_firstBy mX32_lastBy mX32_answerCount mX32_asked mX32_tooMany mX33_cells mX33_keys mX33_size mX34_mappings mX34_slots mX34_slotCount mX81_table mX81_predicate mX81_templates mX81_columns mX82_predicate mX82_places x s) (h' : ∀ ai' uc' lg' kn' cn' as' tm' sl', vrIC kd an (ai') al ar mX32_tables mX32_mappings mX32_mappingCount mX32_atoms mX32_atomCount mX32_spanOf mX32_spanFrom mX32_spanTo mX32_spans mX32_unions (uc') (lg') (kn') mX32_chosen mX32_kinds mX32_given mX32_rowOf mX32_answers mX32_foundBy mX32_firstBy mX32_lastBy (cn') (as') (tm') mX33_cells mX33_keys mX33_size mX34_mappings mX34_slots (sl') mX81_table mX81_predicate mX81_templates mX81_columns mX82_predicate mX82_places x (vrRun s).2 → post (vrRun s).1 ai' uc' lg' kn' cn' as' tm' sl') : wpVR_X32_run post kd an ai ar mX32_mappings mX32_mappingCount mX32_atoms mX32_atomCount mX32_spanOf mX32_spanFrom mX32_spanTo mX32_spans mX32_unions mX32_unionCount mX32_large mX32_known mX32_chosen mX32_kinds mX32_given mX32_rowOf mX32_answers mX32_foundBy mX32_firstBy mX32_lastBy mX32_answerCount mX32_asked mX32_tooMany mX33_cells mX33_keys mX33_size mX34_mappings mX34_slots mX34_slotCount mX81_table mX81_predicate mX81_templates mX81_columns mX82_predicate mX82_places x  := by
  obtain ⟨A, g, tb, c, sz, ky, mp, at_, sp, M, n, sc, cn, sv, sf, s1, ask, ex, D, U, H, rfl⟩ := R
  obtain ⟨⟨Sp, hK, hM, hA⟩, ⟨en, em, es⟩, hC, hZ, hS, hk⟩ := id D
  have S : vSh (kd, an, ai, al, ar, mX32_tables, mX32_mappings, mX32_mappingCount, mX32_atoms, mX32_atomCount, mX32_spanOf, mX32_spanFrom, mX32_spanTo, mX32_spans, mX32_unions, mX32_unionCount, mX32_large, mX32_known, mX32_chosen, mX32_kinds, mX32_given, mX32_rowOf, mX32_answers, mX32_foundBy, mX32_firstBy, mX32_lastBy, mX32_answerCount, mX32_asked, mX32_tooMany, mX33_cells, mX33_keys, mX33_size, mX34_mappings, mX34_slots, mX34_slotCount, mX81_table, mX81_predicate, mX81_templates, mX81_columns, mX82_predicate, mX82_places) A g M n tb := Sp
  have hO := H.2.1
  subst ex
  refine CVR_run (D.all U H) hC hZ hS H.2.2.2 es (fun ai' uc' lg' kn' cn' as' tm' sl' F U' K' => ?_)
  have T : vrT (fun i => i ≤ 16) ai ai' A A (vN M n) := fun i j a b z => ⟨rfl, F i j a b z⟩
  exact h' ai' uc' lg' kn' cn' as' tm' sl' ⟨A, g, tb, _, _, _, _, _, _, _, _, _, _, _, _, _, _, rfl, ⟨⟨Sp, hK.t T (by decide), hM.t T ⟨by decide, by decide, by decide⟩ (fun _ _ _ => rfl), hA.t T ⟨by decide, by decide⟩ (fun _ _ _ => rfl)⟩, ⟨en, em, es⟩, hC.t T (by decide), hZ, hS.t T ⟨by decide, by decide, by decide⟩, K'⟩, U', H, rfl⟩
theorem QVR_triples {post : Int → Prop} (R : vrIC kd an ai al ar mX32_tables mX32_mappings mX32_mappingCount mX32_atoms mX32_atomCount mX32_spanOf mX32_spanFrom mX32_spanTo mX32_spans mX32_unions mX32_unionCount mX32_large mX32_known mX32_chosen mX32_kinds mX32_given mX32_rowOf mX32_answers mX32_foundBy mX32_firstBy mX32_lastBy mX32_answerCount mX32_asked mX32_tooMany mX33_cells mX33_keys mX33_size mX34_mappings mX34_slots mX34_slotCount mX81_table mX81_predicate mX81_templates mX81_columns mX82_predicate mX82_places x s) (h' : post (vrTri s)) : wpVR_X32_triples post kd an ai ar mX32_mappings mX32_mappingCount mX33_cells mX33_size mX81_table mX81_predicate mX81_templates mX81_columns x := by
  obtain ⟨A, g, tb, c, sz, ky, mp, at_, sp, M, n, sc, cn, sv, sf, s1, ask, ex, D, U, H, rfl⟩ := R
  obtain ⟨⟨Sp, hK, hM, hA⟩, ⟨en, em, es⟩, hC, hZ, hS, hk⟩ := id D
  have S : vSh (kd, an, ai, al, ar, mX32_tables, mX32_mappings, mX32_mappingCount, mX32_atoms, mX32_atomCount, mX32_spanOf, mX32_spanFrom, mX32_spanTo, mX32_spans, mX32_unions, mX32_unionCount, mX32_large, mX32_known, mX32_chosen, mX32_kinds, mX32_given, mX32_rowOf, mX32_answers, mX32_foundBy, mX32_firstBy, mX32_lastBy, mX32_answerCount, mX32_asked, mX32_tooMany, mX33_cells, mX33_keys, mX33_size, mX34_mappings, mX34_slots, mX34_slotCount, mX81_table, mX81_predicate, mX81_templates, mX81_columns, mX82_predicate, mX82_places) A g M n tb := Sp
  have hO := H.2.1
  subst ex
  exact CVR_triples S hC hZ hM hO em h'
theorem QVR_found {post : Int → Prop} (R : vrIC kd an ai al ar mX32_tables mX32_mappings mX32_mappingCount mX32_atoms mX32_atomCount mX32_spanOf mX32_spanFrom mX32_spanTo mX32_spans mX32_unions mX32_unionCount mX32_large mX32_known mX32_chosen mX32_kinds mX32_given mX32_rowOf mX32_answers mX32_foundBy mX32_firstBy mX32_lastBy mX32_answerCount mX32_asked mX32_tooMany mX33_cells mX33_keys mX33_size mX34_mappings mX34_slots mX34_slotCount mX81_table mX81_predicate mX81_templates mX81_columns mX82_predicate mX82_places x s) (h' : post (vrFound i w s)) : wpVR_X32_found post kd an ai mX32_foundBy mX32_firstBy mX32_answerCount x i w := by
  obtain ⟨A, g, tb, c, sz, ky, mp, at_, sp, M, n, sc, cn, sv, sf, s1, ask, ex, D, U, H, rfl⟩ := R
  obtain ⟨⟨Sp, hK, hM, hA⟩, ⟨en, em, es⟩, hC, hZ, hS, hk⟩ := id D
  have S : vSh (kd, an, ai, al, ar, mX32_tables, mX32_mappings, mX32_mappingCount, mX32_atoms, mX32_atomCount, mX32_spanOf, mX32_spanFrom, mX32_spanTo, mX32_spans, mX32_unions, mX32_unionCount, mX32_large, mX32_known, mX32_chosen, mX32_kinds, mX32_given, mX32_rowOf, mX32_answers, mX32_foundBy, mX32_firstBy, mX32_lastBy, mX32_answerCount, mX32_asked, mX32_tooMany, mX33_cells, mX33_keys, mX33_size, mX34_mappings, mX34_slots, mX34_slotCount, mX81_table, mX81_predicate, mX81_templates, mX81_columns, mX82_predicate, mX82_places) A g M n tb := Sp
  have hO := H.2.1
  subst ex
  exact CVR_found S hk h'
theorem QVR_value {post : Int → Prop} {px : Nat → Prop} (R : vrIC kd an ai al ar mX32_tables mX32_mappings mX32_mappingCount mX32_atoms mX32_atomCount mX32_spanOf mX32_spanFrom mX32_spanTo mX32_spans mX32_unions mX32_unionCount mX32_large mX32_known mX32_chosen mX32_kinds mX32_given mX32_rowOf mX32_answers mX32_foundBy mX32_firstBy mX32_lastBy mX32_answerCount mX32_asked mX32_tooMany mX33_cells mX33_keys mX33_size mX34_mappings mX34_slots mX34_slotCount mX81_table mX81_predicate mX81_templates mX81_columns mX82_predicate mX82_places x s) (hB : 1 ≤ MC ∧ 6 ≤ MS) (h0 : (vrValue i v s).1 = 0 → post (vrValue i v s).2) (hx : ¬ (vrValue i v s).1 = 0 → px (vrValue i v s).1) : wpVR_X32_value MC MS post px kd an ai mX32_answers mX32_answerCount mX32_asked x i v := by
  obtain ⟨A, g, tb, c, sz, ky, mp, at_, sp, M, n, sc, cn, sv, sf, s1, ask, ex, D, U, H, rfl⟩ := R
  obtain ⟨⟨Sp, hK, hM, hA⟩, ⟨en, em, es⟩, hC, hZ, hS, hk⟩ := id D
  have S : vSh (kd, an, ai, al, ar, mX32_tables, mX32_mappings, mX32_mappingCount, mX32_atoms, mX32_atomCount, mX32_spanOf, mX32_spanFrom, mX32_spanTo, mX32_spans, mX32_unions, mX32_unionCount, mX32_large, mX32_known, mX32_chosen, mX32_kinds, mX32_given, mX32_rowOf, mX32_answers, mX32_foundBy, mX32_firstBy, mX32_lastBy, mX32_answerCount, mX32_asked, mX32_tooMany, mX33_cells, mX33_keys, mX33_size, mX34_mappings, mX34_slots, mX34_slotCount, mX81_table, mX81_predicate, mX81_templates, mX81_columns, mX82_predicate, mX82_places) A g M n tb := Sp
  have hO := H.2.1
  subst ex
  refine CVR_value hB S hk (fun f => ?_) (fun f => ?_)
  · have e : vrValue i v ((c, sz, ky), (mp, M), (at_, n), (sp, sc), (cn, sv, sf, s1, ask)) = (2, 0) := pif_t f
    rw [e] at hx
    exact hx (by decide)
  · have e : vrValue i v ((c, sz, ky), (mp, M), (at_, n), (sp, sc), (cn, sv, sf, s1, ask)) = (0, vVal cn sv i v) := pif_f f
    rw [e] at h0
    exact h0 rfl
end
