/-! RuleEngine: rounds by what is new, plain -/
section
variable {hd ki fo ln pt st rn : Int → Int} {n r s : Int} {Ho La Ol P P' : Int → Prop} {Fs Fs' : Int → Int → Prop} {u v w : Int → Int}
theorem caC_mem {G : (Int → Int) → List (Int → Int)} {F : Int → Prop} {x y : Int} : ∀ (d : Nat) (c : Int), u ∈ caC G F x y d c v → ∃ i w, (c ≤ i ∧ i < c + d) ∧ F i ∧ reBc x y i v = some w ∧ u ∈ G w
  | 0, c, h => by rw [caC] at h; exact absurd h (by simp)
  | d + 1, c, h => by
    rw [caC, List.mem_append] at h
    rcases h with h | h
    · by_cases z : F c
      · rw [pif_t z] at h
        cases e : reBc x y c v with
        | none => rw [e] at h; exact absurd h (by simp)
        | some w => rw [e] at h; exact ⟨c, w, by omega, z, e, h⟩
      · rw [pif_f z] at h; exact absurd h (by simp)
    · obtain ⟨i, w, hi, h⟩ := caC_mem d (c + 1) h
      exact ⟨i, w, by omega, h⟩
theorem caC_in {G : (Int → Int) → List (Int → Int)} {F : Int → Prop} {x y i : Int} (hF : F i) (hb : reBc x y i v = some w) (hu : u ∈ G w) : ∀ (d : Nat) (c : Int), c ≤ i → i < c + d → u ∈ caC G F x y d c v
  | 0, c, h0, h1 => by omega
  | d + 1, c, h0, h1 => by
    rw [caC, List.mem_append]
    by_cases z : i = c
    · left
      rw [← z, pif_t hF, hb]; exact hu
    · exact Or.inr (caC_in hF hb hu d (c + 1) (by omega) (by omega))
theorem caC_cg {G G' : (Int → Int) → List (Int → Int)} {F F' : Int → Prop} {x y : Int} : ∀ (d : Nat) (c : Int), (∀ i, c ≤ i → i < c + d → (F i ↔ F' i)) → (∀ i w, c ≤ i → i < c + d → reBc x y i v = some w → G w = G' w) → caC G F x y d c v = caC G' F' x y d c v
  | 0, c, _, _ => by rw [caC, caC]
  | d + 1, c, h1, h2 => by
    rw [caC, caC, caC_cg d (c + 1) (fun i i0 i1 => h1 i (by omega) (by omega)) (fun i w i0 i1 => h2 i w (by omega) (by omega))]
    congr 1
    have e := h1 c (Int.le_refl _) (by omega)
    by_cases z : F c
    · rw [pif_t z, pif_t (e.1 z)]
      cases eb : reBc x y c v with
      | none => rfl
      | some w => exact h2 c w (Int.le_refl _) (by omega) eb
    · rw [pif_f z, pif_f (fun q => z (e.2 q))]
theorem rxGd_n {k c : Int} (H : rxGd pt r k v) (hc : 0 ≤ c) (hb : reBc (pt (20 * r + 4 * k + 2)) (pt (20 * r + 4 * k + 3)) c v = some w) : rxGd pt r (k + 1) w := by
  have hb' := hb
  rw [reBc_i hc] at hb'
  by_cases q : reVl (rxBn (pt (20 * r + 4 * k + 3)) (c % 32) (rxBn (pt (20 * r + 4 * k + 2)) (c / 32 % 32) v)) (pt (20 * r + 4 * k + 2)) = c / 32 % 32 ∧ reVl (rxBn (pt (20 * r + 4 * k + 3)) (c % 32) (rxBn (pt (20 * r + 4 * k + 2)) (c / 32 % 32) v)) (pt (20 * r + 4 * k + 3)) = c % 32
  · rw [if_pos q] at hb'
    have e := (Option.some.inj hb').symm
    exact rxGd.n (ln := pt) (c := c) H hc e (by rw [e]; exact q.1) (by rw [e]; exact q.2)
  · rw [if_neg q] at hb'
    exact absurd hb' (by simp)
theorem rxGd_k {k : Int} (H : rxGd pt r k v) (h : ¬ pt (20 * r + 4 * k) = 0) : rxGd pt r (k + 1) v := ⟨H.1, fun j j0 j1 p0 => H.2 j j0 (by
  by_cases z : j = k
  · rw [z] at p0; exact absurd p0 h
  · omega) p0⟩
theorem caX_cg (I : reI hd ki fo ln pt n) (hr : 0 ≤ r ∧ r < n) (hs : reSf hd ki fo ln pt r) (hF : ∀ k, 0 ≤ k → k < ln r → pt (20 * r + 4 * k) = 0 → ∀ c, 1024 * pt (20 * r + 4 * k + 1) ≤ c → c < 1024 * pt (20 * r + 4 * k + 1) + 1024 → (Fs k c ↔ Fs' k c)) (hP : ∀ k, 0 ≤ k → k < ln r → pt (20 * r + 4 * k) = 1 → ∀ a b, 0 ≤ a → a < 32 → 0 ≤ b → b < 32 → (P (reCd (pt (20 * r + 4 * k + 1)) a b) ↔ P' (reCd (pt (20 * r + 4 * k + 1)) a b))) : ∀ (j : Nat) (v : Int → Int), (j : Int) ≤ ln r → rxGd pt r (ln r - j) v → caX ln pt Fs P r j v = caX ln pt Fs' P' r j v
  | 0, v, _, hg => by
    obtain ⟨_, _, hl, i4⟩ := I.2 r hr.1 hr.2
    rw [show ln r - ((0 : Nat) : Int) = ln r by omega] at hg
    have e : rePs ln pt P r v ↔ rePs ln pt P' r v := by
      have one : ∀ k, 0 ≤ k → k < ln r → pt (20 * r + 4 * k) = 1 → (P (reCd (pt (20 * r + 4 * k + 1)) (reVl v (pt (20 * r + 4 * k + 2))) (reVl v (pt (20 * r + 4 * k + 3)))) ↔ P' (reCd (pt (20 * r + 4 * k + 1)) (reVl v (pt (20 * r + 4 * k + 2))) (reVl v (pt (20 * r + 4 * k + 3))))) := fun k k0 k1 p1 => by
        have ik := (i4 k k0 k1).2.2
        have sk := hs.2.2.2 k k0 k1 (by omega)
        have bx := hg.b (ln := ln) ik.1 sk.1
        have by' := hg.b (ln := ln) ik.2 sk.2
        exact hP k k0 k1 p1 _ _ bx.1 bx.2 by'.1 by'.2
      exact ⟨fun h k k0 k1 => ⟨fun p1 q => (h k k0 k1).1 p1 ((one k k0 k1 p1).2 q), (h k k0 k1).2⟩, fun h k k0 k1 => ⟨fun p1 q => (h k k0 k1).1 p1 ((one k k0 k1 p1).1 q), (h k k0 k1).2⟩⟩
    rw [caX, caX]
    by_cases z : rePs ln pt P r v
    · rw [pif_t z, pif_t (e.1 z)]
    · rw [pif_f z, pif_f (fun q => z (e.2 q))]
  | j + 1, v, hj, hg => by
    obtain ⟨_, _, hl, i4⟩ := I.2 r hr.1 hr.2
    obtain ⟨k, ek⟩ : ∃ k, k = ln r - ((j + 1 : Nat) : Int) := ⟨_, rfl⟩
    have ek1 : k + 1 = ln r - j := by omega
    rw [caX_s ek, caX_s ek]
    rw [← ek] at hg
    have nm := (i4 k (by omega) (by omega)).2.1
    by_cases p0 : pt (20 * r + 4 * k) = 0
    · rw [if_pos p0, if_pos p0]
      refine caC_cg 1024 _ (fun i i0 i1 => hF k (by omega) (by omega) p0 i i0 (by omega)) (fun i w i0 i1 hb => caX_cg I hr hs hF hP j w (by omega) ?_)
      rw [← ek1]
      exact rxGd_n hg (by omega) hb
    · rw [if_neg p0, if_neg p0]
      exact caX_cg I hr hs hF hP j v (by omega) (by rw [← ek1]; exact rxGd_k hg p0)
/-- what holds of a case -/
theorem caX_m (I : reI hd ki fo ln pt n) (hr : 0 ≤ r ∧ r < n) : ∀ (j : Nat) (v : Int → Int), (j : Int) ≤ ln r → rxGd pt r (ln r - j) v → u ∈ caX ln pt Fs P r j v → (∀ i, 0 ≤ reVl v i → reVl u i = reVl v i) ∧ (∀ k, ln r - j ≤ k → k < ln r → pt (20 * r + 4 * k) = 0 → Fs k (reCd (pt (20 * r + 4 * k + 1)) (reVl u (pt (20 * r + 4 * k + 2))) (reVl u (pt (20 * r + 4 * k + 3))))) ∧ rxGd pt r (ln r) u
  | 0, v, _, hg, hu => by
    rw [caX] at hu
    rw [show ln r - ((0 : Nat) : Int) = ln r by omega] at hg ⊢
    by_cases z : rePs ln pt P r v
    · rw [pif_t z, List.mem_singleton] at hu
      rw [hu]
      exact ⟨fun _ _ => rfl, fun k k0 k1 => by omega, hg⟩
    · rw [pif_f z] at hu; exact absurd hu (by simp)
  | j + 1, v, hj, hg, hu => by
    obtain ⟨_, _, hl, i4⟩ := I.2 r hr.1 hr.2
    obtain ⟨k, ek⟩ : ∃ k, k = ln r - ((j + 1 : Nat) : Int) := ⟨_, rfl⟩
    have ek1 : k + 1 = ln r - j := by omega
    rw [caX_s ek] at hu
    rw [← ek] at hg ⊢
    have nm := (i4 k (by omega) (by omega)).2.1
    by_cases p0 : pt (20 * r + 4 * k) = 0
    · rw [if_pos p0] at hu
      obtain ⟨i, w, hi, fi, hb, hu⟩ := caC_mem 1024 _ hu
      have hb2 := reBc_v (show 0 ≤ i by omega) hb
      obtain ⟨m1, m2, m3⟩ := caX_m I hr j w (by omega) (by rw [← ek1]; exact rxGd_n hg (by omega) hb) hu
      refine ⟨fun a a0 => ?_, fun k' k0 k1 p0' => ?_, m3⟩
      · have := hb2.2 a a0
        rw [m1 a (by omega)]; exact this
      · by_cases z : k' = k
        · have e1 := m1 (pt (20 * r + 4 * k + 2)) (by rw [hb2.1.1]; omega)
          have e2 := m1 (pt (20 * r + 4 * k + 3)) (by rw [hb2.1.2]; omega)
          rw [z, e1, e2, hb2.1.1, hb2.1.2]
          have : reCd (pt (20 * r + 4 * k + 1)) (i / 32 % 32) (i % 32) = i := by unfold reCd; omega
          rw [this]; exact fi
        · exact m2 k' (by omega) k1 p0'
    · rw [if_neg p0] at hu
      obtain ⟨m1, m2, m3⟩ := caX_m I hr j v (by omega) (by rw [← ek1]; exact rxGd_k hg p0) hu
      refine ⟨m1, fun k' k0 k1 p0' => ?_, m3⟩
      by_cases z : k' = k
      · rw [z] at p0'; exact absurd p0' p0
      · exact m2 k' (by omega) k1 p0'
/-- a case from other sets -/
theorem caX_i (I : reI hd ki fo ln pt n) (hr : 0 ≤ r ∧ r < n) : ∀ (j : Nat) (v : Int → Int), (j : Int) ≤ ln r → rxGd pt r (ln r - j) v → u ∈ caX ln pt Fs P r j v → (∀ k, ln r - j ≤ k → k < ln r → pt (20 * r + 4 * k) = 0 → Fs' k (reCd (pt (20 * r + 4 * k + 1)) (reVl u (pt (20 * r + 4 * k + 2))) (reVl u (pt (20 * r + 4 * k + 3))))) → u ∈ caX ln pt Fs' P r j v
  | 0, v, _, hg, hu, _ => by
    rw [caX] at hu ⊢; exact hu
  | j + 1, v, hj, hg, hu, hF => by
    obtain ⟨_, _, hl, i4⟩ := I.2 r hr.1 hr.2
    obtain ⟨k, ek⟩ : ∃ k, k = ln r - ((j + 1 : Nat) : Int) := ⟨_, rfl⟩
    have ek1 : k + 1 = ln r - j := by omega
    rw [caX_s ek] at hu ⊢
    rw [← ek] at hg hF
    have nm := (i4 k (by omega) (by omega)).2.1
    by_cases p0 : pt (20 * r + 4 * k) = 0
    · rw [if_pos p0] at hu ⊢
      obtain ⟨i, w, hi, fi, hb, hu⟩ := caC_mem 1024 _ hu
      have hb2 := reBc_v (show 0 ≤ i by omega) hb
      have hg2 : rxGd pt r (ln r - j) w := by rw [← ek1]; exact rxGd_n hg (by omega) hb
      obtain ⟨m1, m2, m3⟩ := caX_m I hr j w (by omega) hg2 hu
      refine caC_in ?_ hb (caX_i I hr j w (by omega) hg2 hu (fun k' k0 k1 p0' => hF k' (by omega) k1 p0')) 1024 _ hi.1 (by omega)
      have e1 := m1 (pt (20 * r + 4 * k + 2)) (by rw [hb2.1.1]; omega)
      have e2 := m1 (pt (20 * r + 4 * k + 3)) (by rw [hb2.1.2]; omega)
      have q := hF k (Int.le_refl _) (by omega) p0
      rw [e1, e2, hb2.1.1, hb2.1.2] at q
      have : reCd (pt (20 * r + 4 * k + 1)) (i / 32 % 32) (i % 32) = i := by unfold reCd; omega
      rw [this] at q; exact q
    · rw [if_neg p0] at hu ⊢
      exact caX_i I hr j v (by omega) (by rw [← ek1]; exact rxGd_k hg p0) hu (fun k' k0 k1 p0' => hF k' (by omega) k1 p0')
theorem rxG0 : rxGd pt r (ln r - ((ln r).toNat : Int)) (fun _ => -1) ∨ ¬ 0 ≤ ln r := by
  by_cases z : 0 ≤ ln r
  · left
    rw [show ln r - ((ln r).toNat : Int) = 0 by omega]
    exact rxGd_0 (fun _ _ _ => rfl)
  · exact Or.inr z
/-- what is known of the last round: what came then holds, in this stratum; all that was given before it holds -/
def rxLv (hd ki fo ln pt st : Int → Int) (n s : Int) (Ho La : Int → Prop) : Prop := (∀ c, La c → Ho c) ∧ (∀ c, La c → st (c / 1024) = s) ∧ ∀ r, 0 ≤ r → r < n → reSel hd ki fo ln pt st s r → ∀ c ∈ reHl hd ki fo ln pt (fun c => Ho c ∧ ¬ La c) r, Ho c
theorem rxDl_m : ∀ (k : Nat) (c : Int), c ∈ rxDl hd ln pt Ho La r k → ∃ i : Nat, (i : Int) < k ∧ pt (20 * r + 4 * i) = 0 ∧ c ∈ (rxCz ln pt (fun k' c => if k' = (i : Int) then La c else Ho c) Ho r).map (reHe hd r)
  | 0, c, h => by rw [rxDl] at h; exact absurd h (by simp)
  | k + 1, c, h => by
    rw [rxDl, List.mem_append] at h
    rcases h with h | h
    · obtain ⟨i, hi, q⟩ := rxDl_m k c h
      exact ⟨i, by omega, q⟩
    · by_cases p0 : pt (20 * r + 4 * k) = 0
      · rw [if_pos p0] at h
        exact ⟨k, by omega, p0, h⟩
      · rw [if_neg p0] at h; exact absurd h (by simp)
theorem rxDl_i {i : Nat} {c : Int} (p0 : pt (20 * r + 4 * i) = 0) (h : c ∈ (rxCz ln pt (fun k' c => if k' = (i : Int) then La c else Ho c) Ho r).map (reHe hd r)) : ∀ k : Nat, i < k → c ∈ rxDl hd ln pt Ho La r k
  | 0, hk => by omega
  | k + 1, hk => by
    rw [rxDl, List.mem_append]
    by_cases z : i = k
    · right
      rw [← z, if_pos p0]; exact h
    · exact Or.inl (rxDl_i p0 h k (by omega))
theorem rxSn (I : reI hd ki fo ln pt n) (hr : 0 ≤ r ∧ r < n) (hst : reLs (reEd hd ki fo ln pt n 1) (reEd hd ki fo ln pt n 2) st) (hs0 : 0 ≤ s) (sel : reSel hd ki fo ln pt st s r) (lv : rxLv hd ki fo ln pt st n s Ho La) {c : Int} (nc : ¬ Ho c) : c ∈ rxGv hd ki fo ln pt Ho La 0 r ↔ c ∈ reHl hd ki fo ln pt Ho r := by
  obtain ⟨_, _, hl, i4⟩ := I.2 r hr.1 hr.2
  obtain ⟨l1, l2, l3⟩ := lv
  have hsf := sel.1
  have es : st (hd (3 * r)) = s := sel.2.resolve_left (by omega)
  have l3r := l3 r hr.1 hr.2 sel
  have eO : ∀ F : Int → Prop, reCs ln pt F r = rxCz ln pt (fun _ => F) F r := fun F => (rxCz_c (Fs := fun _ => F) (F := F) hl.1 (fun _ _ _ => Iff.rfl)).symm
  have g0 : rxGd pt r (ln r - ((ln r).toNat : Int)) (fun _ => -1) := rxG0.resolve_right (fun w => w hl.1)
  -- a strictly needed name is lower
  have low : ∀ k, 0 ≤ k → k < ln r → ¬ pt (20 * r + 4 * k) = 2 → (pt (20 * r + 4 * k) = 1 ∨ ¬ ki r < 0) → ∀ c, 1024 * pt (20 * r + 4 * k + 1) ≤ c → c < 1024 * pt (20 * r + 4 * k + 1) + 1024 → ¬ La c := fun k k0 k1 n2 str c c0 c1 w => by
    have e : reEd hd ki fo ln pt n 2 (hd (3 * r)) (pt (20 * r + 4 * k + 1)) := ⟨r, k, ⟨hr, hsf, k0, k1⟩, n2, ⟨rfl, rfl⟩, fun _ => str⟩
    have q1 := hst.1.2.2 _ _ e
    have q2 := l2 c w
    rw [show c / 1024 = pt (20 * r + 4 * k + 1) by omega] at q2
    omega
  have notP : ∀ k, 0 ≤ k → k < ln r → pt (20 * r + 4 * k) = 1 → ∀ a b, 0 ≤ a → a < 32 → 0 ≤ b → b < 32 → (Ho (reCd (pt (20 * r + 4 * k + 1)) a b) ↔ (Ho (reCd (pt (20 * r + 4 * k + 1)) a b) ∧ ¬ La (reCd (pt (20 * r + 4 * k + 1)) a b))) := fun k k0 k1 p1 a b a0 a1 b0 b1 => ⟨fun h => ⟨h, low k k0 k1 (by omega) (Or.inl p1) _ (by unfold reCd; omega) (by unfold reCd; omega)⟩, fun h => h.1⟩
  unfold rxGv
  rw [if_pos rfl]
  by_cases hk : ki r < 0
  · rw [if_pos hk]
    unfold reHl
    rw [if_pos hk]
    constructor
    · intro h
      obtain ⟨i, hi, p0, h⟩ := rxDl_m _ _ h
      obtain ⟨u, hu, e⟩ := List.mem_map.1 h
      refine List.mem_map.2 ⟨u, ?_, e⟩
      obtain ⟨m1, m2, m3⟩ := caX_m I hr _ _ (by omega) g0 hu
      rw [eO]
      refine caX_i I hr _ _ (by omega) g0 hu (fun k k0 k1 p => ?_)
      have := m2 k k0 k1 p
      by_cases z : k = (i : Int)
      · rw [if_pos z] at this; exact l1 _ this
      · rw [if_neg z] at this; exact this
    · intro h
      obtain ⟨u, hu, e⟩ := List.mem_map.1 h
      rw [eO] at hu
      obtain ⟨m1, m2, m3⟩ := caX_m I hr _ _ (by omega) g0 hu
      by_cases ex : ∃ k, (0 ≤ k ∧ k < ln r) ∧ pt (20 * r + 4 * k) = 0 ∧ La (reCd (pt (20 * r + 4 * k + 1)) (reVl u (pt (20 * r + 4 * k + 2))) (reVl u (pt (20 * r + 4 * k + 3))))
      · obtain ⟨k, hkb, p0, lk⟩ := ex
        have ekn : ((k.toNat : Nat) : Int) = k := by omega
        refine rxDl_i (i := k.toNat) (by rw [ekn]; exact p0) (List.mem_map.2 ⟨u, ?_, e⟩) _ (by omega)
        rw [ekn]
        refine caX_i I hr _ _ (by omega) g0 hu (fun k' k0 k1 p => ?_)
        by_cases z : k' = k
        · rw [if_pos z, z]; exact lk
        · rw [if_neg z]; exact m2 k' k0 k1 p
      · -- old facts alone
        exfalso
        apply nc
        refine l3r c ?_
        unfold reHl
        rw [if_pos hk]
        refine List.mem_map.2 ⟨u, ?_, e⟩
        rw [eO]
        have h1 := caX_i (Fs' := fun _ c => Ho c ∧ ¬ La c) I hr _ _ (by omega) g0 hu (fun k k0 k1 p => ⟨m2 k k0 k1 p, fun w => ex ⟨k, by omega, p, w⟩⟩)
        have h2 := caX_cg (Fs := fun _ c => Ho c ∧ ¬ La c) (Fs' := fun _ c => Ho c ∧ ¬ La c) (P := Ho) (P' := fun c => Ho c ∧ ¬ La c) I hr hsf (fun _ _ _ _ _ _ _ => Iff.rfl) notP (ln r).toNat (fun _ => -1) (by omega) g0
        rw [h2] at h1
        exact h1
  · rw [if_neg hk]
    refine ⟨fun h => absurd h (by simp), fun h => absurd (l3r c ?_) nc⟩
    have h2 := caX_cg (Fs := fun _ => Ho) (Fs' := fun _ c => Ho c ∧ ¬ La c) (P := Ho) (P' := fun c => Ho c ∧ ¬ La c) I hr hsf (fun k k0 k1 p c c0 c1 => ⟨fun h => ⟨h, low k k0 k1 (by omega) (Or.inr hk) c c0 c1⟩, fun h => h.1⟩) notP (ln r).toNat (fun _ => -1) (by omega) g0
    have h3 : reCs ln pt Ho r = reCs ln pt (fun c => Ho c ∧ ¬ La c) r := by
      rw [eO, eO]; exact h2
    unfold reHl at h ⊢
    rw [h3] at h; exact h
end
