/-! CanonNames (room CN): blanks in order, groups -/
/-- the order of blanks: by hashes, then by numbers -/
def cnB (H : Int → List Int) (c d : Int) : Prop := cnL H c d ∨ (H c = H d ∧ c < d)
section
variable {H : Int → List Int} {n a b c d i j k g x : Int} {p o bg : Int → Int}
theorem cnB_n : ¬ cnB H a a := fun h => h.elim (fun w => w.2 rfl) (fun w => by omega)
theorem cnB_q (h : cnB H a b) : qLx (H a) (H b) := h.elim (fun w => w.1) (fun w => by rw [w.1]; exact qLx_r _)
theorem cnB_a (h : cnB H a b) (g : cnB H b a) : False := by
  have e := qLx_a (cnB_q h) (cnB_q g)
  rcases h with h | h
  · exact h.2 e
  · rcases g with g | g
    · exact g.2 e.symm
    · omega
theorem cnL_B (h : cnL H a b) (g : cnB H b c) : cnL H a c := cnL_t h (cnB_q g)
theorem cnG_h (e : H a = H b) : cnG H n a = cnG H n b ∧ cnLo H n a = cnLo H n b ∧ cnHi H n a = cnHi H n b := by
  unfold cnG cnLo cnHi cnL
  rw [e]
  exact ⟨rfl, rfl, rfl⟩
theorem cnG_le (h : qLx (H a) (H b)) : cnG H n a ≤ cnG H n b := cntI_ler _ (fun i _ _ w => ⟨w.1, cnL_t w.2 h⟩)
theorem cnG_lt (ha : 1 ≤ a ∧ a ≤ n) (h : cnL H a b) : cnG H n a + 1 ≤ cnG H n b := by
  obtain ⟨f, ff, ef, lf⟩ := cnF_ex (H := H) a.toNat a ha.1 (by omega)
  refine cntI_ltr (j := f) _ (fun i _ _ w => ⟨w.1, cnL_t w.2 h.1⟩) (by have := ff.1; omega) (by omega) ⟨ff, ?_⟩ (fun w => w.2.2 ef)
  unfold cnL
  rw [ef]
  exact h
theorem cnG_i (ha : 1 ≤ a ∧ a ≤ n) (hb : 1 ≤ b ∧ b ≤ n) (e : cnG H n a = cnG H n b) : H a = H b := Classical.byContradiction (fun ne => by
  rcases qLx_tot (H a) (H b) with h | h
  · have := cnG_lt (H := H) ha ⟨h, ne⟩
    omega
  · have := cnG_lt (H := H) hb ⟨h, fun w => ne w.symm⟩
    omega)
/-- p: the blanks in order, from 1 -/
def cnOd (H : Int → List Int) (n : Int) (p : Int → Int) : Prop := cnIn n p ∧ ∀ i j, 1 ≤ i → i < j → j ≤ n → cnB H (p i) (p j)
theorem cnOd.le (h : cnOd H n p) (hi : 1 ≤ i ∧ i ≤ j) (hj : j ≤ n) : qLx (H (p i)) (H (p j)) := by
  by_cases z : i = j
  · rw [z]; exact qLx_r _
  · exact cnB_q (h.2 i j hi.1 (by omega) hj)
theorem cnOd.lt (h : cnOd H n p) (hi : 1 ≤ i ∧ i ≤ n) (hj : 1 ≤ j ∧ j ≤ n) (l : cnB H (p i) (p j)) : i < j := by
  rcases Int.lt_trichotomy i j with z | z | z
  · exact z
  · rw [z] at l; exact absurd l cnB_n
  · exact (cnB_a l (h.2 j i hj.1 z hi.2)).elim
theorem cnOd.ct (h : cnOd H n p) (hi : 1 ≤ i ∧ i ≤ n) : cntI (fun c => 1 ≤ c ∧ cnB H c (p i)) (n + 1).toNat = i - 1 := by
  have a := cnPg h.1 (i - 1).toNat (by omega)
  rw [show (((i - 1).toNat : Nat) : Int) = i - 1 by omega] at a
  rw [← a]
  refine cntI_c (fun c c0 c1 => ⟨fun w => ?_, fun ⟨j, hj, e⟩ => ?_⟩)
  · obtain ⟨j, hj, e⟩ := h.1.on (v := c) ⟨w.1, by omega⟩
    have := h.lt hj hi (by rw [e]; exact w.2)
    exact ⟨j, by omega, e⟩
  · rw [← e]
    exact ⟨(h.1.1 j hj.1 (by omega)).1, h.2 j i hj.1 (by omega) hi.2⟩
theorem cnOd.lo (h : cnOd H n p) (hi : 1 ≤ i ∧ i ≤ n) (hd : i = 1 ∨ ¬ H (p (i - 1)) = H (p i)) : cnLo H n (p i) = i - 1 := by
  rw [← h.ct hi]
  refine cntI_c (fun c c0 c1 => ⟨fun w => ⟨w.1, Or.inl w.2⟩, fun w => ⟨w.1, ?_⟩⟩)
  rcases w.2 with l | ⟨e, _⟩
  · exact l
  · obtain ⟨j, hj, ej⟩ := h.1.on (v := c) ⟨w.1, by omega⟩
    have lt := h.lt hj hi (by rw [ej]; exact w.2)
    rcases hd with y | y
    · omega
    · exfalso
      have a1 := h.le (i := j) (j := i - 1) ⟨hj.1, by omega⟩ (by omega)
      have a2 := h.le (i := i - 1) (j := i) ⟨by omega, by omega⟩ hi.2
      rw [ej, e] at a1
      exact y (qLx_a a2 a1)
theorem cnOd.hi (h : cnOd H n p) (hi : 1 ≤ i ∧ i < n) (hd : ¬ H (p i) = H (p (i + 1))) : cnHi H n (p i) = i := by
  have ct := h.ct (i := i + 1) ⟨by omega, by omega⟩
  rw [show i + 1 - 1 = i by omega] at ct
  have l1 : cnL H (p i) (p (i + 1)) := ⟨h.le ⟨hi.1, by omega⟩ (by omega), hd⟩
  suffices key : cnHi H n (p i) = cntI (fun c => 1 ≤ c ∧ cnB H c (p (i + 1))) (n + 1).toNat from key.trans ct
  refine cntI_c (fun c c0 c1 => ⟨fun w => ⟨w.1, Or.inl ?_⟩, fun w => ⟨w.1, ?_⟩⟩)
  · refine ⟨qLx_t w.2 l1.1, fun e => ?_⟩
    rw [e] at w
    exact hd (qLx_a l1.1 w.2)
  · obtain ⟨j, hj, ej⟩ := h.1.on (v := c) ⟨w.1, by omega⟩
    have lt := h.lt hj (j := i + 1) ⟨by omega, by omega⟩ (by rw [ej]; exact w.2)
    rw [← ej]
    exact h.le ⟨hj.1, by omega⟩ (by omega)
theorem cnOd.hn (h : cnOd H n p) (hn : 1 ≤ n) : cnHi H n (p n) = n := by
  have e : cntI (fun c => 1 ≤ c ∧ qLx (H c) (H (p n))) (n + 1).toNat = cntI (fun c => 1 ≤ c) (n + 1).toNat := cntI_c (fun c c0 c1 => ⟨fun w => w.1, fun w => ⟨w, by
    obtain ⟨j, hj, ej⟩ := h.1.on (v := c) ⟨w, by omega⟩
    rw [← ej]
    exact h.le hj (Int.le_refl _)⟩⟩)
  exact e.trans (cntI_1n (by omega))
theorem cnOd.g1 (h : cnOd H n p) (hn : 1 ≤ n) : cnG H n (p 1) = 0 := cntI_0 (fun c c0 c1 w => by
  obtain ⟨j, hj, ej⟩ := h.1.on (v := c) ⟨w.1.1, by omega⟩
  have a := h.le (i := 1) (j := j) ⟨by decide, hj.1⟩ hj.2
  rw [ej] at a
  exact cnL_n.2 a w.2)
theorem cnOd.gs (h : cnOd H n p) (hi : 1 ≤ i ∧ i ≤ n) {Q : Int → Prop} (hQ : ∀ j, 1 ≤ j → j ≤ n → (Q (p j) ↔ j ≤ i)) (hd : ∀ j, 1 ≤ j → j ≤ n → H (p j) = H (p i) → j ≤ i) : cntI (fun c => cnF H c ∧ Q c) (n + 1).toNat = cnG H n (p i) + 1 := by
  have pb := h.1.1 i hi.1 hi.2
  obtain ⟨f, ff, ef, lf⟩ := cnF_ex (H := H) (p i).toNat (p i) pb.1 (by omega)
  obtain ⟨jf, hjf, ejf⟩ := h.1.on (v := f) ⟨ff.1, by omega⟩
  have cn := cntI_u1 (p := fun c => (1 ≤ c ∧ c ≤ n) ∧ cnF H c ∧ cnL H c (p i)) (q := fun c => (1 ≤ c ∧ c ≤ n) ∧ cnF H c ∧ Q c) (x0 := f) (by have := ff.1; omega) (fun w => w.2.2.2 ef) ⟨⟨ff.1, by omega⟩, ff, by
    rw [← ejf]
    exact (hQ jf hjf.1 hjf.2).2 (hd jf hjf.1 hjf.2 (by rw [ejf]; exact ef))⟩ (fun c nc => by
    constructor
    · rintro ⟨w, u, l⟩
      refine ⟨w, u, ?_⟩
      obtain ⟨j, hj, ej⟩ := h.1.on (v := c) w
      rw [← ej]
      refine (hQ j hj.1 hj.2).2 ?_
      have := h.lt hj hi (by rw [ej]; exact Or.inl l)
      omega
    · rintro ⟨w, u, l⟩
      refine ⟨w, u, ?_⟩
      obtain ⟨j, hj, ej⟩ := h.1.on (v := c) w
      rw [← ej] at l
      have a := h.le (i := j) (j := i) ⟨hj.1, (hQ j hj.1 hj.2).1 l⟩ hi.2
      rw [ej] at a
      exact ⟨a, fun e => nc (cnF_u u ff (e.trans ef.symm))⟩) (n + 1).toNat
  rw [if_pos (by have := ff.1; omega)] at cn
  have w1 : cntI (fun c => cnF H c ∧ Q c) (n + 1).toNat = cntI (fun c => (1 ≤ c ∧ c ≤ n) ∧ cnF H c ∧ Q c) (n + 1).toNat := cntI_c (fun c c0 c1 => ⟨fun w => ⟨⟨w.1.1, by omega⟩, w⟩, fun w => w.2⟩)
  have w2 : cnG H n (p i) = cntI (fun c => (1 ≤ c ∧ c ≤ n) ∧ cnF H c ∧ cnL H c (p i)) (n + 1).toNat := cntI_c (fun c c0 c1 => ⟨fun w => ⟨⟨w.1.1, by omega⟩, w⟩, fun w => w.2⟩)
  rw [w1, cn, ← w2]
theorem cnOd.gn (h : cnOd H n p) (hi : 1 ≤ i ∧ i < n) (hd : ¬ H (p i) = H (p (i + 1))) : cnG H n (p (i + 1)) = cnG H n (p i) + 1 := by
  have l1 : cnL H (p i) (p (i + 1)) := ⟨h.le ⟨hi.1, by omega⟩ (by omega), hd⟩
  have after : ∀ j, 1 ≤ j → j ≤ n → i < j → qLx (H (p (i + 1))) (H (p j)) := fun j j0 j1 ij => h.le ⟨by omega, by omega⟩ j1
  refine h.gs (i := i) ⟨hi.1, by omega⟩ (Q := fun c => cnL H c (p (i + 1))) (fun j j0 j1 => ⟨fun w => ?_, fun w => ⟨qLx_t (h.le ⟨j0, w⟩ (by omega)) l1.1, fun e => by
    have a := h.le (i := j) (j := i) ⟨j0, w⟩ (by omega)
    rw [e] at a
    exact hd (qLx_a l1.1 a)⟩⟩) (fun j j0 j1 e => ?_)
  · by_cases y : j ≤ i
    · exact y
    · exact absurd w (cnL_n.2 (after j j0 j1 (by omega)))
  · by_cases y : j ≤ i
    · exact y
    · have a := after j j0 j1 (by omega)
      rw [e] at a
      exact absurd (qLx_a l1.1 a) hd
theorem cnOd.df (h : cnOd H n p) (hn : 1 ≤ n) : cnDf H n = cnG H n (p n) + 1 := by
  rw [← h.gs (i := n) ⟨hn, Int.le_refl _⟩ (Q := fun _ => True) (fun j j0 j1 => ⟨fun _ => j1, fun _ => trivial⟩) (fun j j0 j1 _ => j1)]
  exact cntI_c (fun c _ _ => ⟨fun w => ⟨w, trivial⟩, fun w => w.1⟩)
/-- what groups are told by: the order o, where each begins -/
def chO (H : Int → List Int) (n : Int) (o bg : Int → Int) (gc : Int) : Prop :=
  cnOd H n (fun i => o (i - 1)) ∧ gc = cnDf H n ∧ (∀ b, 1 ≤ b → b ≤ n → bg (cnG H n b) = cnLo H n b ∧ bg (cnG H n b + 1) = cnHi H n b) ∧ ∀ q, 0 ≤ q → q < gc → ∃ b, (1 ≤ b ∧ b ≤ n) ∧ cnG H n b = q
/-- the groups of the first k blanks in order -/
def chOk (H : Int → List Int) (n : Int) (p bg : Int → Int) (gc k : Int) : Prop :=
  (k = 0 → gc = 0) ∧ (0 < k → gc = cnG H n (p k) + 1) ∧ (∀ i, 1 ≤ i → i ≤ k → bg (cnG H n (p i)) = cnLo H n (p i) ∧ (cnG H n (p i) + 1 < gc → bg (cnG H n (p i) + 1) = cnHi H n (p i))) ∧ ∀ q, 0 ≤ q → q < gc → ∃ i, (1 ≤ i ∧ i ≤ k) ∧ cnG H n (p i) = q
theorem chOk.same (O : cnOd H n p) (h : chOk H n p bg g k) (hk : 1 ≤ k ∧ k < n) (e : H (p k) = H (p (k + 1))) : chOk H n p bg g (k + 1) := by
  obtain ⟨h1, h2, h3, h4⟩ := h
  obtain ⟨e1, e2, e3⟩ := cnG_h (n := n) e
  have eg := h2 (by omega)
  refine ⟨fun w => by omega, fun _ => by rw [← e1]; exact eg, fun i i0 i1 => ?_, fun q q0 q1 => ?_⟩
  · by_cases y : i = k + 1
    · rw [y, ← e1, ← e2]
      exact ⟨(h3 k hk.1 (Int.le_refl _)).1, fun w => by omega⟩
    · exact h3 i i0 (by omega)
  · obtain ⟨i, hi, e⟩ := h4 q q0 q1
    exact ⟨i, by omega, e⟩
theorem chOk.new (O : cnOd H n p) (h : chOk H n p bg g k) (hk : 0 ≤ k ∧ k < n) (hd : k = 0 ∨ ¬ H (p k) = H (p (k + 1))) : chOk H n p (updI bg g k) (g + 1) (k + 1) ∧ cnG H n (p (k + 1)) = g := by
  obtain ⟨h1, h2, h3, h4⟩ := h
  have eg : cnG H n (p (k + 1)) = g := by
    rcases hd with z | z
    · rw [z, h1 z, Int.zero_add]; exact O.g1 (by omega)
    · by_cases y : k = 0
      · rw [y, h1 y, Int.zero_add]; exact O.g1 (by omega)
      · rw [h2 (by omega)]; exact O.gn ⟨by omega, hk.2⟩ z
  have elo : cnLo H n (p (k + 1)) = k := by
    have := O.lo (i := k + 1) ⟨by omega, by omega⟩ (by
      rcases hd with z | z
      · left; omega
      · right; rw [show k + 1 - 1 = k by omega]; exact z)
    omega
  refine ⟨⟨fun w => by omega, fun _ => by rw [eg], fun i i0 i1 => ?_, fun q q0 q1 => ?_⟩, eg⟩
  · by_cases y : i = k + 1
    · rw [y, eg, updI_s, elo]
      exact ⟨rfl, fun w => by omega⟩
    · have hk0 : ¬ k = 0 := by omega
      have gk := h2 (by omega)
      have le := cnG_le (n := n) (O.le (i := i) (j := k) ⟨i0, by omega⟩ (by omega))
      obtain ⟨a1, a2⟩ := h3 i i0 (by omega)
      refine ⟨by rw [updI_n (by omega)]; exact a1, fun w => ?_⟩
      by_cases z : cnG H n (p i) + 1 = g
      · have bi := O.1.1 i i0 (by omega)
        have bk := O.1.1 k (by omega) (by omega)
        have e := cnG_i (H := H) bi bk (by omega)
        rw [z, updI_s, (cnG_h (n := n) e).2.2]
        exact (O.hi ⟨by omega, hk.2⟩ (hd.resolve_left hk0)).symm
      · rw [updI_n z]; exact a2 (by omega)
  · by_cases z : q = g
    · exact ⟨k + 1, by omega, by rw [z]; exact eg⟩
    · obtain ⟨i, hi, e⟩ := h4 q q0 (by omega)
      exact ⟨i, by omega, e⟩
theorem chOk.fin (hn : 0 ≤ n) (O : cnOd H n (fun i => o (i - 1))) (h : chOk H n (fun i => o (i - 1)) bg g n) : chO H n o (updI bg g n) g := by
  obtain ⟨h1, h2, h3, h4⟩ := h
  have ed : g = cnDf H n := by
    by_cases z : n = 0
    · rw [h1 z]
      have b := cntI_0 (p := fun a => 1 ≤ a ∧ ∀ b, 1 ≤ b → b < a → ¬ H b = H a) (n := (n + 1).toNat) (fun i i0 i1 w => by omega)
      exact b.symm
    · rw [h2 (by omega)]; exact (O.df (by omega)).symm
  refine ⟨O, ed, fun b b0 b1 => ?_, fun q q0 q1 => ?_⟩
  · obtain ⟨i, hi, e⟩ := O.1.on (v := b) ⟨b0, b1⟩
    have gk := h2 (by omega)
    have le := cnG_le (n := n) (O.le (i := i) (j := n) ⟨hi.1, hi.2⟩ (Int.le_refl _))
    obtain ⟨a1, a2⟩ := h3 i hi.1 hi.2
    dsimp only at e a1 a2 gk le
    rw [e] at a1 a2 le
    refine ⟨by rw [updI_n (by omega)]; exact a1, ?_⟩
    by_cases z : cnG H n b + 1 = g
    · have bn := O.1.1 n (by omega) (Int.le_refl _)
      dsimp only at bn
      have e2 := cnG_i (H := H) (a := b) (b := o (n - 1)) ⟨b0, b1⟩ bn (by omega)
      rw [z, updI_s, (cnG_h (n := n) e2).2.2]
      exact (O.hn (by omega)).symm
    · rw [updI_n z]; exact a2 (by omega)
  · obtain ⟨i, hi, e⟩ := h4 q q0 q1
    exact ⟨o (i - 1), O.1.1 i hi.1 hi.2, e⟩
end
section
variable {kd an : Nat → Nat} {ai ai' al al' : Nat → Int → Int} {ar ar' : Nat → Int → Option Nat} {mX1_graph mX1_kept mX1_digest mX1_hashes mX1_next mX1_descriptions mX1_order mX1_begins mX1_numbers mX1_best mX1_row mX1_leastRow mX1_given mX1_form mX1_octets mX2_keys mX3_words mX3_block mX4_bytes : Nat → Option Nat} {mX1_rounds mX1_hashed mX1_groups mX1_keptCount mX1_found mX1_many mX1_namedBlanks mX1_formCount mX1_ways mX1_wanted mX1_taken mX2_blanks mX2_count mX3_size mX4_size : Nat → Int} {A : Nat → Int → Nat} {g : Nat → Nat × Int} {gn hp n m b k c s i j x v r y z : Int} {pi : Int → Int} {D : Int → List Int} {H : Int → List Int} {l : List Int}
theorem CCN_g17 {K : Int → (Nat → Int → Int) → Prop} (L : Lab chK chLn kd an A g (chN gn)) (Sh : chS ar mX1_graph mX1_kept mX1_digest mX1_hashes mX1_next mX1_descriptions mX1_order mX1_begins mX1_numbers mX1_best mX1_row mX1_leastRow mX1_given mX1_form mX1_octets mX2_keys mX3_words mX3_block mX4_bytes A hp pi gn) (hn : n ≤ 8) (hb : 1 ≤ b ∧ b ≤ n) (HH : chH ai A hp n H) (rg : ∀ i, 0 ≤ i → i < b - 1 → 1 ≤ ai (A 6 0) i ∧ ai (A 6 0) i < b)
  (hK : ∀ t ai', (0 ≤ t ∧ t ≤ b - 1) → (∀ a, a ≠ A 6 0 → ai' a = ai a) → (∀ i, 0 ≤ i → i < t → ai' (A 6 0) i = ai (A 6 0) i) → (∀ i, t < i → i ≤ b - 1 → ai' (A 6 0) i = ai (A 6 0) (i - 1)) → (∀ i, t ≤ i → i < b - 1 → cnL H b (ai (A 6 0) i)) → (0 < t → qLx (H (ai (A 6 0) (t - 1))) (H b)) → K t ai') : ∃ fu : Nat, wCN_X1_makeGroups_17 K (A 0 0) b kd an ar mX1_hashes mX1_order fu (b - 1) ai := by
  obtain ⟨⟨_, _, _, s4, _, _⟩, ⟨o1, _⟩, _, ⟨_, s9, _⟩, _, hhp, _⟩ := Sh
  obtain ⟨k6, l6⟩ := chX6 L
  obtain ⟨k9, l9⟩ := chX9 L (j := hp) (by omega)
  refine wl2 (fun fu t q => wCN_X1_makeGroups_17 K (A 0 0) b kd an ar mX1_hashes mX1_order fu t q) (fun t q => (0 ≤ t ∧ t ≤ b - 1) ∧ (∀ a, a ≠ A 6 0 → q a = ai a) ∧ (∀ i, 0 ≤ i → i < t → q (A 6 0) i = ai (A 6 0) i) ∧ (∀ i, t < i → i ≤ b - 1 → q (A 6 0) i = ai (A 6 0) (i - 1)) ∧ ∀ i, t ≤ i → i < b - 1 → cnL H b (ai (A 6 0) i)) (fun t _ => t.toNat) ?_ (b - 1) ai ⟨by omega, fun _ _ => rfl, fun _ _ _ => rfl, fun i i0 i1 => by omega, fun i i0 i1 => by omega⟩
  rintro t q ⟨ht, q0, q1, q2, q3⟩ fu ih
  rw [wCN_X1_makeGroups_17]
  refine ⟨fun z => hK t q ht q0 q1 q2 q3 (fun w => by omega), fun z => ?_⟩
  have e1 := q1 (t - 1) (by omega) (by omega)
  have r1 := rg (t - 1) (by omega) (by omega)
  refine kOn_of o1 ⟨k6, by omega, by omega, kOn_of s4 ⟨k9, by omega, fun r2 er2 => ⟨by omega, fun r3 er3 => ?_⟩⟩⟩
  rw [e1, s9 hp _ (by omega) (by omega)] at er2
  rw [s9 hp b (by omega) (by omega)] at er3
  rw [er2, er3]
  have n6 : ∀ c, (0 ≤ 9 * hp + c ∧ 9 * hp + c < 18) → A 10 (9 * hp + c) ≠ A 6 0 := fun c hc => L.ne ⟨hc.1, show _ < (18 : Int) from hc.2⟩ ⟨by decide, show (0 : Int) < 1 by decide⟩ (Or.inl (by decide))
  have ha : 0 ≤ 9 * hp + ai (A 6 0) (t - 1) ∧ 9 * hp + ai (A 6 0) (t - 1) < 18 := by omega
  have hb2 : 0 ≤ 9 * hp + b ∧ 9 * hp + b < 18 := by omega
  obtain ⟨ka, la⟩ := chX10 L ha
  obtain ⟨kb, lb⟩ := chX10 L hb2
  have Wa : chW (q (A 10 (9 * hp + ai (A 6 0) (t - 1)))) (H (ai (A 6 0) (t - 1))) := by
    rw [q0 _ (n6 _ ha)]; exact HH _ r1.1 (by omega)
  have Wb : chW (q (A 10 (9 * hp + b))) (H b) := by
    rw [q0 _ (n6 _ hb2)]; exact HH b hb.1 hb.2
  have stop : qLx (H (ai (A 6 0) (t - 1))) (H b) → K t q := fun h => hK t q ht q0 q1 q2 q3 (fun _ => h)
  refine CCN_compare ka la kb lb Wa Wb (fun e => ⟨fun _ => stop (by rw [e]; exact qLx_r _), fun w => absurd (by decide) w⟩) (fun e => ⟨fun _ => stop e.1, fun w => absurd (by decide) w⟩) (fun e => ⟨fun w => absurd w (by decide), fun _ v ev => ⟨by omega, fun a2 ea => ⟨by omega, fun t' et => ?_⟩⟩⟩)
  rw [et]
  refine ih (t + -1) a2 ⟨by omega, fun a na => by rw [ea, va_up_n na]; exact q0 a na, fun i i0 i1 => by rw [ea, va_up_s, updI_n (by omega)]; exact q1 i i0 (by omega), fun i i0 i1 => ?_, fun i i0 i1 => ?_⟩ (by omega)
  · rw [ea, va_up_s]
    by_cases y : i = t
    · rw [y, updI_s, ev]; exact e1
    · rw [updI_n y]; exact q2 i (by omega) i1
  · by_cases y : i = t - 1
    · rw [y]; exact e
    · exact q3 i (by omega) i1
theorem CCN_g2 {K : (Nat → Int → Int) → Prop} (L : Lab chK chLn kd an A g (chN gn)) (Sh : chS ar mX1_graph mX1_kept mX1_digest mX1_hashes mX1_next mX1_descriptions mX1_order mX1_begins mX1_numbers mX1_best mX1_row mX1_leastRow mX1_given mX1_form mX1_octets mX2_keys mX3_words mX3_block mX4_bytes A hp pi gn) (eb : mX2_blanks (A 14 gn) = n) (hn : 0 ≤ n ∧ n ≤ 8) (HH : chH ai A hp n H) (hK : ∀ ai', (∀ a, a ≠ A 6 0 → ai' a = ai a) → cnOd H n (fun i => ai' (A 6 0) (i - 1)) → K ai') : ∃ fu : Nat, wCN_X1_makeGroups_2 K (A 0 0) kd an ar mX1_graph mX1_hashes mX1_order mX2_blanks fu 1 ai := by
  have k14 := chX14 L (j := gn) ⟨Sh.2.2.2.2.2.2.1, by omega⟩
  obtain ⟨k6, l6⟩ := chX6 L
  refine wl2 (fun fu b q => wCN_X1_makeGroups_2 K (A 0 0) kd an ar mX1_graph mX1_hashes mX1_order mX2_blanks fu b q) (fun b q => (1 ≤ b ∧ b ≤ n + 1) ∧ (∀ a, a ≠ A 6 0 → q a = ai a) ∧ (∀ i, 0 ≤ i → i < b - 1 → 1 ≤ q (A 6 0) i ∧ q (A 6 0) i < b) ∧ ∀ i j, 0 ≤ i → i < j → j < b - 1 → cnB H (q (A 6 0) i) (q (A 6 0) j)) (fun b _ => (n + 1 - b).toNat) ?_ 1 ai ⟨by omega, fun _ _ => rfl, fun i i0 i1 => by omega, fun i j i0 ij j1 => by omega⟩
  rintro b q ⟨hb, q0, q1, q2⟩ fu ih
  rw [wCN_X1_makeGroups_2]
  refine kOn_of Sh.1.1 ⟨k14, ?_⟩
  rw [eb]
  refine ⟨fun z => hK q q0 ⟨⟨fun i i0 i1 => ?_, fun i j i0 ij j1 e => ?_⟩, fun i j i0 ij j1 => q2 (i - 1) (j - 1) (by omega) (by omega) (by omega)⟩, fun z => ⟨by omega, fun t0 et0 => ?_⟩⟩
  · have := q1 (i - 1) (by omega) (by omega)
    dsimp only
    omega
  · have := q2 (i - 1) (j - 1) (by omega) (by omega) (by omega)
    dsimp only at e
    rw [e] at this
    exact cnB_n this
  · rw [et0]
    have HHq : chH q A hp n H := fun c c0 c1 => by
      have hc : 0 ≤ 9 * hp + c ∧ 9 * hp + c < 18 := by
        have := Sh.2.2.2.2.2.1
        omega
      rw [q0 (A 10 (9 * hp + c)) (L.ne ⟨hc.1, show _ < (18 : Int) from hc.2⟩ ⟨by decide, show (0 : Int) < 1 by decide⟩ (Or.inl (by decide)))]
      exact HH c c0 c1
    refine CCN_g17 L Sh hn.2 ⟨hb.1, by omega⟩ HHq q1 (fun t a2 ht f0 f1 f2 f3 f4 => kOn_of Sh.2.1.1 ⟨k6, by omega, fun a3 ea => ⟨by omega, fun b' eb' => ?_⟩⟩)
    have at_ : ∀ i, 0 ≤ i → i ≤ b - 1 → a3 (A 6 0) i = if i = t then b else if t < i then q (A 6 0) (i - 1) else q (A 6 0) i := fun i i0 i1 => by
      rw [ea, va_up_s, updI_e]
      by_cases y : i = t
      · rw [if_pos y, if_pos y]
      · rw [if_neg y, if_neg y]
        by_cases y2 : t < i
        · rw [if_pos y2]; exact f2 i y2 i1
        · rw [if_neg y2]; exact f1 i i0 (by omega)
    have low : ∀ i, 0 ≤ i → i < t → cnB H (q (A 6 0) i) b := fun i i0 i1 => by
      have r := q1 i i0 (by omega)
      have l4 := f4 (by omega)
      have l5 : qLx (H (q (A 6 0) i)) (H b) := by
        by_cases y : i = t - 1
        · rw [y]; exact l4
        · exact qLx_t (cnB_q (q2 i (t - 1) i0 (by omega) (by omega))) l4
      by_cases e : H (q (A 6 0) i) = H b
      · exact Or.inr ⟨e, r.2⟩
      · exact Or.inl ⟨l5, e⟩
    rw [eb']
    refine ih (b + 1) a3 ⟨by omega, fun a na => by rw [ea, va_up_n na, f0 a na]; exact q0 a na, fun i i0 i1 => ?_, fun i j i0 ij j1 => ?_⟩ (by omega)
    · rw [at_ i i0 (by omega)]
      by_cases y : i = t
      · rw [if_pos y]; omega
      · rw [if_neg y]
        by_cases y2 : t < i
        · rw [if_pos y2]
          have := q1 (i - 1) (by omega) (by omega)
          omega
        · rw [if_neg y2]
          have := q1 i i0 (by omega)
          omega
    · rw [at_ i i0 (by omega), at_ j (by omega) (by omega)]
      by_cases y : i = t
      · rw [if_pos y, if_neg (by omega), if_pos (by omega)]
        exact Or.inl (f3 (j - 1) (by omega) (by omega))
      · rw [if_neg y]
        by_cases y2 : t < i
        · rw [if_pos y2, if_neg (by omega), if_pos (by omega)]; exact q2 (i - 1) (j - 1) (by omega) (by omega) (by omega)
        · rw [if_neg y2]
          by_cases y3 : j = t
          · rw [if_pos y3]; exact low i i0 (by omega)
          · rw [if_neg y3]
            by_cases y4 : t < j
            · rw [if_pos y4]
              by_cases y5 : i = j - 1
              · omega
              · exact q2 i (j - 1) i0 (by omega) (by omega)
            · rw [if_neg y4]; exact q2 i j i0 ij (by omega)
theorem CCN_makeGroups {post : (Nat → Int → Int) → (Nat → Int) → Prop} (L : Lab chK chLn kd an A g (chN gn)) (Sh : chS ar mX1_graph mX1_kept mX1_digest mX1_hashes mX1_next mX1_descriptions mX1_order mX1_begins mX1_numbers mX1_best mX1_row mX1_leastRow mX1_given mX1_form mX1_octets mX2_keys mX3_words mX3_block mX4_bytes A hp pi gn) (eb : mX2_blanks (A 14 gn) = n) (hn : 0 ≤ n ∧ n ≤ 8) (HH : chH ai A hp n H) (hp_ : ∀ ai' g', (∀ a, a ≠ A 6 0 → a ≠ A 7 0 → ai' a = ai a) → (∀ a, a ≠ A 0 0 → g' a = mX1_groups a) → chO H n (ai' (A 6 0)) (ai' (A 7 0)) (g' (A 0 0)) → post ai' g') : wpCN_X1_makeGroups post kd an ai ar mX1_graph mX1_hashes mX1_order mX1_begins mX1_groups mX2_blanks (A 0 0) := by
  have k14 := chX14 L (j := gn) ⟨Sh.2.2.2.2.2.2.1, by omega⟩
  obtain ⟨k6, l6⟩ := chX6 L
  obtain ⟨k7, l7⟩ := chX7 L (j := 0) (by decide)
  have hhp := Sh.2.2.2.2.2.1
  obtain ⟨k9, l9⟩ := chX9 L (j := hp) (by omega)
  have n67 : A 6 0 ≠ A 7 0 := L.ne ⟨by decide, show (0 : Int) < 1 by decide⟩ ⟨by decide, show (0 : Int) < 4 by decide⟩ (Or.inl (by decide))
  have n107 : ∀ c, (0 ≤ 9 * hp + c ∧ 9 * hp + c < 18) → A 10 (9 * hp + c) ≠ A 7 0 := fun c hc => L.ne ⟨hc.1, show _ < (18 : Int) from hc.2⟩ ⟨by decide, show (0 : Int) < 4 by decide⟩ (Or.inl (by decide))
  have n106 : ∀ c, (0 ≤ 9 * hp + c ∧ 9 * hp + c < 18) → A 10 (9 * hp + c) ≠ A 6 0 := fun c hc => L.ne ⟨hc.1, show _ < (18 : Int) from hc.2⟩ ⟨by decide, show (0 : Int) < 1 by decide⟩ (Or.inl (by decide))
  unfold wpCN_X1_makeGroups
  refine CCN_g2 L Sh eb hn HH (fun a1 f1 O => fun g1 eg1 => ?_)
  refine wl3 (fun fu k q gr => wCN_X1_makeGroups_86 _ (A 0 0) kd an ar mX1_graph mX1_hashes mX1_order mX1_begins mX2_blanks fu k q gr) (fun k q gr => (0 ≤ k ∧ k ≤ n) ∧ (∀ a, a ≠ A 7 0 → q a = a1 a) ∧ (∀ a, a ≠ A 0 0 → gr a = mX1_groups a) ∧ chOk H n (fun i => a1 (A 6 0) (i - 1)) (q (A 7 0)) (gr (A 0 0)) k ∧ 0 ≤ gr (A 0 0) ∧ gr (A 0 0) ≤ k) (fun k _ _ => (n - k).toNat) ?_ 0 a1 g1 ⟨by omega, fun _ _ => rfl, fun a na => by rw [eg1, va_up_n na], ⟨fun _ => by rw [eg1, va_up_s], fun w => by omega, fun i i0 i1 => by omega, fun q q0 q1 => by
    rw [eg1, va_up_s] at q1
    omega⟩, by rw [eg1, va_up_s]; exact ⟨Int.le_refl _, Int.le_refl _⟩⟩
  rintro k q gr ⟨hk, q0, q1, I, g0, gk⟩ fu ih
  rw [wCN_X1_makeGroups_86]
  refine kOn_of Sh.1.1 ⟨k14, ?_⟩
  rw [eb]
  have q6 : q (A 6 0) = a1 (A 6 0) := q0 _ n67
  refine ⟨fun z => kOn_of Sh.1.1 ⟨k14, fun v ev => kOn_of Sh.2.1.2.1 ⟨k7, by omega, fun a2 ea => ?_⟩⟩, fun z => ?_⟩
  · have ek : k = n := by omega
    rw [eb] at ev
    rw [ek] at I
    refine hp_ a2 gr (fun a n6 n7 => by rw [ea, va_up_n n7, q0 a n7]; exact f1 a n6) q1 ?_
    rw [ea, va_up_s, va_up_n n67, q6, ev]
    exact I.fin hn.1 O
  · have new : (k = 0 ∨ ¬ H (a1 (A 6 0) (k - 1)) = H (a1 (A 6 0) k)) → wCN_X1_makeGroups_134 (wCN_X1_makeGroups_86 (fun ai_78 mX1_groups_79 => kOn (mX1_graph (A 0 0)) (fun b_80 => kd b_80 = 2 ∧ (∀ v_82 : Int, v_82 = mX2_blanks b_80 → (kOn (mX1_begins (A 0 0)) (fun b_83 => kd b_83 = 5 ∧ ((0 ≤ (mX1_groups_79 (A 0 0)) ∧ (mX1_groups_79 (A 0 0)) < (an b_83 : Int)) ∧ (∀ ai_86 : Nat → Int → Int, ai_86 = va_up ai_78 b_83 (updI (ai_78 b_83) (mX1_groups_79 (A 0 0)) v_82) → ((post ai_86 mX1_groups_79)))))))))  (A 0 0) kd an ar mX1_graph mX1_hashes mX1_order mX1_begins mX2_blanks fu) (A 0 0) k kd an q mX1_begins gr := fun hd => by
      unfold wCN_X1_makeGroups_134
      refine kOn_of Sh.2.1.2.1 ⟨k7, by omega, fun a2 ea => ⟨by omega, fun v ev g2 eg2 => ⟨by omega, fun k' ek => ?_⟩⟩⟩
      have N := I.new O (by omega) (by
        rcases hd with w | w
        · exact Or.inl w
        · right
          show ¬ H (a1 (A 6 0) (k - 1)) = H (a1 (A 6 0) (k + 1 - 1))
          rw [show k + 1 - 1 = k by omega]; exact w)
      rw [ek]
      refine ih (k + 1) a2 g2 ⟨by omega, fun a na => by rw [ea, va_up_n na]; exact q0 a na, fun a na => by rw [eg2, va_up_n na]; exact q1 a na, ?_, ?_⟩ (by omega)
      · rw [ea, va_up_s, eg2, va_up_s, ev]; exact N.1
      · rw [eg2, va_up_s, ev]; omega
    refine ⟨fun w => new (Or.inl (by omega)), fun w => ?_⟩
    have p1 := O.1.1 k (by omega) (by omega)
    have p2 := O.1.1 (k + 1) (by omega) (by omega)
    dsimp only at p1 p2
    rw [show k + 1 - 1 = k by omega] at p2
    refine kOn_of Sh.2.1.1 ⟨k6, by omega, by omega, kOn_of Sh.1.2.2.2.1 ⟨k9, by rw [q6]; omega, fun r1 e1 => ⟨by omega, by rw [q6]; omega, fun r2 e2 => ?_⟩⟩⟩
    rw [q6, Sh.2.2.2.1.2.1 hp _ (by omega) (by omega)] at e1 e2
    rw [e1, e2]
    have ha : 0 ≤ 9 * hp + a1 (A 6 0) (k - 1) ∧ 9 * hp + a1 (A 6 0) (k - 1) < 18 := by omega
    have hb2 : 0 ≤ 9 * hp + a1 (A 6 0) k ∧ 9 * hp + a1 (A 6 0) k < 18 := by omega
    obtain ⟨ka, la⟩ := chX10 L ha
    obtain ⟨kb, lb⟩ := chX10 L hb2
    have Wa : chW (q (A 10 (9 * hp + a1 (A 6 0) (k - 1)))) (H (a1 (A 6 0) (k - 1))) := by
      rw [q0 _ (n107 _ ha), f1 _ (n106 _ ha)]; exact HH _ p1.1 p1.2
    have Wb : chW (q (A 10 (9 * hp + a1 (A 6 0) k))) (H (a1 (A 6 0) k)) := by
      rw [q0 _ (n107 _ hb2), f1 _ (n106 _ hb2)]; exact HH _ p2.1 p2.2
    refine CCN_compare ka la kb lb Wa Wb (fun e => ⟨fun _ => ⟨by omega, fun k' ek => ?_⟩, fun w => absurd rfl w⟩) (fun e => ⟨fun w => absurd w (by decide), fun _ => new (Or.inr e.2)⟩) (fun e => ⟨fun w => absurd w (by decide), fun _ => new (Or.inr (fun y => e.2 y.symm))⟩)
    rw [ek]
    refine ih (k + 1) q gr ⟨by omega, q0, q1, I.same O ⟨by omega, by omega⟩ ?_, g0, by omega⟩ (by omega)
    show H (a1 (A 6 0) (k - 1)) = H (a1 (A 6 0) (k + 1 - 1))
    rw [show k + 1 - 1 = k by omega]; exact e
end
