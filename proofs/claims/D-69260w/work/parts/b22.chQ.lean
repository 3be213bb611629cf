/-! CanonNames (room CN): all namings searched -/
section
variable {H : Int → List Int} {n p b c i j q x gc a : Int} {f o bg : Int → Int} {t : List Int}
/-- numbers given to some blanks: 1 .. p -/
def chPf (H : Int → List Int) (n p : Int) (f : Int → Int) : Prop :=
  (∀ b, 1 ≤ b → b ≤ n → 0 ≤ f b ∧ f b ≤ p) ∧ (∀ b c, (1 ≤ b ∧ b ≤ n) → (1 ≤ c ∧ c ≤ n) → ¬ f b = 0 → f b = f c → b = c) ∧ cntI (fun b => 1 ≤ b ∧ ¬ f b = 0) (n + 1).toNat = p ∧ (∀ b, 1 ≤ b → b ≤ n → ¬ f b = 0 → cnLo H n b < f b ∧ f b ≤ cnHi H n b) ∧ ∀ b, n < b → b ≤ 8 → f b = 0
/-- the namings that go on from them -/
def chCp (H : Int → List Int) (n p : Int) (f : Int → Int) (t : List Int) : Prop := cnPm n t ∧ cnNa H n (cnAt t) ∧ ∀ b, 1 ≤ b → b ≤ n → (¬ f b = 0 → cnAt t b = f b) ∧ (f b = 0 → p < cnAt t b)
theorem chPf.all (hn : 0 ≤ n) (h : chPf H n n f) : ∀ b, 1 ≤ b → b ≤ n → ¬ f b = 0 := fun b b0 b1 e => by
  have := cntI_ltr (p := fun b => 1 ≤ b ∧ ¬ f b = 0) (q := fun b => 1 ≤ b) (j := b) (n + 1).toNat (fun i _ _ w => w.1) (by omega) (by omega) b0 (fun w => w.2 e)
  rw [cntI_1n hn, h.2.2.1] at this
  omega
theorem chPf.fin (hn : 0 ≤ n) (h : chPf H n n f) : cnIn n f ∧ (chCp H n n f t ↔ t = aF f 1 n.toNat) := by
  have nz := h.all hn
  have I : cnIn n f := ⟨fun b b0 b1 => by
    have := h.1 b b0 b1
    have := nz b b0 b1
    omega, fun b c b0 bc c1 e => by
    have := h.2.1 b c ⟨b0, by omega⟩ ⟨by omega, c1⟩ (nz b b0 (by omega)) e
    omega⟩
  refine ⟨I, fun C => ?_, fun e => ?_⟩
  · obtain ⟨e, _⟩ := cnPm_at C.1
    rw [← e]
    exact aF_c _ _ (fun b b0 b1 => (C.2.2 b b0 (by omega)).1 (nz b b0 (by omega)))
  · rw [e]
    refine ⟨(cnPm_f hn).2 I, fun b b0 b1 => ?_, fun b b0 b1 => ⟨fun _ => cnAt_f ⟨b0, b1⟩, fun w => absurd w (nz b b0 b1)⟩⟩
    rw [cnAt_f ⟨b0, b1⟩]
    exact h.2.2.2.1 b b0 b1 (nz b b0 b1)
theorem chPf.step (h : chPf H n p f) (hb : 1 ≤ b ∧ b ≤ n) (z : f b = 0) (hp : 0 ≤ p) (lo : cnLo H n b ≤ p) (hi : p < cnHi H n b) : chPf H n (p + 1) (updI f b (p + 1)) := by
  obtain ⟨h1, h2, h3, h4, h5⟩ := h
  refine ⟨fun c c0 c1 => ?_, fun c d hc hd nz e => ?_, ?_, fun c c0 c1 nz => ?_, fun c c0 c1 => by rw [updI_n (by omega)]; exact h5 c c0 c1⟩
  · rw [updI_e]
    by_cases y : c = b
    · rw [if_pos y]; omega
    · rw [if_neg y]
      have := h1 c c0 c1
      omega
  · rw [updI_e] at nz e
    rw [updI_e] at e
    have b1 := h1 c hc.1 hc.2
    have b2 := h1 d hd.1 hd.2
    by_cases y : c = b
    · rw [if_pos y] at nz e
      by_cases y2 : d = b
      · rw [y, y2]
      · rw [if_neg y2] at e; omega
    · rw [if_neg y] at nz e
      by_cases y2 : d = b
      · rw [if_pos y2] at e; omega
      · rw [if_neg y2] at e
        exact h2 c d hc hd nz e
  · have cn := cntI_u1 (p := fun c => 1 ≤ c ∧ ¬ f c = 0) (q := fun c => 1 ≤ c ∧ ¬ updI f b (p + 1) c = 0) (x0 := b) (by omega) (fun w => w.2 z) ⟨hb.1, by rw [updI_s]; omega⟩ (fun c nc => by rw [updI_n nc]) (n + 1).toNat
    rw [cn, h3, if_pos (by omega)]
  · rw [updI_e] at nz ⊢
    by_cases y : c = b
    · rw [if_pos y, y]; omega
    · rw [if_neg y] at nz ⊢
      exact h4 c c0 c1 nz
/-- a naming that goes on gives the next number to some blank -/
theorem chCp.cut (hp : 0 ≤ p ∧ p < n) (h1 : ∀ b, 1 ≤ b → b ≤ n → 0 ≤ f b ∧ f b ≤ p) : chCp H n p f t ↔ ∃ b, (1 ≤ b ∧ b ≤ n) ∧ f b = 0 ∧ cnAt t b = p + 1 ∧ chCp H n (p + 1) (updI f b (p + 1)) t := by
  constructor
  · rintro ⟨c1, c2, c3⟩
    obtain ⟨_, I⟩ := cnPm_at c1
    obtain ⟨b, hb, e⟩ := I.on (v := p + 1) (by omega)
    have z : f b = 0 := Classical.byContradiction (fun nz => by
      have := (c3 b hb.1 hb.2).1 nz
      have := h1 b hb.1 hb.2
      omega)
    refine ⟨b, hb, z, e, c1, c2, fun c hc0 hc1 => ?_⟩
    rw [updI_e]
    by_cases y : c = b
    · rw [if_pos y, y]
      exact ⟨fun _ => e, fun w => by omega⟩
    · rw [if_neg y]
      refine ⟨(c3 c hc0 hc1).1, fun w => ?_⟩
      have := (c3 c hc0 hc1).2 w
      have : ¬ cnAt t c = p + 1 := fun w2 => y (I.ne ⟨hc0, hc1⟩ hb (by rw [w2, e]))
      omega
  · rintro ⟨b, hb, z, e, c1, c2, c3⟩
    refine ⟨c1, c2, fun c hc0 hc1 => ?_⟩
    have c4 := c3 c hc0 hc1
    rw [updI_e] at c4
    by_cases y : c = b
    · rw [y]
      exact ⟨fun w => absurd z w, fun _ => by omega⟩
    · rw [if_neg y] at c4
      refine ⟨c4.1, fun w => ?_⟩
      have := c4.2 w
      omega
theorem cnHi_lo (h : cnL H a b) : cnHi H n a ≤ cnLo H n b := cntI_ler _ (fun c _ _ w => ⟨w.1, qLx_t w.2 h.1, fun e => by
  have := w.2
  rw [e] at this
  exact h.2 (qLx_a h.1 this)⟩)
theorem cn_same (ha : cnLo H n a ≤ x ∧ x < cnHi H n a) (hb : cnLo H n b ≤ x ∧ x < cnHi H n b) : H a = H b := Classical.byContradiction (fun ne => by
  rcases qLx_tot (H a) (H b) with h | h
  · have := cnHi_lo (n := n) ⟨h, ne⟩
    omega
  · have := cnHi_lo (n := n) (H := H) (a := b) (b := a) ⟨h, fun w => ne w.symm⟩
    omega)
theorem chO.pos (O : chO H n o bg gc) (hj : 0 ≤ j ∧ j < n) : (1 ≤ o j ∧ o j ≤ n) ∧ cnLo H n (o j) ≤ j ∧ j < cnHi H n (o j) := by
  have pv := O.1.1.1 (j + 1) (by omega) (by omega)
  have ct := O.1.ct (i := j + 1) ⟨by omega, by omega⟩
  dsimp only at pv ct
  rw [show j + 1 - 1 = j by omega] at pv ct
  refine ⟨pv, ?_, ?_⟩
  · have := cntI_ler (p := fun c => 1 ≤ c ∧ cnL H c (o j)) (q := fun c => 1 ≤ c ∧ cnB H c (o j)) (n + 1).toNat (fun c _ _ w => ⟨w.1, Or.inl w.2⟩)
    have e : cnLo H n (o j) ≤ cntI (fun c => 1 ≤ c ∧ cnB H c (o j)) (n + 1).toNat := this
    omega
  · have := cntI_ltr (p := fun c => 1 ≤ c ∧ cnB H c (o j)) (q := fun c => 1 ≤ c ∧ qLx (H c) (H (o j))) (j := o j) (n + 1).toNat (fun c _ _ w => ⟨w.1, cnB_q w.2⟩) (by omega) (by omega) ⟨pv.1, qLx_r _⟩ (fun w => cnB_n w.2)
    have e : cntI (fun c => 1 ≤ c ∧ cnB H c (o j)) (n + 1).toNat + 1 ≤ cnHi H n (o j) := this
    omega
theorem chO.on (O : chO H n o bg gc) (hb : 1 ≤ b ∧ b ≤ n) : ∃ j, (0 ≤ j ∧ j < n) ∧ o j = b := by
  obtain ⟨i, hi, e⟩ := O.1.1.on hb
  exact ⟨i - 1, by omega, e⟩
/-- a group: its numbers -/
theorem chO.grp (hn : 0 ≤ n) (O : chO H n o bg gc) (hq : 0 ≤ q ∧ q < gc) : ∃ b, (1 ≤ b ∧ b ≤ n) ∧ cnG H n b = q ∧ bg q = cnLo H n b ∧ bg (q + 1) = cnHi H n b ∧ 0 ≤ bg q ∧ bg q < bg (q + 1) ∧ bg (q + 1) ≤ n ∧ (bg (q + 1) < n → q + 1 < gc) := by
  obtain ⟨b, hb, e⟩ := O.2.2.2 q hq.1 hq.2
  obtain ⟨a1, a2⟩ := O.2.2.1 b hb.1 hb.2
  rw [e] at a1 a2
  have l0 : 0 ≤ cnLo H n b := (cntI_b _ (n + 1).toNat).1
  have lt : cnLo H n b + 1 ≤ cnHi H n b := cntI_ltr (j := b) (n + 1).toNat (fun c _ _ w => ⟨w.1, w.2.1⟩) (by omega) (by omega) ⟨hb.1, qLx_r _⟩ (fun w => w.2.2 rfl)
  have hin := cntI_ler (p := fun c => 1 ≤ c ∧ qLx (H c) (H b)) (q := fun c => 1 ≤ c) (n + 1).toNat (fun i _ _ h => h.1)
  rw [cntI_1n hn] at hin
  have hi2 : cnHi H n b ≤ n := hin
  refine ⟨b, hb, e, a1, a2, by omega, by omega, by omega, fun w => ?_⟩
  have ex : ∃ c, (1 ≤ c ∧ c ≤ n) ∧ ¬ qLx (H c) (H b) := Classical.byContradiction (fun no => by
    have : cnHi H n b = n := (cntI_c (fun c c0 c1 => ⟨fun z => z.1, fun z => ⟨z, Classical.byContradiction (fun y => no ⟨c, ⟨z, by omega⟩, y⟩)⟩⟩)).trans (cntI_1n hn)
    omega)
  obtain ⟨c, hc, nc⟩ := ex
  have l : cnL H b c := ⟨(qLx_tot _ _).resolve_right nc, fun y => nc (by rw [y]; exact qLx_r _)⟩
  have g1 := cnG_lt (n := n) hb l
  have g2 : cnG H n c + 1 ≤ cnDf H n := by
    obtain ⟨d, fd, ed, ld⟩ := cnF_ex (H := H) c.toNat c hc.1 (by omega)
    exact cntI_ltr (j := d) (n + 1).toNat (fun i _ _ u => u.1) (by have := fd.1; omega) (by omega) fd (fun u => u.2.2 ed)
  have := O.2.1
  omega
def cn9 : Nat → Int
  | 0 => 1
  | m + 1 => 9 * cn9 m
theorem cn9_p : ∀ m : Nat, 1 ≤ cn9 m
  | 0 => by decide
  | m + 1 => by
    have := cn9_p m
    rw [cn9]; omega
theorem chUp (z : f b = 0) : updI (updI f b x) b 0 = f := by
  funext c
  rw [updI_e, updI_e]
  by_cases y : c = b
  · rw [if_pos y, y, z]
  · rw [if_neg y, if_neg y]
end
section
variable {kd an : Nat → Nat} {al0 : Nat → Int → Int} {ar ar' : Nat → Int → Option Nat} {mX1_graph mX1_kept mX1_digest mX1_hashes mX1_next mX1_descriptions mX1_order mX1_begins mX1_numbers mX1_best mX1_row mX1_leastRow mX1_given mX1_form mX1_octets mX2_keys mX3_words mX3_block mX4_bytes : Nat → Option Nat} {mX1_rounds mX1_hashed mX1_groups mX1_keptCount mX1_namedBlanks mX1_formCount mX1_ways mX1_wanted mX1_taken mX2_blanks mX2_count mX3_size mX4_size : Nat → Int} {A : Nat → Int → Nat} {g : Nat → Nat × Int} {gn hp n m b k c s i j x v r y z : Int} {pi : Int → Int} {D : Int → List Int} {H : Int → List Int} {l : List Int}
theorem CCN_search (L : Lab chK chLn kd an A g (chN gn)) (Sh : chS ar mX1_graph mX1_kept mX1_digest mX1_hashes mX1_next mX1_descriptions mX1_order mX1_begins mX1_numbers mX1_best mX1_row mX1_leastRow mX1_given mX1_form mX1_octets mX2_keys mX3_words mX3_block mX4_bytes A hp pi gn) (G : chG kd an al0 mX2_blanks mX2_count mX2_keys (A 14 gn) (A 13 gn) n m) {L0 : List qA} (eL0 : chL (al0 (A 13 gn)) m = L0) {o bg : Int → Int} {gc : Int} (O : chO H n o bg gc) : ∀ (d : Nat) (p q : Int) (f : Int → Int) (ai al : Nat → Int → Int) (mX1_found mX1_many : Nat → Int) (Bs : List (List Int)) (dn : Nat) (post : (Nat → Int → Int) → (Nat → Int → Int) → (Nat → Int) → (Nat → Int) → Prop), p + d = n → 0 ≤ p → d + 1 ≤ dn → ai (A 6 0) = o → ai (A 7 0) = bg → ai (A 7 1) = f → al (A 13 gn) = al0 (A 13 gn) → chPf H n p f → (p < n → (0 ≤ q ∧ q < gc) ∧ bg q ≤ p ∧ p ≤ bg (q + 1)) → chJ ai al A (mX1_found (A 0 0)) (mX1_many (A 0 0)) L0 n m Bs → (Bs.length : Int) + cn9 d ≤ 1000000000 → (∀ ai' al' f' k' Cs, Cs.Nodup → (∀ t, t ∈ Cs ↔ chCp H n p f t) → (Cs.length : Int) ≤ cn9 d → chJ ai' al' A (f' (A 0 0)) (k' (A 0 0)) L0 n m (Bs ++ Cs) → ai' (A 7 1) = f → (∀ a, a ≠ A 7 1 → a ≠ A 7 2 → ai' a = ai a) → (∀ a, a ≠ A 8 0 → a ≠ A 8 1 → al' a = al a) → post ai' al' f' k') → wpCN_X1_search dn post kd an ai al mX1_graph mX1_order mX1_begins mX1_numbers mX1_best mX1_row mX1_leastRow mX1_found mX1_many mX2_blanks mX2_count mX2_keys (some (A 0 0)) p q := by
  intro d
  induction d with
  | zero =>
    intro p q f ai al mX1_found mX1_many Bs dn post epd p0 hdn e6 e7 e71 e13 PF PQ J hB hK
    have hn := G.2.1.2
    have eb := G.2.1.1
    have k14 := chX14 L (j := gn) ⟨Sh.2.2.2.2.2.2.1, by omega⟩
    have k0 := chX0 L
    have k6 := chX6 L
    have k70 := chX7 L (j := 0) (by decide)
    have k71 := chX7 L (j := 1) (by decide)
    have G' : chG kd an al mX2_blanks mX2_count mX2_keys (A 14 gn) (A 13 gn) n m := by
      obtain ⟨g1, g2, g3, g4, g5⟩ := G
      exact ⟨g1, g2, g3, by rw [e13]; exact g4, by rw [e13]; exact g5⟩
    have eL : chL (al (A 13 gn)) m = L0 := by rw [e13, eL0]
    have n7 : ∀ i j, (0 ≤ i ∧ i < 4) → (0 ≤ j ∧ j < 4) → ¬ i = j → A 7 i ≠ A 7 j := fun i j hi hj ne => L.ne ⟨hi.1, show i < (4 : Int) from hi.2⟩ ⟨hj.1, show j < (4 : Int) from hj.2⟩ (Or.inr ne)
    have n67 : ∀ j, (0 ≤ j ∧ j < 4) → A 6 0 ≠ A 7 j := fun j hj => L.ne ⟨Int.le_refl 0, show (0 : Int) < 1 by decide⟩ ⟨hj.1, show j < (4 : Int) from hj.2⟩ (Or.inl (by decide))
    have n13 : ∀ j, (0 ≤ j ∧ j < 3) → A 13 gn ≠ A 8 j := fun j hj => L.ne ⟨Sh.2.2.2.2.2.2.1, show gn < gn + 1 by omega⟩ ⟨hj.1, show j < (3 : Int) from hj.2⟩ (Or.inl (by decide))
    match dn, hdn with
    | 0, hdn => omega
    | dn + 1, hdn =>
    rw [wpCN_X1_search]
    refine kOn_of rfl ⟨k0, kOn_of Sh.1.1 ⟨k14, ?_⟩⟩
    rw [eb]
    refine ⟨fun ep => ?_, fun np => absurd (by omega) np⟩
    · -- a whole naming
      subst ep
      obtain ⟨I, _⟩ := PF.fin (t := []) (by omega)
      refine CCN_weigh L Sh G' (by rw [e71]; exact I) (fun b b0 b1 => by rw [e71]; exact PF.2.2.2.2 b b0 b1) (by rw [eL]; exact J) (by have := cn9_p 0; omega) (fun ai' al' f' k' J' fa fl => ?_)
      rw [eL, e71] at J'
      refine hK ai' al' f' k' [aF f 1 p.toNat] (List.pairwise_singleton _ _) (fun t => ?_) (by show (1 : Int) ≤ 1; decide) J' (by rw [fa _ (n7 1 2 (by decide) (by decide) (by decide))]; exact e71) (fun a n1 n2 => fa a n2) fl
      rw [List.mem_singleton, (PF.fin (t := t) (by omega)).2]
  | succ d IH =>
    intro p q f ai al mX1_found mX1_many Bs dn post epd p0 hdn e6 e7 e71 e13 PF PQ J hB hK
    have hn := G.2.1.2
    have eb := G.2.1.1
    have k14 := chX14 L (j := gn) ⟨Sh.2.2.2.2.2.2.1, by omega⟩
    have k0 := chX0 L
    have k6 := chX6 L
    have k70 := chX7 L (j := 0) (by decide)
    have k71 := chX7 L (j := 1) (by decide)
    have G' : chG kd an al mX2_blanks mX2_count mX2_keys (A 14 gn) (A 13 gn) n m := by
      obtain ⟨g1, g2, g3, g4, g5⟩ := G
      exact ⟨g1, g2, g3, by rw [e13]; exact g4, by rw [e13]; exact g5⟩
    have eL : chL (al (A 13 gn)) m = L0 := by rw [e13, eL0]
    have n7 : ∀ i j, (0 ≤ i ∧ i < 4) → (0 ≤ j ∧ j < 4) → ¬ i = j → A 7 i ≠ A 7 j := fun i j hi hj ne => L.ne ⟨hi.1, show i < (4 : Int) from hi.2⟩ ⟨hj.1, show j < (4 : Int) from hj.2⟩ (Or.inr ne)
    have n67 : ∀ j, (0 ≤ j ∧ j < 4) → A 6 0 ≠ A 7 j := fun j hj => L.ne ⟨Int.le_refl 0, show (0 : Int) < 1 by decide⟩ ⟨hj.1, show j < (4 : Int) from hj.2⟩ (Or.inl (by decide))
    have n13 : ∀ j, (0 ≤ j ∧ j < 3) → A 13 gn ≠ A 8 j := fun j hj => L.ne ⟨Sh.2.2.2.2.2.2.1, show gn < gn + 1 by omega⟩ ⟨hj.1, show j < (3 : Int) from hj.2⟩ (Or.inl (by decide))
    match dn, hdn with
    | 0, hdn => omega
    | dn + 1, hdn =>
    rw [wpCN_X1_search]
    refine kOn_of rfl ⟨k0, kOn_of Sh.1.1 ⟨k14, ?_⟩⟩
    rw [eb]
    refine ⟨fun ep => absurd ep (by omega), fun np => ?_⟩
    · have pn : p < n := by omega
      obtain ⟨hq, lo, hi⟩ := PQ pn
      have c9 := cn9_p d
      have e9 : cn9 (d + 1) = 9 * cn9 d := rfl
      -- the group that the next number belongs to
      have loop : ∀ q', (0 ≤ q' ∧ q' < gc) → bg q' ≤ p → p < bg (q' + 1) → ∃ fu : Nat, wCN_X1_search_44 (wpCN_X1_search dn) (fun a b c e => post a b c e) (some (A 0 0)) p q' kd an mX1_graph mX1_order mX1_begins mX1_numbers mX1_best mX1_row mX1_leastRow mX2_blanks mX2_count mX2_keys fu (bg q') ai al mX1_found mX1_many := fun q' hq' lo' hi' => by
        obtain ⟨r, hr, gr, er1, er2, b0, b1, b2, b3⟩ := O.grp hn.1 hq'
        have gn8 := cnDf_n (H := H) hn.1
        have egc := O.2.1
        have pos := fun j (hj : bg q' ≤ j ∧ j < bg (q' + 1)) => O.pos (j := j) (by omega)
        have same := fun j (hj : bg q' ≤ j ∧ j < bg (q' + 1)) => cn_same (H := H) (n := n) (a := o j) (b := r) (x := j) (pos j hj).2 (by omega)
        have bnd := fun j (hj : bg q' ≤ j ∧ j < bg (q' + 1)) => cnG_h (n := n) (same j hj)
        refine wl5 (fun fu k a l fo mn => wCN_X1_search_44 (wpCN_X1_search dn) (fun a b c e => post a b c e) (some (A 0 0)) p q' kd an mX1_graph mX1_order mX1_begins mX1_numbers mX1_best mX1_row mX1_leastRow mX2_blanks mX2_count mX2_keys fu k a l fo mn) (fun k a l fo mn => (bg q' ≤ k ∧ k ≤ bg (q' + 1)) ∧ a (A 7 1) = f ∧ (∀ c, c ≠ A 7 1 → c ≠ A 7 2 → a c = ai c) ∧ (∀ c, c ≠ A 8 0 → c ≠ A 8 1 → l c = al c) ∧ ∃ Cs : List (List Int), Cs.Nodup ∧ (∀ t, t ∈ Cs ↔ ∃ j, (bg q' ≤ j ∧ j < k) ∧ f (o j) = 0 ∧ cnAt t (o j) = p + 1 ∧ chCp H n (p + 1) (updI f (o j) (p + 1)) t) ∧ (Cs.length : Int) ≤ (k - bg q') * cn9 d ∧ chJ a l A (fo (A 0 0)) (mn (A 0 0)) L0 n m (Bs ++ Cs)) (fun k _ _ _ _ => (bg (q' + 1) - k).toNat) ?_ (bg q') ai al mX1_found mX1_many ⟨by omega, e71, fun _ _ _ => rfl, fun _ _ _ => rfl, [], List.nodup_nil, fun t => ⟨fun w => absurd w (by simp), fun ⟨j, hj, _⟩ => by omega⟩, by rw [Int.sub_self, Int.zero_mul]; exact Int.le_refl 0, by rw [List.append_nil]; exact J⟩
        rintro k a l fo mn ⟨hk, ea, fa, fl, Cs, nC, mC, lC, JC⟩ fu ih
        have a6 : a (A 6 0) = o := by rw [fa _ (n67 1 (by decide)) (n67 2 (by decide))]; exact e6
        have a70 : a (A 7 0) = bg := by rw [fa _ (n7 0 1 (by decide) (by decide) (by decide)) (n7 0 2 (by decide) (by decide) (by decide))]; exact e7
        rw [wCN_X1_search_44]
        refine kOn_of rfl ⟨k0, kOn_of Sh.2.1.2.1 ⟨k70.1, by omega, by omega, ?_⟩⟩
        rw [a70]
        refine ⟨fun z => ?_, fun z => kOn_of Sh.2.1.1 ⟨k6.1, by omega, fun b eb2 => ?_⟩⟩
        · have ek : k = bg (q' + 1) := by omega
          rw [ek] at mC lC
          have w8 : (bg (q' + 1) - bg q') * cn9 d ≤ 8 * cn9 d := Int.mul_le_mul_of_nonneg_right (by omega) (by omega)
          refine hK a l fo mn Cs nC (fun t => ?_) (by omega) JC ea fa fl
          rw [mC t, chCp.cut ⟨p0, pn⟩ PF.1]
          constructor
          · rintro ⟨j, hj, y1, y2, y3⟩
            exact ⟨o j, (pos j hj).1, y1, y2, y3⟩
          · rintro ⟨c, hc, y1, y2, y3⟩
            obtain ⟨j, hj, ej⟩ := O.on hc
            have na := y3.2.1 c hc.1 hc.2
            rw [y2] at na
            have sc := cn_same (H := H) (n := n) (a := c) (b := r) (x := p) (by omega) (by omega)
            obtain ⟨_, s2, s3⟩ := cnG_h (n := n) sc
            have pj := (O.pos hj).2
            rw [ej] at pj
            exact ⟨j, by omega, by rw [ej]; exact y1, by rw [ej]; exact y2, by rw [ej]; exact y3⟩
        · have hkk : bg q' ≤ k ∧ k < bg (q' + 1) := by omega
          have ebo : b = o k := by rw [eb2, a6]
          have pb := (pos k hkk).1
          obtain ⟨_, s2, s3⟩ := bnd k hkk
          rw [ebo]
          refine kOn_of Sh.2.1.2.2.1 ⟨k71.1, by omega, ?_⟩
          rw [ea]
          refine ⟨fun fz => ⟨by omega, fun v ev a2 ea2 => ?_⟩, fun fz => ⟨by omega, fun k' ek => ?_⟩⟩
          · rw [ev] at ea2
            have w7 : (k - bg q') * cn9 d ≤ 7 * cn9 d := Int.mul_le_mul_of_nonneg_right (by omega) (by omega)
            have g7 : a2 (A 7 1) = updI f (o k) (p + 1) := by rw [ea2, va_up_s]
            have gn7 : ∀ c, c ≠ A 7 1 → a2 c = a c := fun c nc => by rw [ea2, va_up_n nc]
            have J2 : chJ a2 l A (fo (A 0 0)) (mn (A 0 0)) L0 n m (Bs ++ Cs) := by
              unfold chJ
              rw [gn7 _ (n7 2 1 (by decide) (by decide) (by decide))]
              exact JC
            refine IH (p + 1) q' (updI f (o k) (p + 1)) a2 l fo mn (Bs ++ Cs) dn _ (by omega) (by omega) (by omega) (by rw [gn7 _ (n67 1 (by decide)), a6]) (by rw [gn7 _ (n7 0 1 (by decide) (by decide) (by decide)), a70]) g7 (by rw [fl _ (n13 0 (by decide)) (n13 1 (by decide))]; exact e13) (PF.step pb fz p0 (by omega) (by omega)) (fun _ => ⟨hq', by omega, by omega⟩) J2 (by rw [List.length_append]; omega) (fun a3 l3 f3 k3 Ds nD mD lD J3 d1 d2 d3 a4 ea4 => ⟨by omega, fun k' ek => ?_⟩)
            rw [ek]
            have e41 : a4 (A 7 1) = f := by rw [ea4, va_up_s, d1, chUp fz]
            have e4n : ∀ c, c ≠ A 7 1 → a4 c = a3 c := fun c nc => by rw [ea4, va_up_n nc]
            refine ih (k + 1) a4 l3 f3 k3 ⟨by omega, e41, fun c n1 n2 => by rw [e4n c n1, d2 c n1 n2, gn7 c n1]; exact fa c n1 n2, fun c n1 n2 => by rw [d3 c n1 n2]; exact fl c n1 n2, Cs ++ Ds, ?_, fun t => ?_, ?_, ?_⟩ (by omega)
            · rw [List.nodup_append]
              refine ⟨nC, nD, fun x hx y hy e => ?_⟩
              rw [← e] at hy
              obtain ⟨j, hj, y1, y2, y3⟩ := (mC x).1 hx
              have y4 := (mD x).1 hy
              have y5 := (y4.2.2 (o k) pb.1 pb.2).1 (by rw [updI_s]; omega)
              rw [updI_s] at y5
              obtain ⟨_, I⟩ := cnPm_at y4.1
              have pj := (pos j (by omega)).1
              have eo := I.ne pj pb (by rw [y2, y5])
              have := O.1.1.2 (j + 1) (k + 1) (by omega) (by omega) (by omega)
              dsimp only at this
              rw [show j + 1 - 1 = j by omega, show k + 1 - 1 = k by omega] at this
              exact this eo
            · rw [List.mem_append, mC t, mD t]
              constructor
              · rintro (⟨j, hj, y⟩ | y)
                · exact ⟨j, by omega, y⟩
                · have y5 := (y.2.2 (o k) pb.1 pb.2).1 (by rw [updI_s]; omega)
                  rw [updI_s] at y5
                  exact ⟨k, by omega, fz, y5, y⟩
              · rintro ⟨j, hj, y1, y2, y3⟩
                by_cases ejk : j = k
                · rw [ejk] at y3
                  exact Or.inr y3
                · exact Or.inl ⟨j, by omega, y1, y2, y3⟩
            · rw [List.length_append]
              have : (k + 1 - bg q') * cn9 d = (k - bg q') * cn9 d + cn9 d := by
                rw [show k + 1 - bg q' = (k - bg q') + 1 by omega, Int.add_mul, Int.one_mul]
              omega
            · rw [← List.append_assoc]
              unfold chJ
              rw [e4n _ (n7 2 1 (by decide) (by decide) (by decide))]
              exact J3
          · rw [ek]
            refine ih (k + 1) a l fo mn ⟨by omega, ea, fa, fl, Cs, nC, fun t => ?_, ?_, JC⟩ (by omega)
            · rw [mC t]
              constructor
              · rintro ⟨j, hj, y⟩
                exact ⟨j, by omega, y⟩
              · rintro ⟨j, hj, y⟩
                by_cases ejk : j = k
                · rw [ejk] at y
                  exact absurd y.1 fz
                · exact ⟨j, by omega, y⟩
            · have : (k + 1 - bg q') * cn9 d = (k - bg q') * cn9 d + cn9 d := by
                rw [show k + 1 - bg q' = (k - bg q') + 1 by omega, Int.add_mul, Int.one_mul]
              omega
      obtain ⟨r, hr, gr, er1, er2, b0, b1, b2, b3⟩ := O.grp hn.1 hq
      have gn8 := cnDf_n (H := H) hn.1
      have egc := O.2.1
      refine kOn_of Sh.2.1.2.1 ⟨k70.1, by omega, by omega, ?_⟩
      rw [e7]
      refine ⟨fun z q' eq => ?_, fun z => ⟨by omega, fun v ev => ?_⟩⟩
      · have ebp : bg (q + 1) = p := by omega
        have hq1 := b3 (by omega)
        obtain ⟨r', hr', gr', er1', er2', b0', b1', b2', b3'⟩ := O.grp hn.1 (q := q + 1) ⟨by omega, hq1⟩
        rw [eq]
        refine ⟨by omega, fun v ev => ?_⟩
        rw [ev]
        exact loop (q + 1) ⟨by omega, hq1⟩ (by omega) (by omega)
      · rw [ev]
        exact loop q hq lo (by omega)
end
