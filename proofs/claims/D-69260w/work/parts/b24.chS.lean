/-! CanonNames (room CN): all matches with a kept graph -/
section
variable {n b k : Int} {f p q : Int → Int} {t : List Int} {u : qA} {L G : List qA}
/-- the matches that go on from the numbers of the blanks below b -/
def chDp (L G : List qA) (n b : Int) (f : Int → Int) (t : List Int) : Prop := cnPm n t ∧ (∀ c, 1 ≤ c → c < b → cnAt t c = f c) ∧ cnTo (cnAt t) L G
def chTs (f : Int → Int) (b k : Int) : Prop := ∃ c, (1 ≤ c ∧ c < b) ∧ f c = k
theorem cnRn_w (hw : chWh b u) (ht : cnTp n u) (h : ∀ c, 1 ≤ c → c ≤ b → p c = q c) : cnRn p u = cnRn q u := by
  obtain ⟨w1, w2, w3⟩ := hw
  obtain ⟨t1, t2, t3⟩ := ht
  have nu : ∀ v, (0 < v ∨ -v ≤ b) → cnPt n v → cnNu p v = cnNu q v := fun v hv hp => by
    unfold cnPt at hp
    unfold cnNu
    by_cases z : v ≤ 0
    · rw [if_pos z, if_pos z, h (-v) (by omega) (by omega)]
    · rw [if_neg z, if_neg z]
  unfold cnRn
  rw [nu _ w1 t1, nu _ w2 t2, nu _ w3 t3]
theorem chDp.cut (hb : 1 ≤ b ∧ b ≤ n) : chDp L G n b f t ↔ ∃ k, (1 ≤ k ∧ k ≤ n) ∧ ¬ chTs f b k ∧ cnAt t b = k ∧ chDp L G n (b + 1) (updI f b k) t := by
  constructor
  · rintro ⟨c1, c2, c3⟩
    obtain ⟨_, I⟩ := cnPm_at c1
    refine ⟨cnAt t b, I.1 b hb.1 hb.2, fun ⟨c, hc, e⟩ => ?_, rfl, c1, fun c c0 c1' => ?_, c3⟩
    · exact I.2 c b hc.1 hc.2 hb.2 ((c2 c hc.1 hc.2).trans e)
    · rw [updI_e]
      by_cases y : c = b
      · rw [if_pos y, y]
      · rw [if_neg y]; exact c2 c c0 (by omega)
  · rintro ⟨k, hk, nf, e, c1, c2, c3⟩
    refine ⟨c1, fun c c0 c1' => ?_, c3⟩
    have := c2 c c0 (by omega)
    rw [updI_n (by omega)] at this
    exact this
theorem chIn.up (h : chIn n (b - 1) f) (hk : 1 ≤ k ∧ k ≤ n) (hb : 1 ≤ b) (nf : ¬ chTs f b k) : chIn n (b + 1 - 1) (updI f b k) := by
  refine ⟨fun c c0 c1 => ?_, fun c d c0 cd d1 e => ?_⟩
  · rw [updI_e]
    by_cases y : c = b
    · rw [if_pos y]; exact hk
    · rw [if_neg y]; exact h.1 c c0 (by omega)
  · rw [updI_e, updI_e, if_neg (by omega)] at e
    by_cases y : d = b
    · rw [if_pos y] at e
      exact nf ⟨c, by omega, e⟩
    · rw [if_neg y] at e
      exact h.2 c d c0 cd (by omega) e
end
section
variable {kd an : Nat → Nat} {al : Nat → Int → Int} {ar ar' : Nat → Int → Option Nat} {mX1_graph mX1_kept mX1_digest mX1_hashes mX1_next mX1_descriptions mX1_order mX1_begins mX1_numbers mX1_best mX1_row mX1_leastRow mX1_given mX1_form mX1_octets mX2_keys mX3_words mX3_block mX4_bytes : Nat → Option Nat} {mX1_rounds mX1_hashed mX1_groups mX1_keptCount mX1_found mX1_many mX1_namedBlanks mX1_formCount mX1_wanted mX2_blanks mX2_count mX3_size mX4_size : Nat → Int} {A : Nat → Int → Nat} {g : Nat → Nat × Int} {gn hp n m b k c s i j x v r y z : Int} {pi : Int → Int} {D : Int → List Int} {H : Int → List Int} {l : List Int} {g2 K2 : Nat} {m2 : Int} {L0 G0 : List qA}
theorem CCN_pair (L : Lab chK chLn kd an A g (chN gn)) (Sh : chS ar mX1_graph mX1_kept mX1_digest mX1_hashes mX1_next mX1_descriptions mX1_order mX1_begins mX1_numbers mX1_best mX1_row mX1_leastRow mX1_given mX1_form mX1_octets mX2_keys mX3_words mX3_block mX4_bytes A hp pi gn) (G : chG kd an al mX2_blanks mX2_count mX2_keys (A 14 gn) (A 13 gn) n m) (G2 : chG kd an al mX2_blanks mX2_count mX2_keys g2 K2 n m2) (kg2 : kd g2 = 2) (eL : (chL (al (A 13 gn)) m) = L0) (eG : chL (al K2) m2 = G0) : ∀ (d : Nat) (b : Int) (f : Int → Int) (ai : Nat → Int → Int) (mX1_ways mX1_taken : Nat → Int) (dn : Nat) (post : (Nat → Int → Int) → (Nat → Int) → (Nat → Int) → Prop), b + d = n + 1 → 1 ≤ b → d + 1 ≤ dn → (∀ c, 1 ≤ c → c < b → ai (A 7 1) c = f c) → chIn n (b - 1) f → (∀ c, 1 ≤ c → c ≤ 8 → 0 ≤ ai (A 7 1) c ∧ ai (A 7 1) c ≤ 8) → mS (mX1_taken (A 0 0)) (chTs f b) → 0 ≤ mX1_ways (A 0 0) → mX1_ways (A 0 0) < mX1_wanted (A 0 0) → mX1_ways (A 0 0) + cn9 d ≤ 1000000000 → (∀ (ai' : Nat → Int → Int) (w' t' : Nat → Int) (Cs : List (List Int)), Cs.Nodup → (∀ t, t ∈ Cs → chDp L0 G0 n b f t) → w' (A 0 0) = mX1_ways (A 0 0) + (Cs.length : Int) → w' (A 0 0) ≤ mX1_wanted (A 0 0) → (w' (A 0 0) < mX1_wanted (A 0 0) → ∀ t, chDp L0 G0 n b f t → t ∈ Cs) → (Cs.length : Int) ≤ cn9 d → mS (t' (A 0 0)) (chTs f b) → (∀ c, 1 ≤ c → c < b → ai' (A 7 1) c = f c) → (∀ c, 1 ≤ c → c ≤ 8 → 0 ≤ ai' (A 7 1) c ∧ ai' (A 7 1) c ≤ 8) → (∀ a, a ≠ A 7 1 → ai' a = ai a) → post ai' w' t') → wpCN_X1_pair dn post kd an ai al mX1_graph mX1_numbers mX1_ways mX1_wanted mX1_taken mX2_blanks mX2_count mX2_keys (some (A 0 0)) (some g2) b := by
  intro d
  induction d with
  | zero =>
    intro b f ai mX1_ways mX1_taken dn post ebd b1 hdn en I nb TK w0 wW wB hK
    have hn := G.2.1.2
    have eb := G.2.1.1
    have eb2 := G2.2.1.1
    have s1 := Sh.1.1
    have e7 := Sh.2.1.2.2.1
    have k14 := chX14 L (j := gn) ⟨Sh.2.2.2.2.2.2.1, by omega⟩
    have k0 := chX0 L
    have k71 := chX7 L (j := 1) (by decide)
    have okL : ∀ t ∈ L0, cnTp n t := fun t ht => by rw [← eL] at ht; exact G.ok ht
    match dn, hdn with
    | 0, hdn => omega
    | dn + 1, hdn =>
    rw [wpCN_X1_pair]
    refine kOn_of rfl ⟨k0, kOn_of s1 ⟨k14, ?_⟩⟩
    rw [eb]
    have ebn : b = n + 1 := by omega
    refine ⟨fun z => by omega, fun _ => ?_⟩
    have hI : ∀ c, 1 ≤ c → c ≤ b → c ≤ n → 1 ≤ ai (A 7 1) c ∧ ai (A 7 1) c ≤ n := fun c c0 c1 c2 => by
      rw [en c c0 (by omega)]; exact I.1 c c0 (by omega)
    have P : cnIn n f := ⟨fun c c0 c1 => I.1 c c0 (by omega), fun c d c0 cd d1 => I.2 c d c0 cd (by omega)⟩
    have wh : ∀ t ∈ L0, chWh b t := fun t ht => by
      obtain ⟨t1, t2, t3⟩ := okL t ht
      unfold cnPt at t1 t2 t3
      exact ⟨by omega, by omega, by omega⟩
    have rn : ∀ t ∈ L0, cnRn (ai (A 7 1)) t = cnRn f t := fun t ht => cnRn_c (n := n) (fun i i0 i1 => en i i0 (by omega)) (okL t ht)
    have only : ∀ t, chDp L0 G0 n b f t → t = aF f 1 n.toNat := fun t D => by
      obtain ⟨e, _⟩ := cnPm_at D.1
      rw [← e]
      exact aF_c _ _ (fun c c0 c1 => D.2.1 c c0 (by omega))
    have toF : cnTo (cnAt (aF f 1 n.toNat)) L0 G0 ↔ cnTo f L0 G0 := cnTo_c (n := n) (fun i i0 i1 => cnAt_f ⟨i0, i1⟩) okL
    refine CCN_isThereB s1 k14 G G2 kg2 e7 k71 (by omega) nb hI (fun all => ?_) (fun ⟨t, ht, hw, no⟩ => ?_)
    · rw [eL, eG] at all
      have D : chDp L0 G0 n b f (aF f 1 n.toNat) := ⟨(cnPm_f hn.1).2 P, fun c c0 c1 => cnAt_f ⟨c0, by omega⟩, toF.2 (fun t ht => by rw [← rn t ht]; exact all t ht (wh t ht))⟩
      refine ⟨by have := cn9_p 0; omega, fun v ev w' ew => ?_⟩
      have e1 : w' (A 0 0) = mX1_ways (A 0 0) + 1 := by rw [ew, va_up_s, ev]
      refine hK ai w' mX1_taken [aF f 1 n.toNat] (List.pairwise_singleton _ _) (fun t ht => by rw [List.mem_singleton.1 ht]; exact D) e1 (by omega) (fun _ t ht => List.mem_singleton.2 (only t ht)) (by show (1 : Int) ≤ 1; decide) TK en nb (fun _ _ => rfl)
    · rw [eL] at ht
      rw [eG] at no
      refine hK ai mX1_ways mX1_taken [] List.nodup_nil (fun t ht => absurd ht (by simp)) (Int.add_zero _).symm (by omega) (fun _ t' D => ?_) (by show (0 : Int) ≤ 1; decide) TK en nb (fun _ _ => rfl)
      exfalso
      have e := only t' D
      have := D.2.2
      rw [e, toF] at this
      have h2 := this t ht
      rw [← rn t ht] at h2
      exact no h2
  | succ d IH =>
    intro b f ai mX1_ways mX1_taken dn post ebd b1 hdn en I nb TK w0 wW wB hK
    have hn := G.2.1.2
    have eb := G.2.1.1
    have eb2 := G2.2.1.1
    have s1 := Sh.1.1
    have e7 := Sh.2.1.2.2.1
    have k14 := chX14 L (j := gn) ⟨Sh.2.2.2.2.2.2.1, by omega⟩
    have k0 := chX0 L
    have k71 := chX7 L (j := 1) (by decide)
    have okL : ∀ t ∈ L0, cnTp n t := fun t ht => by rw [← eL] at ht; exact G.ok ht
    match dn, hdn with
    | 0, hdn => omega
    | dn + 1, hdn =>
    rw [wpCN_X1_pair]
    refine kOn_of rfl ⟨k0, kOn_of s1 ⟨k14, ?_⟩⟩
    rw [eb]
    refine ⟨fun _ => ?_, fun z => by omega⟩
    have c9 := cn9_p d
    have e9 : cn9 (d + 1) = 9 * cn9 d := rfl
    refine wl4 (fun fu k a w tk => wCN_X1_pair_33 (wpCN_X1_pair dn) (fun x y z => post x y z) (some (A 0 0)) (some g2) b kd an al mX1_graph mX1_numbers mX1_wanted mX2_blanks mX2_count mX2_keys fu k a w tk) (fun k a w tk => (1 ≤ k ∧ k ≤ n + 1) ∧ (∀ c, 1 ≤ c → c < b → a (A 7 1) c = f c) ∧ (∀ c, 1 ≤ c → c ≤ 8 → 0 ≤ a (A 7 1) c ∧ a (A 7 1) c ≤ 8) ∧ (∀ c, c ≠ A 7 1 → a c = ai c) ∧ mS (tk (A 0 0)) (chTs f b) ∧ ∃ Cs : List (List Int), Cs.Nodup ∧ (∀ t, t ∈ Cs → ∃ j, (1 ≤ j ∧ j < k) ∧ ¬ chTs f b j ∧ cnAt t b = j ∧ chDp L0 G0 n (b + 1) (updI f b j) t) ∧ w (A 0 0) = mX1_ways (A 0 0) + (Cs.length : Int) ∧ w (A 0 0) ≤ mX1_wanted (A 0 0) ∧ (w (A 0 0) < mX1_wanted (A 0 0) → ∀ t j, (1 ≤ j ∧ j < k) → ¬ chTs f b j → cnAt t b = j → chDp L0 G0 n (b + 1) (updI f b j) t → t ∈ Cs) ∧ (Cs.length : Int) ≤ (k - 1) * cn9 d) (fun k _ _ _ => (n + 1 - k).toNat) ?_ 1 ai mX1_ways mX1_taken ⟨by omega, en, nb, fun _ _ => rfl, TK, [], List.nodup_nil, fun t ht => absurd ht (by simp), (Int.add_zero _).symm, by omega, fun _ t j hj => by omega, by rw [Int.sub_self, Int.zero_mul]; exact Int.le_refl 0⟩
    rintro k a w tk ⟨hk, ea, ena, fa, TKk, Cs, nC, mC, ew, lW, cC, lC⟩ fu ih
    rw [wCN_X1_pair_33]
    refine kOn_of rfl ⟨kg2, ?_⟩
    rw [eb2]
    have out : (n < k ∨ mX1_wanted (A 0 0) ≤ w (A 0 0)) → post a w tk := fun h => by
      have w8 : (k - 1) * cn9 d ≤ 8 * cn9 d := Int.mul_le_mul_of_nonneg_right (by omega) (by omega)
      refine hK a w tk Cs nC (fun t ht => ?_) ew lW (fun lt t D => ?_) (by omega) TKk ea ena fa
      · obtain ⟨j, hj, y1, y2, y3⟩ := mC t ht
        exact (chDp.cut ⟨b1, by omega⟩).2 ⟨j, by omega, y1, y2, y3⟩
      · obtain ⟨j, hj, y1, y2, y3⟩ := (chDp.cut ⟨b1, by omega⟩).1 D
        exact cC lt t j (by omega) y1 y2 y3
    refine ⟨fun z => out (Or.inl z), fun z => kOn_of rfl ⟨k0, fun z2 => out (Or.inr z2), fun z2 => ⟨by omega, fun bit => ⟨by omega, fun k' ek => ?_⟩, fun bit => kOn_of e7 ⟨k71.1, by omega, fun a2 ea2 => ⟨by omega, fun v ev t2 et2 => ?_⟩⟩⟩⟩⟩
    · have nf := (mS_bit TKk (k := k) (by omega) (by omega)).1 bit
      rw [ek]
      refine ih (k + 1) a w tk ⟨by omega, ea, ena, fa, TKk, Cs, nC, fun t ht => ?_, ew, lW, fun lt t j hj y1 y2 y3 => ?_, ?_⟩ (by omega)
      · obtain ⟨j, hj, y⟩ := mC t ht
        exact ⟨j, by omega, y⟩
      · by_cases ejk : j = k
        · rw [ejk] at y1; exact absurd nf y1
        · exact cC lt t j (by omega) y1 y2 y3
      · rw [show k + 1 - 1 = (k - 1) + 1 by omega, Int.add_mul, Int.one_mul]; omega
    · have nf : ¬ chTs f b k := fun h => bit ((mS_bit TKk (k := k) (by omega) (by omega)).2 h)
      have n2 : ∀ c, 1 ≤ c → c < b + 1 → a2 (A 7 1) c = updI f b k c := fun c c0 c1 => by
        rw [ea2, va_up_s, updI_e, updI_e]
        by_cases y : c = b
        · rw [if_pos y, if_pos y]
        · rw [if_neg y, if_neg y]; exact ea c c0 (by omega)
      have nb2 : ∀ c, 1 ≤ c → c ≤ 8 → 0 ≤ a2 (A 7 1) c ∧ a2 (A 7 1) c ≤ 8 := fun c c0 c1 => by
        rw [ea2, va_up_s, updI_e]
        by_cases y : c = b
        · rw [if_pos y]; omega
        · rw [if_neg y]; exact ena c c0 c1
      have I2 := I.up (k := k) ⟨hk.1, by omega⟩ b1 nf
      have one := mS_one (j := k) ⟨by omega, by omega⟩
      have T2 : mS (t2 (A 0 0)) (chTs (updI f b k) (b + 1)) := by
        rw [et2, va_up_s, ev]
        refine mS_c (mS_or TKk one) (fun x x0 x1 => ⟨fun h => ?_, fun ⟨c, hc, e⟩ => ?_⟩)
        · rcases h with ⟨c, hc, e⟩ | h
          · exact ⟨c, by omega, by rw [updI_n (by omega)]; exact e⟩
          · exact ⟨b, by omega, by rw [updI_s]; exact h.symm⟩
        · rw [updI_e] at e
          by_cases y : c = b
          · rw [if_pos y] at e; exact Or.inr e.symm
          · rw [if_neg y] at e; exact Or.inl ⟨c, by omega, e⟩
      have back : ∀ s : Int, mS s (chTs (updI f b k) (b + 1)) → mS (zxor s (2 ^ k.toNat)) (chTs f b) := fun s hs => by
        refine mS_c (mS_xor hs one) (fun x x0 x1 => ⟨fun h => ?_, fun ⟨c, hc, e⟩ => ?_⟩)
        · by_cases y : x = k
          · exfalso
            apply h
            exact ⟨fun _ => y, fun _ => ⟨b, by omega, by rw [updI_s]; exact y.symm⟩⟩
          · have h2 : chTs (updI f b k) (b + 1) x := Classical.byContradiction (fun w => h ⟨fun z => absurd z w, fun z => absurd z y⟩)
            obtain ⟨c, hc, e⟩ := h2
            rw [updI_e] at e
            by_cases y2 : c = b
            · rw [if_pos y2] at e; exact absurd e.symm y
            · rw [if_neg y2] at e; exact ⟨c, by omega, e⟩
        · have xk : ¬ x = k := fun y => nf ⟨c, hc, by rw [e]; exact y⟩
          exact fun w => xk (w.1 ⟨c, by omega, by rw [updI_n (by omega)]; exact e⟩)
      have hI2 : ∀ c, 1 ≤ c → c ≤ b → c ≤ n → 1 ≤ a2 (A 7 1) c ∧ a2 (A 7 1) c ≤ n := fun c c0 c1 c2 => by
        rw [n2 c c0 (by omega)]; exact I2.1 c c0 (by omega)
      have fa2 : ∀ c, c ≠ A 7 1 → a2 c = ai c := fun c nc => by rw [ea2, va_up_n nc]; exact fa c nc
      refine CCN_isThereB s1 k14 G G2 kg2 e7 k71 (by omega) nb2 hI2 (fun _ => ⟨by omega, ?_⟩) (fun ⟨u, hu, hw, no⟩ v2 ev2 t3 et3 => ⟨by omega, fun k' ek => ?_⟩)
      · have w7 : (k - 1) * cn9 d ≤ 7 * cn9 d := Int.mul_le_mul_of_nonneg_right (by omega) (by omega)
        refine IH (b + 1) (updI f b k) a2 w t2 dn _ (by omega) (by omega) (by omega) n2 I2 nb2 T2 (by omega) (by omega) (by omega) (fun a3 w3 t3 Ds nD mD eW lW2 cD lD T3 n3 nb3 f3 => fun v3 ev3 t4 et4 => ⟨by omega, fun k' ek => ?_⟩)
        rw [ek]
        refine ih (k + 1) a3 w3 t4 ⟨by omega, fun c c0 c1 => ?_, nb3, fun c nc => by rw [f3 c nc]; exact fa2 c nc, ?_, Cs ++ Ds, ?_, fun t ht => ?_, ?_, lW2, fun lt t j hj y1 y2 y3 => ?_, ?_⟩ (by omega)
        · have := n3 c c0 (by omega)
          rw [updI_n (by omega)] at this
          exact this
        · rw [et4, va_up_s, ev3]; exact back _ T3
        · rw [List.nodup_append]
          refine ⟨nC, nD, fun x hx y hy e => ?_⟩
          rw [← e] at hy
          obtain ⟨j, hj, y1, y2, y3⟩ := mC x hx
          have := (mD x hy).2.1 b b1 (by omega)
          rw [updI_s, y2] at this
          omega
        · rcases List.mem_append.1 ht with y | y
          · obtain ⟨j, hj, y⟩ := mC t y
            exact ⟨j, by omega, y⟩
          · have := (mD t y).2.1 b b1 (by omega)
            rw [updI_s] at this
            exact ⟨k, by omega, nf, this, mD t y⟩
        · rw [List.length_append]; omega
        · by_cases ejk : j = k
          · rw [ejk] at y3
            exact List.mem_append_right _ (cD lt t y3)
          · exact List.mem_append_left _ (cC (by omega) t j (by omega) y1 y2 y3)
        · rw [List.length_append, show k + 1 - 1 = (k - 1) + 1 by omega, Int.add_mul, Int.one_mul]; omega
      · rw [ek]
        rw [eL] at hu
        rw [eG] at no
        refine ih (k + 1) a2 w t3 ⟨by omega, fun c c0 c1 => ?_, nb2, fa2, ?_, Cs, nC, fun t ht => ?_, ew, lW, fun lt t j hj y1 y2 y3 => ?_, ?_⟩ (by omega)
        · have := n2 c c0 (by omega)
          rw [updI_n (by omega)] at this
          exact this
        · rw [et3, va_up_s, ev2]; exact back _ T2
        · obtain ⟨j, hj, y⟩ := mC t ht
          exact ⟨j, by omega, y⟩
        · by_cases ejk : j = k
          · exfalso
            rw [ejk] at y3
            have h1 := y3.2.2 u hu
            have h2 := cnRn_w (p := a2 (A 7 1)) (q := cnAt t) hw (okL u hu) (fun c c0 c1 => by rw [n2 c c0 (by omega)]; exact (y3.2.1 c c0 (by omega)).symm)
            rw [← h2] at h1
            exact no h1
          · exact cC lt t j (by omega) y1 y2 y3
        · rw [show k + 1 - 1 = (k - 1) + 1 by omega, Int.add_mul, Int.one_mul]; omega
end
