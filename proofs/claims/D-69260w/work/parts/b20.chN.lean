/-! CanonNames (room CN): one naming weighed -/
section
variable {kd an : Nat → Nat} {ai ai' al al' : Nat → Int → Int} {ar ar' : Nat → Int → Option Nat} {mX1_graph mX1_kept mX1_digest mX1_hashes mX1_next mX1_descriptions mX1_order mX1_begins mX1_numbers mX1_best mX1_row mX1_leastRow mX1_given mX1_form mX1_octets mX2_keys mX3_words mX3_block mX4_bytes : Nat → Option Nat} {mX1_rounds mX1_hashed mX1_groups mX1_keptCount mX1_found mX1_many mX1_namedBlanks mX1_formCount mX1_ways mX1_wanted mX1_taken mX2_blanks mX2_count mX3_size mX4_size : Nat → Int} {A : Nat → Int → Nat} {g : Nat → Nat × Int} {gn hp n m b k c s i j x v r y z : Int} {pi : Int → Int} {D : Int → List Int} {H : Int → List Int} {l : List Int} {f : Int → Int} {t u : qA} {q : List Int} {p : Int → Int}
theorem cnKy_lt (hn : n ≤ 8) (ht : cnTp n t) (hu : cnTp n u) : cnKy t < cnKy u ↔ ¬ qLx (cnQ3 u) (cnQ3 t) := by
  obtain ⟨a, b, c⟩ := t
  obtain ⟨a', b', c'⟩ := u
  obtain ⟨h1, h2, h3⟩ := ht
  obtain ⟨g1, g2, g3⟩ := hu
  have x1 := cnPt_b hn h1
  have x2 := cnPt_b hn h2
  have x3 := cnPt_b hn h3
  have y1 := cnPt_b hn g1
  have y2 := cnPt_b hn g2
  have y3 := cnPt_b hn g3
  dsimp only at x1 x2 x3 y1 y2 y3
  have e : qLx (cnQ3 (a', b', c')) (cnQ3 (a, b, c)) ↔ (a' < a ∨ (a' = a ∧ (b' < b ∨ (b' = b ∧ (c' < c ∨ (c' = c ∧ True)))))) := Iff.rfl
  rw [e]
  unfold cnKy
  dsimp only
  constructor
  · intro h w
    rcases w with w | ⟨w1, w | ⟨w2, w | ⟨w3, _⟩⟩⟩ <;> omega
  · intro h
    have h1 : ¬ a' < a := fun w => h (Or.inl w)
    by_cases e1 : a' = a
    · have h2 : ¬ b' < b := fun w => h (Or.inr ⟨e1, Or.inl w⟩)
      by_cases e2 : b' = b
      · have h3 : ¬ c' < c := fun w => h (Or.inr ⟨e1, Or.inr ⟨e2, Or.inl w⟩⟩)
        have h4 : ¬ c' = c := fun w => h (Or.inr ⟨e1, Or.inr ⟨e2, Or.inr ⟨w, trivial⟩⟩⟩)
        omega
      · omega
    · omega
theorem cnOk_lt (hn : n ≤ 8) (hx : cnOk n x) (hy : cnOk n y) : x < y ↔ ¬ qLx (cnQ3 (cnDk y)) (cnQ3 (cnDk x)) := by
  rw [← cnKy_lt hn hx.2 hy.2, ← hx.1, ← hy.1]
theorem cnRn_ok (hp : cnIn n p) (ht : cnTp n t) : cnTp n (cnRn p t) := by
  have nu : ∀ v, cnPt n v → cnPt n (cnNu p v) := fun v hv => by
    unfold cnPt at hv
    unfold cnNu
    by_cases z : v ≤ 0
    · rw [if_pos z]
      have := hp.1 (-v) (by omega) (by omega)
      unfold cnPt
      omega
    · rw [if_neg z]; exact hv
  exact ⟨nu _ ht.1, nu _ ht.2.1, nu _ ht.2.2⟩
/-- a row of keys, flat -/
def chFl (a : Int → Int) (m : Int) : List Int := (aF (fun i => cnQ3 (cnDk (a i))) 0 m.toNat).flatten
theorem qLx_an : ∀ {x y : List Int} (v w : List Int), x.length = y.length → ¬ qLx x y → ¬ qLx (x ++ v) (y ++ w)
  | [], [], _, _, _, h => absurd trivial h
  | [], _ :: _, _, _, h, _ => absurd h (by simp)
  | _ :: _, [], _, _, h, _ => absurd h (by simp)
  | a :: x, b :: y, v, w, hl, h => by
    rw [List.length_cons, List.length_cons] at hl
    intro z
    rcases z with z | z
    · exact h (Or.inl z)
    · exact qLx_an v w (by omega) (fun y => h (Or.inr ⟨z.1, y⟩)) z.2
theorem chFl_lt {a b : Int → Int} (hn : n ≤ 8) (hk : 0 ≤ k ∧ k < m) (he : ∀ i, 0 ≤ i → i < k → a i = b i) (oa : cnOk n (a k)) (ob : cnOk n (b k)) (l : a k < b k) : ¬ qLx (chFl b m) (chFl a m) := by
  have cut : ∀ c : Int → Int, chFl c m = (aF (fun i => cnQ3 (cnDk (c i))) 0 k.toNat).flatten ++ (cnQ3 (cnDk (c k)) ++ (aF (fun i => cnQ3 (cnDk (c i))) (k + 1) (m.toNat - k.toNat - 1)).flatten) := fun c => by
    unfold chFl
    have e : m.toNat = k.toNat + ((m.toNat - k.toNat - 1) + 1) := by omega
    conv => lhs; rw [e]
    rw [aF_ap, List.flatten_append, show (0 : Int) + (k.toNat : Int) = k by omega, aF, List.flatten_cons]
  rw [cut a, cut b, show aF (fun i => cnQ3 (cnDk (b i))) 0 k.toNat = aF (fun i => cnQ3 (cnDk (a i))) 0 k.toNat from aF_c _ _ (fun i i0 i1 => by rw [he i i0 (by omega)]), qLx_ap]
  exact qLx_an _ _ rfl ((cnOk_lt hn oa ob).1 l)
theorem chFl_c {a b : Int → Int} (he : ∀ i, 0 ≤ i → i < m → a i = b i) : chFl a m = chFl b m := by
  unfold chFl
  rw [aF_c m.toNat 0 (fun i i0 i1 => by rw [he i i0 (by omega)])]
/-- best of a list, one more in any order -/
theorem cnBest_le {B : List (List Int)} {h : List Int → List Int} {P F : List Int} (b : cnBest B h P F m) (hq : qLx P q) (e : h q = F) : cnBest (B ++ [q]) h P F (m + 1) := by
  obtain ⟨h1, h2, h3, h4, h5⟩ := b
  refine ⟨List.mem_append_left _ h1, h2, fun a ha => ?_, fun a ha e2 => ?_, ?_⟩
  · rcases List.mem_append.1 ha with z | z
    · exact h3 a z
    · rw [List.mem_singleton.1 z, e]; exact qLx_r _
  · rcases List.mem_append.1 ha with z | z
    · exact h4 a z e2
    · rw [List.mem_singleton.1 z]; exact hq
  · rw [List.filter_append, List.length_append, List.filter_cons_of_pos (by exact decide_eq_true e), List.filter_nil, List.length_singleton]; omega
theorem cnBest_ge {B : List (List Int)} {h : List Int → List Int} {P F : List Int} (b : cnBest B h P F m) (hq : qLx q P) (e : h q = F) : cnBest (B ++ [q]) h q F (m + 1) := by
  obtain ⟨h1, h2, h3, h4, h5⟩ := b
  refine ⟨List.mem_append_right _ (List.mem_singleton.2 rfl), e, fun a ha => ?_, fun a ha e2 => ?_, ?_⟩
  · rcases List.mem_append.1 ha with z | z
    · exact h3 a z
    · rw [List.mem_singleton.1 z, e]; exact qLx_r _
  · rcases List.mem_append.1 ha with z | z
    · exact qLx_t hq (h4 a z e2)
    · rw [List.mem_singleton.1 z]; exact qLx_r _
  · rw [List.filter_append, List.length_append, List.filter_cons_of_pos (by exact decide_eq_true e), List.filter_nil, List.length_singleton]; omega
theorem cnBest_n {B : List (List Int)} {h : List Int → List Int} {P F : List Int} (b : cnBest B h P F m) : m ≤ (B.length : Int) := by
  have := List.length_filter_le (fun q => decide (h q = F)) B
  rw [b.2.2.2.2]
  omega
/-- a triple by the numbers at hand -/
theorem CCN_w29 {K : Int → Prop} (e7 : mX1_numbers (A 0 0) = some (A 7 1)) (k7 : kd (A 7 1) = 5 ∧ (an (A 7 1) : Int) = 9) (hn : n ≤ 8) (hp : cnIn n (ai (A 7 1))) (ok : cnOk n k) (hK : K (cnKy (cnRn (ai (A 7 1)) (cnDk k)))) : ∃ fu : Nat, wCN_X1_weigh_29 K (A 0 0) k kd an ai mX1_numbers fu 0 0 := by
  obtain ⟨t1, t2, t3⟩ := ok.2
  obtain ⟨r1, r2, r3⟩ := cnRn_ok hp ok.2
  have step : ∀ (j v x s : Int) (fu : Nat), (j = 0 ∨ j = 1 ∨ j = 2) → (cnQ3 (cnDk k)).getD j.toNat 0 = v → cnPt n v → (0 ≤ x ∧ x < 1048576) → s = x * 1024 + (cnNu (ai (A 7 1)) v + 8) → (0 ≤ cnNu (ai (A 7 1)) v + 8 ∧ cnNu (ai (A 7 1)) v + 8 < 1024) → wCN_X1_weigh_29 K (A 0 0) k kd an ai mX1_numbers fu s (j + 1) → wCN_X1_weigh_29 K (A 0 0) k kd an ai mX1_numbers (fu + 1) x j := fun j v x s fu hj ev hv hx es hb nx => by
    have p10 : (2 : Int) ^ 10 = 1024 := by decide
    have lo : zLor (x * 1024) (cnNu (ai (A 7 1)) v + 8) = s := by
      rw [es]
      exact zLor_add (x := x * 1024) (y := cnNu (ai (A 7 1)) v + 8) (s := 10) (q := x) (by omega) (by omega) (by omega) (by decide)
    unfold cnPt at hv
    unfold cnNu at lo hb
    rw [wCN_X1_weigh_29]
    refine ⟨fun z => by omega, fun _ => CCN_point hn ok hj ?_⟩
    rw [ev]
    refine ⟨fun z => ⟨by omega, fun x' ex => ⟨by omega, fun j' ej => ?_⟩⟩, fun z => kOn_of e7 ⟨k7.1, by omega, by omega, ?_, fun x' ex => ⟨by omega, fun j' ej => ?_⟩⟩⟩
    · rw [if_neg (by omega)] at lo
      rw [ex, ej, lo]; exact nx
    · rw [if_pos (by omega)] at hb
      omega
    · rw [if_pos (by omega)] at lo
      rw [ex, ej, lo]; exact nx
  have b1 := cnPt_b hn r1
  have b2 := cnPt_b hn r2
  have b3 := cnPt_b hn r3
  refine ⟨4, step 0 (cnDk k).1 0 (cnNu (ai (A 7 1)) (cnDk k).1 + 8) 3 (by omega) rfl t1 (by decide) (by omega) b1 ?_⟩
  refine step (0 + 1) (cnDk k).2.1 _ ((cnNu (ai (A 7 1)) (cnDk k).1 + 8) * 1024 + (cnNu (ai (A 7 1)) (cnDk k).2.1 + 8)) 2 (by omega) rfl t2 ⟨b1.1, by have := b1.2; dsimp only [cnRn] at this; omega⟩ rfl b2 ?_
  refine step (0 + 1 + 1) (cnDk k).2.2 _ (cnKy (cnRn (ai (A 7 1)) (cnDk k))) 1 (by omega) rfl t3 ?_ ?_ b3 ?_
  · dsimp only [cnRn] at b1 b2
    omega
  · unfold cnKy cnRn
    dsimp only
    omega
  · rw [wCN_X1_weigh_29]
    exact ⟨fun _ => hK, fun w => absurd (by decide) w⟩
/-- a key put into the row -/
theorem CCN_w83 {K : Int → (Nat → Int → Int) → Prop} (e8 : mX1_row (A 0 0) = some (A 8 0)) (k8 : kd (A 8 0) = 6 ∧ (an (A 8 0) : Int) = 40) (hi : 0 ≤ i ∧ i < 40) (st : ∀ a b, 0 ≤ a → a < b → b < i → al (A 8 0) a ≤ al (A 8 0) b) (hK : ∀ p al', (0 ≤ p ∧ p ≤ i) → (∀ a, a ≠ A 8 0 → al' a = al a) → (∀ j, 0 ≤ j → j < p → al' (A 8 0) j = al (A 8 0) j) → (∀ j, p < j → j ≤ i → al' (A 8 0) j = al (A 8 0) (j - 1)) → (∀ j, 0 ≤ j → j < p → al (A 8 0) j ≤ x) → (∀ j, p ≤ j → j < i → x < al (A 8 0) j) → K p al') : ∃ fu : Nat, wCN_X1_weigh_83 K (A 0 0) x kd an mX1_row fu i al := by
  refine wl2 (fun fu p q => wCN_X1_weigh_83 K (A 0 0) x kd an mX1_row fu p q) (fun p q => (0 ≤ p ∧ p ≤ i) ∧ (∀ a, a ≠ A 8 0 → q a = al a) ∧ (∀ j, 0 ≤ j → j < p → q (A 8 0) j = al (A 8 0) j) ∧ (∀ j, p < j → j ≤ i → q (A 8 0) j = al (A 8 0) (j - 1)) ∧ ∀ j, p ≤ j → j < i → x < al (A 8 0) j) (fun p _ => p.toNat) ?_ i al ⟨by omega, fun _ _ => rfl, fun _ _ _ => rfl, fun j j0 j1 => by omega, fun j j0 j1 => by omega⟩
  rintro p q ⟨hp, q0, q1, q2, q3⟩ fu ih
  rw [wCN_X1_weigh_83]
  refine ⟨fun z => hK p q hp q0 q1 q2 (fun j j0 j1 => by omega) q3, fun z => kOn_of e8 ⟨k8.1, by omega, by omega, fun w => hK p q hp q0 q1 q2 (fun j j0 j1 => ?_) q3, fun w v ev => ⟨by omega, fun a2 ea => ⟨by omega, fun p' ep => ?_⟩⟩⟩⟩
  · rw [q1 (p - 1) (by omega) (by omega)] at w
    by_cases y : j = p - 1
    · rw [y]; exact w
    · have := st j (p - 1) j0 (by omega) (by omega)
      omega
  · rw [q1 (p - 1) (by omega) (by omega)] at w ev
    rw [ep]
    refine ih (p + -1) a2 ⟨by omega, fun a na => by rw [ea, va_up_n na]; exact q0 a na, fun j j0 j1 => by rw [ea, va_up_s, updI_n (by omega)]; exact q1 j j0 (by omega), fun j j0 j1 => ?_, fun j j0 j1 => ?_⟩ (by omega)
    · rw [ea, va_up_s]
      by_cases y : j = p
      · rw [y, updI_s, ev]
      · rw [updI_n y]; exact q2 j (by omega) j1
    · by_cases y : j = p - 1
      · rw [y]; omega
      · exact q3 j (by omega) j1
/-- the row of the naming at hand -/
theorem CCN_w2 {K : (Nat → Int → Int) → Prop} (L : Lab chK chLn kd an A g (chN gn)) (Sh : chS ar mX1_graph mX1_kept mX1_digest mX1_hashes mX1_next mX1_descriptions mX1_order mX1_begins mX1_numbers mX1_best mX1_row mX1_leastRow mX1_given mX1_form mX1_octets mX2_keys mX3_words mX3_block mX4_bytes A hp pi gn) (G : chG kd an al mX2_blanks mX2_count mX2_keys (A 14 gn) (A 13 gn) n m) (hp_ : cnIn n (ai (A 7 1))) (hK : ∀ al', (∀ a, a ≠ A 8 0 → al' a = al a) → chFl (al' (A 8 0)) m = (cnRS (chL (al (A 13 gn)) m) (ai (A 7 1))).flatten → (∀ j, 0 ≤ j → j < m → cnOk n (al' (A 8 0) j)) → K al') : ∃ fu : Nat, wCN_X1_weigh_2 K (A 0 0) kd an ai mX1_graph mX1_numbers mX1_row mX2_count mX2_keys fu 0 al := by
  have k14 := chX14 L (j := gn) ⟨Sh.2.2.2.2.2.2.1, by omega⟩
  have s1 := Sh.1.1
  obtain ⟨⟨eK, kK, lK⟩, ⟨_, hn⟩, ⟨ec, hm⟩, ok, _⟩ := G
  have k8 := chX8 L (j := 0) (by decide)
  have k7 := chX7 L (j := 1) (by decide)
  have n13 : A 13 gn ≠ A 8 0 := L.ne ⟨Sh.2.2.2.2.2.2.1, show gn < gn + 1 by omega⟩ ⟨Int.le_refl 0, show (0 : Int) < 3 by decide⟩ (Or.inl (by decide))
  refine wl2 (fun fu i q => wCN_X1_weigh_2 K (A 0 0) kd an ai mX1_graph mX1_numbers mX1_row mX2_count mX2_keys fu i q) (fun i q => (0 ≤ i ∧ i ≤ m) ∧ (∀ a, a ≠ A 8 0 → q a = al a) ∧ (aF (fun j => cnQ3 (cnDk (q (A 8 0) j))) 0 i.toNat).Perm ((chL (al (A 13 gn)) i).map (fun t => cnQ3 (cnRn (ai (A 7 1)) t))) ∧ (∀ j, 0 ≤ j → j < i → cnOk n (q (A 8 0) j)) ∧ ∀ a b, 0 ≤ a → a < b → b < i → q (A 8 0) a ≤ q (A 8 0) b) (fun i _ => (m - i).toNat) ?_ 0 al ⟨by omega, fun _ _ => rfl, List.Perm.refl _, fun j j0 j1 => by omega, fun a b a0 ab b1 => by omega⟩
  rintro i q ⟨hi, q0, PM, OK, ST⟩ fu ih
  rw [wCN_X1_weigh_2]
  refine kOn_of s1 ⟨k14, ?_⟩
  rw [ec]
  refine ⟨fun z => ?_, fun z => kOn_of eK ⟨kK, by omega, fun x2 e2 => ?_⟩⟩
  · have ei : i = m := by omega
    rw [ei] at PM OK ST
    refine hK q q0 ?_ OK
    unfold chFl cnRS
    rw [cnS_e (S := aF (fun j => cnQ3 (cnDk (q (A 8 0) j))) 0 m.toNat) ⟨PM, aF_pw _ _ (fun a b a0 ab b1 => ?_)⟩]
    by_cases y : qLx (cnQ3 (cnDk (q (A 8 0) a))) (cnQ3 (cnDk (q (A 8 0) b)))
    · exact y
    · have := (cnOk_lt hn.2 (OK b (by omega) (by omega)) (OK a a0 (by omega))).2 y
      have := ST a b a0 ab (by omega)
      omega
  · have oki := ok i hi.1 (by omega)
    rw [q0 _ n13] at e2
    rw [e2]
    refine CCN_w29 Sh.2.1.2.2.1 k7 hn.2 hp_ oki ?_
    have okr := cnOk_y hn.2 (cnRn_ok hp_ oki.2)
    refine CCN_w83 Sh.2.1.2.2.2.2.2.1 k8 ⟨hi.1, by omega⟩ ST (fun p a2 hp2 w0 w1 w2 lo hi_ => kOn_of Sh.2.1.2.2.2.2.2.1 ⟨k8.1, by omega, fun a3 ea => ⟨by omega, fun i' ei => ?_⟩⟩)
    have at_ : ∀ j, 0 ≤ j → j ≤ i → a3 (A 8 0) j = if j = p then cnKy (cnRn (ai (A 7 1)) (cnDk (al (A 13 gn) i))) else if p < j then q (A 8 0) (j - 1) else q (A 8 0) j := fun j j0 j1 => by
      rw [ea, va_up_s, updI_e]
      by_cases y : j = p
      · rw [if_pos y, if_pos y]
      · rw [if_neg y, if_neg y]
        by_cases y2 : p < j
        · rw [if_pos y2]; exact w2 j y2 j1
        · rw [if_neg y2]; exact w1 j j0 (by omega)
    rw [ei]
    refine ih (i + 1) a3 ⟨by omega, fun a na => by rw [ea, va_up_n na, w0 a na]; exact q0 a na, ?_, fun j j0 j1 => ?_, fun a b a0 ab b1 => ?_⟩ (by omega)
    · have eL : chL (al (A 13 gn)) (i + 1) = chL (al (A 13 gn)) i ++ [cnDk (al (A 13 gn) i)] := by
        unfold chL
        rw [show (i + 1).toNat = i.toNat + 1 by omega, aF_s, show (0 : Int) + (i.toNat : Int) = i by omega]
      rw [show (i + 1).toNat = i.toNat + 1 by omega, eL, List.map_append]
      have ins := aF_ins (f := fun j => cnQ3 (cnDk (q (A 8 0) j))) (g := fun j => cnQ3 (cnDk (a3 (A 8 0) j))) (k := i.toNat) (t := p) (v := cnQ3 (cnRn (ai (A 7 1)) (cnDk (al (A 13 gn) i)))) ⟨hp2.1, by omega⟩ (fun j j0 j1 => by
        rw [at_ j j0 (by omega)]
        by_cases y : j = p
        · rw [if_pos y, if_pos y, cnDk_y hn.2 (cnRn_ok hp_ oki.2)]
        · rw [if_neg y, if_neg y]
          by_cases y2 : p < j
          · rw [if_pos y2, if_pos y2]
          · rw [if_neg y2, if_neg y2])
      exact ins.trans ((PM.cons _).trans (List.perm_append_singleton _ _).symm)
    · rw [at_ j j0 (by omega)]
      by_cases y : j = p
      · rw [if_pos y]; exact okr
      · rw [if_neg y]
        by_cases y2 : p < j
        · rw [if_pos y2]; exact OK (j - 1) (by omega) (by omega)
        · rw [if_neg y2]; exact OK j j0 (by omega)
    · rw [at_ a a0 (by omega), at_ b (by omega) (by omega)]
      by_cases y : a = p
      · rw [if_pos y, if_neg (by omega), if_pos (by omega)]
        have := hi_ (b - 1) (by omega) (by omega)
        omega
      · rw [if_neg y]
        by_cases y2 : p < a
        · rw [if_pos y2, if_neg (by omega), if_pos (by omega)]; exact ST (a - 1) (b - 1) (by omega) (by omega) (by omega)
        · rw [if_neg y2]
          by_cases y3 : b = p
          · rw [if_pos y3]; exact lo a a0 (by omega)
          · rw [if_neg y3]
            by_cases y4 : p < b
            · rw [if_pos y4]
              by_cases y5 : a = b - 1
              · rw [y5]; exact Int.le_refl _
              · exact ST a (b - 1) a0 (by omega) (by omega)
            · rw [if_neg y4]; exact ST a b a0 ab (by omega)
end
