/-! CanonNames (room CN): a blank's next hash; how many are different -/
section
variable {kd an : Nat → Nat} {ai ai' al al' : Nat → Int → Int} {ar ar' : Nat → Int → Option Nat} {mX1_graph mX1_kept mX1_digest mX1_hashes mX1_next mX1_descriptions mX1_order mX1_begins mX1_numbers mX1_best mX1_row mX1_leastRow mX1_given mX1_form mX1_octets mX2_keys mX3_words mX3_block mX4_bytes : Nat → Option Nat} {mX1_rounds mX1_hashed mX1_groups mX1_keptCount mX1_found mX1_many mX1_namedBlanks mX1_formCount mX1_ways mX1_wanted mX1_taken mX2_blanks mX2_count mX3_size mX4_size : Nat → Int} {A : Nat → Int → Nat} {g : Nat → Nat × Int} {gn hp n m b k c s i j x v r y z : Int} {pi : Int → Int} {D : Int → List Int} {H : Int → List Int} {l : List Int}
theorem CCN_h177 {K : (Nat → Int → Int) → (Nat → Int) → Prop} {q : Nat} {la : List Int} (kq : kd q = 5) (lq : (an q : Int) = 8) (q3 : q ≠ A 3 0) (q4 : q ≠ A 4 0) (k2 : kd (A 2 0) = 3) (ed : mX1_digest (A 0 0) = some (A 2 0)) (W : chW (ai q) la) (D0 : chD kd an ai mX3_words mX3_block mX3_size (A 2 0) (A 3 0) (A 4 0) l) (hl : l.length < 80000) (hK : ∀ ai' sz', chD kd an ai' mX3_words mX3_block sz' (A 2 0) (A 3 0) (A 4 0) (l ++ la.flatMap shWd) → (∀ a, a ≠ A 3 0 → a ≠ A 4 0 → ai' a = ai a) → K ai' sz') : ∃ fu : Nat, wCN_X1_hashOne_177 K (A 0 0) (some q) 8 kd an mX1_digest mX3_words mX3_block fu 0 ai mX3_size := by
  refine wl3 (fun fu k a s => wCN_X1_hashOne_177 K (A 0 0) (some q) 8 kd an mX1_digest mX3_words mX3_block fu k a s) (fun k a s => (0 ≤ k ∧ k ≤ 8) ∧ chD kd an a mX3_words mX3_block s (A 2 0) (A 3 0) (A 4 0) (l ++ (aF (shL la) 0 k.toNat).flatMap shWd) ∧ ∀ c, c ≠ A 3 0 → c ≠ A 4 0 → a c = ai c) (fun k _ _ => (8 - k).toNat) ?_ 0 ai mX3_size ⟨by omega, by
    rw [show (0 : Int).toNat = 0 by decide, aF, List.flatMap_nil, List.append_nil]
    exact D0, fun _ _ _ => rfl⟩
  rintro k a s ⟨hk, h, fa⟩ fu ih
  rw [wCN_X1_hashOne_177]
  refine ⟨fun z => ?_, fun z => kOn_of rfl ⟨kq, by omega, fun u eu => kOn_of ed ⟨k2, ?_⟩⟩⟩
  · have ek : k.toNat = la.length := by rw [W.1]; omega
    rw [ek, aF_shL] at h
    exact hK a s h fa
  · have w := W.2 k hk.1 (by omega)
    rw [eu, fa q q3 q4, w.1]
    refine CCN_addWord h (by rw [List.length_append, fl_len, aF_len]; omega) w.2 (fun a2 s2 D2 f2 g2 => ⟨by omega, fun k' ek => ?_⟩)
    rw [ek]
    refine ih (k + 1) a2 s2 ⟨by omega, ?_, fun c n3 n4 => by rw [f2 c n3 n4]; exact fa c n3 n4⟩ (by omega)
    rw [show (k + 1).toNat = k.toNat + 1 by omega, aF_s, List.flatMap_append, List.flatMap_cons, List.flatMap_nil, List.append_nil, show (0 : Int) + (k.toNat : Int) = k by omega, ← List.append_assoc]
    exact D2
theorem CCN_h215 {K : (Nat → Int → Int) → (Nat → Int) → Prop} {d B_ : Nat} {la : List Int} (hx : 0 ≤ x ∧ x < 40) (e5 : mX1_descriptions (A 0 0) = some (A 5 0)) (k5 : kd (A 5 0) = 10 ∧ (an (A 5 0) : Int) = 40) (er : ar (A 5 0) x = some d) (kd_ : kd d = 4) (eb : mX4_bytes d = some B_) (kb : kd B_ = 7) (lb : (an B_ : Int) = 99) (q3 : B_ ≠ A 3 0) (q4 : B_ ≠ A 4 0) (k2 : kd (A 2 0) = 3) (ed : mX1_digest (A 0 0) = some (A 2 0)) (W : chB ai mX4_size d B_ la) (l99 : la.length ≤ 99) (D0 : chD kd an ai mX3_words mX3_block mX3_size (A 2 0) (A 3 0) (A 4 0) l) (hl : l.length < 80000) (hK : ∀ ai' sz', chD kd an ai' mX3_words mX3_block sz' (A 2 0) (A 3 0) (A 4 0) (l ++ la) → (∀ a, a ≠ A 3 0 → a ≠ A 4 0 → ai' a = ai a) → K ai' sz') : ∃ fu : Nat, wCN_X1_hashOne_215 K (A 0 0) x kd an ar mX1_digest mX1_descriptions mX3_words mX3_block mX4_bytes mX4_size fu 0 ai mX3_size := by
  refine wl3 (fun fu k a s => wCN_X1_hashOne_215 K (A 0 0) x kd an ar mX1_digest mX1_descriptions mX3_words mX3_block mX4_bytes mX4_size fu k a s) (fun k a s => (0 ≤ k ∧ k ≤ (la.length : Int)) ∧ chD kd an a mX3_words mX3_block s (A 2 0) (A 3 0) (A 4 0) (l ++ aF (shL la) 0 k.toNat) ∧ ∀ c, c ≠ A 3 0 → c ≠ A 4 0 → a c = ai c) (fun k _ _ => (la.length - k).toNat) ?_ 0 ai mX3_size ⟨by omega, by
    rw [show (0 : Int).toNat = 0 by decide, aF, List.append_nil]
    exact D0, fun _ _ _ => rfl⟩
  rintro k a s ⟨hk, h, fa⟩ fu ih
  rw [wCN_X1_hashOne_215]
  refine kOn_of e5 ⟨k5.1, by omega, fun r1 e1 => ?_⟩
  rw [e1, er]
  refine kOn_of rfl ⟨kd_, ?_⟩
  rw [W.1]
  refine ⟨fun z => ?_, fun z r2 e2 => ?_⟩
  · have ek : k.toNat = la.length := by omega
    rw [ek, aF_shL] at h
    exact hK a s h fa
  · rw [e2]
    refine kOn_of rfl ⟨kd_, kOn_of eb ⟨kb, by omega, kOn_of ed ⟨k2, ?_⟩⟩⟩
    have w := W.2 k hk.1 (by omega)
    refine CCN_add h (by rw [List.length_append, aF_len]; omega) (fun a2 s2 D2 f2 g2 => ⟨by omega, fun k' ek => ?_⟩)
    rw [ek]
    refine ih (k + 1) a2 s2 ⟨by omega, ?_, fun c n3 n4 => by rw [f2 c n3 n4]; exact fa c n3 n4⟩ (by omega)
    rw [fa B_ q3 q4, w.1, (w8_m _).1, Int.emod_eq_of_lt w.2.1 w.2.2, List.append_assoc] at D2
    rw [show (k + 1).toNat = k.toNat + 1 by omega, aF_s, show (0 : Int) + (k.toNat : Int) = k by omega]
    exact D2
theorem CCN_h207 {K : (Nat → Int → Int) → (Nat → Int) → Prop} {d : Int} (L : Lab chK chLn kd an A g (chN gn)) (Sh : chS ar mX1_graph mX1_kept mX1_digest mX1_hashes mX1_next mX1_descriptions mX1_order mX1_begins mX1_numbers mX1_best mX1_row mX1_leastRow mX1_given mX1_form mX1_octets mX2_keys mX3_words mX3_block mX4_bytes A hp pi gn) (hd : 0 ≤ d ∧ d ≤ 40) (C : chC ai mX4_size A pi D d) (D0 : chD kd an ai mX3_words mX3_block mX3_size (A 2 0) (A 3 0) (A 4 0) l) (hl : l.length < 60000) (hK : ∀ ai' sz', chD kd an ai' mX3_words mX3_block sz' (A 2 0) (A 3 0) (A 4 0) (l ++ (aF D 0 d.toNat).flatten) → (∀ a, a ≠ A 3 0 → a ≠ A 4 0 → ai' a = ai a) → K ai' sz') : ∃ fu : Nat, wCN_X1_hashOne_207 K (A 0 0) d kd an ar mX1_digest mX1_descriptions mX3_words mX3_block mX4_bytes mX4_size fu 0 ai mX3_size := by
  obtain ⟨⟨_, _, s3, _, _, s6⟩, _, ⟨_, _, _, sb⟩, ⟨_, _, sd⟩, ⟨p1, p2⟩, _⟩ := Sh
  have k5 := chX5 L
  have k2 := chX2 L
  refine wl3 (fun fu k a s => wCN_X1_hashOne_207 K (A 0 0) d kd an ar mX1_digest mX1_descriptions mX3_words mX3_block mX4_bytes mX4_size fu k a s) (fun k a s => (0 ≤ k ∧ k ≤ d) ∧ (((aF D 0 k.toNat).flatten.length : Int) ≤ 99 * k) ∧ chD kd an a mX3_words mX3_block s (A 2 0) (A 3 0) (A 4 0) (l ++ (aF D 0 k.toNat).flatten) ∧ ∀ c, c ≠ A 3 0 → c ≠ A 4 0 → a c = ai c) (fun k _ _ => (d - k).toNat) ?_ 0 ai mX3_size ⟨by omega, Int.le_refl 0, by
    rw [show (0 : Int).toNat = 0 by decide, aF, List.flatten_nil, List.append_nil]
    exact D0, fun _ _ _ => rfl⟩
  rintro k a s ⟨hk, hle, h, fa⟩ fu ih
  rw [wCN_X1_hashOne_207]
  refine ⟨fun z => ?_, fun z => ?_⟩
  · have ek : k = d := by omega
    rw [ek] at h
    exact hK a s h fa
  · have pk := p1 k hk.1 (by omega)
    obtain ⟨kb, lb⟩ := chX12 L pk
    obtain ⟨c1, c2⟩ := C k hk.1 (by omega)
    have n3 : A 12 (pi k) ≠ A 3 0 := L.ne ⟨pk.1, show _ < (40 : Int) from pk.2⟩ ⟨by decide, show (0 : Int) < 1 by decide⟩ (Or.inl (by decide))
    have n4 : A 12 (pi k) ≠ A 4 0 := L.ne ⟨pk.1, show _ < (40 : Int) from pk.2⟩ ⟨by decide, show (0 : Int) < 1 by decide⟩ (Or.inl (by decide))
    have c1' : chB a mX4_size (A 11 (pi k)) (A 12 (pi k)) (D k) := by
      unfold chB
      rw [fa _ n3 n4]
      exact c1
    refine CCN_h215 (d := A 11 (pi k)) (B_ := A 12 (pi k)) (la := D k) (by omega) s6 k5 (sd k hk.1 (by omega)) (chX11 L pk) (sb _ pk.1 pk.2) kb lb n3 n4 k2 s3 c1' c2 h (by rw [List.length_append]; omega) (fun a2 s2 D2 f2 => ⟨by omega, fun k' ek => ?_⟩)
    rw [ek]
    have eF : (aF D 0 (k + 1).toNat).flatten = (aF D 0 k.toNat).flatten ++ D k := by
      rw [show (k + 1).toNat = k.toNat + 1 by omega, aF_s, List.flatten_append, List.flatten_cons, List.flatten_nil, List.append_nil, show (0 : Int) + (k.toNat : Int) = k by omega]
    refine ih (k + 1) a2 s2 ⟨by omega, ?_, ?_, fun c m3 m4 => by rw [f2 c m3 m4]; exact fa c m3 m4⟩ (by omega)
    · rw [eF, List.length_append]; omega
    · rw [eF, ← List.append_assoc]; exact D2
theorem CCN_hashOne {post : (Nat → Int → Int) → (Nat → Int → Option Nat) → (Nat → Int) → (Nat → Int) → Prop} (L : Lab chK chLn kd an A g (chN gn)) (Sh : chS ar mX1_graph mX1_kept mX1_digest mX1_hashes mX1_next mX1_descriptions mX1_order mX1_begins mX1_numbers mX1_best mX1_row mX1_leastRow mX1_given mX1_form mX1_octets mX2_keys mX3_words mX3_block mX4_bytes A hp pi gn) (G : chG kd an al mX2_blanks mX2_count mX2_keys (A 14 gn) (A 13 gn) n m) (hb : 1 ≤ b ∧ b ≤ n) (HH : chH ai A hp n H) (D0 : chD kd an ai mX3_words mX3_block mX3_size (A 2 0) (A 3 0) (A 4 0) l)
  (hp_ : ∀ ai' ar' s3 s4 pi' l', chS ar' mX1_graph mX1_kept mX1_digest mX1_hashes mX1_next mX1_descriptions mX1_order mX1_begins mX1_numbers mX1_best mX1_row mX1_leastRow mX1_given mX1_form mX1_octets mX2_keys mX3_words mX3_block mX4_bytes A hp pi' gn → chD kd an ai' mX3_words mX3_block s3 (A 2 0) (A 3 0) (A 4 0) l' → chW (ai' (A 10 (9 * (1 - hp) + b))) (cnNx (chL (al (A 13 gn)) m) H b) → (∀ a, (∀ j, 0 ≤ j → j < 40 → a ≠ A 12 j) → a ≠ A 3 0 → a ≠ A 4 0 → a ≠ A 10 (9 * (1 - hp) + b) → ai' a = ai a) → (∀ a, a ≠ A 5 0 → ar' a = ar a) → post ai' ar' s3 s4) : wpCN_X1_hashOne post kd an ai al ar mX1_graph mX1_digest mX1_hashes mX1_next mX1_descriptions mX2_count mX2_keys mX3_words mX3_block mX3_size mX4_bytes mX4_size (A 0 0) b := by
  have hn := G.2.1.2.2
  have hhp := Sh.2.2.2.2.2.1
  have m40 := G.2.2.1.2.2
  have n12 : ∀ i j, (i ≠ 12) → (0 ≤ j ∧ j < chN gn i) → ∀ t, 0 ≤ t → t < 40 → A i j ≠ A 12 t := fun i j ne hj t t0 t1 => L.ne hj ⟨t0, show t < (40 : Int) from t1⟩ (Or.inl ne)
  have o1 : ∀ i, chN gn i = 1 → (0 : Int) ≤ 0 ∧ (0 : Int) < chN gn i := fun i e => ⟨Int.le_refl 0, by rw [e]; decide⟩
  obtain ⟨k9, l9⟩ := chX9 L (j := hp) (by omega)
  obtain ⟨k9', l9'⟩ := chX9 L (j := 1 - hp) (by omega)
  have h10 : 0 ≤ 9 * hp + b ∧ 9 * hp + b < 18 := by omega
  have h10' : 0 ≤ 9 * (1 - hp) + b ∧ 9 * (1 - hp) + b < 18 := by omega
  obtain ⟨kr, lr⟩ := chX10 L h10
  obtain ⟨kr', lr'⟩ := chX10 L h10'
  obtain ⟨k3, l3⟩ := chX3 L
  have r3 : A 10 (9 * hp + b) ≠ A 3 0 := L.ne ⟨h10.1, show _ < (18 : Int) from h10.2⟩ (o1 3 rfl) (Or.inl (by decide))
  have r4 : A 10 (9 * hp + b) ≠ A 4 0 := L.ne ⟨h10.1, show _ < (18 : Int) from h10.2⟩ (o1 4 rfl) (Or.inl (by decide))
  have r3' : A 10 (9 * (1 - hp) + b) ≠ A 3 0 := L.ne ⟨h10'.1, show _ < (18 : Int) from h10'.2⟩ (o1 3 rfl) (Or.inl (by decide))
  have r4' : A 10 (9 * (1 - hp) + b) ≠ A 4 0 := L.ne ⟨h10'.1, show _ < (18 : Int) from h10'.2⟩ (o1 4 rfl) (Or.inl (by decide))
  unfold wpCN_X1_hashOne
  refine CCN_h4 L Sh G hb HH (fun d a1 ar1 s1 pi' D hd Sh1 f1 fr C eD => ?_)
  obtain ⟨⟨_, _, t3, t4, t5, t6⟩, _, ⟨_, t7, t8, _⟩, ⟨_, t9, _⟩, _⟩ := Sh1
  have Sh1 : chS ar1 mX1_graph mX1_kept mX1_digest mX1_hashes mX1_next mX1_descriptions mX1_order mX1_begins mX1_numbers mX1_best mX1_row mX1_leastRow mX1_given mX1_form mX1_octets mX2_keys mX3_words mX3_block mX4_bytes A hp pi' gn := ⟨⟨by assumption, by assumption, t3, t4, t5, t6⟩, by assumption, ⟨by assumption, t7, t8, by assumption⟩, ⟨by assumption, t9, by assumption⟩, by assumption⟩
  have D1 : chD kd an a1 mX3_words mX3_block mX3_size (A 2 0) (A 3 0) (A 4 0) l := by
    obtain ⟨d1, d2, d3, d4, d5, d6⟩ := D0
    refine ⟨d1, d2, d3, d4, fun i i0 i1 => ?_, fun t t0 t1 => ?_⟩
    · rw [f1 (A 3 0) (fun j j0 j1 => n12 3 0 (by decide) (o1 3 rfl) j j0 j1)]; exact d5 i i0 i1
    · rw [f1 (A 4 0) (fun j j0 j1 => n12 4 0 (by decide) (o1 4 rfl) j j0 j1)]; exact d6 t t0 t1
  refine kOn_of t3 ⟨chX2 L, CCN_begin D1 (fun a2 s2 D2 f2 g2 => kOn_of t4 ⟨k9, by omega, fun rr er => ?_⟩)⟩
  rw [er, t9 hp b (by omega) (by omega)]
  refine kOn_of rfl ⟨kr, by omega, fun x4 e4 => ?_⟩
  rw [e4, lr]
  have W : chW (a2 (A 10 (9 * hp + b))) (H b) := by
    rw [f2 _ r3 r4, f1 (A 10 (9 * hp + b)) (fun j j0 j1 => n12 10 _ (by decide) ⟨h10.1, show _ < (18 : Int) from h10.2⟩ j j0 j1)]
    exact HH b hb.1 hb.2
  refine CCN_h177 kr lr r3 r4 (chX2 L) t3 W D2 (by show (0 : Nat) < 80000; decide) (fun a3 s3 D3 f3 => ?_)
  have C3 : chC a3 s1 A pi' D d := fun j j0 j1 => by
    have pj := Sh1.2.2.2.2.1.1 j j0 (by omega)
    have e : a3 (A 12 (pi' j)) = a1 (A 12 (pi' j)) := by
      have m3 : A 12 (pi' j) ≠ A 3 0 := L.ne ⟨pj.1, show _ < (40 : Int) from pj.2⟩ (o1 3 rfl) (Or.inl (by decide))
      have m4 : A 12 (pi' j) ≠ A 4 0 := L.ne ⟨pj.1, show _ < (40 : Int) from pj.2⟩ (o1 4 rfl) (Or.inl (by decide))
      rw [f3 _ m3 m4, f2 _ m3 m4]
    unfold chB
    rw [e]
    exact C j j0 j1
  have lH : (H b).length = 8 := (HH b hb.1 hb.2).1
  refine CCN_h207 L Sh1 ⟨hd.1, by have := G.2.2.1.2.2; omega⟩ C3 D3 (by rw [List.nil_append, fl_len, lH]; decide) (fun a4 s4 D4 f4 => kOn_of t3 ⟨chX2 L, ?_⟩)
  have lD : (([] ++ (H b).flatMap shWd) ++ (aF D 0 d.toNat).flatten).length < 90000 := by
    have le : ∀ k : Nat, (k : Int) ≤ d → ((aF D 0 k).flatten.length : Int) ≤ 99 * k := fun k => by
      induction k with
      | zero => intro _; exact Int.le_refl 0
      | succ k ih =>
        intro hk
        have := ih (by omega)
        have c2 := (C k (by omega) (by omega)).2
        rw [aF_s, List.flatten_append, List.flatten_cons, List.flatten_nil, List.append_nil, List.length_append, show (0 : Int) + (k : Int) = k by omega]
        omega
    have := le d.toNat (by omega)
    have := G.2.2.1.2.2
    rw [List.length_append, List.nil_append, fl_len, lH]
    omega
  refine CCN_end D4 lD (fun a5 s5 D5 f5 g5 => kOn_of t5 ⟨k9', by omega, fun r2 e2 => ?_⟩)
  rw [e2, t9 (1 - hp) b (by omega) (by omega)]
  refine kOn_of rfl (kOn_of t7 ⟨kr', k3, by omega, fun a6 e6 => ?_⟩)
  refine hp_ a6 ar1 s5 s1 pi' (shPad (([] ++ (H b).flatMap shWd) ++ (aF D 0 d.toNat).flatten)) Sh1 ?_ ?_ (fun a na n3 n4 n10 => ?_) fr
  · obtain ⟨d1, d2, d3, d4, d5, d6⟩ := D5
    refine ⟨d1, d2, d3, d4, fun i i0 i1 => ?_, fun t t0 t1 => ?_⟩
    · rw [e6, va_up_n r3'.symm]; exact d5 i i0 i1
    · rw [e6, va_up_n r4'.symm]; exact d6 t t0 t1
  · have e : cnNx (chL (al (A 13 gn)) m) H b = shDl (([] ++ (H b).flatMap shWd) ++ (aF D 0 d.toNat).flatten) := by
      unfold cnNx cnM
      rw [eD, List.nil_append]
    rw [e]
    refine chW_dg (fun i i0 i1 => ?_)
    rw [e6, va_up_s]
    unfold zcpy
    rw [if_pos (by omega), show (0 : Int) + (i - 0) = i by omega]
    exact D5.2.2.2.2.1 i i0 i1
  · rw [e6, va_up_n n10, f5 a n3 n4, f4 a n3 n4, f3 a n3 n4, f2 a n3 n4]
    exact f1 a na
theorem CCN_different {post : Int → Prop} (L : Lab chK chLn kd an A g (chN gn)) (Sh : chS ar mX1_graph mX1_kept mX1_digest mX1_hashes mX1_next mX1_descriptions mX1_order mX1_begins mX1_numbers mX1_best mX1_row mX1_leastRow mX1_given mX1_form mX1_octets mX2_keys mX3_words mX3_block mX4_bytes A hp pi gn) (eb : mX2_blanks (A 14 gn) = n) (hn : 0 ≤ n ∧ n ≤ 8) (hs : 0 ≤ s ∧ s < 2) (HH : chH ai A s n H) (hp_ : post (cnDf H n)) : wpCN_X1_different post kd an ai ar mX1_graph mX2_blanks (A 0 0) (some (A 9 s)) := by
  obtain ⟨⟨s1, _, _, _, _, _⟩, _, _, ⟨_, s9, _⟩, _, hhp, hgn⟩ := Sh
  have k14 := chX14 L (j := gn) ⟨hgn.1, by omega⟩
  obtain ⟨k9, l9⟩ := chX9 L hs
  unfold wpCN_X1_different
  refine wl2 (fun fu x a => wCN_X1_different_4 (fun x => post x) (A 0 0) (some (A 9 s)) kd an ai ar mX1_graph mX2_blanks fu x a) (fun x a => (1 ≤ a ∧ a ≤ n + 1) ∧ x = cntI (cnF H) a.toNat) (fun _ a => (n + 1 - a).toNat) ?_ 0 1 ⟨by omega, ?_⟩
  · rintro x a ⟨ha, ex⟩ fu ih
    rw [wCN_X1_different_4]
    have bx := cntI_b (cnF H) a.toNat
    refine kOn_of s1 ⟨k14, ?_⟩
    rw [eb]
    refine ⟨fun z => ?_, fun z => ?_⟩
    · have ea : a = n + 1 := by omega
      rw [ea] at ex
      rw [ex]
      exact hp_
    have zx0 : zR (x + 0) := by omega
    have zx1 : zR (x + 1) := by omega
    have za : zR (a + 1) := by omega
    refine wl2 (fun fu y b => wCN_X1_different_21 _ (some (A 9 s)) a kd an ai ar fu y b) (fun y b => (1 ≤ b ∧ b ≤ a) ∧ ((y = 1 ∧ ∀ c, 1 ≤ c → c < b → ¬ H c = H a) ∨ (y = 0 ∧ ∃ c, (1 ≤ c ∧ c < a) ∧ H c = H a))) (fun _ b => (a - b).toNat) ?_ 1 1 ⟨by omega, Or.inl ⟨rfl, fun c c1 c2 => by omega⟩⟩
    rintro y b ⟨hb2, h⟩ fu2 ih2
    rw [wCN_X1_different_21]
    have fin : (y = 0 ∨ a ≤ b) → wCN_X1_different_58 (wCN_X1_different_4 (fun x => post x) (A 0 0) (some (A 9 s)) kd an ai ar mX1_graph mX2_blanks fu) x a y := fun w => by
      unfold wCN_X1_different_58
      refine ⟨fun y0 => ⟨zx0, fun x' ex' => ⟨za, fun a' ea' => ?_⟩⟩, fun y0 => ⟨zx1, fun x' ex' => ⟨za, fun a' ea' => ?_⟩⟩⟩
      · rw [ea', ex']
        refine ih (x + 0) (a + 1) ⟨by omega, ?_⟩ (by omega)
        rcases h with ⟨y1, _⟩ | ⟨_, c, hc, e⟩
        · omega
        · rw [cntI_f (by omega) (fun F => F.2 c hc.1 (by omega) e), ← ex, Int.add_zero]
      · rw [ea', ex']
        refine ih (x + 1) (a + 1) ⟨by omega, ?_⟩ (by omega)
        rcases h with ⟨_, h⟩ | ⟨y1, _⟩
        · rw [cntI_t (by omega) ⟨by omega, fun c c1 ca => h c c1 (by omega)⟩, ← ex]
        · omega
    refine ⟨fun w => fin (Or.inr w), fun w => ⟨fun y0 => fin (Or.inl y0), fun y0 => kOn_of rfl ⟨k9, by omega, fun r1 e1 => ⟨by omega, fun r2 e2 => ?_⟩⟩⟩⟩
    rw [e1, e2, s9 s a hs (by omega), s9 s b hs (by omega)]
    obtain ⟨ka, la⟩ := chX10 L (j := 9 * s + a) (by omega)
    obtain ⟨kb, lb⟩ := chX10 L (j := 9 * s + b) (by omega)
    refine CCN_compare ka la kb lb (HH a (by omega) (by omega)) (HH b (by omega) (by omega)) (fun e => ⟨fun _ => ⟨by omega, fun b' eb2 => ?_⟩, fun u => absurd rfl u⟩) (fun e => ⟨fun u => absurd u (by decide), fun _ => ⟨by omega, fun b' eb2 => ?_⟩⟩) (fun e => ⟨fun u => absurd u (by decide), fun _ => ⟨by omega, fun b' eb2 => ?_⟩⟩)
    · rw [eb2]
      exact ih2 0 (b + 1) ⟨by omega, Or.inr ⟨rfl, b, by omega, e.symm⟩⟩ (by omega)
    all_goals
      rw [eb2]
      rcases h with ⟨_, h⟩ | ⟨y1, _⟩
      · refine ih2 1 (b + 1) ⟨by omega, Or.inl ⟨rfl, fun c c1 cb => ?_⟩⟩ (by omega)
        by_cases u : c = b
        · rw [u]
          first
          | exact fun z => e.2 z.symm
          | exact e.2
        · exact h c c1 (by omega)
      · omega
  · have h0 : cntI (cnF H) ((0 : Int) + 1).toNat = cntI (cnF H) (0 : Int).toNat := cntI_f (by decide) (fun F => absurd F.1 (by decide))
    exact h0.symm
end
