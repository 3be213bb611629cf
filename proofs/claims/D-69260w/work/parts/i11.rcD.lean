/-! RuleEngine (room RE): going through all cases of a rule -/
theorem caX_s {ln pt : Int → Int} {Fs : Int → Int → Prop} {P : Int → Prop} {r k : Int} {j : Nat} {v : Int → Int} (ek : k = ln r - ((j + 1 : Nat) : Int)) : caX ln pt Fs P r (j + 1) v = if pt (20 * r + 4 * k) = 0 then caC (caX ln pt Fs P r j) (Fs k) (pt (20 * r + 4 * k + 2)) (pt (20 * r + 4 * k + 3)) 1024 (1024 * pt (20 * r + 4 * k + 1)) v else caX ln pt Fs P r j v := by
  rw [ek, caX, show ((j + 1 : Nat) : Int) = (j : Int) + 1 by omega]
section
variable {kd : Nat → Nat} {an : Nat → Nat} {ai : Nat → Int → Int} {al : Nat → Int → Int} {ar : Nat → Int → Option Nat} {mX35_said : Nat → Option Nat} {mX35_rules : Nat → Option Nat} {mX35_strata : Nat → Option Nat} {mX35_needs : Nat → Option Nat} {mX35_safe : Nat → Option Nat} {mX35_circle : Nat → Int} {mX35_known : Nat → Int} {mX35_holds : Nat → Option Nat} {mX35_rounds : Nat → Option Nat} {mX35_counts : Nat → Option Nat} {mX35_roundCount : Nat → Int} {mX35_last : Nat → Option Nat} {mX35_next : Nat → Option Nat} {mX35_values : Nat → Option Nat} {mX35_coming : Nat → Option Nat} {mX35_counting : Nat → Option Nat} {mX35_gathering : Nat → Option Nat} {mX35_together : Nat → Option Nat} {mX35_held : Nat → Option Nat} {mX35_work : Nat → Int} {mX35_large : Nat → Int} {mX83_head : Nat → Option Nat} {mX83_parts : Nat → Option Nat} {mX83_kind : Nat → Int} {mX83_variable : Nat → Int} {mX84_sort : Nat → Int} {mX84_name : Nat → Int} {mX84_x : Nat → Int} {mX84_y : Nat → Int} {mJ1_modCount : Nat → Int} {mJ2_elementData : Nat → Option Nat} {mJ2_size : Nat → Int} {mJ4_words : Nat → Option Nat} {mJ4_wordsInUse : Nat → Int} {mJ4_sizeIsSticky : Nat → Int} {sa : Nat → Nat} {A : Nat → Int → Nat} {g : Nat → Nat × Int} {hd ki fo ln pt sd st rn gv : Int → Int} {n r k v c s : Int} {o h l e e0 : Nat} {p : Int → Nat} {W : Int → Nat} {Lq : Int → Int} {Pq : Int → Int → Prop} {MC MS : Nat}
/-- the next bit from c + 1 on -/
def rxNb (F : Int → Prop) (c c' : Int) : Prop := (c' = -1 ∧ ∀ j, c + 1 ≤ j → ¬ F j) ∨ (c + 1 ≤ c' ∧ F c' ∧ ∀ j, c + 1 ≤ j → j < c' → ¬ F j)
theorem CRE_c251 {K : Int → (Nat → Nat) → (Nat → Nat) → (Nat → Int → Int) → (Nat → Int → Int) → (Nat → Option Nat) → (Nat → Int) → (Nat → Int) → Nat → Nat → Prop} {F : Int → Prop} {q B wB : Nat} {LB f yy : Int} {kc ks : Nat} (H : Lab rxK rxL kd an A g rxN) (rV : mX35_values (A 0 0) = some (A 5 0)) (kq : kd q = 6) (ey : mX84_y q = yy) (hy : reIt yy) (hf : ¬ f = 0 → yy < 0) (kB : kd B = 8) (bB : bsI kd an al mJ4_words mJ4_wordsInUse B wB LB F) (hc : 0 ≤ c ∧ c < 100000) (hk : kc ≤ MC ∧ ks ≤ MS)
  (hp : ∀ ai' c', ai' = va_up ai (A 5 0) (rxUn f yy (ai (A 5 0))) → rxNb F c c' → K c' kd an ai' al mJ4_words mJ4_wordsInUse mJ4_sizeIsSticky kc ks) : wRE_X35_cases_251 MC MS K (some (A 0 0)) (some q) (some B) c f kd an ai al mX35_values mX84_y mJ4_words mJ4_wordsInUse mJ4_sizeIsSticky kc ks := by
  have k5 := rx_kd H 5 0 (by decide) (by decide)
  have a5 := rx_an H 5 0 (by decide) (by decide) (by decide)
  have k0 : kd (A 0 0) = 1 := rx_kd H 0 0 (by decide) (by decide)
  unfold reIt at hy
  unfold wRE_X35_cases_251 wpRE_X84_y
  refine ⟨fun z => kOn_some ⟨kB, by omega, hk, ?_⟩, fun z => kOn_some ⟨k0, kOn_some ⟨kq, hk, ?_⟩⟩⟩
  · have e : ai = va_up ai (A 5 0) (rxUn f yy (ai (A 5 0))) := by unfold rxUn; rw [if_pos z]; exact (va_up_id rfl).symm
    exact CRE_nsbG bB (by omega) (by omega) (fun r r0 p nn => hp ai r e (Or.inr ⟨r0, p, nn⟩)) (fun nn => hp ai (-1) e (Or.inl ⟨rfl, nn⟩))
  · rw [ey]
    have hneg := hf z
    refine kOn_of rV ⟨k5, by rw [a5]; exact ⟨by omega, by show -1 - yy < 6; omega⟩, by omega, fun ai2 e2 => kOn_some ⟨kB, by omega, hk, ?_⟩⟩
    have e : ai2 = va_up ai (A 5 0) (rxUn f yy (ai (A 5 0))) := by unfold rxUn; rw [if_neg z]; exact e2
    exact CRE_nsbG bB (by omega) (by omega) (fun r r0 p nn => hp ai2 r e (Or.inr ⟨r0, p, nn⟩)) (fun nn => hp ai2 (-1) e (Or.inl ⟨rfl, nn⟩))
theorem CRE_rest {K : Int → (Nat → Nat) → (Nat → Nat) → (Nat → Int → Int) → (Nat → Int → Int) → (Nat → Option Nat) → (Nat → Int) → (Nat → Int) → Nat → Nat → Prop} {F : Int → Prop} {q B wB : Nat} {LB f f2 xx yy : Int} {kc ks : Nat} (H : Lab rxK rxL kd an A g rxN) (rV : mX35_values (A 0 0) = some (A 5 0)) (kq : kd q = 6) (ex : mX84_x q = xx) (ey : mX84_y q = yy) (hx : reIt xx) (hy : reIt yy) (hf : ¬ f = 0 → xx < 0) (hf2 : ¬ f2 = 0 → yy < 0) (kB : kd B = 8) (bB : bsI kd an al mJ4_words mJ4_wordsInUse B wB LB F) (hc : 0 ≤ c ∧ c < 100000) (hk : kc ≤ MC ∧ ks ≤ MS)
  (hp : ∀ ai' c', ai' = va_up ai (A 5 0) (rxUn f2 yy (rxUn f xx (ai (A 5 0)))) → rxNb F c c' → K c' kd an ai' al mJ4_words mJ4_wordsInUse mJ4_sizeIsSticky kc ks) :
  (f = 0 → wRE_X35_cases_251 MC MS K (some (A 0 0)) (some q) (some B) c f2 kd an ai al mX35_values mX84_y mJ4_words mJ4_wordsInUse mJ4_sizeIsSticky kc ks) ∧ (¬ f = 0 → ((kc ≤ MC ∧ ks ≤ MS) ∧ kOn (mX35_values (A 0 0)) (fun b_99 => kd b_99 = 9 ∧ ((0 ≤ ((-1) - xx) ∧ ((-1) - xx) < (an b_99 : Int)) ∧ (zR ((-1) - xx) ∧ (∀ ai_104 : Nat → Int → Int, ai_104 = va_up ai b_99 (updI (ai b_99) ((-1) - xx) (-1)) → (wRE_X35_cases_251 MC MS K (some (A 0 0)) (some q) (some B) c f2 kd an ai_104 al mX35_values mX84_y mJ4_words mJ4_wordsInUse mJ4_sizeIsSticky kc ks))))))) := by
  have k5 := rx_kd H 5 0 (by decide) (by decide)
  have a5 := rx_an H 5 0 (by decide) (by decide) (by decide)
  refine ⟨fun z => CRE_c251 H rV kq ey hy hf2 kB bB hc hk (fun ai' c' e => hp ai' c' (by rw [e]; unfold rxUn; rw [if_pos z])), fun z => ⟨hk, ?_⟩⟩
  have hneg := hf z
  unfold reIt at hx
  refine kOn_of rV ⟨k5, by rw [a5]; exact ⟨by omega, by show -1 - xx < 6; omega⟩, by omega, fun ai2 e2 => CRE_c251 H rV kq ey hy hf2 kB bB hc hk (fun ai' c' e => hp ai' c' ?_)⟩
  have e3 : rxUn f xx (ai (A 5 0)) = updI (ai (A 5 0)) (-1 - xx) (-1) := if_neg z
  rw [e, e2, va_up_self, va_up_up, e3]
theorem rxNb_r {F : Int → Prop} {G : (Int → Int) → List (Int → Int)} {X Y E hi c' : Int} {vv : Int → Int} {ls Z : List (Int → Int)} (h : rxNb F c c') (c0 : 0 ≤ c) (hhi : ∀ i, hi < i → i < E → 0 ≤ i → reBc X Y i vv = none) (hE : hi < E) (hZ : ls ++ caC G F X Y (E - (c + 1)).toNat (c + 1) vv = Z) : (c' < 0 ∨ hi < c') ∧ ls = Z ∨ (c + 1 ≤ c' ∧ c' ≤ hi) ∧ F c' ∧ ls ++ caC G F X Y (E - c').toNat c' vv = Z := by
  rcases h with ⟨e, nn⟩ | ⟨e, f, nn⟩
  · rw [caC_nil (fun i i0 i1 fi => absurd fi (nn i i0)), List.append_nil] at hZ
    exact Or.inl ⟨Or.inl (by omega), hZ⟩
  · by_cases q : hi < c'
    · rw [caC_nil (fun i i0 i1 fi => ?_), List.append_nil] at hZ
      · exact Or.inl ⟨Or.inr q, hZ⟩
      · by_cases w : i < c'
        · exact absurd fi (nn i i0 w)
        · exact hhi i (by omega) i1 (by omega)
    · rw [caC_to (c' := c') (by omega) (by omega) (fun i i0 i1 fi => absurd fi (nn i i0 i1))] at hZ
      exact Or.inr ⟨⟨e, by omega⟩, f, hZ⟩
theorem rxNb_r2 {F : Int → Prop} {G : (Int → Int) → List (Int → Int)} {X Y E hi c' : Int} {vv : Int → Int} {ls Z : List (Int → Int)} (h : rxNb F c c') (c0 : 0 ≤ c + 1) (hhi : ∀ i, hi < i → i < E → 0 ≤ i → reBc X Y i vv = none) (hE : hi < E) (hZ : ls ++ caC G F X Y (E - (c + 1)).toNat (c + 1) vv = Z) : (c' < 0 ∨ hi < c') ∧ ls = Z ∨ (c + 1 ≤ c' ∧ c' ≤ hi) ∧ F c' ∧ ls ++ caC G F X Y (E - c').toNat c' vv = Z := by
  rcases h with ⟨e, nn⟩ | ⟨e, f, nn⟩
  · rw [caC_nil (fun i i0 i1 fi => absurd fi (nn i i0)), List.append_nil] at hZ
    exact Or.inl ⟨Or.inl (by omega), hZ⟩
  · by_cases q : hi < c'
    · rw [caC_nil (fun i i0 i1 fi => ?_), List.append_nil] at hZ
      · exact Or.inl ⟨Or.inr q, hZ⟩
      · by_cases w : i < c'
        · exact absurd fi (nn i i0 w)
        · exact hhi i (by omega) i1 (by omega)
    · rw [caC_to (c' := c') (by omega) (by omega) (fun i i0 i1 fi => absurd fi (nn i i0 i1))] at hZ
      exact Or.inr ⟨⟨e, by omega⟩, f, hZ⟩
theorem CRE_cases {Inv : List (Int → Int) → (Nat → Nat) → (Nat → Nat) → (Nat → Int → Int) → (Nat → Int → Int) → (Nat → Option Nat) → (Nat → Int) → Prop} {Fin : List (Int → Int) → Prop} {co : List (Int → Int) → Int} {Ho La : Int → Prop} {b : Nat} {la fr : Int} {G : Nat → Nat × Int} (I : reI hd ki fo ln pt n) (hr : 0 ≤ r ∧ r < n) (hs : reSf hd ki fo ln pt r) (rV : mX35_values (A 0 0) = some (A 5 0)) (rH : mX35_holds (A 0 0) = some (A 1 1)) (rL : mX35_last (A 0 0) = some (A 1 la)) (hla : 0 ≤ la ∧ la < 4)
  (hI : ∀ ls (kd an : Nat → Nat) (ai al : Nat → Int → Int) (mJ4_words : Nat → Option Nat) (mJ4_wordsInUse : Nat → Int), Inv ls kd an ai al mJ4_words mJ4_wordsInUse → Lab rxK rxL kd an A G rxN ∧ rxRu kd an ar mX83_head mX83_parts mX83_kind mX83_variable mX84_sort mX84_name mX84_x mX84_y mJ2_elementData mJ2_size (sa 0) hd ki fo ln pt r o h l e p ∧ (kd b = 2 ∨ kd b = 3 ∨ kd b = 4) ∧ (∃ w L, bsI kd an al mJ4_words mJ4_wordsInUse (A 1 1) w L Ho) ∧ ∃ w L, bsI kd an al mJ4_words mJ4_wordsInUse (A 1 la) w L La)
  (hV : ∀ ls (kd an : Nat → Nat) (ai al : Nat → Int → Int) (mJ4_words : Nat → Option Nat) (mJ4_wordsInUse : Nat → Int) f, Inv ls kd an ai al mJ4_words mJ4_wordsInUse → Inv ls kd an (va_up ai (A 5 0) f) al mJ4_words mJ4_wordsInUse)
  (hC : ∀ ls u, co ls ≤ co (ls ++ [u])) (hF : ∀ l1 l2, Fin (l1 ++ l2) → Fin l1)
  (hT : ∀ ls (kd an : Nat → Nat) (ai al : Nat → Int → Int) (mJ4_words : Nat → Option Nat) (mJ4_wordsInUse : Nat → Int) (mJ4_sizeIsSticky : Nat → Int) (MC MS : Nat) (post : (Nat → Nat) → (Nat → Nat) → (Nat → Int → Int) → (Nat → Int → Int) → (Nat → Option Nat) → (Nat → Int) → (Nat → Int) → Prop), Inv ls kd an ai al mJ4_words mJ4_wordsInUse → rxGd pt r (ln r) (ai (A 5 0)) → rePs ln pt Ho r (ai (A 5 0)) → Fin (ls ++ [ai (A 5 0)]) → co (ls ++ [ai (A 5 0)]) - co ls ≤ MC → 2 * (co (ls ++ [ai (A 5 0)]) - co ls) ≤ MS → (∀ kd' an' ai' al' wd' iu' st', Inv (ls ++ [ai (A 5 0)]) kd' an' ai' al' wd' iu' → ai' (A 5 0) = ai (A 5 0) → post kd' an' ai' al' wd' iu' st') → wpDRE_X37_take_2_3_4 MC MS post kd an ai al mX35_holds mX35_counts mX35_next mX35_values mX35_together mX83_head mX83_kind mX83_variable mX84_name mX84_x mX84_y mJ4_words mJ4_wordsInUse mJ4_sizeIsSticky b (some (A 0 0)) (some o)) :
  ∀ (j dn : Nat) (ls : List (Int → Int)) (kd an : Nat → Nat) (ai al : Nat → Int → Int) (mJ4_words : Nat → Option Nat) (mJ4_wordsInUse : Nat → Int) (mJ4_sizeIsSticky : Nat → Int) (MC MS : Nat) (post : (Nat → Nat) → (Nat → Nat) → (Nat → Int → Int) → (Nat → Int → Int) → (Nat → Option Nat) → (Nat → Int) → (Nat → Int) → Prop), (j : Int) ≤ ln r → j < dn → Inv ls kd an ai al mJ4_words mJ4_wordsInUse → rxGd pt r (ln r - j) (ai (A 5 0)) → Fin (ls ++ caX ln pt (fun k c => if k = fr then La c else Ho c) Ho r j (ai (A 5 0))) → co (ls ++ caX ln pt (fun k c => if k = fr then La c else Ho c) Ho r j (ai (A 5 0))) - co ls ≤ MC → 2 * (co (ls ++ caX ln pt (fun k c => if k = fr then La c else Ho c) Ho r j (ai (A 5 0))) - co ls) ≤ MS → (∀ kd' an' ai' al' wd' iu' st', Inv (ls ++ caX ln pt (fun k c => if k = fr then La c else Ho c) Ho r j (ai (A 5 0))) kd' an' ai' al' wd' iu' → ai' (A 5 0) = ai (A 5 0) → post kd' an' ai' al' wd' iu' st') →
  wpRE_X35_cases dn MC MS post kd an ai al ar mX35_holds mX35_counts mX35_last mX35_next mX35_values mX35_together mX83_head mX83_parts mX83_kind mX83_variable mX84_sort mX84_name mX84_x mX84_y mJ2_elementData mJ2_size mJ4_words mJ4_wordsInUse mJ4_sizeIsSticky (some (A 0 0)) (some o) (ln r - j) fr (some b) := fun j => by
  obtain ⟨_, _, hl, i4⟩ := I.2 r hr.1 hr.2
  have coM : ∀ l2 l1 : List (Int → Int), co l1 ≤ co (l1 ++ l2) := fun l2 => by
    induction l2 with
    | nil => intro l1; rw [List.append_nil]; exact Int.le_refl _
    | cons u l2 ih =>
      intro l1
      have a := ih (l1 ++ [u])
      rw [List.append_assoc] at a
      exact Int.le_trans (hC l1 u) a
  induction j with
  | zero =>
    intro dn ls kd an ai al mJ4_words mJ4_wordsInUse mJ4_sizeIsSticky MC MS post hj hd_ Iv hg hFi hMC hMS hp
    obtain ⟨H, R, hb, ⟨w1, L1, B1⟩, _⟩ := hI _ _ _ _ _ _ _ Iv
    obtain ⟨⟨a0, a1, a2, a3, a3'⟩, _, a4, a5, a6⟩ := id R
    have hsz := a5.2.1
    have k0 : kd (A 0 0) = 1 := rx_kd H 0 0 (by decide) (by decide)
    rw [show ln r - ((0 : Nat) : Int) = ln r by omega] at hg ⊢
    rw [caX] at hMC hMS hp hFi
    obtain ⟨dn', edn⟩ : ∃ d, dn = d + 1 := ⟨dn - 1, by omega⟩
    rw [edn, wpRE_X35_cases]
    unfold wpRE_J2_size
    refine kOn_some ⟨a0, kOn_of a2 ⟨a4, ⟨Nat.zero_le _, Nat.zero_le _⟩, ?_⟩⟩
    rw [hsz]
    refine ⟨fun _ => kOn_some ⟨k0, ⟨Nat.zero_le _, Nat.zero_le _⟩, CRE_passes I hr H rV rH R B1 hg hs (fun ps => ⟨fun z => absurd z (by decide), fun _ => kOn_some ⟨hb, MC, MS, ⟨by omega, by omega⟩, ?_⟩⟩) (fun ps => ⟨fun _ => ⟨Nat.zero_le _, Nat.zero_le _, ?_⟩, fun z => absurd rfl z⟩)⟩, fun z => absurd rfl z⟩
    · rw [pif_t ps] at hMC hMS hp hFi
      exact hT ls kd an ai al mJ4_words mJ4_wordsInUse mJ4_sizeIsSticky MC MS _ Iv hg ps hFi hMC hMS (fun kd' an' ai' al' wd' iu' st' Iv' ev' kl => ⟨by omega, by omega, hp _ _ _ _ _ _ _ Iv' ev'⟩)
    · rw [pif_f ps, List.append_nil] at hp
      exact hp _ _ _ _ _ _ _ Iv rfl
  | succ j ih =>
    intro dn ls kd an ai al mJ4_words mJ4_wordsInUse mJ4_sizeIsSticky MC MS post hj hd_ Iv hg hFi hMC hMS hp
    obtain ⟨H, R, hb, ⟨w1, L1, B1⟩, ⟨w2, L2, B2⟩⟩ := hI _ _ _ _ _ _ _ Iv
    obtain ⟨⟨a0, a1, a2, a3, a3'⟩, _, a4, a5, a6⟩ := id R
    have hsz := a5.2.1
    have k0 : kd (A 0 0) = 1 := rx_kd H 0 0 (by decide) (by decide)
    obtain ⟨k, ek⟩ : ∃ k, k = ln r - ((j + 1 : Nat) : Int) := ⟨_, rfl⟩
    rw [caX_s ek] at hMC hMS hp hFi
    rw [← ek] at hg ⊢
    have ek1 : k + 1 = ln r - j := by omega
    obtain ⟨q6, q2, q3, q4, q5⟩ := a6 k (by omega) (by omega)
    obtain ⟨p1, p2, p3, p4⟩ := i4 k (by omega) (by omega)
    have so0 := rxSo_0 (pt := pt) (v := 20 * r + 4 * k) (by omega) p2.1
    obtain ⟨dn', edn⟩ : ∃ d, dn = d + 1 := ⟨dn - 1, by omega⟩
    rw [edn, wpRE_X35_cases]
    unfold wpRE_J2_size
    refine kOn_some ⟨a0, kOn_of a2 ⟨a4, ⟨Nat.zero_le _, Nat.zero_le _⟩, ?_⟩⟩
    rw [hsz]
    refine ⟨fun z => absurd z (by omega), fun _ => ⟨⟨Nat.zero_le _, Nat.zero_le _⟩, CRE_lget a5 (by omega) (by omega) (kOn_some ⟨q6, ⟨Nat.zero_le _, Nat.zero_le _⟩, ?_⟩)⟩⟩
    unfold wpRE_X84_sort
    rw [q2]
    refine ⟨fun z => ?_, fun z => ⟨by omega, MC, MS, ⟨by omega, by omega⟩, ?_⟩⟩
    rotate_left
    · have z1 : ¬ pt (20 * r + 4 * k) = 0 := fun w => z (so0.2 w)
      rw [if_neg z1] at hMC hMS hp hFi
      rw [ek1]
      refine ih dn' ls kd an ai al mJ4_words mJ4_wordsInUse mJ4_sizeIsSticky MC MS _ (by omega) (by omega) Iv ⟨hg.1, fun i i0 i1 p0 => hg.2 i i0 ?_ p0⟩ hFi hMC hMS (fun kd' an' ai' al' wd' iu' st' Iv' ev' kl => ⟨by omega, by omega, hp _ _ _ _ _ _ _ Iv' ev'⟩)
      by_cases w : i = k
      · rw [w] at p0; exact absurd p0 z1
      · omega
    have z1 : pt (20 * r + 4 * k) = 0 := so0.1 z
    have nm : rxNm pt (20 * r + 4 * k) = pt (20 * r + 4 * k + 1) := by unfold rxNm; rw [if_neg (by omega)]
    rw [nm] at q3
    rw [if_pos z1] at hMC hMS hp hFi
    have main : ∀ (B : Nat) (F : Int → Prop), kd B = 8 → (∀ ls (kd an : Nat → Nat) (ai al : Nat → Int → Int) (mJ4_words : Nat → Option Nat) (mJ4_wordsInUse : Nat → Int), Inv ls kd an ai al mJ4_words mJ4_wordsInUse → kd B = 8 ∧ ∃ w L, bsI kd an al mJ4_words mJ4_wordsInUse B w L F) → F = (fun c => if k = fr then La c else Ho c) → wRE_X35_cases_76 (wpRE_X35_cases dn') MC MS post (some (A 0 0)) (some o) k fr (some b) (some (p k)) (some B) kd an ai al ar mX35_holds mX35_counts mX35_last mX35_next mX35_values mX35_together mX83_head mX83_parts mX83_kind mX83_variable mX84_sort mX84_name mX84_x mX84_y mJ2_elementData mJ2_size mJ4_words mJ4_wordsInUse mJ4_sizeIsSticky 0 0 := fun B F kB hB eF => by
      rw [← eF] at hMC hMS hp hFi
      generalize hvv : ai (A 5 0) = vv at hg hMC hMS hp hFi
      generalize eX : pt (20 * r + 4 * k + 2) = X at *
      generalize eY : pt (20 * r + 4 * k + 3) = Y at *
      generalize eN : pt (20 * r + 4 * k + 1) = N at *
      generalize eZ : ls ++ caC (caX ln pt (fun k c => if k = fr then La c else Ho c) Ho r j) F X Y 1024 (1024 * N) vv = Z at *
      have coZ : ∀ l1 l2 : List (Int → Int), l1 ++ l2 = Z → co l1 ≤ co Z := fun l1 l2 e => by rw [← e]; exact coM l2 l1
      have loop : ∀ hi : Int, (∀ i, hi < i → i < 1024 * N + 1024 → 0 ≤ i → reBc X Y i vv = none) → hi < 1024 * N + 1024 → ∀ (d : Nat) (c : Int) (ls' : List (Int → Int)) (kd an : Nat → Nat) (ai al : Nat → Int → Int) (mJ4_words : Nat → Option Nat) (mJ4_wordsInUse : Nat → Int) (mJ4_sizeIsSticky : Nat → Int) (kc ks : Nat), (1024 * N + 1024 - c ≤ d ∨ c < 0) → Inv ls' kd an ai al mJ4_words mJ4_wordsInUse → ai (A 5 0) = vv → ((c < 0 ∨ hi < c) ∧ ls' = Z ∨ (1024 * N ≤ c ∧ c ≤ hi) ∧ F c ∧ ls' ++ caC (caX ln pt (fun k c => if k = fr then La c else Ho c) Ho r j) F X Y (1024 * N + 1024 - c).toNat c vv = Z) → (kc : Int) + (co Z - co ls') ≤ MC → (ks : Int) + 2 * (co Z - co ls') ≤ MS →
        wRE_X35_cases_140 (wpRE_X35_cases dn') MC MS (fun (kd_160 : Nat → Nat) (an_161 : Nat → Nat) (ai_162 : Nat → Int → Int) (al_163 : Nat → Int → Int) (mJ4_words_164 : Nat → Option Nat) (mJ4_wordsInUse_165 : Nat → Int) (mJ4_sizeIsSticky_166 : Nat → Int) (kc_167 : Nat) (ks_168 : Nat) => (kc_167 ≤ MC ∧ ks_168 ≤ MS ∧ post kd_160 an_161 ai_162 al_163 mJ4_words_164 mJ4_wordsInUse_165 mJ4_sizeIsSticky_166)) (some (A 0 0)) (some o) k fr (some b) (some (p k)) (some B) hi ar mX35_holds mX35_counts mX35_last mX35_next mX35_values mX35_together mX83_head mX83_parts mX83_kind mX83_variable mX84_sort mX84_name mX84_x mX84_y mJ2_elementData mJ2_size (d + 1) c kd an ai al mJ4_words mJ4_wordsInUse mJ4_sizeIsSticky kc ks := fun hi hhi hE d => by
        induction d with
        | zero =>
          intro c ls' kd an ai al mJ4_words mJ4_wordsInUse mJ4_sizeIsSticky kc ks hd1 Iv' ev hst hkc hks
          have hst : (c < 0 ∨ hi < c) ∧ ls' = Z := hst.elim id (fun w => by omega)
          rw [hst.2] at hkc hks Iv'
          rw [wRE_X35_cases_140]
          have fin : kc ≤ MC ∧ ks ≤ MS ∧ post kd an ai al mJ4_words mJ4_wordsInUse mJ4_sizeIsSticky := ⟨by omega, by omega, hp _ _ _ _ _ _ _ Iv' (ev.trans rfl)⟩
          exact ⟨fun _ => fin, fun w => ⟨fun _ => fin, fun w2 => by omega⟩⟩
        | succ d ihd =>
          intro c ls' kd an ai al mJ4_words mJ4_wordsInUse mJ4_sizeIsSticky kc ks hd1 Iv' ev hst hkc hks
          rw [wRE_X35_cases_140]
          rcases hst with hst | ⟨hc, Fc, hZ⟩
          · rw [hst.2] at hkc hks Iv'
            have fin : kc ≤ MC ∧ ks ≤ MS ∧ post kd an ai al mJ4_words mJ4_wordsInUse mJ4_sizeIsSticky := ⟨by omega, by omega, hp _ _ _ _ _ _ _ Iv' (ev.trans rfl)⟩
            exact ⟨fun _ => fin, fun w => ⟨fun _ => fin, fun w2 => by omega⟩⟩
          · refine ⟨fun w => by omega, fun _ => ⟨fun w => by omega, fun _ a ea b2 eb => ?_⟩⟩
            have le := hZ ▸ coM (caC (caX ln pt (fun k c => if k = fr then La c else Ho c) Ho r j) F X Y (1024 * N + 1024 - c).toNat c vv) ls'
            have bnd : kc ≤ MC ∧ ks ≤ MS := by omega
            obtain ⟨H, R, hb, _, _⟩ := hI _ _ _ _ _ _ _ Iv'
            obtain ⟨kB, wB, LB, bB⟩ := hB _ _ _ _ _ _ _ Iv'
            obtain ⟨_, _, _, _, a6⟩ := id R
            obtain ⟨q6, q2', q3', q4', q5'⟩ := a6 k (by omega) (by omega)
            rw [eX] at q4'
            rw [eY] at q5'
            have k0 : kd (A 0 0) = 1 := rx_kd H 0 0 (by decide) (by decide)
            rw [show (1024 * N + 1024 - c).toNat = (1024 * N + 1024 - (c + 1)).toNat + 1 by omega, caC, pif_t Fc] at hZ
            have bc := reBc_i (x := X) (y := Y) (v := vv) (show 0 ≤ c by omega)
            rw [← ea, ← eb] at bc
            refine kOn_some ⟨q6, bnd, ?_⟩
            unfold wpRE_X84_x wpRE_X84_y
            rw [q4', q5']
            refine kOn_some ⟨k0, bnd, CRE_bind H rV p3 ev (fun ai1 e1 => ⟨bnd, bnd, ?_⟩)⟩
            have ev1 : ai1 (A 5 0) = rxBn X a vv := by rw [e1, va_up_self]
            refine CRE_bind H rV p4 ev1 (fun ai2 e2 => ⟨bnd, bnd, CRE_valueOf H rV p3 ?_⟩)
            have ev2 : ai2 (A 5 0) = rxBn Y b2 (rxBn X a vv) := by rw [e2, va_up_self]
            have Iv2 : Inv ls' kd an ai2 al mJ4_words mJ4_wordsInUse := by
              rw [e2, e1]; exact hV _ _ _ _ _ _ _ _ (hV _ _ _ _ _ _ _ _ Iv')
            have fX : ¬ rxFl X vv = 0 → X < 0 := fun w => by
              unfold rxFl at w
              by_cases w2 : X < 0 ∧ vv (-1 - X) = -1
              · exact w2.1
              · rw [if_neg w2] at w; exact absurd rfl w
            have fY : ¬ rxFl Y (rxBn X a vv) = 0 → Y < 0 := fun w => by
              unfold rxFl at w
              by_cases w2 : Y < 0 ∧ rxBn X a vv (-1 - Y) = -1
              · exact w2.1
              · rw [if_neg w2] at w; exact absurd rfl w
            rw [ev2]
            have goon : ∀ (ls2 : List (Int → Int)) (kd an : Nat → Nat) (ai al : Nat → Int → Int) (mJ4_words : Nat → Option Nat) (mJ4_wordsInUse : Nat → Int) (mJ4_sizeIsSticky : Nat → Int) (kc2 ks2 : Nat), Inv ls2 kd an ai al mJ4_words mJ4_wordsInUse → ai (A 5 0) = rxBn Y b2 (rxBn X a vv) → ls2 ++ caC (caX ln pt (fun k c => if k = fr then La c else Ho c) Ho r j) F X Y (1024 * N + 1024 - (c + 1)).toNat (c + 1) vv = Z → (kc2 : Int) + (co Z - co ls2) ≤ MC → (ks2 : Int) + 2 * (co Z - co ls2) ≤ MS → ∀ ai' c', ai' = va_up ai (A 5 0) (rxUn (rxFl Y (rxBn X a vv)) Y (rxUn (rxFl X vv) X (ai (A 5 0)))) → rxNb F c c' → wRE_X35_cases_140 (wpRE_X35_cases dn') MC MS (fun (kd_160 : Nat → Nat) (an_161 : Nat → Nat) (ai_162 : Nat → Int → Int) (al_163 : Nat → Int → Int) (mJ4_words_164 : Nat → Option Nat) (mJ4_wordsInUse_165 : Nat → Int) (mJ4_sizeIsSticky_166 : Nat → Int) (kc_167 : Nat) (ks_168 : Nat) => (kc_167 ≤ MC ∧ ks_168 ≤ MS ∧ post kd_160 an_161 ai_162 al_163 mJ4_words_164 mJ4_wordsInUse_165 mJ4_sizeIsSticky_166)) (some (A 0 0)) (some o) k fr (some b) (some (p k)) (some B) hi ar mX35_holds mX35_counts mX35_last mX35_next mX35_values mX35_together mX83_head mX83_parts mX83_kind mX83_variable mX84_sort mX84_name mX84_x mX84_y mJ2_elementData mJ2_size (d + 1) c' kd an ai' al mJ4_words mJ4_wordsInUse mJ4_sizeIsSticky kc2 ks2 := fun ls2 kd an ai al mJ4_words mJ4_wordsInUse mJ4_sizeIsSticky kc2 ks2 Iv3 ev3 hZ3 hkc3 hks3 ai' c' e' nb => by
              have Iv4 : Inv ls2 kd an ai' al mJ4_words mJ4_wordsInUse := by rw [e']; exact hV _ _ _ _ _ _ _ _ Iv3
              have ev4 : ai' (A 5 0) = vv := by rw [e', va_up_self, ev3, rxUn_v]
              have nx := rxNb_r nb (by omega) hhi hE hZ3
              refine ihd c' ls2 kd an ai' al mJ4_words mJ4_wordsInUse mJ4_sizeIsSticky kc2 ks2 ?_ Iv4 ev4 (nx.elim Or.inl (fun w => Or.inr ⟨by omega, w.2⟩)) hkc3 hks3
              rcases nb with ⟨nb, _⟩ | ⟨nb, _⟩
              · exact Or.inr (by omega)
              · exact Or.inl (by omega)
            have skip : ¬ (reVl (rxBn Y b2 (rxBn X a vv)) X = a ∧ reVl (rxBn Y b2 (rxBn X a vv)) Y = b2) → ls' ++ caC (caX ln pt (fun k c => if k = fr then La c else Ho c) Ho r j) F X Y (1024 * N + 1024 - (c + 1)).toNat (c + 1) vv = Z := fun w => by
              rw [if_neg w] at bc
              rw [bc] at hZ
              exact hZ
            refine ⟨fun w1 => ⟨bnd, bnd, CRE_valueOf H rV p4 ?_⟩, fun w1 => CRE_rest H rV q6 q4' q5' p3 p4 fX fY kB bB (by omega) bnd (goon ls' kd an ai2 al mJ4_words mJ4_wordsInUse mJ4_sizeIsSticky kc ks Iv2 ev2 (skip (fun w => w1 w.1)) hkc hks)⟩
            rw [ev2]
            refine ⟨fun w2 => ⟨by omega, ?_⟩, fun w2 => CRE_rest H rV q6 q4' q5' p3 p4 fX fY kB bB (by omega) bnd (goon ls' kd an ai2 al mJ4_words mJ4_wordsInUse mJ4_sizeIsSticky kc ks Iv2 ev2 (skip (fun w => w2 w.2)) hkc hks)⟩
            rw [if_pos ⟨w1, w2⟩] at bc
            rw [bc] at hZ
            dsimp only at hZ
            rw [← List.append_assoc] at hZ
            have c1 := coM (caX ln pt (fun k c => if k = fr then La c else Ho c) Ho r j (rxBn Y b2 (rxBn X a vv))) ls'
            have c2 := coZ _ _ hZ
            rw [ek1]
            refine ⟨(co (ls' ++ caX ln pt (fun k c => if k = fr then La c else Ho c) Ho r j (rxBn Y b2 (rxBn X a vv))) - co ls').toNat, (2 * (co (ls' ++ caX ln pt (fun k c => if k = fr then La c else Ho c) Ho r j (rxBn Y b2 (rxBn X a vv))) - co ls')).toNat, ⟨by omega, by omega⟩, ?_⟩
            refine ih dn' ls' kd an ai2 al mJ4_words mJ4_wordsInUse mJ4_sizeIsSticky _ _ _ (by omega) (by omega) Iv2 ?_ (by rw [ev2]; exact hF _ _ (by rw [hZ]; exact hFi)) ?_ ?_ (fun kd' an' ai' al' wd' iu' st' Iv3 ev3 kl => ?_)
            · rw [← ek1, ev2]
              refine rxGd.n (ln := ln) (c := c) hg (by omega) ?_ ?_ ?_
              · rw [eX, eY, ← ea, ← eb]
              · rw [eX, ← ea]; exact w1
              · rw [eY, ← eb]; exact w2
            · rw [ev2]; omega
            · rw [ev2]; omega
            · rw [ev2] at Iv3 ev3
              obtain ⟨H', R', _, _, _⟩ := hI _ _ _ _ _ _ _ Iv3
              obtain ⟨kB', wB', LB', bB'⟩ := hB _ _ _ _ _ _ _ Iv3
              have q6' := (R'.2.2.2.2 k (by omega) (by omega)).1
              exact CRE_rest H' rV q6' q4' q5' p3 p4 fX fY kB' bB' (by omega) (by omega) (goon _ kd' an' ai' al' wd' iu' st' _ _ Iv3 ev3 hZ (by omega) (by omega))
      have start : ∀ hi lo : Int, (∀ i, hi < i → i < 1024 * N + 1024 → 0 ≤ i → reBc X Y i vv = none) → hi < 1024 * N + 1024 → (∀ i, 1024 * N ≤ i → i < lo → reBc X Y i vv = none) → 1024 * N ≤ lo → lo < 1024 * N + 1024 → wpRE_J4_nextSetBit (fun (r_158 : Int) => (∃ fu : Nat, wRE_X35_cases_140 (wpRE_X35_cases dn') MC MS (fun (kd_160 : Nat → Nat) (an_161 : Nat → Nat) (ai_162 : Nat → Int → Int) (al_163 : Nat → Int → Int) (mJ4_words_164 : Nat → Option Nat) (mJ4_wordsInUse_165 : Nat → Int) (mJ4_sizeIsSticky_166 : Nat → Int) (kc_167 : Nat) (ks_168 : Nat) => (kc_167 ≤ MC ∧ ks_168 ≤ MS ∧ post kd_160 an_161 ai_162 al_163 mJ4_words_164 mJ4_wordsInUse_165 mJ4_sizeIsSticky_166)) (some (A 0 0)) (some o) k fr (some b) (some (p k)) (some B) hi ar mX35_holds mX35_counts mX35_last mX35_next mX35_values mX35_together mX83_head mX83_parts mX83_kind mX83_variable mX84_sort mX84_name mX84_x mX84_y mJ2_elementData mJ2_size fu r_158 kd an ai al mJ4_words mJ4_wordsInUse mJ4_sizeIsSticky 0 0)) kd an al mJ4_words mJ4_wordsInUse B lo := fun hi lo hhi hE hlo l0 l1 => by
        obtain ⟨_, wB, LB, bB⟩ := hB _ _ _ _ _ _ _ Iv
        have eZ' : ls ++ caC (caX ln pt (fun k c => if k = fr then La c else Ho c) Ho r j) F X Y (1024 * N + 1024 - (lo - 1 + 1)).toNat (lo - 1 + 1) vv = Z := by
          rw [← eZ, show lo - 1 + 1 = lo by omega, ← caC_to l0 (by omega) (fun i i0 i1 _ => hlo i i0 i1), show (1024 * N + 1024 - 1024 * N).toNat = 1024 by omega]
        have fin : ∀ c', rxNb F (lo - 1) c' → ∃ fu : Nat, wRE_X35_cases_140 (wpRE_X35_cases dn') MC MS (fun (kd_160 : Nat → Nat) (an_161 : Nat → Nat) (ai_162 : Nat → Int → Int) (al_163 : Nat → Int → Int) (mJ4_words_164 : Nat → Option Nat) (mJ4_wordsInUse_165 : Nat → Int) (mJ4_sizeIsSticky_166 : Nat → Int) (kc_167 : Nat) (ks_168 : Nat) => (kc_167 ≤ MC ∧ ks_168 ≤ MS ∧ post kd_160 an_161 ai_162 al_163 mJ4_words_164 mJ4_wordsInUse_165 mJ4_sizeIsSticky_166)) (some (A 0 0)) (some o) k fr (some b) (some (p k)) (some B) hi ar mX35_holds mX35_counts mX35_last mX35_next mX35_values mX35_together mX83_head mX83_parts mX83_kind mX83_variable mX84_sort mX84_name mX84_x mX84_y mJ2_elementData mJ2_size fu c' kd an ai al mJ4_words mJ4_wordsInUse mJ4_sizeIsSticky 0 0 := fun c' nb => by
          have nx := rxNb_r2 nb (by omega) hhi hE eZ'
          exact ⟨_, loop hi hhi hE (1024 * N + 1024 - c').toNat c' ls kd an ai al mJ4_words mJ4_wordsInUse mJ4_sizeIsSticky 0 0 (by omega) Iv hvv (nx.elim Or.inl (fun w => Or.inr ⟨by omega, w.2⟩)) (by omega) (by omega)⟩
        exact CRE_nsbG bB (by omega) (by omega) (fun c' c0 fc nn => fin c' (Or.inr ⟨by omega, fc, fun i i0 i1 => nn i (by omega) i1⟩)) (fun nn => fin (-1) (Or.inl ⟨rfl, fun i i0 => nn i (by omega)⟩))
      have vX := hg.v p3
      unfold wRE_X35_cases_76 wpRE_X84_x wpRE_X84_name
      refine kOn_some ⟨q6, ⟨Nat.zero_le _, Nat.zero_le _⟩, ?_⟩
      dsimp only
      rw [q3, q4]
      refine kOn_some ⟨k0, ⟨Nat.zero_le _, Nat.zero_le _⟩, CRE_valueOf H rV p3 ⟨⟨Nat.zero_le _, Nat.zero_le _⟩, ⟨Nat.zero_le _, Nat.zero_le _⟩, ⟨Nat.zero_le _, Nat.zero_le _⟩, ?_⟩⟩
      rw [hvv]
      generalize exv : reVl vv X = xv at vX
      refine CRE_code (a := if xv < 0 then 0 else xv) ⟨p2, by split <;> omega, by decide⟩ ⟨⟨Nat.zero_le _, Nat.zero_le _⟩, fun w => ⟨⟨Nat.zero_le _, Nat.zero_le _⟩, ?_⟩, fun w => ⟨⟨Nat.zero_le _, Nat.zero_le _⟩, ?_⟩⟩
      · refine CRE_code ⟨p2, by decide, by decide⟩ (kOn_some ⟨kB, ⟨Nat.zero_le _, Nat.zero_le _⟩, ?_⟩)
        rw [if_pos (by omega)]
        unfold reCd
        exact start _ _ (fun i i0 i1 _ => by omega) (by omega) (fun i i0 i1 => by omega) (by omega) (by omega)
      · refine CRE_code ⟨p2, by omega, by decide⟩ (kOn_some ⟨kB, ⟨Nat.zero_le _, Nat.zero_le _⟩, ?_⟩)
        rw [if_neg (by omega)]
        unfold reCd
        exact start _ _ (fun i i0 i1 _ => reBc_no (by omega) (by omega)) (by omega) (fun i i0 i1 => reBc_no (by omega) (by omega)) (by omega) (by omega)
    refine ⟨fun w => kOn_some ⟨k0, ?_⟩, fun w => kOn_some ⟨k0, ?_⟩⟩
    · rw [rL]
      refine main (A 1 la) La (rx_kd H 1 la hla.1 hla.2) (fun ls kd an ai al mJ4_words mJ4_wordsInUse Iv' => ?_) (by funext c; rw [if_pos w])
      have := hI _ _ _ _ _ _ _ Iv'
      exact ⟨rx_kd this.1 1 la hla.1 hla.2, this.2.2.2.2⟩
    · rw [rH]
      refine main (A 1 1) Ho (rx_kd H 1 1 (by decide) (by decide)) (fun ls kd an ai al mJ4_words mJ4_wordsInUse Iv' => ?_) (by funext c; rw [if_neg w])
      have := hI _ _ _ _ _ _ _ Iv'
      exact ⟨rx_kd this.1 1 1 (by decide) (by decide), this.2.2.2.1⟩
end
