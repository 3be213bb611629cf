/-! RuleEngine (room RE): what is done with cases -/
noncomputable def reGr (H : Int → Prop) (L : Int) (l : List Int) : Int := l.foldl (fun L c => pif (H c) L (reG L (c / 64 + 1))) L
theorem reGr_a {H : Int → Prop} {L c : Int} {l : List Int} : reGr H L (l ++ [c]) = pif (H c) (reGr H L l) (reG (reGr H L l) (c / 64 + 1)) := by
  unfold reGr
  rw [List.foldl_append]; rfl
theorem reGr_b {H : Int → Prop} : ∀ (l : List Int) (L : Int), 1 ≤ L ∧ L ≤ 510 → (∀ c ∈ l, 0 ≤ c ∧ c < 16384) → L ≤ reGr H L l ∧ reGr H L l ≤ 510
  | [], L, hL, _ => ⟨Int.le_refl _, hL.2⟩
  | c :: l, L, hL, hr => by
    have hc := hr c (by simp)
    have gb := (reG_b hL (show c / 64 + 1 ≤ 256 by omega)).1
    have e : reGr H L (c :: l) = reGr H (pif (H c) L (reG L (c / 64 + 1))) l := rfl
    rw [e]
    by_cases z : H c
    · rw [pif_t z]
      exact reGr_b l L hL (fun d hd => hr d (by simp [hd]))
    · rw [pif_f z]
      have := reGr_b (H := H) l (reG L (c / 64 + 1)) (by omega) (fun d hd => hr d (by simp [hd]))
      omega
theorem reGr_m {H : Int → Prop} {L : Int} {l : List Int} {c : Int} : reGr H L l ≤ reGr H L (l ++ [c]) := by
  rw [reGr_a]
  by_cases z : H c
  · rw [pif_t z]; exact Int.le_refl _
  · rw [pif_f z]
    unfold reG
    split
    · omega
    · split <;> omega
theorem reGr_t {H : Int → Prop} {L : Int} {l m : List Int} : reGr H L (l ++ m) = reGr H (reGr H L l) m := by
  unfold reGr
  rw [List.foldl_append]
/-- lists that agree, one by one -/
def rl6 : List (Int → Int) → List (Int → Int) → Prop
  | [], [] => True
  | a :: l, b :: m => re6 a b ∧ rl6 l m
  | _, _ => False
theorem rl6_a : ∀ {l1 m1 l2 m2 : List (Int → Int)}, rl6 l1 m1 → rl6 l2 m2 → rl6 (l1 ++ l2) (m1 ++ m2)
  | [], [], _, _, _, h => h
  | _ :: _, _ :: _, _, _, h, g => ⟨h.1, rl6_a h.2 g⟩
  | [], _ :: _, _, _, h, _ => h.elim
  | _ :: _, [], _, _, h, _ => h.elim
theorem rl6_C {G1 : (Int → Int) → List (Int → Int)} {F : Int → Prop} {x y : Int} (hx : reIt x) (hy : reIt y) (hG : ∀ v w, re6 v w → rl6 (G1 v) (G1 w)) : ∀ (d : Nat) (c : Int) (v w : Int → Int), re6 v w → rl6 (caC G1 F x y d c v) (caC G1 F x y d c w)
  | 0, _, _, _, _ => trivial
  | d + 1, c, v, w, h => by
    rw [caC, caC]
    refine rl6_a ?_ (rl6_C hx hy hG d (c + 1) v w h)
    by_cases z : F c
    · rw [pif_t z, pif_t z]
      unfold reBc
      rcases reB1_c h hx (x := c / 32 % 32) with ⟨v1, w1, e1, e2, h1⟩ | ⟨e1, e2⟩
      · rw [e1, e2, Option.bind_some, Option.bind_some]
        rcases reB1_c h1 hy (x := c % 32) with ⟨v2, w2, e3, e4, h2⟩ | ⟨e3, e4⟩
        · rw [e3, e4]; exact hG _ _ h2
        · rw [e3, e4]; trivial
      · rw [e1, e2]; trivial
    · rw [pif_f z, pif_f z]; trivial
theorem rl6_X {ln pt : Int → Int} {Fs : Int → Int → Prop} {P : Int → Prop} {r : Int} (hi : ∀ k, 0 ≤ k → k < ln r → reIt (pt (20 * r + 4 * k + 2)) ∧ reIt (pt (20 * r + 4 * k + 3))) : ∀ (j : Nat) (v w : Int → Int), (j : Int) ≤ ln r → re6 v w → rl6 (caX ln pt Fs P r j v) (caX ln pt Fs P r j w)
  | 0, v, w, _, h => by
    rw [caX, caX]
    have e := rePs_c (F := P) h hi
    by_cases z : rePs ln pt P r v
    · rw [pif_t z, pif_t (e.1 z)]; exact ⟨h, trivial⟩
    · rw [pif_f z, pif_f (fun q => z (e.2 q))]; trivial
  | j + 1, v, w, hj, h => by
    rw [caX_s rfl, caX_s rfl]
    have ih := fun v w h => rl6_X (Fs := Fs) (P := P) hi j v w (by omega) h
    split
    · have it := hi (ln r - ((j + 1 : Nat) : Int)) (by omega) (by omega)
      exact rl6_C it.1 it.2 ih _ _ _ _ h
    · exact ih v w h
theorem rl6_m {hd : Int → Int} {r : Int} (hx : reIt (hd (3 * r + 1))) (hy : reIt (hd (3 * r + 2))) : ∀ {l m : List (Int → Int)}, rl6 l m → l.map (reHe hd r) = m.map (reHe hd r)
  | [], [], _ => rfl
  | a :: l, b :: m, h => by
    have e : reHe hd r a = reHe hd r b := by unfold reHe; rw [reVl_c h.1 hx, reVl_c h.1 hy]
    rw [List.map_cons, List.map_cons, e, rl6_m hx hy h.2]
  | [], _ :: _, h => h.elim
  | _ :: _, [], h => h.elim
theorem rl6_l : ∀ {l m : List (Int → Int)}, rl6 l m → l.length = m.length
  | [], [], _ => rfl
  | _ :: _, _ :: _, h => congrArg (· + 1) (rl6_l h.2)
  | [], _ :: _, h => h.elim
  | _ :: _, [], h => h.elim
theorem rl6_f {hx fx : Int} (h1 : reIt hx) (h2 : reIt fx) : ∀ {l m : List (Int → Int)} {M : reM4}, rl6 l m → reFl hx fx M l = reFl hx fx M m
  | [], [], _, _ => rfl
  | a :: l, b :: m, M, h => by
    rw [reFl, reFl, reVl_c h.1 h1, reVl_c h.1 h2]
    exact rl6_f h1 h2 h.2
  | [], _ :: _, _, h => h.elim
  | _ :: _, [], _, h => h.elim
noncomputable def rxCz (ln pt : Int → Int) (Fs : Int → Int → Prop) (P : Int → Prop) (r : Int) : List (Int → Int) := caX ln pt Fs P r (ln r).toNat (fun _ => -1)
theorem caX_c {ln pt : Int → Int} {Fs : Int → Int → Prop} {F P : Int → Prop} {r : Int} (h : ∀ k c, 0 ≤ k → (Fs k c ↔ F c)) : ∀ (j : Nat) (v : Int → Int), (j : Int) ≤ ln r → caX ln pt Fs P r j v = caQ ln pt F P r j v
  | 0, v, _ => rfl
  | j + 1, v, hj => by
    have e : Fs (ln r - ((j : Int) + 1)) = F := funext fun c => propext (h _ c (by omega))
    have ih : caX ln pt Fs P r j = caQ ln pt F P r j := funext fun v => caX_c h j v (by omega)
    rw [caX, caQ, e, ih]
theorem rxCz_c {ln pt : Int → Int} {Fs : Int → Int → Prop} {F : Int → Prop} {r : Int} (hl : 0 ≤ ln r) (h : ∀ k c, 0 ≤ k → (Fs k c ↔ F c)) : rxCz ln pt Fs F r = reCs ln pt F r := caX_c h _ _ (by omega)
def rxJ (ar : Nat → Int → Option Nat) (hp pp : Nat → Option Nat) (kp vp so nm px py : Nat → Int) (ed : Nat → Option Nat) (sz : Nat → Int) (s0 : Nat) (A : Nat → Int → Nat) (G : Nat → Nat × Int) (hd ki fo ln pt : Int → Int) (n : Int) (e0 : Nat) (F H_ Li Ro : Int → Nat) (Pa : Int → Int → Nat) (ne : Int) (L0 : Int → Int) (P0 : Int → Int → Prop) (ai0 : Nat → Int → Int) (codes : List Int) (kd an : Nat → Nat) (ai al : Nat → Int → Int) (wd : Nat → Option Nat) (iu : Nat → Int) : Prop :=
  Lab rxK rxL kd an A G rxN ∧ rxRs kd an ar hp pp kp vp so nm px py ed sz s0 A hd ki fo ln pt n e0 F H_ Li Ro Pa ∧ (∃ W, rxB kd an al wd iu A W (upJ L0 ne (reGr (P0 1) (L0 ne) codes)) (upJ P0 ne (fun c => P0 ne c ∨ (c ∈ codes ∧ ¬ P0 1 c)))) ∧ ∀ a, a ≠ A 5 0 → a ≠ A 6 0 → ai a = ai0 a
section
variable {kd : Nat → Nat} {an : Nat → Nat} {ai : Nat → Int → Int} {al : Nat → Int → Int} {ar : Nat → Int → Option Nat} {mX35_said : Nat → Option Nat} {mX35_rules : Nat → Option Nat} {mX35_strata : Nat → Option Nat} {mX35_needs : Nat → Option Nat} {mX35_safe : Nat → Option Nat} {mX35_circle : Nat → Int} {mX35_known : Nat → Int} {mX35_holds : Nat → Option Nat} {mX35_rounds : Nat → Option Nat} {mX35_counts : Nat → Option Nat} {mX35_roundCount : Nat → Int} {mX35_last : Nat → Option Nat} {mX35_next : Nat → Option Nat} {mX35_values : Nat → Option Nat} {mX35_coming : Nat → Option Nat} {mX35_counting : Nat → Option Nat} {mX35_gathering : Nat → Option Nat} {mX35_together : Nat → Option Nat} {mX35_held : Nat → Option Nat} {mX35_work : Nat → Int} {mX35_large : Nat → Int} {mX83_head : Nat → Option Nat} {mX83_parts : Nat → Option Nat} {mX83_kind : Nat → Int} {mX83_variable : Nat → Int} {mX84_sort : Nat → Int} {mX84_name : Nat → Int} {mX84_x : Nat → Int} {mX84_y : Nat → Int} {mJ1_modCount : Nat → Int} {mJ2_elementData : Nat → Option Nat} {mJ2_size : Nat → Int} {mJ4_words : Nat → Option Nat} {mJ4_wordsInUse : Nat → Int} {mJ4_sizeIsSticky : Nat → Int} {sa : Nat → Nat} {A : Nat → Int → Nat} {hd ki fo ln pt sd st rn gv : Int → Int} {n r k v c s : Int} {e0 : Nat} {W : Int → Nat} {Lq : Int → Int} {Pq : Int → Int → Prop} {MC MS : Nat} {F H_ Li Ro : Int → Nat} {Pa : Int → Int → Nat} {G : Nat → Nat × Int} {L0 : Int → Int} {P0 : Int → Int → Prop} {ai0 : Nat → Int → Int} {ne la fr : Int}
theorem rxB.cg {L' : Int → Int} {P' : Int → Int → Prop} (B : rxB kd an al mJ4_words mJ4_wordsInUse A W Lq Pq) (hL : ∀ j, 0 ≤ j → j < 4 → Lq j = L' j) (hP : ∀ j, 0 ≤ j → j < 4 → ∀ q, Pq j q ↔ P' j q) : rxB kd an al mJ4_words mJ4_wordsInUse A W L' P' := ⟨fun j j0 j1 => by
  have := (B.1 j j0 j1).c (hP j j0 j1)
  rw [hL j j0 j1] at this; exact this, B.2⟩
theorem CRE_come {post : (Nat → Nat) → (Nat → Nat) → (Nat → Int → Int) → (Nat → Option Nat) → (Nat → Int) → (Nat → Int) → Prop} (H : Lab rxK rxL kd an A G rxN) (rH : mX35_holds (A 0 0) = some (A 1 1)) (rN : mX35_next (A 0 0) = some (A 1 ne)) (hne : ne = 2 ∨ ne = 3) (B : rxB kd an al mJ4_words mJ4_wordsInUse A W Lq Pq) (hc : 0 ≤ c ∧ c < 16384) (hMC : pif (Pq 1 c) (Lq ne) (reG (Lq ne) (c / 64 + 1)) - Lq ne ≤ MC) (hMS : 2 * (pif (Pq 1 c) (Lq ne) (reG (Lq ne) (c / 64 + 1)) - Lq ne) ≤ MS)
  (hp : ∀ kd' an' al' wd' iu' st' W', kLe kd an kd' an' → rxB kd' an' al' wd' iu' A W' (upJ Lq ne (pif (Pq 1 c) (Lq ne) (reG (Lq ne) (c / 64 + 1)))) (upJ Pq ne (fun q => Pq ne q ∨ (q = c ∧ ¬ Pq 1 c))) → post kd' an' al' wd' iu' st') : wpRE_X35_come MC MS post kd an al mX35_holds mX35_next mJ4_words mJ4_wordsInUse mJ4_sizeIsSticky (A 0 0) c := by
  have k1 : kd (A 1 1) = 8 := rx_kd H 1 1 (by decide) (by decide)
  have kn : kd (A 1 ne) = 8 := rx_kd H 1 ne (by omega) (by show ne < 4; omega)
  unfold wpRE_X35_come
  refine kOn_of rH ⟨k1, ⟨Nat.zero_le _, Nat.zero_le _⟩, CRE_getG (B.1 1 (by decide) (by decide)) hc.1 hc.2 (fun q => ⟨fun z => absurd z (by decide), fun _ => ⟨Nat.zero_le _, Nat.zero_le _, ?_⟩⟩) (fun q => ⟨fun _ => kOn_of rN ⟨kn, MC, MS, ⟨by omega, by omega⟩, ?_⟩, fun z => absurd rfl z⟩)⟩
  · rw [pif_t q] at hp
    refine hp kd an al _ _ _ W (fun _ _ => ⟨rfl, rfl⟩) (B.cg (fun j j0 j1 => ?_) (fun j j0 j1 s => ?_))
    · by_cases z : j = ne
      · rw [z, upJ_s]
      · rw [upJ_n z]
    · by_cases z : j = ne
      · rw [z, upJ_s]; exact ⟨Or.inl, fun w => w.elim id (fun w => absurd q w.2)⟩
      · rw [upJ_n z]
  · rw [pif_f q] at hp hMC hMS
    refine CRE_setG (B.1 ne (by omega) (by omega)) hc.1 hc.2 hMC hMS (fun kd' an' al' wd' iu' st' w' Fr N kl => ⟨by omega, by omega, hp kd' an' al' wd' iu' st' (upJ W ne w') Fr.1 ?_⟩)
    refine (rxB.up H B (by omega) (by omega) Fr N).cg (fun _ _ _ => rfl) (fun j j0 j1 s => ?_)
    by_cases z : j = ne
    · rw [z, upJ_s, upJ_s]
      exact or_congr Iff.rfl ⟨fun w => ⟨w, q⟩, fun w => w.1⟩
    · rw [upJ_n z, upJ_n z]
/-- one more code -/
theorem rxJ.come {post : (Nat → Nat) → (Nat → Nat) → (Nat → Int → Int) → (Nat → Option Nat) → (Nat → Int) → (Nat → Int) → Prop} {codes : List Int} (J : rxJ ar mX83_head mX83_parts mX83_kind mX83_variable mX84_sort mX84_name mX84_x mX84_y mJ2_elementData mJ2_size (sa 0) A G hd ki fo ln pt n e0 F H_ Li Ro Pa ne L0 P0 ai0 codes kd an ai al mJ4_words mJ4_wordsInUse) (rH : mX35_holds (A 0 0) = some (A 1 1)) (rN : mX35_next (A 0 0) = some (A 1 ne)) (hne : ne = 2 ∨ ne = 3) (hc : 0 ≤ c ∧ c < 16384) (hMC : reGr (P0 1) (L0 ne) (codes ++ [c]) - reGr (P0 1) (L0 ne) codes ≤ MC) (hMS : 2 * (reGr (P0 1) (L0 ne) (codes ++ [c]) - reGr (P0 1) (L0 ne) codes) ≤ MS)
  (hp : ∀ kd' an' al' wd' iu' st', rxJ ar mX83_head mX83_parts mX83_kind mX83_variable mX84_sort mX84_name mX84_x mX84_y mJ2_elementData mJ2_size (sa 0) A G hd ki fo ln pt n e0 F H_ Li Ro Pa ne L0 P0 ai0 (codes ++ [c]) kd' an' ai al' wd' iu' → post kd' an' al' wd' iu' st') : wpRE_X35_come MC MS post kd an al mX35_holds mX35_next mJ4_words mJ4_wordsInUse mJ4_sizeIsSticky (A 0 0) c := by
  obtain ⟨H, R, ⟨W, B⟩, ha⟩ := J
  have e1 : upJ P0 ne (fun c => P0 ne c ∨ (c ∈ codes ∧ ¬ P0 1 c)) 1 = P0 1 := upJ_n (by omega)
  have e2 : upJ L0 ne (reGr (P0 1) (L0 ne) codes) ne = reGr (P0 1) (L0 ne) codes := upJ_s
  have eg := reGr_a (H := P0 1) (L := L0 ne) (c := c) (l := codes)
  refine CRE_come H rH rN hne B hc (by rw [e1, e2, ← eg]; exact hMC) (by rw [e1, e2, ← eg]; exact hMS) (fun kd' an' al' wd' iu' st' W' le B' => hp _ _ _ _ _ _ ⟨H.kLe le, R.le le, ⟨W', ?_⟩, ha⟩)
  rw [e1, e2, ← eg] at B'
  refine B'.cg (fun j j0 j1 => ?_) (fun j j0 j1 s => ?_)
  · by_cases z : j = ne
    · rw [z, upJ_s, upJ_s]
    · rw [upJ_n z, upJ_n z, upJ_n z]
  · by_cases z : j = ne
    · rw [z, upJ_s, upJ_s, upJ_s, List.mem_append, List.mem_singleton]
      constructor
      · rintro ((w | w) | w)
        · exact Or.inl w
        · exact Or.inr ⟨Or.inl w.1, w.2⟩
        · exact Or.inr ⟨Or.inr w.1, by rw [w.1]; exact w.2⟩
      · rintro (w | ⟨w | w, w2⟩)
        · exact Or.inl (Or.inl w)
        · exact Or.inl (Or.inr ⟨w, w2⟩)
        · exact Or.inr ⟨w, by rw [w] at w2; exact w2⟩
    · rw [upJ_n z, upJ_n z, upJ_n z]
/-- what the going over cases asks -/
theorem rxJ.i {codes : List Int} {b : Nat} (J : rxJ ar mX83_head mX83_parts mX83_kind mX83_variable mX84_sort mX84_name mX84_x mX84_y mJ2_elementData mJ2_size (sa 0) A G hd ki fo ln pt n e0 F H_ Li Ro Pa ne L0 P0 ai0 codes kd an ai al mJ4_words mJ4_wordsInUse) (hr : 0 ≤ r ∧ r < n) (hne : (la = 2 ∧ ne = 3) ∨ (la = 3 ∧ ne = 2)) (hb : b = A 7 0 ∨ b = A 8 0 ∨ b = A 9 0) : Lab rxK rxL kd an A G rxN ∧ rxRu kd an ar mX83_head mX83_parts mX83_kind mX83_variable mX84_sort mX84_name mX84_x mX84_y mJ2_elementData mJ2_size (sa 0) hd ki fo ln pt r (F r) (H_ r) (Li r) (Ro r) (Pa r) ∧ (kd b = 2 ∨ kd b = 3 ∨ kd b = 4) ∧ (∃ w L, bsI kd an al mJ4_words mJ4_wordsInUse (A 1 1) w L (P0 1)) ∧ ∃ w L, bsI kd an al mJ4_words mJ4_wordsInUse (A 1 la) w L (P0 la) := by
  obtain ⟨H, R, ⟨W, B⟩, ha⟩ := J
  have b1 := B.1 1 (by decide) (by decide)
  have b2 := B.1 la (by omega) (by omega)
  rw [upJ_n (show (1 : Int) ≠ ne by omega), upJ_n (show (1 : Int) ≠ ne by omega)] at b1
  rw [upJ_n (show la ≠ ne by omega), upJ_n (show la ≠ ne by omega)] at b2
  refine ⟨H, R.2.1 r hr.1 hr.2, ?_, ⟨_, _, b1⟩, ⟨_, _, b2⟩⟩
  rcases hb with e | e | e
  · rw [e]; exact Or.inl (rx_kd H 7 0 (by decide) (by decide))
  · rw [e]; exact Or.inr (Or.inl (rx_kd H 8 0 (by decide) (by decide)))
  · rw [e]; exact Or.inr (Or.inr (rx_kd H 9 0 (by decide) (by decide)))
theorem rxGd_0 {pt v : Int → Int} {r : Int} (hv : ∀ i, 0 ≤ i → i < 6 → v i = -1) : rxGd pt r 0 v := ⟨fun i i0 i1 => by rw [hv i i0 i1]; decide, fun j j0 j1 => by omega⟩
theorem CRE_coming {post : (Nat → Nat) → (Nat → Nat) → (Nat → Int → Int) → (Nat → Int → Int) → (Nat → Option Nat) → (Nat → Int) → (Nat → Int) → Prop} {c0 : List Int} (I : reI hd ki fo ln pt n) (hr : 0 ≤ r ∧ r < n) (hs : reSf hd ki fo ln pt r) (hki : ki r < 0) (rV : mX35_values (A 0 0) = some (A 5 0)) (rH : mX35_holds (A 0 0) = some (A 1 1)) (rL : mX35_last (A 0 0) = some (A 1 la)) (rN : mX35_next (A 0 0) = some (A 1 ne)) (hne : (la = 2 ∧ ne = 3) ∨ (la = 3 ∧ ne = 2)) (hv : ∀ i, 0 ≤ i → i < 6 → ai (A 5 0) i = -1) (J : rxJ ar mX83_head mX83_parts mX83_kind mX83_variable mX84_sort mX84_name mX84_x mX84_y mJ2_elementData mJ2_size (sa 0) A G hd ki fo ln pt n e0 F H_ Li Ro Pa ne L0 P0 ai0 c0 kd an ai al mJ4_words mJ4_wordsInUse)
  (hMC : reGr (P0 1) (L0 ne) (c0 ++ (rxCz ln pt (fun k c => if k = fr then P0 la c else P0 1 c) (P0 1) r).map (reHe hd r)) - reGr (P0 1) (L0 ne) c0 ≤ MC) (hMS : 2 * (reGr (P0 1) (L0 ne) (c0 ++ (rxCz ln pt (fun k c => if k = fr then P0 la c else P0 1 c) (P0 1) r).map (reHe hd r)) - reGr (P0 1) (L0 ne) c0) ≤ MS)
  (hp : ∀ kd' an' ai' al' wd' iu' st', rxJ ar mX83_head mX83_parts mX83_kind mX83_variable mX84_sort mX84_name mX84_x mX84_y mJ2_elementData mJ2_size (sa 0) A G hd ki fo ln pt n e0 F H_ Li Ro Pa ne L0 P0 ai0 (c0 ++ (rxCz ln pt (fun k c => if k = fr then P0 la c else P0 1 c) (P0 1) r).map (reHe hd r)) kd' an' ai' al' wd' iu' → (∀ i, 0 ≤ i → i < 6 → ai' (A 5 0) i = -1) → post kd' an' ai' al' wd' iu' st') :
  wpRE_X35_cases 20 MC MS post kd an ai al ar mX35_holds mX35_counts mX35_last mX35_next mX35_values mX35_together mX83_head mX83_parts mX83_kind mX83_variable mX84_sort mX84_name mX84_x mX84_y mJ2_elementData mJ2_size mJ4_words mJ4_wordsInUse mJ4_sizeIsSticky (some (A 0 0)) (some (F r)) 0 fr (some (A 7 0)) := by
  obtain ⟨⟨_, hx, hy⟩, _, hl, i4⟩ := I.2 r hr.1 hr.2
  have eM := rl6_m (hd := hd) (r := r) hx hy (rl6_X (ln := ln) (pt := pt) (Fs := fun k c => if k = fr then P0 la c else P0 1 c) (P := P0 1) (r := r) (fun k k0 k1 => (i4 k k0 k1).2.2) (ln r).toNat (ai (A 5 0)) (fun _ => -1) (by omega) (fun i i0 i1 => hv i i0 i1))
  have C := CRE_cases (mX35_counts := mX35_counts) (mX35_together := mX35_together) (Inv := fun ls kd an ai al wd iu => rxJ ar mX83_head mX83_parts mX83_kind mX83_variable mX84_sort mX84_name mX84_x mX84_y mJ2_elementData mJ2_size (sa 0) A G hd ki fo ln pt n e0 F H_ Li Ro Pa ne L0 P0 ai0 (c0 ++ ls.map (reHe hd r)) kd an ai al wd iu) (Fin := fun _ => True) (co := fun ls => reGr (P0 1) (L0 ne) (c0 ++ ls.map (reHe hd r))) (Ho := P0 1) (La := P0 la) (b := A 7 0) (la := la) (fr := fr) (G := G) (r := r) (o := F r) (h := H_ r) (l := Li r) (e := Ro r) (p := Pa r) I hr hs rV rH rL (by omega)
    (fun ls kd an ai al wd iu J => J.i hr hne (Or.inl rfl))
    (fun ls kd an ai al wd iu f J => ⟨J.1, J.2.1, J.2.2.1, fun a a5 a6 => by rw [va_up_ne _ _ a5]; exact J.2.2.2 a a5 a6⟩)
    (fun ls u => by
      show reGr _ _ (c0 ++ ls.map (reHe hd r)) ≤ reGr _ _ (c0 ++ (ls ++ [u]).map (reHe hd r))
      rw [List.map_append, ← List.append_assoc]; exact reGr_m) (fun _ _ _ => trivial)
    (fun ls kd an ai al wd iu st MC MS post J hg ps _ hMC hMS hp => by
      have Ji := J.i (la := la) hr hne (Or.inl (Eq.refl (A 7 0)))
      have k0 : kd (A 0 0) = 1 := rx_kd J.1 0 0 (by decide) (by decide)
      have k7 : kd (A 7 0) = 2 := rx_kd J.1 7 0 (by decide) (by decide)
      have el : c0 ++ (ls ++ [ai (A 5 0)]).map (reHe hd r) = (c0 ++ ls.map (reHe hd r)) ++ [reHe hd r (ai (A 5 0))] := by
        rw [List.map_append, ← List.append_assoc]; rfl
      try dsimp only at hMC hMS hp
      rw [el] at hMC hMS hp
      have fc : reFc (hd (3 * r)) (reVl (ai (A 5 0)) (hd (3 * r + 1))) (reVl (ai (A 5 0)) (hd (3 * r + 2))) := ⟨(I.2 r hr.1 hr.2).1.1, hg.b hx hs.1, hg.b hy (hs.2.1 hki)⟩
      refine Or.inl ⟨k7, ?_⟩
      unfold wpRE_X37_take
      refine kOn_some ⟨k0, ⟨Nat.zero_le _, Nat.zero_le _⟩, CRE_headOf J.1 rV Ji.2.1 hx hy fc ⟨MC, MS, ⟨by omega, by omega⟩, ?_⟩⟩
      exact rxJ.come J rH rN (by omega) (reCd_b fc) hMC hMS (fun kd' an' al' wd' iu' st' J' kl => ⟨by omega, by omega, hp _ _ _ _ _ _ _ J' rfl⟩))
    (ln r).toNat 20 [] kd an ai al mJ4_words mJ4_wordsInUse mJ4_sizeIsSticky MC MS post (by omega) (by omega) (by rw [List.map_nil, List.append_nil]; exact J) (by rw [show ln r - ((ln r).toNat : Int) = 0 by omega]; exact rxGd_0 hv) trivial
    (by
      try dsimp only
      rw [List.nil_append, eM, List.map_nil, List.append_nil]; exact hMC) (by
      try dsimp only
      rw [List.nil_append, eM, List.map_nil, List.append_nil]; exact hMS) (fun kd' an' ai' al' wd' iu' st' J' ev => by
      try dsimp only at J'
      rw [List.nil_append, eM] at J'
      exact hp _ _ _ _ _ _ _ J' (fun i i0 i1 => by rw [ev]; exact hv i i0 i1))
  rw [show ln r - ((ln r).toNat : Int) = 0 by omega] at C
  exact C
end
