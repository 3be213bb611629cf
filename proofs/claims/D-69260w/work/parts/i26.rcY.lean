/-! RuleEngine (room RE): rules come, get parts, go -/
def rxSh_ {α : Type} (i : Int) (f : Int → α) (j : Int) : α := f (if j < i then j else j + 1)
theorem reSh_3 {f : Int → Int} {i m j k : Int} (h : 0 ≤ j ∧ j < m) (hk : 0 ≤ k ∧ k < 3) (hi : 0 ≤ i ∧ i ≤ m) : reSh f 3 i m (3 * j + k) = f (3 * (if j < i then j else j + 1) + k) := by
  unfold reSh
  by_cases z : j < i
  · rw [if_pos z, if_neg (by omega)]
  · rw [if_neg z, if_pos (by omega), show 3 * j + k + 3 = 3 * (j + 1) + k by omega]
theorem reSh_1 {f : Int → Int} {i m j : Int} (h : 0 ≤ j ∧ j < m) (hi : 0 ≤ i ∧ i ≤ m) : reSh f 1 i m j = f (if j < i then j else j + 1) := by
  unfold reSh
  by_cases z : j < i
  · rw [if_pos z, if_neg (by omega)]
  · rw [if_neg z, if_pos (by omega)]
theorem reSh_20 {f : Int → Int} {i m j k : Int} (h : 0 ≤ j ∧ j < m) (hk : 0 ≤ k ∧ k < 20) (hi : 0 ≤ i ∧ i ≤ m) : reSh f 20 i m (20 * j + k) = f (20 * (if j < i then j else j + 1) + k) := by
  unfold reSh
  by_cases z : j < i
  · rw [if_pos z, if_neg (by omega)]
  · rw [if_neg z, if_pos (by omega), show 20 * j + k + 20 = 20 * (j + 1) + k by omega]
section
variable {kd : Nat → Nat} {an : Nat → Nat} {ai : Nat → Int → Int} {al : Nat → Int → Int} {ar : Nat → Int → Option Nat} {mX35_said : Nat → Option Nat} {mX35_rules : Nat → Option Nat} {mX35_strata : Nat → Option Nat} {mX35_needs : Nat → Option Nat} {mX35_safe : Nat → Option Nat} {mX35_circle : Nat → Int} {mX35_known : Nat → Int} {mX35_holds : Nat → Option Nat} {mX35_rounds : Nat → Option Nat} {mX35_counts : Nat → Option Nat} {mX35_roundCount : Nat → Int} {mX35_last : Nat → Option Nat} {mX35_next : Nat → Option Nat} {mX35_values : Nat → Option Nat} {mX35_coming : Nat → Option Nat} {mX35_counting : Nat → Option Nat} {mX35_gathering : Nat → Option Nat} {mX35_together : Nat → Option Nat} {mX35_held : Nat → Option Nat} {mX35_work : Nat → Int} {mX35_large : Nat → Int} {mX83_head : Nat → Option Nat} {mX83_parts : Nat → Option Nat} {mX83_kind : Nat → Int} {mX83_variable : Nat → Int} {mX84_sort : Nat → Int} {mX84_name : Nat → Int} {mX84_x : Nat → Int} {mX84_y : Nat → Int} {mJ1_modCount : Nat → Int} {mJ2_elementData : Nat → Option Nat} {mJ2_size : Nat → Int} {mJ4_words : Nat → Option Nat} {mJ4_wordsInUse : Nat → Int} {mJ4_sizeIsSticky : Nat → Int} {sa : Nat → Nat} {A : Nat → Int → Nat} {hd ki fo ln pt sd st rn gv : Int → Int} {n r k v c s : Int} {e0 : Nat} {W : Int → Nat} {Lq : Int → Int} {Pq : Int → Int → Prop} {MC MS : Nat} {F H_ Li Ro : Int → Nat} {Pa : Int → Int → Nat} {G : Nat → Nat × Int} {L0 : Int → Int} {P0 : Int → Int → Prop} {ai0 : Nat → Int → Int} {ne la fr : Int}
variable {mb l0 : Int}
/-- a rule read off other numbers -/
theorem rxRu.cg {hd' ki' fo' ln' pt' : Int → Int} {r' : Int} {o h l e : Nat} {p : Int → Nat} (R : rxRu kd an ar mX83_head mX83_parts mX83_kind mX83_variable mX84_sort mX84_name mX84_x mX84_y mJ2_elementData mJ2_size (sa 0) hd ki fo ln pt r o h l e p) (e1 : ∀ k, 0 ≤ k → k < 3 → hd' (3 * r' + k) = hd (3 * r + k)) (e2 : ki' r' = ki r) (e3 : fo' r' = fo r) (e4 : ln' r' = ln r) (e5 : ∀ k, 0 ≤ k → k < 4 * ln r → pt' (20 * r' + k) = pt (20 * r + k)) : rxRu kd an ar mX83_head mX83_parts mX83_kind mX83_variable mX84_sort mX84_name mX84_x mX84_y mJ2_elementData mJ2_size (sa 0) hd' ki' fo' ln' pt' r' o h l e p := by
  obtain ⟨⟨o0, o1, o2, o3, o4⟩, ⟨h1, h2, h3, h4, h5⟩, l7, l5, l6⟩ := R
  have a0 := e1 0 (by decide) (by decide)
  have a1 := e1 1 (by decide) (by decide)
  have a2 := e1 2 (by decide) (by decide)
  rw [Int.add_zero, Int.add_zero] at a0
  refine ⟨⟨o0, o1, o2, by rw [e2]; exact o3, by rw [e3]; exact o4⟩, ⟨h1, h2, by rw [a0]; exact h3, by rw [a1]; exact h4, by rw [a2]; exact h5⟩, l7, by rw [e4]; exact l5, fun k k0 k1 => ?_⟩
  rw [e4] at k1
  have b0 := e5 (4 * k) (by omega) (by omega)
  have b1 := e5 (4 * k + 1) (by omega) (by omega)
  have b2 := e5 (4 * k + 2) (by omega) (by omega)
  have b3 := e5 (4 * k + 3) (by omega) (by omega)
  rw [← Int.add_assoc, ← Int.add_assoc] at b1 b2 b3
  obtain ⟨p0, p1, p2, p3, p4⟩ := l6 k k0 k1
  refine ⟨p0, ?_, ?_, by rw [b2]; exact p3, by rw [b3]; exact p4⟩
  · rw [p1]; unfold rxSo; rw [b0, b1]
  · rw [p2]; unfold rxNm; rw [b0, b1]
/-- a rule among other cells -/
theorem rxRu.frm {kd' an' : Nat → Nat} {ar' : Nat → Int → Option Nat} {hp' pp' : Nat → Option Nat} {kp' vp' so' nm' px' py' : Nat → Int} {ed' : Nat → Option Nat} {sz' : Nat → Int} {o h l e e1 : Nat} {p : Int → Nat} (R : rxRu kd an ar mX83_head mX83_parts mX83_kind mX83_variable mX84_sort mX84_name mX84_x mX84_y mJ2_elementData mJ2_size (sa 0) hd ki fo ln pt r o h l e p) (le : kLe kd an kd' an') (f1 : ∀ q, kd q = 5 → hp' q = mX83_head q ∧ pp' q = mX83_parts q ∧ kp' q = mX83_kind q ∧ vp' q = mX83_variable q) (f2 : ∀ q, kd q = 6 → so' q = mX84_sort q ∧ nm' q = mX84_name q ∧ px' q = mX84_x q ∧ py' q = mX84_y q) (har : ∀ a, a ≠ e1 → ar' a = ar a) (he : 0 < ln r → e ≠ e1) (hed : ed' l = mJ2_elementData l) (hsz : sz' l = mJ2_size l) : rxRu kd' an' ar' hp' pp' kp' vp' so' nm' px' py' ed' sz' (sa 0) hd ki fo ln pt r o h l e p := by
  obtain ⟨⟨o0, o1, o2, o3, o4⟩, ⟨h1, h2, h3, h4, h5⟩, l7, l5, l6⟩ := R
  obtain ⟨u1, u2, u3, u4⟩ := f1 o o0
  obtain ⟨v1, v2, v3, v4⟩ := f2 h h1
  refine ⟨⟨((le o (by rw [o0]; decide)).1).trans o0, u1.trans o1, u2.trans o2, u3.trans o3, u4.trans o4⟩, ⟨((le h (by rw [h1]; decide)).1).trans h1, v1.trans h2, v2.trans h3, v3.trans h4, v4.trans h5⟩, ((le l (by rw [l7]; decide)).1).trans l7, l5.fr (by decide) le har he hed hsz, fun k k0 k1 => ?_⟩
  obtain ⟨p0, p1, p2, p3, p4⟩ := l6 k k0 k1
  obtain ⟨w1, w2, w3, w4⟩ := f2 (p k) p0
  exact ⟨((le (p k) (by rw [p0]; decide)).1).trans p0, w1.trans p1, w2.trans p2, w3.trans p3, w4.trans p4⟩
theorem bsI.le {kd' an' : Nat → Nat} {x w : Nat} {L : Int} {P : Int → Prop} (B : bsI kd an al mJ4_words mJ4_wordsInUse x w L P) (le : kLe kd an kd' an') : bsI kd' an' al mJ4_words mJ4_wordsInUse x w L P := by
  obtain ⟨⟨b1, b2, b3⟩, b4⟩ := B
  have k := le w (by rw [b2]; decide)
  exact ⟨⟨b1, k.1.trans b2, by rw [k.2]; exact b3⟩, b4⟩
theorem rxB.le {kd' an' : Nat → Nat} {L : Int → Int} {P : Int → Int → Prop} (B : rxB kd an al mJ4_words mJ4_wordsInUse A W L P) (le : kLe kd an kd' an') : rxB kd' an' al mJ4_words mJ4_wordsInUse A W L P := ⟨fun j j0 j1 => (B.1 j j0 j1).le le, B.2⟩
theorem CRE_Pinit {post : (Nat → Int) → (Nat → Int) → (Nat → Int) → (Nat → Int) → Prop} {q : Nat} {s1 n1 x1 y1 : Int} (hp : post (va_up mX84_sort q s1) (va_up mX84_name q n1) (va_up mX84_x q x1) (va_up mX84_y q y1)) : wpRE_X84_init post mX84_sort mX84_name mX84_x mX84_y q s1 n1 x1 y1 := by
  unfold wpRE_X84_init wpRE_J7_init
  exact fun _ e1 _ e2 _ e3 _ e4 => by rw [e1, e2, e3, e4]; exact hp
/-- a part that no rule has yet -/
theorem rxRm.npt {q : Nat} {s1 n1 x1 y1 : Int} (Rm : rxRm kd an ai al ar mX35_said mX35_rules mX35_strata mX35_needs mX35_safe mX35_circle mX35_known mX35_holds mX35_rounds mX35_counts mX35_roundCount mX35_last mX35_next mX35_values mX35_coming mX35_counting mX35_gathering mX35_together mX35_held mX35_work mX35_large mX83_head mX83_parts mX83_kind mX83_variable mX84_sort mX84_name mX84_x mX84_y mJ1_modCount mJ2_elementData mJ2_size mJ4_words mJ4_wordsInUse mJ4_sizeIsSticky (sa 0) A G l0 mb sd hd ki fo ln pt n) (hq : kd q = 0) : rxRm (va_up kd q 6) an ai al ar mX35_said mX35_rules mX35_strata mX35_needs mX35_safe mX35_circle mX35_known mX35_holds mX35_rounds mX35_counts mX35_roundCount mX35_last mX35_next mX35_values mX35_coming mX35_counting mX35_gathering mX35_together mX35_held mX35_work mX35_large mX83_head mX83_parts mX83_kind mX83_variable (va_up (va_up mX84_sort q 0) q s1) (va_up (va_up mX84_name q 0) q n1) (va_up (va_up mX84_x q 0) q x1) (va_up (va_up mX84_y q 0) q y1) mJ1_modCount mJ2_elementData mJ2_size mJ4_words mJ4_wordsInUse mJ4_sizeIsSticky (sa 0) A G l0 mb sd hd ki fo ln pt n ∧ rxPt (va_up kd q 6) (va_up (va_up mX84_sort q 0) q s1) (va_up (va_up mX84_name q 0) q n1) (va_up (va_up mX84_x q 0) q x1) (va_up (va_up mX84_y q 0) q y1) q s1 n1 x1 y1 := by
  obtain ⟨⟨H, rF⟩, ⟨e0, F, H_, Li, Ro, Pa, R, mo⟩, la, ne, W, L, P, hne, eL, ⟨rL, rN⟩, B, p0, told⟩ := Rm
  have le : kLe kd an (va_up kd q 6) an := kLe_new hq (fun _ _ => rfl)
  have fq : ∀ a, kd a = 6 → a ≠ q := fun a ka z => by rw [z, hq] at ka; exact absurd ka (by decide)
  rw [va_up_up, va_up_up, va_up_up, va_up_up]
  refine ⟨⟨⟨H.kLe le, rF⟩, ⟨e0, F, H_, Li, Ro, Pa, ?_, mo⟩, la, ne, W, L, P, hne, eL, ⟨rL, rN⟩, B.le le, p0, told⟩, va_up_self _ _ _, va_up_self _ _ _, va_up_self _ _ _, va_up_self _ _ _, va_up_self _ _ _⟩
  obtain ⟨R1, R2, R3, R4⟩ := R.le le
  refine ⟨R1, fun r r0 r1 => ?_, R3, R4⟩
  exact (R.2.1 r r0 r1).frm (e1 := q) le (fun _ _ => ⟨rfl, rfl, rfl, rfl⟩) (fun a ka => ⟨va_up_ne _ _ (fq a ka), va_up_ne _ _ (fq a ka), va_up_ne _ _ (fq a ka), va_up_ne _ _ (fq a ka)⟩) (fun _ _ => rfl) (fun hl z => by
    obtain ⟨k, _⟩ := (R.2.1 r r0 r1).2.2.2.1.at (Int.le_refl 0) hl
    rw [z, hq] at k; exact absurd k (by decide)) rfl rfl
theorem rxEk {F H_ Li Ro : Int → Nat} {Pa : Int → Int → Nat} (R : rxRs kd an ar mX83_head mX83_parts mX83_kind mX83_variable mX84_sort mX84_name mX84_x mX84_y mJ2_elementData mJ2_size (sa 0) A hd ki fo ln pt n e0 F H_ Li Ro Pa) : ∀ i, 0 ≤ i → i < n → ekRE (kd (F i)) := fun i i0 i1 => Or.inl (R.2.1 i i0 i1).1.1
/-- a part is put to a rule -/
theorem CRE_padd {post : Int → (Nat → Nat) → (Nat → Nat) → (Nat → Int → Option Nat) → (Nat → Int) → (Nat → Int) → (Nat → Option Nat) → (Nat → Int) → Prop} {x s1 n1 x1 y1 ps pa : Int} {q : Nat} (hMC : 1 ≤ MC) (hMS : 40 ≤ MS) (I : reI hd ki fo ln pt n) (Rm : rxRm kd an ai al ar mX35_said mX35_rules mX35_strata mX35_needs mX35_safe mX35_circle mX35_known mX35_holds mX35_rounds mX35_counts mX35_roundCount mX35_last mX35_next mX35_values mX35_coming mX35_counting mX35_gathering mX35_together mX35_held mX35_work mX35_large mX83_head mX83_parts mX83_kind mX83_variable mX84_sort mX84_name mX84_x mX84_y mJ1_modCount mJ2_elementData mJ2_size mJ4_words mJ4_wordsInUse mJ4_sizeIsSticky (sa 0) A G l0 mb sd hd ki fo ln pt n) (hmb : mb < 90000) (hq : rxPt kd mX84_sort mX84_name mX84_x mX84_y q s1 n1 x1 y1) (hx : 0 ≤ x ∧ x < n) (es : s1 = if ps = 2 then 2 + pa else ps) (en : n1 = if ps = 2 then 0 else pa)
  (h3 : ln x = 5 → post (-3) kd an ar mX35_known mJ1_modCount mJ2_elementData mJ2_size)
  (h0 : ln x < 5 → ∀ kd9 an9 ar9 kn9 mo9 ed9 sz9, rxRm kd9 an9 ai al ar9 mX35_said mX35_rules mX35_strata mX35_needs mX35_safe mX35_circle kn9 mX35_holds mX35_rounds mX35_counts mX35_roundCount mX35_last mX35_next mX35_values mX35_coming mX35_counting mX35_gathering mX35_together mX35_held mX35_work mX35_large mX83_head mX83_parts mX83_kind mX83_variable mX84_sort mX84_name mX84_x mX84_y mo9 ed9 sz9 mJ4_words mJ4_wordsInUse mJ4_sizeIsSticky (sa 0) A G l0 (mb + 1) sd hd ki fo (updI ln x (ln x + 1)) (updI (updI (updI (updI pt (20 * x + 4 * ln x) ps) (20 * x + 4 * ln x + 1) pa) (20 * x + 4 * ln x + 2) x1) (20 * x + 4 * ln x + 3) y1) n → post (ln x + 1) kd9 an9 ar9 kn9 mo9 ed9 sz9) : wpRE_X35_add MC MS post kd an ar mX35_rules mX35_known mX83_parts mJ1_modCount mJ2_elementData mJ2_size sa (A 0 0) x (some q) := by
  obtain ⟨⟨H, rF⟩, ⟨e0, F, H_, Li, Ro, Pa, R, mo⟩, la, ne, W, L, P, hne, eL, ⟨rL, rN⟩, B, p0, told⟩ := Rm
  obtain ⟨⟨rSd, rH, rR⟩, _⟩ := id rF
  have k10 : kd (A 10 0) = 7 := rx_kd H 10 0 (by decide) (by decide)
  obtain ⟨R1, R2, R3, R4⟩ := id R
  obtain ⟨⟨o0, o1, o2, o3, o4⟩, hh, l7, l5, l6⟩ := id (R2 x hx.1 hx.2)
  have hl := (I.2 x hx.1 hx.2).2.2.1
  have hn := I.1
  have mx := mo.2.1 x hx.1 hx.2
  unfold wpRE_X35_add
  refine kOn_of rR ⟨k10, ⟨Nat.zero_le _, Nat.zero_le _⟩, CRE_lget R1 hx.1 hx.2 (kOn_some ⟨o0, kOn_of o2 ⟨l7, ⟨Nat.zero_le _, Nat.zero_le _⟩, ?_⟩⟩)⟩
  unfold wpRE_J2_size
  rw [l5.2.1]
  refine ⟨fun z => ⟨Nat.zero_le _, Nat.zero_le _, h3 z⟩, fun z => ⟨1, 40, ⟨by omega, by omega⟩, CRE_ladd l5 (by omega) (by omega) (by decide) (by omega) (fun i i0 i1 => Or.inr (l6 i i0 i1).1) (Or.inr hq.1) (fun kd9 an9 ar9 ed9 e9 le lsx he hfr hed ke9 hs0 kl kn9 ekn => ?_)⟩⟩
  have neL : A 10 0 ≠ Li x := (R4 x hx.1 hx.2).1.symm
  have lt5 : ln x < 5 := by omega
  refine ⟨⟨by omega, by omega⟩, ?_⟩
  rw [va_up_self]
  have arf : ∀ a, a ≠ e9 → ar9 a = ar a := fun a h => (hfr a h).2.2
  have oA := R1.own
  have oX := l5.own
  refine ⟨by omega, by omega, h0 lt5 _ _ _ _ _ _ _ ⟨⟨H.kLe le, rF⟩, ⟨e0, F, H_, Li, upJ Ro x e9, upJ Pa x (updI (Pa x) (ln x) q), ⟨?_, fun r r0 r1 => ?_, fun i j i0 i1 j0 j1 ne => ?_, fun i i0 i1 => ?_⟩, ?_, fun r r0 r1 => ?_, fun r r0 r1 hl2 => ?_⟩, la, ne, W, L, P, hne, eL, ⟨rL, rN⟩, B.le le, p0, fun z => absurd (by rw [ekn, va_up_self]) z⟩⟩
  · exact R1.fr (e1 := e9) (by decide) le arf (R1.ne (by decide) (R4 x hx.1 hx.2).2.symm hs0 he) (hed _ neL) (va_up_ne _ _ neL)
  · by_cases z : r = x
    · subst z
      rw [upJ_s, upJ_s]
      refine ⟨⟨((le _ (by rw [o0]; decide)).1).trans o0, o1, o2, o3, o4⟩, hh.le le, ((le _ (by rw [l7]; decide)).1).trans l7, by rw [updI_s]; exact lsx, fun k k0 k1 => ?_⟩
      rw [updI_s] at k1
      by_cases y : k = ln r
      · rw [y, updI_s]
        have s0 : rxPt kd9 mX84_sort mX84_name mX84_x mX84_y q s1 n1 x1 y1 := hq.le le
        have c0 : (updI (updI (updI (updI pt (20 * r + 4 * ln r) ps) (20 * r + 4 * ln r + 1) pa) (20 * r + 4 * ln r + 2) x1) (20 * r + 4 * ln r + 3) y1) (20 * r + 4 * ln r) = ps := by
          rw [updI_n (by omega), updI_n (by omega), updI_n (by omega), updI_s]
        have c1 : (updI (updI (updI (updI pt (20 * r + 4 * ln r) ps) (20 * r + 4 * ln r + 1) pa) (20 * r + 4 * ln r + 2) x1) (20 * r + 4 * ln r + 3) y1) (20 * r + 4 * ln r + 1) = pa := by
          rw [updI_n (by omega), updI_n (by omega), updI_s]
        have c2 : (updI (updI (updI (updI pt (20 * r + 4 * ln r) ps) (20 * r + 4 * ln r + 1) pa) (20 * r + 4 * ln r + 2) x1) (20 * r + 4 * ln r + 3) y1) (20 * r + 4 * ln r + 2) = x1 := by
          rw [updI_n (by omega), updI_s]
        have c3 : (updI (updI (updI (updI pt (20 * r + 4 * ln r) ps) (20 * r + 4 * ln r + 1) pa) (20 * r + 4 * ln r + 2) x1) (20 * r + 4 * ln r + 3) y1) (20 * r + 4 * ln r + 3) = y1 := updI_s
        rw [c2, c3]
        unfold rxSo rxNm
        rw [c0, c1, ← es, ← en]
        exact s0
      · rw [updI_n y]
        have g : ∀ i, 0 ≤ i → i < 4 * ln r → (updI (updI (updI (updI pt (20 * r + 4 * ln r) ps) (20 * r + 4 * ln r + 1) pa) (20 * r + 4 * ln r + 2) x1) (20 * r + 4 * ln r + 3) y1) (20 * r + i) = pt (20 * r + i) := fun i i0 i1 => by
          rw [updI_n (by omega), updI_n (by omega), updI_n (by omega), updI_n (by omega)]
        have Rr := ((R2 r hx.1 hx.2).cg (hd' := hd) (ki' := ki) (fo' := fo) (ln' := ln) (r' := r) (fun _ _ _ => rfl) rfl rfl rfl g).le le
        exact Rr.2.2.2.2 k k0 (by omega)
    · rw [upJ_n z, upJ_n z]
      have g : ∀ i, 0 ≤ i → i < 4 * ln r → (updI (updI (updI (updI pt (20 * x + 4 * ln x) ps) (20 * x + 4 * ln x + 1) pa) (20 * x + 4 * ln x + 2) x1) (20 * x + 4 * ln x + 3) y1) (20 * r + i) = pt (20 * r + i) := fun i i0 i1 => by
        have hlr := (I.2 r r0 r1).2.2.1
        rw [updI_n (by omega), updI_n (by omega), updI_n (by omega), updI_n (by omega)]
      have Rr := (R2 r r0 r1).cg (hd' := hd) (ki' := ki) (fo' := fo) (ln' := updI ln x (ln x + 1)) (r' := r) (fun _ _ _ => rfl) rfl rfl (updI_n z) g
      refine Rr.frm (e1 := e9) le (fun _ _ => ⟨rfl, rfl, rfl, rfl⟩) (fun _ _ => ⟨rfl, rfl, rfl, rfl⟩) arf (fun hl2 => ?_) (hed _ (R3 r x r0 r1 hx.1 hx.2 z).2.1) (va_up_ne _ _ (R3 r x r0 r1 hx.1 hx.2 z).2.1)
      rw [updI_n z] at hl2
      exact (R2 r r0 r1).2.2.2.1.ne (by decide) (R3 r x r0 r1 hx.1 hx.2 z).2.2.symm hs0 he hl2
  · obtain ⟨f1, f2, f3⟩ := R3 i j i0 i1 j0 j1 ne
    refine ⟨f1, f2, ?_⟩
    have oi := (R2 i i0 i1).2.2.2.1.own
    have oj := (R2 j j0 j1).2.2.2.1.own
    by_cases z : i = x
    · rw [z, upJ_s, upJ_n (fun y => ne (z.trans y.symm))]
      rw [z] at f3
      exact f3.up (by decide) le oj he
    · rw [upJ_n z]
      by_cases y : j = x
      · rw [y, upJ_s]
        rw [y] at f3
        exact (f3.symm.up (by decide) le oi he).symm
      · rw [upJ_n y]
        exact f3.le (by decide) le oi oj
  · obtain ⟨f1, f2⟩ := R4 i i0 i1
    refine ⟨f1, ?_⟩
    by_cases z : i = x
    · rw [z, upJ_s]
      rw [z] at f2
      exact (f2.symm.up (by decide) le oA he).symm
    · rw [upJ_n z]
      exact f2.le (by decide) le oA (R2 i i0 i1).2.2.2.1.own
  · rw [va_up_ne _ _ neL]; omega
  · by_cases z : r = x
    · rw [z, va_up_self]; omega
    · have := mo.2.1 r r0 r1
      rw [va_up_ne _ _ (R3 r x r0 r1 hx.1 hx.2 z).2.1]; omega
  · by_cases z : r = x
    · rw [z, upJ_s]
      obtain ⟨ke0, _⟩ := R1.at hx.1 hx.2
      rcases he with ⟨e1, ke⟩ | ke
      · rw [e1]
        exact ((R4 x hx.1 hx.2).2 hs0 ke0 ke).symm
      · intro w
        rw [w, ke0] at ke
        exact absurd ke (by decide)
    · rw [updI_n z] at hl2
      rw [upJ_n z]
      exact mo.2.2 r r0 r1 hl2
theorem CRE_body {post : Int → (Nat → Nat) → (Nat → Nat) → (Nat → Int → Option Nat) → (Nat → Int) → (Nat → Int) → (Nat → Int) → (Nat → Int) → (Nat → Int) → (Nat → Int) → (Nat → Option Nat) → (Nat → Int) → Prop} {r a x y c : Int} (hMC : 2 ≤ MC) (hMS : 44 ≤ MS) (I : reI hd ki fo ln pt n) (Rm : rxRm kd an ai al ar mX35_said mX35_rules mX35_strata mX35_needs mX35_safe mX35_circle mX35_known mX35_holds mX35_rounds mX35_counts mX35_roundCount mX35_last mX35_next mX35_values mX35_coming mX35_counting mX35_gathering mX35_together mX35_held mX35_work mX35_large mX83_head mX83_parts mX83_kind mX83_variable mX84_sort mX84_name mX84_x mX84_y mJ1_modCount mJ2_elementData mJ2_size mJ4_words mJ4_wordsInUse mJ4_sizeIsSticky (sa 0) A G l0 mb sd hd ki fo ln pt n) (hmb : mb < 90000) (h1 : ¬ ((0 ≤ r ∧ r < n) ∧ (0 ≤ a ∧ a < 16) ∧ reIt x ∧ reIt y) → post (-1) kd an ar mX35_known mX84_sort mX84_name mX84_x mX84_y mJ1_modCount mJ2_elementData mJ2_size)
  (h3 : ((0 ≤ r ∧ r < n) ∧ (0 ≤ a ∧ a < 16) ∧ reIt x ∧ reIt y) → ln r = 5 → ∀ kd9 so9 nm9 px9 py9, rxRm kd9 an ai al ar mX35_said mX35_rules mX35_strata mX35_needs mX35_safe mX35_circle mX35_known mX35_holds mX35_rounds mX35_counts mX35_roundCount mX35_last mX35_next mX35_values mX35_coming mX35_counting mX35_gathering mX35_together mX35_held mX35_work mX35_large mX83_head mX83_parts mX83_kind mX83_variable so9 nm9 px9 py9 mJ1_modCount mJ2_elementData mJ2_size mJ4_words mJ4_wordsInUse mJ4_sizeIsSticky (sa 0) A G l0 mb sd hd ki fo ln pt n → post (-3) kd9 an ar mX35_known so9 nm9 px9 py9 mJ1_modCount mJ2_elementData mJ2_size)
  (h0 : ((0 ≤ r ∧ r < n) ∧ (0 ≤ a ∧ a < 16) ∧ reIt x ∧ reIt y) → ln r < 5 → ∀ kd9 an9 ar9 kn9 so9 nm9 px9 py9 mo9 ed9 sz9, rxRm kd9 an9 ai al ar9 mX35_said mX35_rules mX35_strata mX35_needs mX35_safe mX35_circle kn9 mX35_holds mX35_rounds mX35_counts mX35_roundCount mX35_last mX35_next mX35_values mX35_coming mX35_counting mX35_gathering mX35_together mX35_held mX35_work mX35_large mX83_head mX83_parts mX83_kind mX83_variable so9 nm9 px9 py9 mo9 ed9 sz9 mJ4_words mJ4_wordsInUse mJ4_sizeIsSticky (sa 0) A G l0 (mb + 1) sd hd ki fo (updI ln r (ln r + 1)) (updI (updI (updI (updI pt (20 * r + 4 * ln r) (if c = 0 then 0 else 1)) (20 * r + 4 * ln r + 1) a) (20 * r + 4 * ln r + 2) x) (20 * r + 4 * ln r + 3) y) n → post (ln r + 1) kd9 an9 ar9 kn9 so9 nm9 px9 py9 mo9 ed9 sz9) : wpRE_X35_body MC MS post kd an ar mX35_rules mX35_known mX83_parts mX84_sort mX84_name mX84_x mX84_y mJ1_modCount mJ2_elementData mJ2_size sa (A 0 0) r a x y c := by
  have Rm0 := Rm
  obtain ⟨⟨H, rF⟩, ⟨e0, F, H_, Li, Ro, Pa, R, mo⟩, la, ne, W, L, P, hne, eL, ⟨rL, rN⟩, B, p0, told⟩ := Rm
  have k10 : kd (A 10 0) = 7 := rx_kd H 10 0 (by decide) (by decide)
  unfold wpRE_X35_body
  refine ⟨⟨Nat.zero_le _, Nat.zero_le _⟩, CRE_isRule rF.1.2.2 k10 R.1.2.1 (fun r0 r1 => ⟨fun z => absurd z (by decide), fun _ => ⟨⟨Nat.zero_le _, Nat.zero_le _⟩, CRE_isName (fun a0 a1 => ⟨fun z => absurd z (by decide), fun _ => ⟨⟨Nat.zero_le _, Nat.zero_le _⟩, CRE_isItem (fun ix => ⟨fun z => absurd z (by decide), fun _ => ⟨⟨Nat.zero_le _, Nat.zero_le _⟩, CRE_isItem (fun iy => ⟨fun z => absurd z (by decide), fun _ => ⟨⟨by omega, by omega⟩, fun q hq _ e1 _ e2 _ e3 _ e4 => ?_⟩⟩) (fun w => ⟨fun _ => ⟨Nat.zero_le _, Nat.zero_le _, h1 (fun y => w y.2.2.2)⟩, fun z => absurd rfl z⟩)⟩⟩) (fun w => ⟨fun _ => ⟨Nat.zero_le _, Nat.zero_le _, h1 (fun y => w y.2.2.1)⟩, fun z => absurd rfl z⟩)⟩⟩) (fun w => ⟨fun _ => ⟨Nat.zero_le _, Nat.zero_le _, h1 (fun y => w y.2.1)⟩, fun z => absurd rfl z⟩)⟩⟩) (fun w => ⟨fun _ => ⟨Nat.zero_le _, Nat.zero_le _, h1 (fun y => w y.1)⟩, fun z => absurd rfl z⟩)⟩
  subst e1 e2 e3 e4
  have cond : (0 ≤ r ∧ r < n) ∧ (0 ≤ a ∧ a < 16) ∧ reIt x ∧ reIt y := ⟨⟨r0, r1⟩, ⟨a0, a1⟩, ix, iy⟩
  refine ⟨fun z => ⟨⟨by omega, by omega⟩, CRE_Pinit ⟨1, 40, ⟨by omega, by omega⟩, ?_⟩⟩, fun z => ⟨⟨by omega, by omega⟩, CRE_Pinit ⟨1, 40, ⟨by omega, by omega⟩, ?_⟩⟩⟩
  · obtain ⟨Rq, hq2⟩ := rxRm.npt (s1 := 0) (n1 := a) (x1 := x) (y1 := y) Rm0 hq
    rw [if_pos z] at h0
    exact CRE_padd (ps := 0) (pa := a) (Nat.le_refl _) (Nat.le_refl _) I Rq hmb hq2 ⟨r0, r1⟩ (by rw [if_neg (by decide)]) (by rw [if_neg (by decide)]) (fun l5 kl => ⟨by omega, by omega, h3 cond l5 _ _ _ _ _ Rq⟩) (fun l5 kd9 an9 ar9 kn9 mo9 ed9 sz9 R9 kl => ⟨by omega, by omega, h0 cond l5 _ _ _ _ _ _ _ _ _ _ _ R9⟩)
  · obtain ⟨Rq, hq2⟩ := rxRm.npt (s1 := 1) (n1 := a) (x1 := x) (y1 := y) Rm0 hq
    rw [if_neg z] at h0
    exact CRE_padd (ps := 1) (pa := a) (Nat.le_refl _) (Nat.le_refl _) I Rq hmb hq2 ⟨r0, r1⟩ (by rw [if_neg (by decide)]) (by rw [if_neg (by decide)]) (fun l5 kl => ⟨by omega, by omega, h3 cond l5 _ _ _ _ _ Rq⟩) (fun l5 kd9 an9 ar9 kn9 mo9 ed9 sz9 R9 kl => ⟨by omega, by omega, h0 cond l5 _ _ _ _ _ _ _ _ _ _ _ R9⟩)
theorem CRE_filter {post : Int → (Nat → Nat) → (Nat → Nat) → (Nat → Int → Option Nat) → (Nat → Int) → (Nat → Int) → (Nat → Int) → (Nat → Int) → (Nat → Int) → (Nat → Int) → (Nat → Option Nat) → (Nat → Int) → Prop} {r a x y : Int} (hMC : 2 ≤ MC) (hMS : 44 ≤ MS) (I : reI hd ki fo ln pt n) (Rm : rxRm kd an ai al ar mX35_said mX35_rules mX35_strata mX35_needs mX35_safe mX35_circle mX35_known mX35_holds mX35_rounds mX35_counts mX35_roundCount mX35_last mX35_next mX35_values mX35_coming mX35_counting mX35_gathering mX35_together mX35_held mX35_work mX35_large mX83_head mX83_parts mX83_kind mX83_variable mX84_sort mX84_name mX84_x mX84_y mJ1_modCount mJ2_elementData mJ2_size mJ4_words mJ4_wordsInUse mJ4_sizeIsSticky (sa 0) A G l0 mb sd hd ki fo ln pt n) (hmb : mb < 90000) (h1 : ¬ ((0 ≤ r ∧ r < n) ∧ (0 ≤ a ∧ a < 3) ∧ reIt x ∧ reIt y) → post (-1) kd an ar mX35_known mX84_sort mX84_name mX84_x mX84_y mJ1_modCount mJ2_elementData mJ2_size)
  (h3 : ((0 ≤ r ∧ r < n) ∧ (0 ≤ a ∧ a < 3) ∧ reIt x ∧ reIt y) → ln r = 5 → ∀ kd9 so9 nm9 px9 py9, rxRm kd9 an ai al ar mX35_said mX35_rules mX35_strata mX35_needs mX35_safe mX35_circle mX35_known mX35_holds mX35_rounds mX35_counts mX35_roundCount mX35_last mX35_next mX35_values mX35_coming mX35_counting mX35_gathering mX35_together mX35_held mX35_work mX35_large mX83_head mX83_parts mX83_kind mX83_variable so9 nm9 px9 py9 mJ1_modCount mJ2_elementData mJ2_size mJ4_words mJ4_wordsInUse mJ4_sizeIsSticky (sa 0) A G l0 mb sd hd ki fo ln pt n → post (-3) kd9 an ar mX35_known so9 nm9 px9 py9 mJ1_modCount mJ2_elementData mJ2_size)
  (h0 : ((0 ≤ r ∧ r < n) ∧ (0 ≤ a ∧ a < 3) ∧ reIt x ∧ reIt y) → ln r < 5 → ∀ kd9 an9 ar9 kn9 so9 nm9 px9 py9 mo9 ed9 sz9, rxRm kd9 an9 ai al ar9 mX35_said mX35_rules mX35_strata mX35_needs mX35_safe mX35_circle kn9 mX35_holds mX35_rounds mX35_counts mX35_roundCount mX35_last mX35_next mX35_values mX35_coming mX35_counting mX35_gathering mX35_together mX35_held mX35_work mX35_large mX83_head mX83_parts mX83_kind mX83_variable so9 nm9 px9 py9 mo9 ed9 sz9 mJ4_words mJ4_wordsInUse mJ4_sizeIsSticky (sa 0) A G l0 (mb + 1) sd hd ki fo (updI ln r (ln r + 1)) (updI (updI (updI (updI pt (20 * r + 4 * ln r) 2) (20 * r + 4 * ln r + 1) a) (20 * r + 4 * ln r + 2) x) (20 * r + 4 * ln r + 3) y) n → post (ln r + 1) kd9 an9 ar9 kn9 so9 nm9 px9 py9 mo9 ed9 sz9) : wpRE_X35_filter MC MS post kd an ar mX35_rules mX35_known mX83_parts mX84_sort mX84_name mX84_x mX84_y mJ1_modCount mJ2_elementData mJ2_size sa (A 0 0) r a x y := by
  have Rm0 := Rm
  obtain ⟨⟨H, rF⟩, ⟨e0, F, H_, Li, Ro, Pa, R, mo⟩, la, ne, W, L, P, hne, eL, ⟨rL, rN⟩, B, p0, told⟩ := Rm
  have k10 : kd (A 10 0) = 7 := rx_kd H 10 0 (by decide) (by decide)
  unfold wpRE_X35_filter
  refine ⟨⟨Nat.zero_le _, Nat.zero_le _⟩, CRE_isRule rF.1.2.2 k10 R.1.2.1 (fun r0 r1 => ⟨fun z => absurd z (by decide), fun _ => ⟨fun a0 => ⟨Nat.zero_le _, Nat.zero_le _, h1 (by omega)⟩, fun a0 => ⟨fun a1 => ⟨Nat.zero_le _, Nat.zero_le _, h1 (by omega)⟩, fun a1 => ⟨⟨Nat.zero_le _, Nat.zero_le _⟩, CRE_isItem (fun ix => ⟨fun z => absurd z (by decide), fun _ => ⟨⟨Nat.zero_le _, Nat.zero_le _⟩, CRE_isItem (fun iy => ⟨fun z => absurd z (by decide), fun _ => ⟨⟨by omega, by omega⟩, fun q hq _ e1 _ e2 _ e3 _ e4 => ?_⟩⟩) (fun w => ⟨fun _ => ⟨Nat.zero_le _, Nat.zero_le _, h1 (fun y => w y.2.2.2)⟩, fun z => absurd rfl z⟩)⟩⟩) (fun w => ⟨fun _ => ⟨Nat.zero_le _, Nat.zero_le _, h1 (fun y => w y.2.2.1)⟩, fun z => absurd rfl z⟩)⟩⟩⟩⟩) (fun w => ⟨fun _ => ⟨Nat.zero_le _, Nat.zero_le _, h1 (fun y => w y.1)⟩, fun z => absurd rfl z⟩)⟩
  subst e1 e2 e3 e4
  have cond : (0 ≤ r ∧ r < n) ∧ (0 ≤ a ∧ a < 3) ∧ reIt x ∧ reIt y := ⟨⟨r0, r1⟩, ⟨by omega, by omega⟩, ix, iy⟩
  refine ⟨by omega, ⟨by omega, by omega⟩, CRE_Pinit ⟨1, 40, ⟨by omega, by omega⟩, ?_⟩⟩
  obtain ⟨Rq, hq2⟩ := rxRm.npt (s1 := 2 + a) (n1 := 0) (x1 := x) (y1 := y) Rm0 hq
  exact CRE_padd (ps := 2) (pa := a) (Nat.le_refl _) (Nat.le_refl _) I Rq hmb hq2 ⟨r0, r1⟩ (by rw [if_pos rfl]) (by rw [if_pos rfl]) (fun l5 kl => ⟨by omega, by omega, h3 cond l5 _ _ _ _ _ Rq⟩) (fun l5 kd9 an9 ar9 kn9 mo9 ed9 sz9 R9 kl => ⟨by omega, by omega, h0 cond l5 _ _ _ _ _ _ _ _ _ _ _ R9⟩)
end
