/-! RuleEngine (room RE): cases counted, put together; what a rule gives, and is given -/
def reTv (k a b c d : Int) : Int := if a = 0 then -1 else if k = 0 then a % 32 else if k = 1 then b else if k = 2 then c else d
def reTo (k : Int) (M : reM4) (x : Int) : Int := reTv k (M.1 x) (M.2.1 x) (M.2.2.1 x) (M.2.2.2 x)
def rxMi (M : reM4) : Prop := ∀ x, 0 ≤ x → x < 32 → 0 ≤ M.1 x ∧ (0 ≤ M.2.1 x ∧ M.2.1 x < 32) ∧ (M.1 x = 0 → M.2.1 x = 0) ∧ (¬ M.1 x = 0 → (0 ≤ M.2.2.1 x ∧ M.2.2.1 x < 32) ∧ 0 ≤ M.2.2.2 x ∧ M.2.2.2 x < 32)
theorem rxMi_0 : rxMi reM0 := fun x _ _ => ⟨Int.le_refl 0, ⟨Int.le_refl 0, show (0 : Int) < 32 by decide⟩, fun _ => rfl, fun z => absurd rfl z⟩
theorem rxMi_d {M : reM4} {X v : Int} (h : rxMi M) (hX : 0 ≤ X ∧ X < 32) (hv : 0 ≤ v ∧ v < 32) : rxMi (reFd M X v) := fun x x0 x1 => by
  have q := h x x0 x1
  unfold reFd
  dsimp only
  simp only [updI_e]
  by_cases e : x = X
  · rw [if_pos e, if_pos e, if_pos e, if_pos e, ← e]
    refine ⟨by omega, by omega, fun z => by omega, fun _ => ⟨?_, ?_⟩⟩
    · split <;> omega
    · split <;> omega
  · rw [if_neg e, if_neg e, if_neg e, if_neg e]; exact q
theorem reTo_r {M : reM4} {k x : Int} (h : rxMi M) (x0 : 0 ≤ x) (x1 : x < 32) : (reTo k M x = -1 ↔ M.1 x = 0) ∧ (¬ reTo k M x = -1 → 0 ≤ reTo k M x ∧ reTo k M x < 32) := by
  have q := h x x0 x1
  unfold reTo reTv
  by_cases z : M.1 x = 0
  · rw [if_pos z]; exact ⟨⟨fun _ => z, fun _ => rfl⟩, fun w => absurd rfl w⟩
  · have q4 := q.2.2.2 z
    rw [if_neg z]
    have r : 0 ≤ (if k = 0 then M.1 x % 32 else if k = 1 then M.2.1 x else if k = 2 then M.2.2.1 x else M.2.2.2 x) ∧ (if k = 0 then M.1 x % 32 else if k = 1 then M.2.1 x else if k = 2 then M.2.2.1 x else M.2.2.2 x) < 32 := by
      split
      · omega
      · split
        · omega
        · split <;> omega
    exact ⟨⟨fun w => by omega, fun w => absurd w z⟩, fun _ => r⟩
theorem reTo_n {M : reM4} {k x X v : Int} (h : x ≠ X) : reTo k (reFd M X v) x = reTo k M x := by
  have e1 : (reFd M X v).1 x = M.1 x := updI_n h
  have e2 : (reFd M X v).2.1 x = M.2.1 x := updI_n h
  have e3 : (reFd M X v).2.2.1 x = M.2.2.1 x := updI_n h
  have e4 : (reFd M X v).2.2.2 x = M.2.2.2 x := updI_n h
  unfold reTo
  rw [e1, e2, e3, e4]
theorem reTo_s {M : reM4} {k X v y : Int} (h : rxMi M) (hX : 0 ≤ X ∧ X < 32) (hv : 0 ≤ v ∧ v < 32) (hk : 0 ≤ k ∧ k ≤ 3) (hy : y = if k = 0 then 1 else v) : reTo k (reFd M X v) X = if reTo k M X = -1 then y else if 2 ≤ k then (if k = 2 then (if y < reTo k M X then y else reTo k M X) else (if reTo k M X < y then y else reTo k M X)) else (reTo k M X + y) % 32 := by
  have q := h X hX.1 hX.2
  have tr := (reTo_r (k := k) h hX.1 hX.2).1
  have e1 : (reFd M X v).1 X = M.1 X + 1 := updI_s
  have e2 : (reFd M X v).2.1 X = (M.2.1 X + v) % 32 := updI_s
  have e3 : (reFd M X v).2.2.1 X = (if M.1 X = 0 ∨ v < M.2.2.1 X then v else M.2.2.1 X) := updI_s
  have e4 : (reFd M X v).2.2.2 X = (if M.1 X = 0 ∨ M.2.2.2 X < v then v else M.2.2.2 X) := updI_s
  have eT : reTo k (reFd M X v) X = reTv k (M.1 X + 1) ((M.2.1 X + v) % 32) (if M.1 X = 0 ∨ v < M.2.2.1 X then v else M.2.2.1 X) (if M.1 X = 0 ∨ M.2.2.2 X < v then v else M.2.2.2 X) := by
    unfold reTo
    rw [e1, e2, e3, e4]
  rw [eT]
  by_cases z : M.1 X = 0
  · rw [if_pos (tr.2 z), z, q.2.2.1 z, if_pos (Or.inl rfl), if_pos (Or.inl rfl), hy]
    unfold reTv
    rw [if_neg (by decide)]
    by_cases k0 : k = 0
    · rw [if_pos k0, if_pos k0]; rfl
    · rw [if_neg k0, if_neg k0]
      by_cases k1 : k = 1
      · rw [if_pos k1]; omega
      · rw [if_neg k1]
        by_cases k2 : k = 2
        · rw [if_pos k2]
        · rw [if_neg k2]
  · rw [if_neg (fun w => z (tr.1 w))]
    unfold reTo reTv
    rw [if_neg (show ¬ M.1 X + 1 = 0 by omega), if_neg z, hy]
    by_cases k0 : k = 0
    · rw [if_pos k0, if_neg (show ¬ 2 ≤ k by omega), if_pos k0, if_pos k0]; omega
    · by_cases k1 : k = 1
      · rw [if_neg k0, if_pos k1, if_neg (show ¬ 2 ≤ k by omega), if_neg k0, if_pos k1, if_neg k0]
      · by_cases k2 : k = 2
        · rw [if_neg k0, if_neg k1, if_pos k2, if_pos (show 2 ≤ k by omega), if_pos k2, if_neg k0, if_neg k0, if_neg k1, if_pos k2]
          by_cases a : v < M.2.2.1 X
          · rw [if_pos (Or.inr a), if_pos a]
          · rw [if_neg (fun w => w.elim z a), if_neg a]
        · rw [if_neg k0, if_neg k1, if_neg k2, if_pos (show 2 ≤ k by omega), if_neg k2, if_neg k0, if_neg k0, if_neg k1, if_neg k2]
          by_cases a : M.2.2.2 X < v
          · rw [if_pos (Or.inr a), if_pos a]
          · rw [if_neg (fun w => w.elim z a), if_neg a]
theorem reFl_a {hx fx : Int} {u : Int → Int} : ∀ {l : List (Int → Int)} {M : reM4}, reFl hx fx M (l ++ [u]) = reFd (reFl hx fx M l) (reVl u hx) (reVl u fx)
  | [], _ => rfl
  | a :: l, M => by
    rw [List.cons_append, reFl, reFl]; exact reFl_a
theorem reFh_s {k name x : Int} {M : reM4} {j : Nat} : reFh k name M (j + 1) x = (if M.1 x = 0 then [] else [reCd name x (reTo k M x)]) ++ reFh k name M j (x + 1) := by
  rw [reFh]
  by_cases z : M.1 x = 0
  · rw [if_pos z, if_pos z]
  · rw [if_neg z, if_neg z]
    unfold reTo reTv
    rw [if_neg z]
/-- what a rule gives when only cases with a fact of the last round count -/
noncomputable def rxDl (hd ln pt : Int → Int) (Ho La : Int → Prop) (r : Int) : Nat → List Int
  | 0 => []
  | k + 1 => rxDl hd ln pt Ho La r k ++ (if pt (20 * r + 4 * k) = 0 then (rxCz ln pt (fun k' c => if k' = (k : Int) then La c else Ho c) Ho r).map (reHe hd r) else [])
noncomputable def rxGv (hd ki fo ln pt : Int → Int) (Ho La : Int → Prop) (f r : Int) : List Int := if f = 0 then (if ki r < 0 then rxDl hd ln pt Ho La r (ln r).toNat else []) else reHl hd ki fo ln pt Ho r
section
variable {kd : Nat → Nat} {an : Nat → Nat} {ai : Nat → Int → Int} {al : Nat → Int → Int} {ar : Nat → Int → Option Nat} {mX35_said : Nat → Option Nat} {mX35_rules : Nat → Option Nat} {mX35_strata : Nat → Option Nat} {mX35_needs : Nat → Option Nat} {mX35_safe : Nat → Option Nat} {mX35_circle : Nat → Int} {mX35_known : Nat → Int} {mX35_holds : Nat → Option Nat} {mX35_rounds : Nat → Option Nat} {mX35_counts : Nat → Option Nat} {mX35_roundCount : Nat → Int} {mX35_last : Nat → Option Nat} {mX35_next : Nat → Option Nat} {mX35_values : Nat → Option Nat} {mX35_coming : Nat → Option Nat} {mX35_counting : Nat → Option Nat} {mX35_gathering : Nat → Option Nat} {mX35_together : Nat → Option Nat} {mX35_held : Nat → Option Nat} {mX35_work : Nat → Int} {mX35_large : Nat → Int} {mX83_head : Nat → Option Nat} {mX83_parts : Nat → Option Nat} {mX83_kind : Nat → Int} {mX83_variable : Nat → Int} {mX84_sort : Nat → Int} {mX84_name : Nat → Int} {mX84_x : Nat → Int} {mX84_y : Nat → Int} {mJ1_modCount : Nat → Int} {mJ2_elementData : Nat → Option Nat} {mJ2_size : Nat → Int} {mJ4_words : Nat → Option Nat} {mJ4_wordsInUse : Nat → Int} {mJ4_sizeIsSticky : Nat → Int} {sa : Nat → Nat} {A : Nat → Int → Nat} {hd ki fo ln pt sd st rn gv : Int → Int} {n r k v c s : Int} {e0 : Nat} {W : Int → Nat} {Lq : Int → Int} {Pq : Int → Int → Prop} {MC MS : Nat} {F H_ Li Ro : Int → Nat} {Pa : Int → Int → Nat} {G : Nat → Nat × Int} {L0 : Int → Int} {P0 : Int → Int → Prop} {ai0 : Nat → Int → Int} {ne la fr : Int}
variable {Ho La : Int → Prop} {w1 w2 : Nat} {L1 L2 : Int}
theorem CRE_counting {post : (Nat → Nat) → (Nat → Nat) → (Nat → Int → Int) → (Nat → Int → Int) → (Nat → Option Nat) → (Nat → Int) → (Nat → Int) → Prop} (I : reI hd ki fo ln pt n) (hr : 0 ≤ r ∧ r < n) (hs : reSf hd ki fo ln pt r) (hki : ki r < 0) (rV : mX35_values (A 0 0) = some (A 5 0)) (rH : mX35_holds (A 0 0) = some (A 1 1)) (rL : mX35_last (A 0 0) = some (A 1 la)) (hla : 0 ≤ la ∧ la < 4) (rK : mX35_counts (A 0 0) = some (A 4 1)) (H : Lab rxK rxL kd an A G rxN) (R : rxRs kd an ar mX83_head mX83_parts mX83_kind mX83_variable mX84_sort mX84_name mX84_x mX84_y mJ2_elementData mJ2_size (sa 0) A hd ki fo ln pt n e0 F H_ Li Ro Pa) (B1 : bsI kd an al mJ4_words mJ4_wordsInUse (A 1 1) w1 L1 Ho) (B2 : bsI kd an al mJ4_words mJ4_wordsInUse (A 1 la) w2 L2 La) (hv : ∀ i, 0 ≤ i → i < 6 → ai (A 5 0) i = -1)
  (hb : ∀ c, 0 ≤ c → c < 16384 → 0 ≤ ai (A 4 1) c ∧ ai (A 4 1) c + (reCs ln pt Ho r).length ≤ 2000000000)
  (hp : ∀ ai' st', (∀ a, a ≠ A 5 0 → a ≠ A 4 1 → ai' a = ai a) → (∀ c, 0 ≤ c → c < 16384 → ai' (A 4 1) c = ai (A 4 1) c + (((reCs ln pt Ho r).map (reHe hd r)).count c : Int)) → post kd an ai' al mJ4_words mJ4_wordsInUse st') :
  wpRE_X35_cases 20 MC MS post kd an ai al ar mX35_holds mX35_counts mX35_last mX35_next mX35_values mX35_together mX83_head mX83_parts mX83_kind mX83_variable mX84_sort mX84_name mX84_x mX84_y mJ2_elementData mJ2_size mJ4_words mJ4_wordsInUse mJ4_sizeIsSticky (some (A 0 0)) (some (F r)) 0 (-1) (some (A 8 0)) := by
  obtain ⟨⟨_, hx, hy⟩, _, hl, i4⟩ := I.2 r hr.1 hr.2
  have r6 := rl6_X (ln := ln) (pt := pt) (Fs := fun k c => if k = -1 then La c else Ho c) (P := Ho) (r := r) (fun k k0 k1 => (i4 k k0 k1).2.2) (ln r).toNat (ai (A 5 0)) (fun _ => -1) (by omega) (fun i i0 i1 => hv i i0 i1)
  have eC : caX ln pt (fun k c => if k = -1 then La c else Ho c) Ho r (ln r).toNat (fun _ => -1) = reCs ln pt Ho r := rxCz_c hl.1 (fun k c k0 => by rw [if_neg (by omega)])
  rw [eC] at r6
  have eM := rl6_m (hd := hd) (r := r) hx hy r6
  have eL := rl6_l r6
  have a4 : an (A 4 1) = 16384 := rx_an H 4 1 (by decide) (by decide) (by decide)
  have k4 : kd (A 4 1) = 9 := rx_kd H 4 1 (by decide) (by decide)
  have n45 : A 4 1 ≠ A 5 0 := H.ne (i := 4) (i' := 5) ⟨by decide, by decide⟩ ⟨by decide, by decide⟩ (Or.inl (by decide))
  have k0 : kd (A 0 0) = 1 := rx_kd H 0 0 (by decide) (by decide)
  have k8 : kd (A 8 0) = 3 := rx_kd H 8 0 (by decide) (by decide)
  have C := CRE_cases (mX35_next := mX35_next) (mX35_together := mX35_together) (Inv := fun ls kd' an' ai' al' wd' iu' => (kd = kd' ∧ an = an' ∧ al = al' ∧ mJ4_words = wd' ∧ mJ4_wordsInUse = iu') ∧ (∀ a, a ≠ A 5 0 → a ≠ A 4 1 → ai' a = ai a) ∧ ∀ c, 0 ≤ c → c < 16384 → ai' (A 4 1) c = ai (A 4 1) c + ((ls.map (reHe hd r)).count c : Int)) (Fin := fun ls => ls.length ≤ (reCs ln pt Ho r).length) (co := fun _ => 0) (Ho := Ho) (La := La) (b := A 8 0) (la := la) (fr := -1) (G := G) (r := r) (o := F r) (h := H_ r) (l := Li r) (e := Ro r) (p := Pa r) I hr hs rV rH rL hla
    (fun ls kd' an' ai' al' wd' iu' J => by
      obtain ⟨⟨e1, e2, e3, e4, e5⟩, _⟩ := J
      subst e1 e2 e3 e4 e5
      exact ⟨H, R.2.1 r hr.1 hr.2, Or.inr (Or.inl k8), ⟨_, _, B1⟩, ⟨_, _, B2⟩⟩)
    (fun ls kd' an' ai' al' wd' iu' f J => ⟨J.1, fun a a5 a4 => by rw [va_up_ne _ _ a5]; exact J.2.1 a a5 a4, fun c c0 c1 => by rw [va_up_ne _ _ n45]; exact J.2.2 c c0 c1⟩)
    (fun ls u => Int.le_refl _) (fun l1 l2 h => by rw [List.length_append] at h; omega)
    (fun ls kd' an' ai' al' wd' iu' st MC MS post J hg ps hF _ _ hp => by
      obtain ⟨⟨e1, e2, e3, e4, e5⟩, J2, J3⟩ := J
      subst e1 e2 e3 e4 e5
      have fc : reFc (hd (3 * r)) (reVl (ai' (A 5 0)) (hd (3 * r + 1))) (reVl (ai' (A 5 0)) (hd (3 * r + 2))) := ⟨(I.2 r hr.1 hr.2).1.1, hg.b hx hs.1, hg.b hy (hs.2.1 hki)⟩
      have cb := reCd_b fc
      refine Or.inr (Or.inl ⟨k8, ?_⟩)
      unfold wpRE_X38_take
      refine kOn_some ⟨k0, ⟨Nat.zero_le _, Nat.zero_le _⟩, CRE_headOf H rV (R.2.1 r hr.1 hr.2) hx hy fc (kOn_of rK ⟨k4, by rw [a4]; exact cb, ?_, fun v ev ai2 e2 => ⟨Nat.zero_le _, Nat.zero_le _, hp _ _ _ _ _ _ _ ⟨⟨rfl, rfl, rfl, rfl, rfl⟩, fun a a5 a4 => ?_, fun c c0 c1 => ?_⟩ ?_⟩⟩)⟩
      · have b := hb _ cb.1 cb.2
        have j := J3 _ cb.1 cb.2
        have ct := List.count_le_length (a := reHe hd r (ai' (A 5 0))) (l := ls.map (reHe hd r))
        rw [List.length_map] at ct
        rw [List.length_append, List.length_singleton] at hF
        unfold reHe at j ct ⊢
        rw [j]
        omega
      · rw [e2, va_up_ne _ _ a4]; exact J2 a a5 a4
      · rw [e2, va_up_self, ev, updI_e, List.map_append, List.count_append, List.map_cons, List.map_nil, List.count_singleton]
        by_cases z : c = reHe hd r (ai' (A 5 0))
        · rw [if_pos z, z, J3 (reHe hd r (ai' (A 5 0))) cb.1 cb.2]
          simp only [beq_self_eq_true, if_true]
          omega
        · rw [if_neg z, J3 c c0 c1]
          have : (reHe hd r (ai' (A 5 0)) == c) = false := by
            rw [beq_eq_false_iff_ne]; exact fun e => z e.symm
          rw [this]
          simp
      · rw [e2, va_up_ne _ _ n45.symm])
    (ln r).toNat 20 [] kd an ai al mJ4_words mJ4_wordsInUse mJ4_sizeIsSticky MC MS post (by omega) (by omega) ⟨⟨rfl, rfl, rfl, rfl, rfl⟩, fun _ _ _ => rfl, fun c _ _ => by simp⟩ (by rw [show ln r - ((ln r).toNat : Int) = 0 by omega]; exact rxGd_0 hv) (by
      show ([] ++ _ : List (Int → Int)).length ≤ _
      rw [List.nil_append, eL]; exact Nat.le_refl _)
    (by show (0 : Int) - 0 ≤ _; omega) (by show (2 : Int) * (0 - 0) ≤ _; omega) (fun kd' an' ai' al' wd' iu' st' J ev => by
      obtain ⟨⟨e1, e2, e3, e4, e5⟩, J2, J3⟩ := J
      rw [List.nil_append, eM] at J3
      subst e1 e2 e3 e4 e5
      exact hp ai' st' J2 J3)
  rw [show ln r - ((ln r).toNat : Int) = 0 by omega] at C
  exact C
theorem CRE_gather {post : (Nat → Nat) → (Nat → Nat) → (Nat → Int → Int) → (Nat → Int → Int) → (Nat → Option Nat) → (Nat → Int) → (Nat → Int) → Prop} (I : reI hd ki fo ln pt n) (hr : 0 ≤ r ∧ r < n) (hs : reSf hd ki fo ln pt r) (hki : ¬ ki r < 0) (rV : mX35_values (A 0 0) = some (A 5 0)) (rH : mX35_holds (A 0 0) = some (A 1 1)) (rL : mX35_last (A 0 0) = some (A 1 la)) (hla : 0 ≤ la ∧ la < 4) (rT : mX35_together (A 0 0) = some (A 6 0)) (rG : mX35_gathering (A 0 0) = some (A 9 0)) (H : Lab rxK rxL kd an A G rxN) (R : rxRs kd an ar mX83_head mX83_parts mX83_kind mX83_variable mX84_sort mX84_name mX84_x mX84_y mJ2_elementData mJ2_size (sa 0) A hd ki fo ln pt n e0 F H_ Li Ro Pa) (B1 : bsI kd an al mJ4_words mJ4_wordsInUse (A 1 1) w1 L1 Ho) (B2 : bsI kd an al mJ4_words mJ4_wordsInUse (A 1 la) w2 L2 La)
  (hp : ∀ ai' st', (∀ a, a ≠ A 5 0 → a ≠ A 6 0 → ai' a = ai a) → rxMi (reFl (hd (3 * r + 1)) (fo r) reM0 (reCs ln pt Ho r)) → (∀ x, 0 ≤ x → x < 32 → ai' (A 6 0) x = reTo (ki r) (reFl (hd (3 * r + 1)) (fo r) reM0 (reCs ln pt Ho r)) x) → post kd an ai' al mJ4_words mJ4_wordsInUse st') :
  wpRE_X35_gather MC MS post kd an ai al ar mX35_holds mX35_counts mX35_last mX35_next mX35_values mX35_gathering mX35_together mX83_head mX83_parts mX83_kind mX83_variable mX84_sort mX84_name mX84_x mX84_y mJ2_elementData mJ2_size mJ4_words mJ4_wordsInUse mJ4_sizeIsSticky (A 0 0) (some (F r)) := by
  obtain ⟨⟨_, hx, hy⟩, ⟨hkr, hfo⟩, hl, i4⟩ := I.2 r hr.1 hr.2
  have hfo := hfo hki
  have itf : reIt (fo r) := by unfold reIt; omega
  have a6 : an (A 6 0) = 32 := rx_an H 6 0 (by decide) (by decide) (by decide)
  have k6 : kd (A 6 0) = 9 := rx_kd H 6 0 (by decide) (by decide)
  have n65 : A 6 0 ≠ A 5 0 := H.ne (i := 6) (i' := 5) ⟨by decide, by decide⟩ ⟨by decide, by decide⟩ (Or.inl (by decide))
  have k0 : kd (A 0 0) = 1 := rx_kd H 0 0 (by decide) (by decide)
  have k9 : kd (A 9 0) = 4 := rx_kd H 9 0 (by decide) (by decide)
  have R0 := R.2.1 r hr.1 hr.2
  obtain ⟨⟨o0, o1, o2, o3, o4⟩, ⟨h1, h2, h3, h4, h5⟩, _⟩ := id R0
  unfold wpRE_X35_gather
  rw [rG]
  refine wl2 (fun f k s => wRE_X35_gather_2 MC MS _ (A 0 0) kd an mX35_together f k s) (fun k s => (0 ≤ k ∧ k ≤ 32) ∧ ∃ f, s = va_up ai (A 6 0) f ∧ ∀ i, 0 ≤ i → i < k → f i = -1) (fun k _ => (32 - k).toNat) ?_ 0 ai ⟨by omega, ai (A 6 0), (va_up_id rfl).symm, fun i i0 i1 => by omega⟩
  rintro k s ⟨hk, f, rfl, hf⟩ nn ih
  rw [wRE_X35_gather_2]
  refine ⟨fun z => ⟨⟨Nat.zero_le _, Nat.zero_le _⟩, CRE_free H rV (fun f5 hv => ⟨0, 0, ⟨by omega, by omega⟩, ?_⟩)⟩, fun z => kOn_of rT ⟨k6, by rw [a6]; exact ⟨hk.1, by show k < 32; omega⟩, fun s2 e1 => ⟨by omega, fun k2 e2 => ?_⟩⟩⟩
  rotate_left
  · rw [va_up_self, va_up_up] at e1
    rw [e1, e2]
    refine ih _ _ ⟨by omega, _, rfl, fun i i0 i1 => ?_⟩ (by omega)
    by_cases z2 : i = k
    · rw [z2, updI_s]
    · rw [updI_n z2]; exact hf i i0 (by omega)
  have hv5 : ∀ i, 0 ≤ i → i < 6 → va_up (va_up ai (A 6 0) f) (A 5 0) f5 (A 5 0) i = -1 := fun i i0 i1 => by rw [va_up_self]; exact hv i i0 i1
  have hs6 : ∀ i, 0 ≤ i → i < 32 → va_up (va_up ai (A 6 0) f) (A 5 0) f5 (A 6 0) i = -1 := fun i i0 i1 => by rw [va_up_ne _ _ n65, va_up_self]; exact hf i i0 (by omega)
  have hso : ∀ a, a ≠ A 5 0 → a ≠ A 6 0 → va_up (va_up ai (A 6 0) f) (A 5 0) f5 a = ai a := fun a a5 a6 => by rw [va_up_ne _ _ a5, va_up_ne _ _ a6]
  generalize va_up (va_up ai (A 6 0) f) (A 5 0) f5 = ai1 at hv5 hs6 hso
  have r6 := rl6_X (ln := ln) (pt := pt) (Fs := fun k c => if k = -1 then La c else Ho c) (P := Ho) (r := r) (fun k k0 k1 => (i4 k k0 k1).2.2) (ln r).toNat (ai1 (A 5 0)) (fun _ => -1) (by omega) (fun i i0 i1 => hv5 i i0 i1)
  have eC : caX ln pt (fun k c => if k = -1 then La c else Ho c) Ho r (ln r).toNat (fun _ => -1) = reCs ln pt Ho r := rxCz_c hl.1 (fun k c k0 => by rw [if_neg (by omega)])
  rw [eC] at r6
  have eM := rl6_f (M := reM0) hx itf r6
  have C := CRE_cases (mX35_next := mX35_next) (mX35_counts := mX35_counts) (Inv := fun ls kd' an' ai' al' wd' iu' => (kd = kd' ∧ an = an' ∧ al = al' ∧ mJ4_words = wd' ∧ mJ4_wordsInUse = iu') ∧ (∀ a, a ≠ A 5 0 → a ≠ A 6 0 → ai' a = ai a) ∧ rxMi (reFl (hd (3 * r + 1)) (fo r) reM0 ls) ∧ ∀ x, 0 ≤ x → x < 32 → ai' (A 6 0) x = reTo (ki r) (reFl (hd (3 * r + 1)) (fo r) reM0 ls) x) (Fin := fun _ => True) (co := fun _ => 0) (Ho := Ho) (La := La) (b := A 9 0) (la := la) (fr := -1) (G := G) (r := r) (o := F r) (h := H_ r) (l := Li r) (e := Ro r) (p := Pa r) I hr hs rV rH rL hla
    (fun ls kd' an' ai' al' wd' iu' J => by
      obtain ⟨⟨e1, e2, e3, e4, e5⟩, _⟩ := J
      subst e1 e2 e3 e4 e5
      exact ⟨H, R0, Or.inr (Or.inr k9), ⟨_, _, B1⟩, ⟨_, _, B2⟩⟩)
    (fun ls kd' an' ai' al' wd' iu' f J => ⟨J.1, fun a a5 a6 => by rw [va_up_ne _ _ a5]; exact J.2.1 a a5 a6, J.2.2.1, fun c c0 c1 => by rw [va_up_ne _ _ n65]; exact J.2.2.2 c c0 c1⟩)
    (fun ls u => Int.le_refl _) (fun _ _ _ => trivial)
    (fun ls kd' an' ai' al' wd' iu' st MC MS post J hg ps _ _ _ hp => by
      obtain ⟨⟨e1, e2, e3, e4, e5⟩, J2, J3, J4⟩ := J
      subst e1 e2 e3 e4 e5
      have bx := hg.b (ln := ln) hx hs.1
      have bf := hg.b (ln := ln) itf (hs.2.2.1 hki)
      generalize eU : ai' (A 5 0) = u at hg ps hp bx bf
      have M1 := rxMi_d J3 bx bf
      rw [← reFl_a] at M1
      refine Or.inr (Or.inr ⟨k9, ?_⟩)
      have go : ∀ y : Int, y = (if ki r = 0 then 1 else reVl u (fo r)) → wRE_X39_take_31 MC MS post (some (A 0 0)) (some (F r)) (reVl u (hd (3 * r + 1))) y kd an ai' al mX35_together mX83_kind mJ4_words mJ4_wordsInUse st 0 0 := fun y hy => by
        have S := reTo_s (k := ki r) J3 bx bf (by omega) hy
        have tr := reTo_r (k := ki r) J3 bx.1 bx.2
        have fin : ∀ v ai2, v = reTo (ki r) (reFd (reFl (hd (3 * r + 1)) (fo r) reM0 ls) (reVl u (hd (3 * r + 1))) (reVl u (fo r))) (reVl u (hd (3 * r + 1))) → ai2 = va_up ai' (A 6 0) (updI (ai' (A 6 0)) (reVl u (hd (3 * r + 1))) v) → post kd an ai2 al mJ4_words mJ4_wordsInUse st := fun v ai2 ev e2 => by
          refine hp _ _ _ _ _ _ _ ⟨⟨rfl, rfl, rfl, rfl, rfl⟩, fun a a5 a6 => ?_, M1, fun x x0 x1 => ?_⟩ ?_
          · rw [e2, va_up_ne _ _ a6]; exact J2 a a5 a6
          · rw [e2, va_up_self, updI_e, reFl_a]
            by_cases z : x = reVl u (hd (3 * r + 1))
            · rw [if_pos z, z]; exact ev
            · rw [if_neg z, reTo_n z]; exact J4 x x0 x1
          · rw [e2, va_up_ne _ _ n65.symm, eU]
        have yb : 0 ≤ y ∧ y < 32 := by rw [hy]; split <;> omega
        unfold wRE_X39_take_31
        refine kOn_some ⟨k0, kOn_of rT ⟨k6, by rw [a6]; exact bx, fun x5 e5 => ?_⟩⟩
        rw [J4 _ bx.1 bx.2] at e5
        rw [← e5] at S tr
        refine ⟨fun z ai2 e2 => ⟨Nat.zero_le _, Nat.zero_le _, fin y ai2 (by rw [S, if_pos z]) e2⟩, fun z => kOn_some ⟨o0, ?_⟩⟩
        rw [o3]
        rw [if_neg z] at S
        have xb := tr.2 z
        refine ⟨fun q => ⟨fun q2 => ⟨⟨Nat.zero_le _, Nat.zero_le _⟩, fun v ev ai2 e2 => ⟨Nat.zero_le _, Nat.zero_le _, fin v ai2 (by rw [S, if_pos q, if_pos q2]; exact ev) e2⟩⟩, fun q2 => ⟨⟨Nat.zero_le _, Nat.zero_le _⟩, fun v ev ai2 e2 => ⟨Nat.zero_le _, Nat.zero_le _, fin v ai2 (by rw [S, if_pos q, if_neg q2]; exact ev) e2⟩⟩⟩, fun q => ⟨by omega, by omega, fun v ev ai2 e2 => ⟨Nat.zero_le _, Nat.zero_le _, fin v ai2 (by rw [S, if_neg q]; exact ev) e2⟩⟩⟩
      unfold wpRE_X39_take wpRE_X84_x
      refine kOn_some ⟨o0, kOn_of o1 ⟨h1, ⟨Nat.zero_le _, Nat.zero_le _⟩, kOn_some ⟨k0, ⟨Nat.zero_le _, Nat.zero_le _⟩, ?_⟩⟩⟩
      rw [h4, o3, o4]
      refine CRE_valueOf H rV hx ?_
      rw [eU]
      refine ⟨fun z => go 1 (by rw [if_pos z]), fun z => ⟨⟨Nat.zero_le _, Nat.zero_le _⟩, CRE_valueOf H rV itf ?_⟩⟩
      rw [eU]
      exact go _ (by rw [if_neg z]))
    (ln r).toNat 20 [] kd an ai1 al mJ4_words mJ4_wordsInUse mJ4_sizeIsSticky 0 0 (fun kd_11 an_12 ai_13 al_14 mJ4_words_15 mJ4_wordsInUse_16 mJ4_sizeIsSticky_17 => kLe kd an kd_11 an_12 → (((0 + 0) ≤ MC ∧ (0 + 0) ≤ MS ∧ post kd_11 an_12 ai_13 al_14 mJ4_words_15 mJ4_wordsInUse_16 mJ4_sizeIsSticky_17))) (by omega) (by omega) ⟨⟨rfl, rfl, rfl, rfl, rfl⟩, hso, rxMi_0, fun x x0 x1 => by rw [hs6 x x0 x1]; rfl⟩ (by rw [show ln r - ((ln r).toNat : Int) = 0 by omega]; exact rxGd_0 hv5) trivial
    (by show (0 : Int) - 0 ≤ _; omega) (by show (2 : Int) * (0 - 0) ≤ _; omega) (fun kd' an' ai' al' wd' iu' st' J ev kl => by
      obtain ⟨⟨e1, e2, e3, e4, e5⟩, J2, J3, J4⟩ := J
      rw [List.nil_append, eM] at J3 J4
      subst e1 e2 e3 e4 e5
      exact ⟨by omega, by omega, hp ai' st' J2 J3 J4⟩)
  rw [show ln r - ((ln r).toNat : Int) = 0 by omega] at C
  exact C
end
