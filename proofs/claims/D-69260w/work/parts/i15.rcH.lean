/-! RuleEngine (room RE): what names need, circles, strata -/
def rxMk (P : Int → Int → Prop) (f : Int → Int) : Prop := ∀ a, 0 ≤ a → a < 16 → mS (f a) (P a)
/-- the least name of a circle among some strict edges, so far -/
def rxCc (E Pe : Int → Int → Prop) (c : Int) : Prop := (c = -1 ∧ ∀ a b, ¬ (Pe a b ∧ (a = b ∨ reW E 16 b a))) ∨ ((∃ b, Pe c b ∧ (c = b ∨ reW E 16 b c)) ∧ 0 ≤ c ∧ ∀ a b, Pe a b → (a = b ∨ reW E 16 b a) → c ≤ a)
theorem rxCc.c {E P Q : Int → Int → Prop} {c : Int} (h : rxCc E P c) (e : ∀ a b, P a b ↔ Q a b) : rxCc E Q c := by
  have : P = Q := funext fun a => funext fun b => propext (e a b)
  rw [← this]; exact h
theorem rxCc.ci {E X : Int → Int → Prop} {c : Int} (h : rxCc E X c) (hX : ∀ a b, X a b → (0 ≤ a ∧ a < 16) ∧ 0 ≤ b ∧ b < 16) : c = reCi E X := by
  obtain ⟨fb, f1, f2⟩ := fstI_s (reQ E X) 16
  unfold reCi
  rcases h with ⟨e, no⟩ | ⟨⟨b, x, q⟩, c0, le⟩
  · rw [if_neg (fun w => by
      obtain ⟨b, hb, xb⟩ := f1 w
      exact no _ b xb)]
    exact e
  · have r := hX _ _ x
    have e2 : fstI (reQ E X) 16 = c := by
      rcases Int.lt_trichotomy (fstI (reQ E X) 16) c with z | z | z
      · obtain ⟨b', hb', xb⟩ := f1 (by show fstI (reQ E X) 16 < ((16 : Nat) : Int); omega)
        have := le _ b' xb.1 xb.2
        omega
      · exact z
      · exact absurd ⟨b, r.2, x, q⟩ (f2 c c0 z)
    rw [e2, if_pos r.1.2]
section
variable {kd : Nat → Nat} {an : Nat → Nat} {ai : Nat → Int → Int} {al : Nat → Int → Int} {ar : Nat → Int → Option Nat} {mX35_said : Nat → Option Nat} {mX35_rules : Nat → Option Nat} {mX35_strata : Nat → Option Nat} {mX35_needs : Nat → Option Nat} {mX35_safe : Nat → Option Nat} {mX35_circle : Nat → Int} {mX35_known : Nat → Int} {mX35_holds : Nat → Option Nat} {mX35_rounds : Nat → Option Nat} {mX35_counts : Nat → Option Nat} {mX35_roundCount : Nat → Int} {mX35_last : Nat → Option Nat} {mX35_next : Nat → Option Nat} {mX35_values : Nat → Option Nat} {mX35_coming : Nat → Option Nat} {mX35_counting : Nat → Option Nat} {mX35_gathering : Nat → Option Nat} {mX35_together : Nat → Option Nat} {mX35_held : Nat → Option Nat} {mX35_work : Nat → Int} {mX35_large : Nat → Int} {mX83_head : Nat → Option Nat} {mX83_parts : Nat → Option Nat} {mX83_kind : Nat → Int} {mX83_variable : Nat → Int} {mX84_sort : Nat → Int} {mX84_name : Nat → Int} {mX84_x : Nat → Int} {mX84_y : Nat → Int} {mJ1_modCount : Nat → Int} {mJ2_elementData : Nat → Option Nat} {mJ2_size : Nat → Int} {mJ4_words : Nat → Option Nat} {mJ4_wordsInUse : Nat → Int} {mJ4_sizeIsSticky : Nat → Int} {sa : Nat → Nat} {A : Nat → Int → Nat} {hd ki fo ln pt sd st rn gv : Int → Int} {n r k v c s : Int} {e0 : Nat} {W : Int → Nat} {Lq : Int → Int} {Pq : Int → Int → Prop} {MC MS : Nat} {F H_ Li Ro : Int → Nat} {Pa : Int → Int → Nat} {G : Nat → Nat × Int} {L0 : Int → Int} {P0 : Int → Int → Prop} {ai0 : Nat → Int → Int} {ne la fr : Int}
theorem rxEc {t a b : Int} (hr : 0 ≤ r ∧ r < n) (hs : reSf hd ki fo ln pt r) (hk : 0 ≤ k ∧ k < ln r) : reEc hd ki fo ln pt n r k t a b ↔ (¬ pt (20 * r + 4 * k) = 2 ∧ (hd (3 * r) = a ∧ pt (20 * r + 4 * k + 1) = b) ∧ (t = 2 → pt (20 * r + 4 * k) = 1 ∨ ¬ ki r < 0)) := ⟨fun h => h.2, fun h => ⟨⟨hr, hs, hk.1, hk.2⟩, h⟩⟩
theorem rxEp_u {t a b : Int} (hs : ¬ reSf hd ki fo ln pt r) : reEp hd ki fo ln pt n (r + 1) 0 t a b ↔ reEp hd ki fo ln pt n r 0 t a b := reEp_n (fun k => Or.inr (fun h => hs h.1.2.1))
theorem rxEp_l {t a b : Int} : reEp hd ki fo ln pt n (r + 1) 0 t a b ↔ reEp hd ki fo ln pt n r (ln r) t a b := reEp_n (fun k => Or.inl (Int.le_refl _))
theorem CRE_n60 {K : (Nat → Int → Int) → Prop} {f : Int → Int} (I : reI hd ki fo ln pt n) (hr : 0 ≤ r ∧ r < n) (hs : reSf hd ki fo ln pt r) (H : Lab rxK rxL kd an A G rxN) (rN : mX35_needs (A 0 0) = some (A 2 1)) (R : rxRu kd an ar mX83_head mX83_parts mX83_kind mX83_variable mX84_sort mX84_name mX84_x mX84_y mJ2_elementData mJ2_size (sa 0) hd ki fo ln pt r (F r) (H_ r) (Li r) (Ro r) (Pa r)) (hf : rxMk (fun a b => reEp hd ki fo ln pt n r 0 1 a b) f) (hK : ∀ f, rxMk (fun a b => reEp hd ki fo ln pt n (r + 1) 0 1 a b) f → K (va_up ai (A 2 1) f)) : ∃ fu : Nat, wRE_X35_findNeeds_60 K (A 0 0) (some (F r)) kd an ar mX35_needs mX83_head mX83_parts mX84_sort mX84_name mJ2_elementData mJ2_size fu 0 (va_up ai (A 2 1) f) := by
  obtain ⟨⟨i1, _⟩, ⟨hk1, _⟩, hl, i4⟩ := I.2 r hr.1 hr.2
  obtain ⟨⟨o0, o1, o2, o3, o4⟩, ⟨h1, h2, h3, h4, h5⟩, l7, l5, l6⟩ := R
  have a2 : an (A 2 1) = 16 := rx_an H 2 1 (by decide) (by decide) (by decide)
  have k2 : kd (A 2 1) = 9 := rx_kd H 2 1 (by decide) (by decide)
  refine wl2 (fun fu k s => wRE_X35_findNeeds_60 K (A 0 0) (some (F r)) kd an ar mX35_needs mX83_head mX83_parts mX84_sort mX84_name mJ2_elementData mJ2_size fu k s) (fun k s => (0 ≤ k ∧ k ≤ ln r) ∧ ∃ f, s = va_up ai (A 2 1) f ∧ rxMk (fun a b => reEp hd ki fo ln pt n r k 1 a b) f) (fun k _ => (ln r - k).toNat) ?_ 0 _ ⟨by omega, f, rfl, hf⟩
  rintro k s ⟨hk, f, rfl, hf⟩ fu ih
  rw [wRE_X35_findNeeds_60]
  unfold wpRE_J2_size
  refine kOn_some ⟨o0, kOn_of o2 ⟨l7, ?_⟩⟩
  rw [l5.2.1]
  refine ⟨fun z => hK f (fun a a0 a1 => mS_c (hf a a0 a1) (fun b _ _ => by rw [show k = ln r by omega]; exact rxEp_l.symm)), fun z => CRE_lget l5 hk.1 (by omega) (kOn_some ?_)⟩
  obtain ⟨q6, q2, q3, q4, q5⟩ := l6 k hk.1 (by omega)
  obtain ⟨p1, p2, p3, p4⟩ := i4 k hk.1 (by omega)
  have ec := fun a b => rxEc (t := 1) (a := a) (b := b) hr hs (k := k) (by omega)
  unfold wpRE_X84_sort wpRE_X84_name
  rw [q2, q3]
  refine ⟨q6, fun w => ⟨by omega, fun k2 e2 => ?_⟩, fun w => kOn_of o1 ⟨h1, kOn_of rN ⟨k2, ?_⟩⟩⟩
  · have p2' : pt (20 * r + 4 * k) = 2 := by
      unfold rxSo at w
      by_cases q : pt (20 * r + 4 * k) = 2
      · exact q
      · rw [if_neg q] at w; omega
    rw [e2]
    refine ih _ _ ⟨by omega, f, rfl, fun a a0 a1 => mS_c (hf a a0 a1) (fun b _ _ => ?_)⟩ (by omega)
    dsimp only
    rw [reEp_s]
    exact ⟨Or.inl, fun q => q.elim id (fun q => absurd p2' ((ec a b).1 q).1)⟩
  · have np2 : ¬ pt (20 * r + 4 * k) = 2 := fun q => by
      unfold rxSo at w
      rw [if_pos q] at w; omega
    have nm : rxNm pt (20 * r + 4 * k) = pt (20 * r + 4 * k + 1) := by unfold rxNm; rw [if_neg np2]
    rw [h3, nm, a2]
    refine ⟨⟨i1.1, i1.2⟩, ⟨by omega, by omega⟩, fun v ev s2 e2 => ⟨by omega, fun k2 ek => ?_⟩⟩
    rw [va_up_self] at ev e2
    rw [va_up_up] at e2
    rw [ek, e2]
    refine ih _ _ ⟨by omega, _, rfl, fun a a0 a1 => ?_⟩ (by omega)
    rw [updI_e]
    by_cases q : a = hd (3 * r)
    · rw [if_pos q, ev]
      refine mS_c (mS_or (hf (hd (3 * r)) i1.1 i1.2) (mS_one (j := pt (20 * r + 4 * k + 1)) (by omega))) (fun b _ _ => ?_)
      dsimp only
      rw [reEp_s, ec, q]
      exact or_congr Iff.rfl ⟨fun e => ⟨np2, ⟨rfl, e.symm⟩, fun z => absurd z (by decide)⟩, fun e => e.2.1.2.symm⟩
    · rw [if_neg q]
      refine mS_c (hf a a0 a1) (fun b _ _ => ?_)
      dsimp only
      rw [reEp_s, ec]
      exact ⟨Or.inl, fun z => z.elim id (fun z => absurd z.2.1.1.symm q)⟩
theorem CRE_n137 {K : (Nat → Int → Int) → Prop} {E : Int → Int → Prop} {f : Int → Int} {m : Nat} (hm : m < 16) (H : Lab rxK rxL kd an A G rxN) (rN : mX35_needs (A 0 0) = some (A 2 1)) (hE : ∀ a b, E a b → (0 ≤ a ∧ a < 16) ∧ 0 ≤ b ∧ b < 16) (hf : rxMk (reW E m) f) (hK : ∀ f, rxMk (reW E (m + 1)) f → K (va_up ai (A 2 1) f)) : ∃ fu : Nat, wRE_X35_findNeeds_137 K (A 0 0) ((m : Int)) kd an mX35_needs fu 0 (va_up ai (A 2 1) f) := by
  have a2 : an (A 2 1) = 16 := rx_an H 2 1 (by decide) (by decide) (by decide)
  have k2 : kd (A 2 1) = 9 := rx_kd H 2 1 (by decide) (by decide)
  refine wl2 (fun fu k s => wRE_X35_findNeeds_137 K (A 0 0) ((m : Int)) kd an mX35_needs fu k s) (fun k s => (0 ≤ k ∧ k ≤ 16) ∧ ∃ f, s = va_up ai (A 2 1) f ∧ ∀ a, 0 ≤ a → a < 16 → mS (f a) (fun b => if a < k then reW E (m + 1) a b else reW E m a b)) (fun k _ => (16 - k).toNat) ?_ 0 _ ⟨by omega, f, rfl, fun a a0 a1 => mS_c (hf a a0 a1) (fun b _ _ => by rw [if_neg (by omega)])⟩
  rintro k s ⟨hk, f, rfl, hf⟩ fu ih
  rw [wRE_X35_findNeeds_137]
  refine ⟨fun z => hK f (fun a a0 a1 => mS_c (hf a a0 a1) (fun b _ _ => by rw [if_pos (by omega)])), fun z => kOn_of rN ⟨k2, ?_⟩⟩
  rw [a2, va_up_self]
  have bk := mS_bit (hf k hk.1 (by omega)) (k := (m : Int)) (by omega) (by omega)
  rw [if_neg (by omega)] at bk
  have rowm : ∀ b, (if (m : Int) < k then reW E (m + 1) m b else reW E m m b) ↔ reW E m m b := fun b => by
    by_cases q : (m : Int) < k
    · rw [if_pos q]
      exact ⟨fun w => w.elim id (fun w => w.2), Or.inl⟩
    · rw [if_neg q]
  have step : ∀ g : Int → Int, (∀ b, 0 ≤ b → b < 32 → True) → mS (g k) (reW E (m + 1) k) → (∀ a, a ≠ k → g a = f a) → ∀ a, 0 ≤ a → a < 16 → mS (g a) (fun b => if a < k + 1 then reW E (m + 1) a b else reW E m a b) := fun g _ hg ho a a0 a1 => by
    by_cases q : a = k
    · rw [q]
      exact mS_c hg (fun b _ _ => by rw [if_pos (show k < k + 1 by omega)])
    · rw [ho a q]
      refine mS_c (hf a a0 a1) (fun b _ _ => ?_)
      by_cases q2 : a < k
      · rw [if_pos q2, if_pos (by omega)]
      · rw [if_neg q2, if_neg (by omega)]
  refine ⟨⟨by omega, by show k < 16; omega⟩, ⟨by omega, by omega⟩, fun w => ⟨⟨by omega, by show (m : Int) < 16; omega⟩, fun v ev s2 e2 => ⟨by omega, fun k2 ek => ?_⟩⟩, fun w => ⟨by omega, fun k2 ek => ?_⟩⟩
  · rw [ek, e2, va_up_up]
    refine ih _ _ ⟨by omega, _, rfl, step _ (fun _ _ _ => trivial) ?_ (fun a ne => updI_n ne)⟩ (by omega)
    rw [updI_s, ev]
    refine mS_c (mS_or (hf k hk.1 (by omega)) (hf m (by omega) (by omega))) (fun b _ _ => ?_)
    rw [rowm, if_neg (by omega)]
    exact or_congr Iff.rfl ⟨fun y => ⟨bk.1 w, y⟩, fun y => y.2⟩
  · rw [ek]
    refine ih _ _ ⟨by omega, f, rfl, step f (fun _ _ _ => trivial) ?_ (fun _ _ => rfl)⟩ (by omega)
    refine mS_c (hf k hk.1 (by omega)) (fun b _ _ => ?_)
    rw [if_neg (by omega)]
    exact ⟨Or.inl, fun y => y.elim id (fun y => absurd (bk.2 y.1) w)⟩
theorem CRE_findNeeds {post : (Nat → Int → Int) → Prop} (I : reI hd ki fo ln pt n) (H : Lab rxK rxL kd an A G rxN) (R : rxRs kd an ar mX83_head mX83_parts mX83_kind mX83_variable mX84_sort mX84_name mX84_x mX84_y mJ2_elementData mJ2_size (sa 0) A hd ki fo ln pt n e0 F H_ Li Ro Pa) (rR : mX35_rules (A 0 0) = some (A 10 0)) (rN : mX35_needs (A 0 0) = some (A 2 1)) (rS : mX35_safe (A 0 0) = some (A 3 0)) (hsf : ∀ k, 0 ≤ k → k < n → (¬ ai (A 3 0) k = 0 ↔ reSf hd ki fo ln pt k))
  (hp : ∀ f, rxMk (reW (reEd hd ki fo ln pt n 1) 16) f → post (va_up ai (A 2 1) f)) : wpRE_X35_findNeeds post kd an ai ar mX35_rules mX35_needs mX35_safe mX83_head mX83_parts mX84_sort mX84_name mJ2_elementData mJ2_size (A 0 0) := by
  have hn := I.1
  have a2 : an (A 2 1) = 16 := rx_an H 2 1 (by decide) (by decide) (by decide)
  have k2 : kd (A 2 1) = 9 := rx_kd H 2 1 (by decide) (by decide)
  have a3 : an (A 3 0) = 16 := rx_an H 3 0 (by decide) (by decide) (by decide)
  have k3 : kd (A 3 0) = 10 := rx_kd H 3 0 (by decide) (by decide)
  have k10 : kd (A 10 0) = 7 := rx_kd H 10 0 (by decide) (by decide)
  have n32 : A 3 0 ≠ A 2 1 := H.ne (i := 3) (i' := 2) ⟨by decide, by decide⟩ ⟨by decide, by decide⟩ (Or.inl (by decide))
  obtain ⟨R1, R2, _⟩ := R
  unfold wpRE_X35_findNeeds
  refine wl2 (fun f k s => wRE_X35_findNeeds_2 _ (A 0 0) kd an mX35_needs f k s) (fun k s => (0 ≤ k ∧ k ≤ 16) ∧ ∃ f, s = va_up ai (A 2 1) f ∧ ∀ i, 0 ≤ i → i < k → f i = 0) (fun k _ => (16 - k).toNat) ?_ 0 ai ⟨by omega, ai (A 2 1), (va_up_id rfl).symm, fun i i0 i1 => by omega⟩
  rintro k s ⟨hk, f, rfl, hf⟩ nn ih
  rw [wRE_X35_findNeeds_2]
  refine ⟨fun z => ?_, fun z => kOn_of rN ⟨k2, by rw [a2]; exact ⟨hk.1, by show k < 16; omega⟩, fun s2 e1 => ⟨by omega, fun k2 e2 => ?_⟩⟩⟩
  rotate_left
  · rw [va_up_self, va_up_up] at e1
    rw [e1, e2]
    refine ih _ _ ⟨by omega, _, rfl, fun i i0 i1 => ?_⟩ (by omega)
    by_cases z2 : i = k
    · rw [z2, updI_s]
    · rw [updI_n z2]; exact hf i i0 (by omega)
  clear ih
  refine wl2 (fun f k s => wRE_X35_findNeeds_23 _ (A 0 0) kd an ar mX35_rules mX35_needs mX35_safe mX83_head mX83_parts mX84_sort mX84_name mJ2_elementData mJ2_size f k s) (fun k s => (0 ≤ k ∧ k ≤ n) ∧ ∃ f, s = va_up ai (A 2 1) f ∧ rxMk (fun a b => reEp hd ki fo ln pt n k 0 1 a b) f) (fun k _ => (n - k).toNat) ?_ 0 _ ⟨by omega, f, rfl, fun a a0 a1 => ?_⟩
  rotate_left
  · rw [hf a a0 (by omega)]
    exact mS_c mS_0 (fun b _ _ => ⟨fun w => w.elim, fun w => absurd w reEp_0⟩)
  rintro k s ⟨hk, f, rfl, hf⟩ nn ih
  rw [wRE_X35_findNeeds_23]
  unfold wpRE_J2_size
  refine kOn_of rR ⟨k10, ?_⟩
  rw [R1.2.1]
  refine ⟨fun z => ?_, fun z => kOn_of rS ⟨k3, by rw [a3]; exact ⟨hk.1, by show k < 16; omega⟩, ?_⟩⟩
  rotate_left
  · rw [va_up_ne _ _ n32]
    have sf := hsf k hk.1 (by omega)
    refine ⟨fun w => ⟨by omega, fun k2 e2 => ?_⟩, fun w => CRE_lget R1 hk.1 (by omega) (kOn_some ⟨(R2 k hk.1 (by omega)).1.1, ?_⟩)⟩
    · rw [e2]
      refine ih _ _ ⟨by omega, f, rfl, fun a a0 a1 => mS_c (hf a a0 a1) (fun b _ _ => ?_)⟩ (by omega)
      exact (rxEp_u (fun q => (sf.2 q) w)).symm
    · exact CRE_n60 I ⟨hk.1, by omega⟩ (sf.1 w) H rN (R2 k hk.1 (by omega)) hf (fun f2 hf2 => ⟨by omega, fun k2 e2 => by
        rw [e2]
        exact ih _ _ ⟨by omega, f2, rfl, hf2⟩ (by omega)⟩)
  clear ih
  have eE : rxMk (reW (reEd hd ki fo ln pt n 1) 0) f := fun a a0 a1 => mS_c (hf a a0 a1) (fun b _ _ => by
    rw [show k = n by omega]; exact reEp_e)
  have go : ∀ (j m : Nat) (f : Int → Int), m + j = 16 → rxMk (reW (reEd hd ki fo ln pt n 1) m) f → wRE_X35_findNeeds_129 (fun (ai_85 : Nat → Int → Int) => (post ai_85)) (A 0 0) kd an mX35_needs (j + 1) m (va_up ai (A 2 1) f) := fun j => by
    induction j with
    | zero =>
      intro m f hm hf
      rw [wRE_X35_findNeeds_129]
      have e : m = 16 := by omega
      subst e
      exact ⟨fun _ => hp f hf, fun w => absurd (by decide) w⟩
    | succ j ih =>
      intro m f hm hf
      rw [wRE_X35_findNeeds_129]
      refine ⟨fun w => by omega, fun _ => CRE_n137 (by omega) H rN (fun a b h => reEd_r I h) hf (fun f2 hf2 => ⟨by omega, fun x2 ex => ?_⟩)⟩
      have I2 := ih (m + 1) f2 (by omega) hf2
      rw [show ((m + 1 : Nat) : Int) = (m : Int) + 1 by omega] at I2
      rw [ex]; exact I2
  exact ⟨17, go 16 0 f rfl eE⟩
theorem CRE_isStrict {post : Int → Prop} {q : Nat} (R : rxRu kd an ar mX83_head mX83_parts mX83_kind mX83_variable mX84_sort mX84_name mX84_x mX84_y mJ2_elementData mJ2_size (sa 0) hd ki fo ln pt r (F r) (H_ r) (Li r) (Ro r) (Pa r)) (hk : -1 ≤ ki r) (kq : kd q = 6) (hq : mX84_sort q = v) (h1 : (v = 1 ∨ ¬ ki r < 0) → post 1) (h0 : ¬ (v = 1 ∨ ¬ ki r < 0) → post 0) : wpRE_X83_isStrict post kd mX83_kind mX84_sort (F r) (some q) := by
  obtain ⟨⟨o0, o1, o2, o3, o4⟩, _⟩ := R
  unfold wpRE_X83_isStrict wpRE_X84_sort
  refine kOn_some ⟨kq, ?_⟩
  rw [hq, o3]
  exact ⟨fun z => h1 (Or.inl z), fun z => ⟨fun z2 => h0 (fun w => w.elim z (fun w => by omega)), fun z2 => h1 (Or.inr (by omega))⟩⟩
theorem CRE_s133 {K : Int → (Nat → Int) → Prop} {x3 x4 y0 c : Int} (hx : 0 ≤ x4 ∧ x4 ≤ 100) (hc : mX35_circle (A 0 0) = c) (h0 : y0 = 0 → K (x4 + 1) mX35_circle) (h1 : ¬ y0 = 0 → K (x4 + 1) (va_up mX35_circle (A 0 0) (if c = -1 then x3 else if c ≤ x3 then c else x3))) : wRE_X35_stratify_133 K (A 0 0) x3 x4 y0 mX35_circle := by
  unfold wRE_X35_stratify_133
  rw [hc]
  refine ⟨fun z => ⟨by omega, fun _ e => by rw [e]; exact h0 z⟩, fun z => ⟨fun z2 m em => ⟨by omega, fun _ e => ?_⟩, fun z2 => ⟨fun z3 => ⟨by omega, fun _ e => ?_⟩, fun z3 m em => ⟨by omega, fun _ e => ?_⟩⟩⟩⟩
  · have := h1 z
    rw [if_pos z2] at this
    rw [e, em]; exact this
  · have := h1 z
    rw [if_neg z2, if_pos z3, va_up_id hc.symm] at this
    rw [e]; exact this
  · have := h1 z
    rw [if_neg z2, if_neg z3] at this
    rw [e, em]; exact this
/-- one more strict edge -/
theorem rxCc.nx {E P Q : Int → Int → Prop} {x b0 : Int} (h : rxCc E P c) (x0 : 0 ≤ x) (hQ : ∀ a b, Q a b ↔ (P a b ∨ (a = x ∧ b = b0))) (hw : x = b0 ∨ reW E 16 b0 x) : rxCc E Q (if c = -1 then x else if c ≤ x then c else x) := by
  right
  rcases h with ⟨e, no⟩ | ⟨⟨b, q1, q2⟩, c0, le⟩
  · rw [if_pos e]
    refine ⟨⟨b0, (hQ _ _).2 (Or.inr ⟨rfl, rfl⟩), hw⟩, x0, fun a b qa w => ?_⟩
    rcases (hQ _ _).1 qa with z | z
    · exact absurd ⟨z, w⟩ (no a b)
    · omega
  · rw [if_neg (by omega)]
    by_cases z : c ≤ x
    · rw [if_pos z]
      refine ⟨⟨b, (hQ _ _).2 (Or.inl q1), q2⟩, c0, fun a b qa w => ?_⟩
      rcases (hQ _ _).1 qa with y | y
      · exact le a b y w
      · omega
    · rw [if_neg z]
      refine ⟨⟨b0, (hQ _ _).2 (Or.inr ⟨rfl, rfl⟩), hw⟩, x0, fun a b qa w => ?_⟩
      rcases (hQ _ _).1 qa with y | y
      · have := le a b y w; omega
      · omega
/-- one more edge that is in no circle -/
theorem rxCc.m {E P Q : Int → Int → Prop} {x b0 : Int} (h : rxCc E P c) (hQ : ∀ a b, Q a b → (P a b ∨ (a = x ∧ b = b0))) (hP : ∀ a b, P a b → Q a b) (hw : ¬ (x = b0 ∨ reW E 16 b0 x)) : rxCc E Q c := by
  have no : ∀ a b, Q a b → (a = b ∨ reW E 16 b a) → P a b := fun a b qa w => by
    rcases hQ a b qa with z | z
    · exact z
    · rw [z.1, z.2] at w; exact absurd w hw
  rcases h with ⟨e, n0⟩ | ⟨⟨b, q1, q2⟩, c0, le⟩
  · exact Or.inl ⟨e, fun a b w => n0 a b ⟨no a b w.1 w.2, w.2⟩⟩
  · exact Or.inr ⟨⟨b, hP _ _ q1, q2⟩, c0, fun a b qa w => le a b (no a b qa w) w⟩
theorem CRE_s57 {K : (Nat → Int) → Prop} (I : reI hd ki fo ln pt n) (hr : 0 ≤ r ∧ r < n) (hs : reSf hd ki fo ln pt r) (H : Lab rxK rxL kd an A G rxN) (rN : mX35_needs (A 0 0) = some (A 2 1)) (R : rxRu kd an ar mX83_head mX83_parts mX83_kind mX83_variable mX84_sort mX84_name mX84_x mX84_y mJ2_elementData mJ2_size (sa 0) hd ki fo ln pt r (F r) (H_ r) (Li r) (Ro r) (Pa r)) (hM : rxMk (reW (reEd hd ki fo ln pt n 1) 16) (ai (A 2 1))) (hc : rxCc (reEd hd ki fo ln pt n 1) (fun a b => reEp hd ki fo ln pt n r 0 2 a b) c) (hK : ∀ c, rxCc (reEd hd ki fo ln pt n 1) (fun a b => reEp hd ki fo ln pt n (r + 1) 0 2 a b) c → K (va_up mX35_circle (A 0 0) c)) : ∃ fu : Nat, wRE_X35_stratify_57 K (A 0 0) (some (F r)) (hd (3 * r)) kd an ai ar mX35_needs mX83_parts mX83_kind mX84_sort mX84_name mJ2_elementData mJ2_size fu 0 (va_up mX35_circle (A 0 0) c) := by
  obtain ⟨⟨i1, _⟩, ⟨hk1, _⟩, hl, i4⟩ := I.2 r hr.1 hr.2
  obtain ⟨⟨o0, o1, o2, o3, o4⟩, ⟨h1, h2, h3, h4, h5⟩, l7, l5, l6⟩ := id R
  have a2 : an (A 2 1) = 16 := rx_an H 2 1 (by decide) (by decide) (by decide)
  have k2 : kd (A 2 1) = 9 := rx_kd H 2 1 (by decide) (by decide)
  refine wl2 (fun fu k s => wRE_X35_stratify_57 K (A 0 0) (some (F r)) (hd (3 * r)) kd an ai ar mX35_needs mX83_parts mX83_kind mX84_sort mX84_name mJ2_elementData mJ2_size fu k s) (fun k s => (0 ≤ k ∧ k ≤ ln r) ∧ ∃ c, s = va_up mX35_circle (A 0 0) c ∧ rxCc (reEd hd ki fo ln pt n 1) (fun a b => reEp hd ki fo ln pt n r k 2 a b) c) (fun k _ => (ln r - k).toNat) ?_ 0 _ ⟨by omega, c, rfl, hc⟩
  rintro k s ⟨hk, c, rfl, hc⟩ fu ih
  rw [wRE_X35_stratify_57]
  unfold wpRE_J2_size
  refine kOn_some ⟨o0, kOn_of o2 ⟨l7, ?_⟩⟩
  rw [l5.2.1]
  refine ⟨fun z => hK c (hc.c (fun a b => by rw [show k = ln r by omega]; exact rxEp_l.symm)), fun z => CRE_lget l5 hk.1 (by omega) (kOn_some ?_)⟩
  obtain ⟨q6, q2, q3, q4, q5⟩ := l6 k hk.1 (by omega)
  obtain ⟨p1, p2, p3, p4⟩ := i4 k hk.1 (by omega)
  have ec := fun a b => rxEc (t := 2) (a := a) (b := b) hr hs (k := k) (by omega)
  have stay : (∀ a b, reEc hd ki fo ln pt n r k 2 a b → ¬ (hd (3 * r) = pt (20 * r + 4 * k + 1) ∨ reW (reEd hd ki fo ln pt n 1) 16 (pt (20 * r + 4 * k + 1)) (hd (3 * r)))) → ∀ x4, x4 = k + 1 → wRE_X35_stratify_57 K (A 0 0) (some (F r)) (hd (3 * r)) kd an ai ar mX35_needs mX83_parts mX83_kind mX84_sort mX84_name mJ2_elementData mJ2_size fu x4 (va_up mX35_circle (A 0 0) c) := fun no x4 e4 => by
    rw [e4]
    refine ih _ _ ⟨by omega, c, rfl, ?_⟩ (by omega)
    by_cases q : ∃ a b, reEc hd ki fo ln pt n r k 2 a b
    · obtain ⟨a, b, q⟩ := q
      exact rxCc.m hc (fun a b w => (reEp_s.1 w).elim Or.inl (fun w => Or.inr ⟨((ec a b).1 w).2.1.1.symm, ((ec a b).1 w).2.1.2.symm⟩)) (fun a b w => reEp_s.2 (Or.inl w)) (no a b q)
    · exact hc.c (fun a b => ⟨fun w => reEp_s.2 (Or.inl w), fun w => (reEp_s.1 w).elim id (fun w => absurd ⟨a, b, w⟩ q)⟩)
  have take : (∀ a b, reEc hd ki fo ln pt n r k 2 a b ↔ (a = hd (3 * r) ∧ b = pt (20 * r + 4 * k + 1))) → (hd (3 * r) = pt (20 * r + 4 * k + 1) ∨ reW (reEd hd ki fo ln pt n 1) 16 (pt (20 * r + 4 * k + 1)) (hd (3 * r))) → wRE_X35_stratify_57 K (A 0 0) (some (F r)) (hd (3 * r)) kd an ai ar mX35_needs mX83_parts mX83_kind mX84_sort mX84_name mJ2_elementData mJ2_size fu (k + 1) (va_up (va_up mX35_circle (A 0 0) c) (A 0 0) (if c = -1 then hd (3 * r) else if c ≤ hd (3 * r) then c else hd (3 * r))) := fun e w => by
    rw [va_up_up]
    refine ih _ _ ⟨by omega, _, rfl, ?_⟩ (by omega)
    exact rxCc.nx hc i1.1 (fun a b => by rw [reEp_s, e]) w
  unfold wpRE_X84_sort wpRE_X84_name
  rw [q2, q3]
  refine ⟨q6, fun w => CRE_s133 (c := c) (by omega) (va_up_self _ _ _) (fun _ => stay ?_ _ rfl) (fun z => absurd rfl z), fun w => ?_⟩
  · have p2' : pt (20 * r + 4 * k) = 2 := by
      unfold rxSo at w
      by_cases q : pt (20 * r + 4 * k) = 2
      · exact q
      · rw [if_neg q] at w; omega
    exact fun a b q => absurd p2' ((ec a b).1 q).1
  have np2 : ¬ pt (20 * r + 4 * k) = 2 := fun q => by
    unfold rxSo at w
    rw [if_pos q] at w; omega
  have nm : rxNm pt (20 * r + 4 * k) = pt (20 * r + 4 * k + 1) := by unfold rxNm; rw [if_neg np2]
  have so : rxSo pt (20 * r + 4 * k) = pt (20 * r + 4 * k) := by unfold rxSo; rw [if_neg np2]
  rw [so] at q2
  refine CRE_isStrict R hk1.1 q6 q2 (fun st => ⟨fun z => absurd z (by decide), fun _ => ?_⟩) (fun st => ⟨fun _ => CRE_s133 (c := c) (by omega) (va_up_self _ _ _) (fun _ => stay (fun a b q => absurd (((ec a b).1 q).2.2 rfl) st) _ rfl) (fun z => absurd rfl z), fun z => absurd rfl z⟩)
  have eq : ∀ a b, reEc hd ki fo ln pt n r k 2 a b ↔ (a = hd (3 * r) ∧ b = pt (20 * r + 4 * k + 1)) := fun a b => (ec a b).trans ⟨fun y => ⟨y.2.1.1.symm, y.2.1.2.symm⟩, fun y => ⟨np2, ⟨y.1.symm, y.2.symm⟩, fun _ => st⟩⟩
  rw [nm]
  refine ⟨fun y => CRE_s133 (c := c) (by omega) (va_up_self _ _ _) (fun z => absurd z (by decide)) (fun _ => take eq (Or.inl y.symm)), fun y => kOn_of rN ⟨k2, by rw [a2]; exact p2, ⟨by omega, by omega⟩, ?_⟩⟩
  have bt := mS_bit (hM _ p2.1 p2.2) (k := hd (3 * r)) i1.1 (by omega)
  exact ⟨fun u => CRE_s133 (c := c) (by omega) (va_up_self _ _ _) (fun z => absurd z (by decide)) (fun _ => take eq (Or.inr (bt.1 u))), fun u => CRE_s133 (c := c) (by omega) (va_up_self _ _ _) (fun _ => stay (fun a b q => fun z => z.elim (fun e => y e.symm) (fun e => u (bt.2 e))) _ rfl) (fun z => absurd rfl z)⟩
end
