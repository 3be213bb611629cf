/-! RightDesk (room RD): rules; the one that decides -/
def rdRs (kd an : Nat → Nat) (ar : Nat → Int → Option Nat) (mX80_rank mX80_denies mX80_condition : Nat → Int) (mJ2_elementData : Nat → Option Nat) (mJ2_size : Nat → Int) (s0 : Nat) (A : Nat → Int → Nat) (rk dn wn : Int → Int) (nr : Int) (e1 : Nat) (f1 : Int → Nat) : Prop :=
  lsOK kd an ar mJ2_elementData mJ2_size 15 s0 (A 4 1) e1 nr f1 ∧ ∀ r, 0 ≤ r → r < nr → kd (f1 r) = 8 ∧ mX80_rank (f1 r) = rk r ∧ mX80_denies (f1 r) = dn r ∧ mX80_condition (f1 r) = wn r
/-- whether a rule goes before another one -/
def rdBf (rk dn : Int → Int) (k j : Int) : Prop := if rk k = rk j then (if dn k = dn j then k < j else dn k ≠ 0) else rk k < rk j
section
variable {kd : Nat → Nat} {an : Nat → Nat} {ai : Nat → Int → Int} {al : Nat → Int → Int} {ar : Nat → Int → Option Nat} {mX27_groups : Nat → Option Nat} {mX27_conditions : Nat → Option Nat} {mX27_rules : Nat → Option Nat} {mX27_sets : Nat → Option Nat} {mX27_right : Nat → Int} {mX27_known : Nat → Option Nat} {mX27_asks : Nat → Option Nat} {mX27_done : Nat → Option Nat} {mX27_more : Nat → Option Nat} {mX27_its : Nat → Option Nat} {mX27_allowed : Nat → Option Nat} {mX27_other : Nat → Option Nat} {mX27_order : Nat → Option Nat} {mX28_person : Nat → Int} {mX28_graph : Nat → Int} {mX28_predicate : Nat → Int} {mX28_class0 : Nat → Int} {mX28_version : Nat → Int} {mX75_kind : Nat → Int} {mX75_number : Nat → Int} {mX75_groups : Nat → Option Nat} {mX76_from : Nat → Int} {mX76_to : Nat → Int} {mX77_of : Nat → Int} {mX78_least : Nat → Int} {mX78_of : Nat → Option Nat} {mX80_rank : Nat → Int} {mX80_denies : Nat → Int} {mX80_condition : Nat → Int} {mJ1_modCount : Nat → Int} {mJ2_elementData : Nat → Option Nat} {mJ2_size : Nat → Int} {mJ4_words : Nat → Option Nat} {mJ4_wordsInUse : Nat → Int} {mJ4_sizeIsSticky : Nat → Int} {sa : Nat → Nat} {A : Nat → Int → Nat} {gi : Nat → Nat × Int} {g kk a b c rk dn wn : Int → Int} {nc nr q : Int} {e0 e1 e2 o : Nat} {f0 f1 : Int → Nat} {D : Int → Nat}
theorem CRD_isBefore {post : Int → Prop} {k j : Int} (r : mX27_rules (A 0 0) = some (A 4 1)) (k4 : kd (A 4 1) = 9) (hR : rdRs kd an ar mX80_rank mX80_denies mX80_condition mJ2_elementData mJ2_size (sa 0) A rk dn wn nr e1 f1) (hd : rdR rk dn wn nr nc) (hk : 0 ≤ k ∧ k < nr) (hj : 0 ≤ j ∧ j < nr) (h1 : rdBf rk dn k j → post 1) (h0 : ¬ rdBf rk dn k j → post 0) : wpRD_X27_isBefore post kd an ar mX27_rules mX80_rank mX80_denies mJ2_elementData mJ2_size (A 0 0) k j := by
  obtain ⟨hL, hO⟩ := hR
  obtain ⟨o1, o2, o3, o4⟩ := hO k hk.1 hk.2
  obtain ⟨p1, p2, p3, p4⟩ := hO j hj.1 hj.2
  have dk := (hd.2 k hk.1 hk.2).2.1
  unfold wpRD_X27_isBefore
  unfold rdBf at h1 h0
  refine kOn_of r ⟨k4, CRD_lget hL hk.1 hk.2 (kOn_some ⟨o1, CRD_lget hL hj.1 hj.2 (kOn_some ⟨p1, ?_⟩)⟩)⟩
  rw [o2, o3, p2, p3]
  refine ⟨fun z => ⟨fun z2 => ⟨fun z3 => h0 ?_, fun z3 => h1 ?_⟩, fun z2 => ⟨dk, ?_⟩⟩, fun z => ⟨fun z2 => h0 ?_, fun z2 => h1 ?_⟩⟩
  · rw [if_pos z, if_pos z2]; omega
  · rw [if_pos z, if_pos z2]; omega
  · rw [if_pos z, if_neg z2] at h1 h0
    rcases dk with d | d
    · rw [d]; exact h0 (fun w => w d)
    · rw [d]; exact h1 (by omega)
  · rw [if_neg z]; omega
  · rw [if_neg z]; omega
def rdOr (x : Int) : Int := if 0 ≤ x then x else -2
theorem CRD_deciding {post : Int → (Nat → Int → Int) → Prop} {x1 : Nat} (H : rdKn kd an ai mX27_conditions mX27_known A g kk a b c nc) (hC : rdCs kd an ai ar mX75_kind mX75_number mX75_groups mX76_from mX76_to mX77_of mX78_least mX78_of mJ2_elementData mJ2_size (sa 0) A kk a b c nc e0 f0) (hA : rdAk kd mX28_person mX28_graph mX28_predicate mX28_class0 mX28_version x1 q) (hq : 0 ≤ q ∧ q < 6144)
    (r : mX27_rules (A 0 0) = some (A 4 1)) (k4 : kd (A 4 1) = 9) (hR : rdRs kd an ar mX80_rank mX80_denies mX80_condition mJ2_elementData mJ2_size (sa 0) A rk dn wn nr e1 f1) (hd : rdR rk dn wn nr nc)
    (hp : ∀ f, post (rdOr (rdDec g kk a b c rk dn wn nr q (-1))) (va_up ai (A 3 0) f)) : wpRD_X27_deciding post kd an ai ar mX27_conditions mX27_rules mX27_known mX28_person mX28_graph mX28_predicate mX28_class0 mX28_version mX75_kind mX75_number mX75_groups mX76_from mX76_to mX77_of mX78_least mX78_of mX80_rank mX80_denies mX80_condition mJ2_elementData mJ2_size (A 0 0) (some x1) := by
  unfold wpRD_X27_deciding
  refine CRD_know H hC hA hq (fun f hf => ?_)
  obtain ⟨hc, ⟨r1, r2⟩, ⟨k40, k1, l1, k3, l3⟩, eg⟩ := id H
  obtain ⟨hL, hO⟩ := id hR
  have hs := hL.2.1
  have hnr := hd.1
  have hnc := hc.1
  refine wl2 (fun n x i => wRD_X27_deciding_10 _ (A 0 0) kd an (va_up ai (A 3 0) f) ar mX27_rules mX27_known mX80_rank mX80_denies mX80_condition mJ2_elementData mJ2_size n x i) (fun x i => (0 ≤ i ∧ i ≤ nr) ∧ x = rdOr (rdB rk dn wn (rdH g kk a b c q) (-1) i.toNat)) (fun x i => (nr - i).toNat) ?_ (-2) 0 ⟨by omega, rfl⟩
  rintro x i ⟨hi, ex⟩ n ih
  rw [wRD_X27_deciding_10]
  unfold wpRD_J2_size
  refine kOn_of r ⟨k4, ?_⟩
  rw [hs]
  have hb := rdB_b rk dn wn (rdH g kk a b c q) (-1) i.toNat
  have en : (i + 1).toNat = i.toNat + 1 := by omega
  have ec : ((i.toNat : Nat) : Int) = i := by omega
  refine ⟨fun z => ?_, fun z => ?_⟩
  · have : i = nr := by omega
    subst this
    rw [ex]
    exact hp f
  obtain ⟨o1, o2, o3, o4⟩ := hO i hi.1 (by omega)
  have hw := hd.2 i hi.1 (by omega)
  have eH := hf (wn i) hw.2.2.1 hw.2.2.2
  have nxt : ∀ v, v = rdOr (rdB rk dn wn (rdH g kk a b c q) (-1) (i.toNat + 1)) → (zR (i + 1) ∧ ∀ x3 : Int, x3 = i + 1 → wRD_X27_deciding_10 (fun x2_29 => post x2_29 (va_up ai (A 3 0) f)) (A 0 0) kd an (va_up ai (A 3 0) f) ar mX27_rules mX27_known mX80_rank mX80_denies mX80_condition mJ2_elementData mJ2_size n v x3) := by
    intro v hv
    refine ⟨by omega, fun _ e => ?_⟩
    subst e
    exact ih _ _ ⟨by omega, by rw [en]; exact hv⟩ (by omega)
  rw [rdB, ec] at nxt
  generalize rdB rk dn wn (rdH g kk a b c q) (-1) i.toNat = B at *
  refine CRD_lget hL hi.1 (by omega) (kOn_some ⟨o1, kOn_of r2 ⟨k3, by rw [l3, o4]; omega, ?_⟩⟩)
  rw [o4, va_up_self, eH]
  unfold rdOr at ex nxt
  refine ⟨fun z2 => nxt x ?_, fun z2 => ⟨fun z3 => nxt i ?_, fun z3 => ?_⟩⟩
  · rw [pif_t (Or.inr z2)]; exact ex
  · have : ¬ 0 ≤ B := by intro w; rw [if_pos w] at ex; omega
    rw [pif_f (fun w => w.elim (fun w => by omega) z2), pif_t (Or.inl (by omega)), if_pos hi.1]
  · have hB : 0 ≤ B := by
      by_cases w : 0 ≤ B
      · exact w
      · rw [if_neg w] at ex; omega
    rw [if_pos hB] at ex
    subst ex
    have dB := (hd.2 x hB (by omega)).2.1
    refine CRD_isBefore r k4 hR hd ⟨hi.1, by omega⟩ ⟨hB, by omega⟩ (fun w => ⟨fun y => absurd y (by decide), fun _ => nxt i ?_⟩) (fun w => ⟨fun _ => nxt x ?_, fun y => absurd rfl y⟩)
    · unfold rdBf at w
      rw [pif_f (fun w => w.elim (fun w => by omega) z2), pif_t ?_, if_pos hi.1]
      by_cases c1 : rk i = rk x
      · rw [if_pos c1] at w
        by_cases c2 : dn i = dn x
        · rw [if_pos c2] at w; omega
        · rw [if_neg c2] at w; exact Or.inr (Or.inr ⟨c1, w, by omega⟩)
      · rw [if_neg c1] at w; exact Or.inr (Or.inl w)
    · unfold rdBf at w
      rw [pif_f (fun w => w.elim (fun w => by omega) z2), pif_f ?_, if_pos hB]
      rintro (y | y | ⟨y1, y2, y3⟩)
      · omega
      · rw [if_neg (by omega)] at w; exact w y
      · rw [if_pos y1, if_neg (by omega)] at w; exact w y2
end
