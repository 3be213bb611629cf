/-! QlRewrite, the reference (X56): find -/
section
variable {fn fa fb fo fo' th rw_ sA sB fs ff fg fc G E g : Int → Int} {nf c k r x n one two z : Int} {P Q R : Int → Prop}
theorem qG1_b (hf : ∀ r, 0 ≤ r → r < nf → fa r < 12) (hr : 0 ≤ r ∧ r < nf) (hG : ∀ v, 0 ≤ v → v < 6 → G v < 12) : ∀ v, 0 ≤ v → v < 6 → qG1 fa c r G v < 12 := fun v v0 v1 => by
  unfold qG1
  split
  · rw [updI_e]
    split
    · exact hf r hr.1 hr.2
    · exact hG v v0 v1
  · exact hG v v0 v1
theorem qG2_b (hf : ∀ r, 0 ≤ r → r < nf → fa r < 12) (hf2 : ∀ r, 0 ≤ r → r < nf → fb r < 12) (hr : 0 ≤ r ∧ r < nf) (hG : ∀ v, 0 ≤ v → v < 6 → G v < 12) : ∀ v, 0 ≤ v → v < 6 → qG2 fa fb c r G v < 12 := fun v v0 v1 => by
  unfold qG2
  split
  · rw [updI_e]
    split
    · exact hf2 r hr.1 hr.2
    · exact qG1_b hf hr hG v v0 v1
  · exact qG1_b hf hr hG v v0 v1
theorem qMr_m {p : Nat} : qMr fn fa fb nf one two fc p k (-1) G z ↔ qMx fn fa fb nf one two fc (p + 1) k G z := by
  unfold qMr
  rw [qMx]
  exact ⟨fun ⟨r, h, q⟩ => ⟨r, by omega, q⟩, fun ⟨r, h, q⟩ => ⟨r, by omega, q⟩⟩
theorem qMr_n {p : Nat} {r1 : Int} (h0 : r < r1 ∧ 0 ≤ r1 ∧ r1 < nf) (hok : qOk fn fa fb (fc k) r1 G) (hno : ∀ i, r < i → 0 ≤ i → i < r1 → ¬ qOk fn fa fb (fc k) i G) : qMr fn fa fb nf one two fc p k r G z ↔ qMx fn fa fb nf one two fc p (k + 1) (qG2 fa fb (fc k) r1 G) z ∨ qMr fn fa fb nf one two fc p k r1 G z := by
  constructor
  · rintro ⟨i, hi, ok, q⟩
    by_cases e : i = r1
    · rw [e] at q; exact Or.inl q
    · by_cases l : i < r1
      · exact absurd ok (hno i hi.1 hi.2.1 l)
      · exact Or.inr ⟨i, by omega, ok, q⟩
  · rintro (q | ⟨i, hi, ok, q⟩)
    · exact ⟨r1, h0, hok, q⟩
    · exact ⟨i, by omega, ok, q⟩
/-- from a row of a code to its end: what is noted on the way -/
theorem T56_lev (hx : 0 ≤ x ∧ x < 90) (hn : n = fs x ∧ n ≤ 4) (hnf : 0 ≤ nf ∧ nf ≤ 60) (hf : ∀ r, 0 ≤ r → r < nf → fa r < 12) (hf2 : ∀ r, 0 ≤ r → r < nf → fb r < 12) (hc : ∀ k, 0 ≤ k → k < n → 0 ≤ fc (4 * x + k)) (h1 : ff x < 6 ∧ fg x < 6) :
  ∀ (q : Nat) (k : Int) (G : Int → Int) (M : Nat), k + q + 1 = n → 0 ≤ k → (∀ v, 0 ≤ v → v < 6 → G v < 12) → ∀ (j : Nat) (r : Int), r + j = nf - 1 → -1 ≤ r →
  ∃ N : Nat, ∀ (K : (Int → Int) → (Int → Int) → (Int → Int) → (Int → Int) → (Int → Int) → Prop) (fo th rw_ sA sB : Int → Int), rw_ k = r → (r < 0 → th = G) → (0 ≤ r → th = qG2 fa fb (fc (4 * x + k)) r G ∧ (fc (4 * x + k) / 8 % 8 < 6 → sA k = G (fc (4 * x + k) / 8 % 8)) ∧ (fc (4 * x + k) % 8 < 6 → sB k = qG1 fa (fc (4 * x + k)) r G (fc (4 * x + k) % 8))) →
    (∀ fo' rw' sA' sB', qNt x (qMr fn fa fb nf (ff x) (fg x) (fun k => fc (4 * x + k)) q k r G) fo fo' → (∀ i, i < k → rw' i = rw_ i ∧ sA' i = sA i ∧ sB' i = sB i) → wX56_find_30 K x fn fa fb nf fs ff fg fc M (k - 1) fo' G rw' sA' sB') →
    wX56_find_30 K x fn fa fb nf fs ff fg fc N k fo th rw_ sA sB := fun q => by
  induction q with
  | zero =>
    intro k G M hk k0 hG j
    induction j using Nat.strongRecOn with
    | ind j ihj =>
      intro r hr r1
      by_cases ex : ∃ i, (r < i ∧ i < nf) ∧ qOk fn fa fb (fc (4 * x + k)) i G
      · have fs1 := fstI_s (fun i => r < i ∧ qOk fn fa fb (fc (4 * x + k)) i G) nf.toNat
        obtain ⟨i, hi, oki⟩ := ex
        obtain ⟨f1, f2, f3⟩ := fs1
        generalize fstI (fun i => r < i ∧ qOk fn fa fb (fc (4 * x + k)) i G) nf.toNat = s at f1 f2 f3
        have sl : s < nf := Classical.byContradiction (fun y => f3 i (by omega) (by omega) ⟨hi.1, oki⟩)
        have oks := f2 (by omega)
        have hno : ∀ i, r < i → 0 ≤ i → i < s → ¬ qOk fn fa fb (fc (4 * x + k)) i G := fun i a b c w => f3 i b c ⟨a, w⟩
        obtain ⟨N1, hN1⟩ := ihj (nf - 1 - s).toNat (by omega) s (by omega) (by omega)
        refine ⟨N1 + 1, fun K fo th rw_ sA sB er e0 e1 hK => ?_⟩
        have st : ∀ rw', rw' = updI rw_ k (r + 1) → ∃ fu, wX56_find_70 (fun (th rw_ sA sB : Int → Int) => wX56_find_111 (wX56_find_30 K x fn fa fb nf fs ff fg fc N1) x k nf fs ff fg fo th rw_ sA sB) k (fc (4 * x + k)) fn fa fb nf fu G rw' sA sB := fun rw' erw => by
          refine T56_f70 (hc k k0 (by omega)) (by omega) hnf (r := r + 1) (by omega) (by rw [erw, updI_s]) (fun r2 rw2 sA2 sB2 hb no2 ek2 hj2 => ⟨fun e2 => absurd oks.2 (no2 s (by omega) (by omega)), fun l2 ok2 a2 b2 => ?_⟩)
          have e2 : r2 = s := by
            by_cases u : r2 < s
            · exact absurd ok2 (hno r2 (by omega) (by omega) u)
            · by_cases u2 : s < r2
              · exact absurd oks.2 (no2 s (by omega) u2)
              · omega
          subst e2
          unfold wX56_find_111
          refine ⟨by omega, fun w => by omega, fun w => ⟨hx, by omega, fun w2 => T56_note (fn := fn) (fa := fa) (fb := fb) (nf := nf) (fc := fun k => fc (4 * x + k)) (k := k + 1) hx h1 (qG2_b hf hf2 ⟨f1.1, sl⟩ hG) (fun fo1 n1 => ?_), fun w2 => by omega⟩⟩
          refine hN1 K fo1 _ rw2 sA2 sB2 ek2 (fun w3 => by omega) (fun _ => ⟨rfl, a2, b2⟩) (fun fo2 rw3 sA3 sB3 n2 ag => hK fo2 rw3 sA3 sB3 ?_ (fun i hi => ?_))
          · exact qNt_t hx.1 n1 n2 (fun z => qMr_n (fc := fun k => fc (4 * x + k)) (k := k) ⟨oks.1, f1.1, sl⟩ oks.2 hno)
          · have p1 := ag i hi
            have p2 := hj2 i (by omega)
            rw [erw, updI_n (show ¬ i = k by omega)] at p2
            exact ⟨p1.1.trans p2.1, p1.2.1.trans p2.2.1, p1.2.2.trans p2.2.2⟩
        rw [wX56_find_30]
        refine ⟨fun w => by omega, fun w => ⟨by omega, fun c ec => ⟨by omega, fun w2 => ?_, fun w2 => ?_⟩⟩⟩
        · rw [ec, er, e0 (by omega)]
          exact ⟨by omega, fun v ev rw' erw => st rw' (by rw [erw, ev])⟩
        · obtain ⟨u1, u2, u3⟩ := e1 (by omega)
          rw [ec, er, u1]
          exact T56_undo (hc k k0 (by omega)) (by omega) u2 u3 ⟨by omega, fun v ev rw' erw => st rw' (by rw [erw, ev])⟩
      · refine ⟨M + 1, fun K fo th rw_ sA sB er e0 e1 hK => ?_⟩
        have st : ∀ rw', rw' = updI rw_ k (r + 1) → ∃ fu, wX56_find_70 (fun (th rw_ sA sB : Int → Int) => wX56_find_111 (wX56_find_30 K x fn fa fb nf fs ff fg fc M) x k nf fs ff fg fo th rw_ sA sB) k (fc (4 * x + k)) fn fa fb nf fu G rw' sA sB := fun rw' erw => by
          refine T56_f70 (hc k k0 (by omega)) (by omega) hnf (r := r + 1) (by omega) (by rw [erw, updI_s]) (fun r2 rw2 sA2 sB2 hb no2 ek2 hj2 => ⟨fun e2 => ?_, fun l2 ok2 a2 b2 => absurd ⟨r2, ⟨by omega, l2⟩, ok2⟩ ex⟩)
          unfold wX56_find_111
          refine ⟨by omega, fun w => ⟨by omega, fun k' ek' => ?_⟩, fun w => absurd (ek2.trans e2) w⟩
          rw [ek', show k + (-1) = k - 1 by omega]
          refine hK fo rw2 sA2 sB2 (qNt_0 (fun z => ?_)) (fun i hi => ?_)
          · rintro ⟨i, hi, ok, _⟩
            exact ex ⟨i, ⟨hi.1, hi.2.2⟩, ok⟩
          · have p2 := hj2 i (by omega)
            rw [erw, updI_n (show ¬ i = k by omega)] at p2
            exact p2
        rw [wX56_find_30]
        refine ⟨fun w => by omega, fun w => ⟨by omega, fun c ec => ⟨by omega, fun w2 => ?_, fun w2 => ?_⟩⟩⟩
        · rw [ec, er, e0 (by omega)]
          exact ⟨by omega, fun v ev rw' erw => st rw' (by rw [erw, ev])⟩
        · obtain ⟨u1, u2, u3⟩ := e1 (by omega)
          rw [ec, er, u1]
          exact T56_undo (hc k k0 (by omega)) (by omega) u2 u3 ⟨by omega, fun v ev rw' erw => st rw' (by rw [erw, ev])⟩
  | succ q ihq =>
    intro k G M hk k0 hG j
    induction j using Nat.strongRecOn with
    | ind j ihj =>
      intro r hr r1
      by_cases ex : ∃ i, (r < i ∧ i < nf) ∧ qOk fn fa fb (fc (4 * x + k)) i G
      · have fs1 := fstI_s (fun i => r < i ∧ qOk fn fa fb (fc (4 * x + k)) i G) nf.toNat
        obtain ⟨i, hi, oki⟩ := ex
        obtain ⟨f1, f2, f3⟩ := fs1
        generalize fstI (fun i => r < i ∧ qOk fn fa fb (fc (4 * x + k)) i G) nf.toNat = s at f1 f2 f3
        have sl : s < nf := Classical.byContradiction (fun y => f3 i (by omega) (by omega) ⟨hi.1, oki⟩)
        have oks := f2 (by omega)
        have hno : ∀ i, r < i → 0 ≤ i → i < s → ¬ qOk fn fa fb (fc (4 * x + k)) i G := fun i a b c w => f3 i b c ⟨a, w⟩
        obtain ⟨N1, hN1⟩ := ihj (nf - 1 - s).toNat (by omega) s (by omega) (by omega)
        obtain ⟨N2, hN2⟩ := ihq (k + 1) (qG2 fa fb (fc (4 * x + k)) s G) N1 (by omega) (by omega) (qG2_b hf hf2 ⟨f1.1, sl⟩ hG) nf.toNat (-1) (by omega) (by decide)
        refine ⟨N2 + 1, fun K fo th rw_ sA sB er e0 e1 hK => ?_⟩
        have st : ∀ rw', rw' = updI rw_ k (r + 1) → ∃ fu, wX56_find_70 (fun (th rw_ sA sB : Int → Int) => wX56_find_111 (wX56_find_30 K x fn fa fb nf fs ff fg fc N2) x k nf fs ff fg fo th rw_ sA sB) k (fc (4 * x + k)) fn fa fb nf fu G rw' sA sB := fun rw' erw => by
          refine T56_f70 (hc k k0 (by omega)) (by omega) hnf (r := r + 1) (by omega) (by rw [erw, updI_s]) (fun r2 rw2 sA2 sB2 hb no2 ek2 hj2 => ⟨fun e2 => absurd oks.2 (no2 s (by omega) (by omega)), fun l2 ok2 a2 b2 => ?_⟩)
          have e2 : r2 = s := by
            by_cases u : r2 < s
            · exact absurd ok2 (hno r2 (by omega) (by omega) u)
            · by_cases u2 : s < r2
              · exact absurd oks.2 (no2 s (by omega) u2)
              · omega
          subst e2
          unfold wX56_find_111
          refine ⟨by omega, fun w => by omega, fun w => ⟨hx, by omega, fun w2 => by omega, fun w2 k' ek' => ⟨by omega, fun rw3 erw3 => ?_⟩⟩⟩
          rw [ek']
          rw [ek'] at erw3
          refine hN2 K fo _ rw3 sA2 sB2 (by rw [erw3, updI_s]) (fun _ => rfl) (fun w3 => absurd w3 (by decide)) (fun fo1 rw4 sA4 sB4 n1 ag => ?_)
          rw [show k + 1 - 1 = k by omega]
          have agk := ag k (by omega)
          rw [erw3, updI_n (show ¬ k = k + 1 by omega)] at agk
          refine hN1 K fo1 _ rw4 sA4 sB4 (agk.1.trans ek2) (fun w3 => by omega) (fun _ => ⟨rfl, fun h => agk.2.1.trans (a2 h), fun h => agk.2.2.trans (b2 h)⟩) (fun fo2 rw5 sA5 sB5 n2 ag5 => hK fo2 rw5 sA5 sB5 ?_ (fun i hi => ?_))
          · refine qNt_t hx.1 n1 n2 (fun z => ?_)
            rw [qMr_n (fc := fun k => fc (4 * x + k)) (k := k) ⟨oks.1, f1.1, sl⟩ oks.2 hno, qMr_m]
          · have p1 := ag5 i hi
            have p3 := ag i (by omega)
            rw [erw3, updI_n (show ¬ i = k + 1 by omega)] at p3
            have p2 := hj2 i (by omega)
            rw [erw, updI_n (show ¬ i = k by omega)] at p2
            exact ⟨p1.1.trans (p3.1.trans p2.1), p1.2.1.trans (p3.2.1.trans p2.2.1), p1.2.2.trans (p3.2.2.trans p2.2.2)⟩
        rw [wX56_find_30]
        refine ⟨fun w => by omega, fun w => ⟨by omega, fun c ec => ⟨by omega, fun w2 => ?_, fun w2 => ?_⟩⟩⟩
        · rw [ec, er, e0 (by omega)]
          exact ⟨by omega, fun v ev rw' erw => st rw' (by rw [erw, ev])⟩
        · obtain ⟨u1, u2, u3⟩ := e1 (by omega)
          rw [ec, er, u1]
          exact T56_undo (hc k k0 (by omega)) (by omega) u2 u3 ⟨by omega, fun v ev rw' erw => st rw' (by rw [erw, ev])⟩
      · refine ⟨M + 1, fun K fo th rw_ sA sB er e0 e1 hK => ?_⟩
        have st : ∀ rw', rw' = updI rw_ k (r + 1) → ∃ fu, wX56_find_70 (fun (th rw_ sA sB : Int → Int) => wX56_find_111 (wX56_find_30 K x fn fa fb nf fs ff fg fc M) x k nf fs ff fg fo th rw_ sA sB) k (fc (4 * x + k)) fn fa fb nf fu G rw' sA sB := fun rw' erw => by
          refine T56_f70 (hc k k0 (by omega)) (by omega) hnf (r := r + 1) (by omega) (by rw [erw, updI_s]) (fun r2 rw2 sA2 sB2 hb no2 ek2 hj2 => ⟨fun e2 => ?_, fun l2 ok2 a2 b2 => absurd ⟨r2, ⟨by omega, l2⟩, ok2⟩ ex⟩)
          unfold wX56_find_111
          refine ⟨by omega, fun w => ⟨by omega, fun k' ek' => ?_⟩, fun w => absurd (ek2.trans e2) w⟩
          rw [ek', show k + (-1) = k - 1 by omega]
          refine hK fo rw2 sA2 sB2 (qNt_0 (fun z => ?_)) (fun i hi => ?_)
          · rintro ⟨i, hi, ok, _⟩
            exact ex ⟨i, ⟨hi.1, hi.2.2⟩, ok⟩
          · have p2 := hj2 i (by omega)
            rw [erw, updI_n (show ¬ i = k by omega)] at p2
            exact p2
        rw [wX56_find_30]
        refine ⟨fun w => by omega, fun w => ⟨by omega, fun c ec => ⟨by omega, fun w2 => ?_, fun w2 => ?_⟩⟩⟩
        · rw [ec, er, e0 (by omega)]
          exact ⟨by omega, fun v ev rw' erw => st rw' (by rw [erw, ev])⟩
        · obtain ⟨u1, u2, u3⟩ := e1 (by omega)
          rw [ec, er, u1]
          exact T56_undo (hc k k0 (by omega)) (by omega) u2 u3 ⟨by omega, fun v ev rw' erw => st rw' (by rw [erw, ev])⟩
end
