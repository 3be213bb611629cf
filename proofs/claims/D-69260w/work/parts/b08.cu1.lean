/-! one more that counts -/
theorem cntI_u1 {p q : Int → Prop} {x0 : Int} (h0 : 0 ≤ x0) (hp : ¬ p x0) (hq : q x0) (he : ∀ x, x ≠ x0 → (p x ↔ q x)) : ∀ N : Nat, cntI q N = cntI p N + if x0 < N then 1 else 0
  | 0 => by rw [if_neg (by omega)]; rfl
  | N + 1 => by
    have ih := cntI_u1 h0 hp hq he N
    show cntI q N + pif (q N) 1 0 = cntI p N + pif (p N) 1 0 + _
    by_cases h : (N : Int) = x0
    · rw [if_pos (by omega)]
      rw [if_neg (by omega)] at ih
      rw [h, pif_t hq, pif_f hp, ih]
    · have e : (pif (q N) 1 0 : Int) = pif (p N) 1 0 := by
        by_cases w : p N
        · rw [pif_t w, pif_t ((he N h).mp w)]
        · rw [pif_f w, pif_f (fun y => w ((he N h).mpr y))]
      rw [ih, e]
      by_cases h2 : x0 < (N : Int)
      · rw [if_pos h2, if_pos (by omega)]; omega
      · rw [if_neg h2, if_neg (by omega)]; omega
