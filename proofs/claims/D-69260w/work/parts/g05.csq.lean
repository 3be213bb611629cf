/-! for PLAN-cs alone: rows of vt5 -/
def vtQ (q : Int → Int) (o : Int) (L : List Int) : Prop := ∀ i : Nat, i < L.length → q (o + i) = L.getD i 0
theorem vtQ_one {q : Int → Int} {o v : Int} {L : List Int} (h : vtQ q o L) : vtQ (updI q (o + L.length) v) o (L ++ [v]) := by
  intro i hi
  rw [List.length_append, List.length_singleton] at hi
  by_cases e : i = L.length
  · subst e
    rw [updI_s]
    simp
  · rw [updI_n (by omega), h i (by omega)]
    simp [List.getD_eq_getElem?_getD, List.getElem?_append_left (show i < L.length by omega)]
theorem cntI_u {p q : Int → Prop} {x0 : Int} (h0 : 0 ≤ x0) (hp : ¬ p x0) (hq : q x0) (he : ∀ x, x ≠ x0 → (p x ↔ q x)) : ∀ N : Nat, cntI q N = cntI p N + if x0 < N then 1 else 0
  | 0 => by rw [if_neg (by omega)]; rfl
  | N + 1 => by
    have ih := cntI_u h0 hp hq he N
    show cntI q N + pif (q N) 1 0 = cntI p N + pif (p N) 1 0 + _
    by_cases h : (N : Int) = x0
    · rw [if_pos (by omega)]
      rw [if_neg (by omega)] at ih
      rw [h, pif_t hq, pif_f hp, ih]
    · have e : (pif (q N) 1 0 : Int) = pif (p N) 1 0 := by
        by_cases w : p N
        · rw [pif_t w, pif_t ((he N h).mp w)]
        · rw [pif_f w, pif_f (fun y => w ((he N h).mpr y))]
      rw [ih, e]
      by_cases h2 : x0 < (N : Int)
      · rw [if_pos h2, if_pos (by omega)]; omega
      · rw [if_neg h2, if_neg (by omega)]; omega
