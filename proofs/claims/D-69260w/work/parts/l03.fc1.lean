/-! FacetCounts (X31): what its methods do, in plain words -/
def anyB (p : Nat → Bool) : Nat → Bool
  | 0 => false
  | n + 1 => anyB p n || p n
theorem anyB_iff {p : Nat → Bool} : ∀ {n : Nat}, anyB p n = true ↔ ∃ i, i < n ∧ p i = true
  | 0 => by simp [anyB]
  | n + 1 => by
    unfold anyB
    rw [Bool.or_eq_true, anyB_iff]
    constructor
    · rintro (⟨i, h, e⟩ | e)
      · exact ⟨i, by omega, e⟩
      · exact ⟨n, by omega, e⟩
    · rintro ⟨i, h, e⟩
      rcases Nat.lt_or_ge i n with q | q
      · exact Or.inl ⟨i, q, e⟩
      · have : i = n := by omega
        subst this
        exact Or.inr e
theorem bt_val {x : Int32} {k : Nat} (hk : k < 32) : (x >>> (nI k &&& 31)) &&& 1 = if bt x k then 1 else 0 := by
  cases h : bt x k with
  | true => exact (bt_test hk).mpr h
  | false => exact (bt_test0 hk).mpr h
def orF (b : Int32) (cl : Nat → Int32) : Nat → Int32
  | 0 => 0
  | k + 1 => if bt b k then orF b cl k ||| cl k else orF b cl k
theorem orF_bt (b : Int32) (cl : Nat → Int32) (v : Nat) : ∀ n, bt (orF b cl n) v = anyB (fun k => bt b k && bt (cl k) v) n
  | 0 => by simp [orF, anyB, b_0]
  | n + 1 => by
    unfold orF anyB
    rw [← orF_bt b cl v n]
    cases h : bt b n with
    | true => simp [b_or]
    | false => simp
def hasC (own cl : Nat → Int32) (t h : Nat) : Int32 := if h = 0 then orF (own (8 * t)) cl 32 else own (8 * t + h)
theorem i8 (t h : Nat) : (8 : Int32) * nI t + nI h = nI (8 * t + h) := by simp only [show (8 : Int32) = nI 8 from rfl, pk_mul, nI_add]
theorem i32 (t h : Nat) : (32 : Int32) * nI t + nI h = nI (32 * t + h) := by simp only [show (32 : Int32) = nI 32 from rfl, pk_mul, nI_add]
theorem X31_isIn {post : Int32 → Prop} {v n : Nat} (hv : v < n) (hn : n < 2 ^ 31) (hp : post 1) : wpX31_isIn post (nI v) (nI n) := by
  unfold wpX31_isIn
  exact ⟨fun c => absurd c (nI_pos (by omega)), fun _ => ⟨fun c => absurd c (nI_ge hv hn), fun _ => hp⟩⟩
/-- in or out: what is known then -/
theorem X31_isInE {post : Int32 → Prop} {x : Int32} (n : Nat) (hn : n < 2 ^ 31) (h1 : ∀ v, v < n → x = nI v → post 1) (h0 : (¬ ∃ v, v < n ∧ x = nI v) → post 0) : wpX31_isIn post x (nI n) := by
  unfold wpX31_isIn
  refine ⟨fun c => h0 ?_, fun c1 => ⟨fun c => h0 ?_, fun c2 => ?_⟩⟩
  · rintro ⟨v, hv, rfl⟩; exact nI_pos (by omega) c
  · rintro ⟨v, hv, rfl⟩; exact nI_ge hv hn c
  · obtain ⟨v, hv, e⟩ := nIx (x := x) (n := n) rfl hn (by grind) (by grind)
    exact h1 v hv e
theorem X31_has {post : Int32 → Prop} {own cl : Nat → Int32} {t h : Nat} (ht : t < 40) (hh : h < 8) (hp : post (hasC own cl t h)) : wpX31_has post own cl (nI t) (nI h) := by
  unfold wpX31_has
  rw [i8]
  refine ⟨vp_in_nI (by omega) (by omega), fun x3 hx3 => ⟨fun c => ?_, fun c => ?_⟩⟩
  · rw [nI_clamp (by omega)] at hx3
    have h0 : h = 0 := by have := (nI_leI (a := h) (b := 0) (by omega) (by omega)).mp c; omega
    subst h0
    simp only [hasC, if_true] at hp
    rw [Nat.add_zero] at hx3
    subst hx3
    refine nloop (fun n (s : Int32 × Int32) => wX31_has_24 (fun x => post x) (own (8 * t)) cl n s.1 s.2) (fun k => (orF (own (8 * t)) cl k, nI k)) 32 (Nat.zero_le 32) (fun n k _ hk ih => ?_) (fun n => ?_)
    · show wX31_has_24 _ _ _ (n + 1) (orF (own (8 * t)) cl k) (nI k)
      rw [wX31_has_24]
      refine ⟨fun c => absurd c (nI_ge hk (by decide)), fun _ => ⟨fun c => ⟨vp_in_nI hk (by decide), fun x4 e4 x5 e5 => ?_⟩, fun c x5 e5 => ?_⟩⟩
      · rw [bt_test hk] at c
        rw [nI_clamp (by omega)] at e4
        rw [e4, e5, nI_1]
        simpa only [orF, c, if_true] using ih
      · rw [bt_test hk] at c
        rw [e5, nI_1]
        have c' : bt (own (8 * t)) k = false := by simpa using c
        simpa only [orF, c', if_false, Bool.false_eq_true] using ih
    · show wX31_has_24 _ _ _ (n + 1) (orF (own (8 * t)) cl 32) (nI 32)
      rw [wX31_has_24]
      exact ⟨fun _ => hp, fun c => absurd (Int32.le_refl _) c⟩
  · rw [nI_clamp (by omega)] at hx3
    have h0 : ¬ h = 0 := by intro e; subst e; exact c (Int32.le_refl _)
    rw [hx3]
    simpa only [hasC, h0, if_false] using hp
def ffail (own cl ch : Nat → Int32) (t h : Nat) : Bool := !decide (ch h = 0) && decide (hasC own cl t h &&& ch h = 0)
def nfail (own cl ch : Nat → Int32) (t : Nat) : Nat := cnt (fun h => ffail own cl ch t h) 8
def fbut (own cl ch : Nat → Int32) (t h : Nat) : Bool := decide (nfail own cl ch t = if ffail own cl ch t h then 1 else 0)
def cbt (own cl ch : Nat → Int32) (t h v : Nat) : Bool := fbut own cl ch t h && bt (hasC own cl t h) v
theorem X31_failsAt {post : Int32 → Prop} {own cl ch : Nat → Int32} {t h : Nat} (ht : t < 40) (hh : h < 8) (hp : post (if ffail own cl ch t h then 1 else 0)) : wpX31_failsAt post own cl ch (nI t) (nI h) := by
  unfold wpX31_failsAt
  rw [nI_clamp (by omega)]
  refine ⟨vp_in_nI hh (by decide), fun c => ?_, fun c => ?_⟩
  · simpa [ffail, c] using hp
  · refine X31_has ht hh ⟨vp_in_nI hh (by decide), fun d => ?_, fun d => ?_⟩
    · simpa [ffail, c, d] using hp
    · simpa [ffail, c, d] using hp
theorem nfail_le (own cl ch : Nat → Int32) (t : Nat) : nfail own cl ch t ≤ 8 := cnt_le _ 8
theorem X31_isKeptBut {post : Int32 → Prop} {own cl ch fl : Nat → Int32} {t h : Nat} (ht : t < 40) (hh : h < 8) (hf : fl t = nI (nfail own cl ch t)) (hp : post (if fbut own cl ch t h then 1 else 0)) : wpX31_isKeptBut post own cl ch fl (nI t) (nI h) := by
  unfold wpX31_isKeptBut
  have hle := nfail_le own cl ch t
  rw [nI_clamp (by omega), hf]
  refine ⟨vp_in_nI ht (by decide), X31_failsAt ht hh ⟨fun c => ?_, fun c => ?_⟩⟩
  · have hb : ffail own cl ch t h = false := by
      cases e : ffail own cl ch t h with
      | false => rfl
      | true => rw [e] at c; simp at c
    have e0 : nI (nfail own cl ch t) - 0 = nI (nfail own cl ch t) := by grind
    rw [e0]
    refine ⟨fun d => ?_, fun d => ?_⟩
    · have := (nI_eq (a := nfail own cl ch t) (b := 0) (by omega) (by omega)).mp d
      simpa [fbut, hb, this] using hp
    · have : ¬ nfail own cl ch t = 0 := fun q => d (by rw [q]; rfl)
      simpa [fbut, hb, this] using hp
  · have hb : ffail own cl ch t h = true := by
      cases e : ffail own cl ch t h with
      | true => rfl
      | false => rw [e] at c; simp at c
    refine ⟨fun d => ?_, fun d => ?_⟩
    · have d' : nI (nfail own cl ch t) = nI 1 := by have : nI 1 = 1 := rfl; grind
      have := (nI_eq (a := nfail own cl ch t) (b := 1) (by omega) (by omega)).mp d'
      simpa [fbut, hb, this] using hp
    · have : ¬ nfail own cl ch t = 1 := fun q => d (by rw [q]; rfl)
      simpa [fbut, hb, this] using hp
