/-! ProofChecker: sentences; the reference (X50) -/
def pcTl : List Int := [418632003437, 0, 444150998382, 0, 115948873149542, 0, 422608400247, 0, 8102661208121963625, 25971, 0, 427020088179, 0, 8102661208121963641, 0, 108187666181747, 0, 465557349491, 0, 111503598970226, 0, 32765938003961704, 0, 478694368626, 0, 1937203568, 0, 435695214956, 0, 7302757, 0, 418497262196, 0, 7237492, 0, 7020682409992089191, 0, 31084793196801639, 0, 7165066978583995497, 427154829166, 0, 109317142573856, 0, 512852325408, 0, 2335524464695274607, 8583970206910739232, 0, 2335524464695274607, 30496, 0, 2333539051756221216, 7022273356252603244, 1634956064, 0, 2336353775669944436, 8007516080650284129, 7566112, 0, 2333267458273799265, 7566112, 0, 2334957413328778344, 491496236904, 0, 2334957413328774505, 8388065846822920569, 0, 543781664, 0, 2336353775669944436, 477285543525, 0, 2335524464897258528, 0, 2335524464712507763, 29472, 0, 32, 0, 2335223567922261615, 8388070228875045230, 9116529483149166, 0, 2338608890057290856, 111540845371769, 0, 11808, 0, 189521885472, 0, 35624378658080, 0, 139073578016, 0, 46, 0]
def pcTab (i : Int) : Int := pcTl.getD i.toNat 0
def pcStl : List Int := [0, 2, 4, 6, 8, 11, 13, 15, 17, 19, 21, 23, 25, 27, 29, 31, 33, 35, 37, 39, 42, 44, 46, 49, 52, 56, 60, 63, 66, 69, 71, 74, 76, 79, 81, 85, 88, 90, 92, 94, 96, 98]
def pcSt (p : Int) : Int := pcStl.getD p.toNat 0
/-- phrases, letter by letter -/
def pcPl_ : List (List Int) := [[97, 120, 105, 111, 109], [103, 105, 118, 101, 110], [105, 116, 115, 101, 108, 102], [98, 101, 108, 111, 119], [112, 114, 111, 112, 101, 114, 116, 105, 101, 115], [99, 108, 97, 115, 115], [112, 114, 111, 112, 101, 114, 116, 121], [98, 101, 103, 105, 110, 115], [108, 101, 97, 100, 115], [101, 105, 116, 104, 101, 114], [116, 104, 114, 111, 117, 103, 104], [111, 116, 104, 101, 114], [115, 119, 97, 112], [101, 113, 117, 97, 108], [111, 110, 101], [97, 112, 97, 114, 116], [110, 111, 116], [97, 110, 121, 116, 104, 105, 110, 103], [110, 111, 116, 104, 105, 110, 103], [99, 111, 110, 116, 114, 97, 100, 105, 99, 116, 105, 111, 110], [99, 108, 97, 115, 115, 32], [119, 104, 97, 116, 32], [32, 105, 115, 32, 98, 101, 108, 111, 119, 32, 99, 108, 97, 115, 115, 32], [32, 105, 115, 32, 98, 101, 108, 111, 119, 32], [32, 98, 101, 103, 105, 110, 115, 32, 97, 116, 32, 105, 115, 32, 99, 108, 97, 115, 115, 32], [32, 108, 101, 97, 100, 115, 32, 116, 111, 32, 105, 115, 32, 99, 108, 97, 115, 115, 32], [32, 97, 110, 100, 32, 99, 108, 97, 115, 115, 32], [32, 103, 111, 101, 115, 32, 116, 104, 114, 111, 117, 103, 104], [32, 103, 111, 101, 115, 32, 101, 105, 116, 104, 101, 114, 32, 119, 97, 121], [32, 105, 115, 32], [32, 108, 101, 97, 100, 115, 32, 116, 111, 32, 111, 110, 101], [32, 105, 115, 32, 110, 111, 116, 32], [32, 105, 115, 32, 99, 108, 97, 115, 115, 32], [32], [32, 104, 97, 118, 101, 32, 110, 111, 116, 104, 105, 110, 103, 32, 105, 110, 32, 99, 111, 109, 109, 111, 110], [32, 116, 104, 101, 32, 111, 116, 104, 101, 114, 32, 119, 97, 121], [46, 32], [44, 32, 98, 121, 32], [32, 102, 114, 111, 109, 32], [32, 97, 110, 100, 32], [46]]
def pcPh (p : Nat) : List Int := pcPl_.getD p []
def pcNu (v : Int) : List Int := if v < 10 then [48 + v] else if v < 100 then [48 + v / 10, 48 + v % 10] else [48 + v / 100, 48 + v / 10 % 10, 48 + v % 10]
theorem pcNu_l (v : Int) : (pcNu v).length ≤ 3 := by unfold pcNu; split <;> (try split) <;> simp
theorem pcPh_l : ∀ p : Nat, (pcPh p).length ≤ 24 := by
  have h : ∀ p : Nat, p < 41 → (pcPh p).length ≤ 24 := by decide
  intro p
  by_cases hp : p < 41
  · exact h p hp
  · have e : pcPl_.length = 41 := by decide
    have : pcPh p = [] := by
      unfold pcPh
      rw [List.getD_eq_getElem?_getD, List.getElem?_eq_none (by omega)]; rfl
    rw [this]; decide
/-- a row of letters holds a text -/
def txB (t : Int → Int) (s : Int) (L : List Int) : Prop := s = L.length ∧ ∀ i : Nat, i < L.length → t i = L.getD i 0
theorem txB_nil {t : Int → Int} : txB t 0 [] := ⟨rfl, fun i h => absurd h (by simp)⟩
theorem txB_one {t : Int → Int} {s v : Int} {L : List Int} (h : txB t s L) : txB (updI t s v) (s + 1) (L ++ [v]) := by
  obtain ⟨h1, h2⟩ := h
  subst h1
  refine ⟨by simp, fun i hi => ?_⟩
  rw [List.length_append, List.length_singleton] at hi
  by_cases e : i = L.length
  · subst e
    rw [updI_s]
    simp
  · rw [updI_n (by omega), h2 i (by omega)]
    simp [List.getD_eq_getElem?_getD, List.getElem?_append_left (show i < L.length by omega)]
theorem pcTab_f : ∀ q : Nat, q < 41 → (0 ≤ pcSt q ∧ pcSt q ≤ pcSt (q + 1) - 1 ∧ pcSt (q + 1) - 1 < 98) ∧ pcTab (pcSt (q + 1) - 1) = 0 := by decide
theorem pcTab_n : ∀ q : Nat, q < 41 → ∀ i : Nat, i < 98 → pcSt q ≤ i → (i : Int) < pcSt (q + 1) - 1 → pcTab i ≠ 0 := by decide +kernel
def pcBy (w : Int) : Nat → List Int
  | 0 => []
  | m + 1 => pcBy w m ++ (if w / 2 ^ (56 - 8 * m) % 256 = 0 then [] else [w / 2 ^ (56 - 8 * m) % 256])
def pcPa (s : Int) : Nat → List Int
  | 0 => []
  | j + 1 => pcPa s j ++ pcBy (pcTab (s + j)) 8
theorem pcPa_ph : ∀ p : Nat, p < 41 → pcPa (pcSt p) (pcSt (p + 1) - 1 - pcSt p).toNat = pcPh p := by decide +kernel
theorem pcBy_l (w : Int) : ∀ m, (pcBy w m).length ≤ m
  | 0 => by unfold pcBy; simp
  | m + 1 => by
    have := pcBy_l w m
    unfold pcBy
    rw [List.length_append]
    split <;> simp <;> omega
theorem pcPa_l (s : Int) : ∀ j, (pcPa s j).length ≤ 8 * j
  | 0 => by unfold pcPa; simp
  | j + 1 => by
    have := pcPa_l s j
    have := pcBy_l (pcTab (s + j)) 8
    unfold pcPa
    rw [List.length_append]; omega
section
variable {ph t : Int → Int} {s : Int} {L : List Int}
theorem T50_p49 {K : (Int → Int) → Int → Prop} {x : Int} (hph : ∀ i, 0 ≤ i → i < 98 → ph i = pcTab i) (hx : 0 ≤ x ∧ x < 98) (B : txB t s L) (hl : L.length ≤ 390) (hp : ∀ t' s', txB t' s' (L ++ pcBy (pcTab x) 8) → K t' s') : ∃ fu, wX50_put_49 K x ph fu 56 t s := by
  refine wl3 (fun m y t s => wX50_put_49 K x ph m y t s) (fun y t s => ∃ m : Nat, m ≤ 8 ∧ y = 56 - 8 * (m : Int) ∧ txB t s (L ++ pcBy (pcTab x) m)) (fun y _ _ => (y + 8).toNat) ?_ 56 t s ⟨0, by omega, by omega, by simpa [pcBy] using B⟩
  rintro y t s ⟨m, hm, hy, B1⟩ f ih
  rw [wX50_put_49]
  have bl := pcBy_l (pcTab x) m
  have e0 := B1.1
  rw [List.length_append] at e0
  refine ⟨fun z => ?_, fun z => ⟨hx, by omega, by omega, fun b eb => ?_⟩⟩
  · have : m = 8 := by omega
    subst this
    exact hp t s B1
  · rw [hph x hx.1 hx.2, show y.toNat = 56 - 8 * m by omega] at eb
    refine ⟨fun c => ⟨by omega, fun _ e1 => ?_⟩, fun c => ⟨by omega, fun _ e1 => ⟨by omega, fun _ e2 => ⟨by omega, fun _ e3 => ?_⟩⟩⟩⟩
    · subst e1
      refine ih _ _ _ ⟨m + 1, by omega, by omega, ?_⟩ (by omega)
      rw [pcBy, ← eb, if_pos c, List.append_nil]; exact B1
    · subst e1 e2 e3
      refine ih _ _ _ ⟨m + 1, by omega, by omega, ?_⟩ (by omega)
      rw [pcBy, ← eb, if_neg c, ← List.append_assoc]
      exact txB_one B1
theorem T50_put {post : (Int → Int) → Int → Prop} {p : Nat} (hph : ∀ i, 0 ≤ i → i < 98 → ph i = pcTab i) (hp41 : p < 41) (B : txB t s L) (hl : L.length ≤ 360) (hp : ∀ t' s', txB t' s' (L ++ pcPh p) → post t' s') : wpX50_put post ph t s p := by
  unfold wpX50_put
  refine wl2 (fun m x q => wX50_put_4 _ (p : Int) ph m x q) (fun x q => (0 ≤ q ∧ q ≤ p) ∧ x = pcSt q) (fun x q => ((p : Int) - q).toNat) ?_ 0 0 ⟨by omega, rfl⟩
  rintro x q ⟨hq, ex⟩ f ih
  rw [wX50_put_4]
  refine ⟨fun z => ?_, fun z => ?_⟩
  · have eq : q = p := by omega
    subst eq
    subst ex
    have F := pcTab_f p hp41
    have N := pcTab_n p hp41
    have lb : ∀ j : Nat, j ≤ (pcSt (p + 1) - 1 - pcSt p).toNat → (pcPa (pcSt p) j).length ≤ 8 * j := fun j _ => pcPa_l _ j
    have l3 : ∀ q : Nat, q < 41 → (pcSt (q + 1) - 1 - pcSt q) ≤ 3 := by decide
    have l3 := l3 p hp41
    refine wl3 (fun m x t s => wX50_put_35 _ ph m x t s) (fun x t s => ∃ j : Nat, x = pcSt p + j ∧ x ≤ pcSt (p + 1) - 1 ∧ txB t s (L ++ pcPa (pcSt p) j)) (fun x _ _ => (98 - x).toNat) ?_ _ t s ⟨0, by omega, by omega, by simpa [pcPa] using B⟩
    rintro x t s ⟨j, hx, hx2, B1⟩ f2 ih2
    rw [wX50_put_35]
    have al := pcPa_l (pcSt p) j
    refine ⟨by omega, fun c => ?_, fun c => ?_⟩
    · rw [hph x (by omega) (by omega)] at c
      have xe : x = pcSt (p + 1) - 1 := by
        by_cases h : x = pcSt (p + 1) - 1
        · exact h
        · have := N x.toNat (by omega) (by omega) (by omega)
          rw [show ((x.toNat : Nat) : Int) = x by omega] at this
          exact absurd c this
      have je : j = (pcSt (p + 1) - 1 - pcSt p).toNat := by omega
      rw [je, pcPa_ph p hp41] at B1
      exact hp t s B1
    · have xn : x ≠ pcSt (p + 1) - 1 := fun e => by rw [hph x (by omega) (by omega), e] at c; exact c F.2
      refine T50_p49 hph (by omega) B1 (by rw [List.length_append]; omega) (fun t' s' B2 => ⟨by omega, fun _ e1 => ?_⟩)
      subst e1
      refine ih2 _ _ _ ⟨j + 1, by omega, by omega, ?_⟩ (by omega)
      rw [pcPa, ← hx, ← List.append_assoc]; exact B2
  · obtain ⟨q', eq'⟩ : ∃ q' : Nat, q = q' := ⟨q.toNat, by omega⟩
    subst eq'
    have F := pcTab_f q' (by omega)
    have N := pcTab_n q' (by omega)
    subst ex
    refine wloop (fun m x => wX50_put_9 _ ph m x) (fun x => pcSt q' ≤ x ∧ x ≤ pcSt (q' + 1) - 1) (fun x => (98 - x).toNat) ?_ _ ⟨by omega, by omega⟩
    rintro x hx f2 ih2
    rw [wX50_put_9]
    refine ⟨by omega, fun c => ?_, fun c => ⟨by omega, fun _ e1 => ?_⟩⟩
    · rw [hph x (by omega) (by omega)] at c
      have xe : x = pcSt (q' + 1) - 1 := by
        by_cases h : x = pcSt (q' + 1) - 1
        · exact h
        · have := N x.toNat (by omega) (by omega) (by omega)
          rw [show ((x.toNat : Nat) : Int) = x by omega] at this
          exact absurd c this
      refine ⟨by omega, fun _ e1 => ⟨by omega, fun _ e2 => ?_⟩⟩
      subst e1 e2
      exact ih _ _ ⟨by omega, by omega⟩ (by omega)
    · subst e1
      have xn : x ≠ pcSt (q' + 1) - 1 := fun e => by rw [hph x (by omega) (by omega), e] at c; exact c F.2
      exact ih2 _ (by omega) (by omega)
theorem T50_num {post : (Int → Int) → Int → Prop} {v : Int} (hv : 0 ≤ v ∧ v < 1000) (B : txB t s L) (hl : L.length ≤ 390) (hp : ∀ t' s', txB t' s' (L ++ pcNu v) → post t' s') : wpX50_number post t s v := by
  have e0 := B.1
  have td : ∀ u : Int, u = 1 ∨ u = 10 ∨ u = 100 → Int.tdiv v u = v / u := fun u hu => Int.tdiv_eq_ediv_of_nonneg hv.1
  unfold wpX50_number
  -- digits from unit u down
  have dig : ∀ u : Int, (u = 1 ∧ v < 10 ∨ u = 10 ∧ 10 ≤ v ∧ v < 100 ∨ u = 100 ∧ 100 ≤ v) → ∃ fu, wX50_number_20 (fun f_text_29 f_size_30 => post f_text_29 f_size_30) v fu u t s := by
    intro u hu
    have one : ∀ (f : Nat) (t : Int → Int) (s : Int) (L : List Int), txB t s L → (L.length ≤ 395) → (∀ t' s', txB t' s' (L ++ [48 + v % 10]) → post t' s') → wX50_number_20 (fun f_text_29 f_size_30 => post f_text_29 f_size_30) v (f + 2) 1 t s := by
      intro f t s L B hl hp
      have e0 := B.1
      rw [wX50_number_20]
      dsimp only
      rw [td 1 (by omega), Int.ediv_one]
      refine ⟨fun z => absurd z (by decide), fun _ => ⟨by decide, by omega, by omega, by omega, fun _ e1 => ⟨by omega, fun _ e2 => ⟨by omega, fun _ e3 => ⟨by decide, fun _ e4 => ?_⟩⟩⟩⟩⟩
      subst e1 e2 e3 e4
      rw [wX50_number_20]
      exact ⟨fun _ => hp _ _ (txB_one B), fun z => absurd (by decide) z⟩
    have ten : ∀ (f : Nat) (t : Int → Int) (s : Int) (L : List Int), txB t s L → (L.length ≤ 394) → (∀ t' s', txB t' s' (L ++ [48 + v / 10 % 10, 48 + v % 10]) → post t' s') → wX50_number_20 (fun f_text_29 f_size_30 => post f_text_29 f_size_30) v (f + 3) 10 t s := by
      intro f t s L B hl hp
      have e0 := B.1
      rw [wX50_number_20]
      dsimp only
      rw [td 10 (by omega)]
      refine ⟨fun z => absurd z (by decide), fun _ => ⟨by decide, by omega, by omega, by omega, fun _ e1 => ⟨by omega, fun _ e2 => ⟨by omega, fun _ e3 => ⟨by decide, fun _ e4 => ?_⟩⟩⟩⟩⟩
      subst e1 e2 e3 e4
      refine one f _ _ _ (txB_one B) (by simp; omega) (fun t' s' B' => hp t' s' ?_)
      rw [List.append_assoc] at B'; exact B'
    unfold pcNu at hp
    rcases hu with ⟨rfl, h⟩ | ⟨rfl, h⟩ | ⟨rfl, h⟩
    · rw [if_pos h] at hp
      exact ⟨2, one 0 t s L B (by omega) (fun t' s' B' => hp t' s' (by rw [show v % 10 = v by omega] at B'; exact B'))⟩
    · rw [if_neg (by omega), if_pos h.2] at hp
      exact ⟨3, ten 0 t s L B (by omega) (fun t' s' B' => hp t' s' (by rw [show v / 10 % 10 = v / 10 by omega] at B'; exact B'))⟩
    · rw [if_neg (by omega), if_neg (by omega)] at hp
      refine ⟨4, ?_⟩
      rw [wX50_number_20]
      dsimp only
      rw [td 100 (by omega)]
      refine ⟨fun z => absurd z (by decide), fun _ => ⟨by decide, by omega, by omega, by omega, fun _ e1 => ⟨by omega, fun _ e2 => ⟨by omega, fun _ e3 => ⟨by decide, fun _ e4 => ?_⟩⟩⟩⟩⟩
      subst e1 e2 e3 e4
      refine ten 0 _ _ _ (txB_one B) (by simp; omega) (fun t' s' B' => hp t' s' ?_)
      rw [List.append_assoc] at B'
      rw [show v / 100 % 10 = v / 100 by omega] at B'; exact B'
  refine ⟨4, ?_⟩
  rw [wX50_number_2]
  dsimp only
  rw [td 1 (by omega), Int.ediv_one]
  refine ⟨by decide, by omega, fun z => dig 1 (by omega), fun z => ⟨by decide, fun _ e1 => ?_⟩⟩
  subst e1
  rw [show (1 : Int) * 10 = 10 from rfl, wX50_number_2]
  dsimp only
  rw [td 10 (by omega)]
  refine ⟨by decide, by omega, fun z => dig 10 (by omega), fun z => ⟨by decide, fun _ e1 => ?_⟩⟩
  subst e1
  rw [show (10 : Int) * 10 = 100 from rfl, wX50_number_2]
  dsimp only
  rw [td 100 (by omega)]
  exact ⟨by decide, by omega, fun z => dig 100 (by omega), fun z => by omega⟩
end
