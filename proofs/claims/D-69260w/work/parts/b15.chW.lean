/-! CanonNames (room CN): digests -/
theorem va_up_s {α : Type} {f : Nat → α} {a : Nat} {v : α} : va_up f a v a = v := va_up_self _ _ _
theorem va_up_n {α : Type} {f : Nat → α} {a b : Nat} {v : α} (h : b ≠ a) : va_up f a v b = f b := va_up_ne _ _ h
theorem sg2_K {t : Int} (h : 0 ≤ t ∧ t < 64) : zTab sg2 t = w32 (shK t) := by
  have e : ∀ n : Nat, n < 64 → (sg2 n).toInt = w32 (shK (n : Int)) := by decide
  have := e t.toNat (by omega)
  rw [show ((t.toNat : Nat) : Int) = t by omega] at this
  exact this
theorem sg1_W {t : Int} (h : 0 ≤ t ∧ t < 8) : zF sg1 t = w32 (shW0 t) := by
  have e : ∀ n : Nat, n < 8 → (sg1 n).toInt = w32 (shW0 (n : Int)) := by decide
  have := e t.toNat (by omega)
  rw [show ((t.toNat : Nat) : Int) = t by omega] at this
  unfold zF
  rw [if_pos h.1]
  exact this
theorem w32_a4 (a b c d : Int) : w32 (w32 (w32 (w32 a + w32 b) + w32 c) + w32 d) = w32 (((a + b) + c) + d) := by rw [w32_add a b, w32_add (a + b) c, w32_add (a + b + c) d]
theorem w32_a5 (a b c d e : Int) : w32 (w32 (w32 (w32 (w32 a + w32 b) + w32 c) + w32 d) + w32 e) = w32 ((((a + b) + c) + d) + e) := by rw [w32_a4 a b c d, w32_add (a + b + c + d) e]
/-- a byte put into a word -/
theorem zor_put {u c : Int} {s : Nat} (hu : zU u) (hc : 0 ≤ c ∧ c < 256) (hs : s ≤ 24) {q : Int} (eu : u = q * 2 ^ (s + 8)) : zor (w32 u) (w32 (c * 2 ^ s)) = w32 (u + c * 2 ^ s) := by
  have hp : (0 : Int) < 2 ^ s := Int.pow_pos (by decide)
  have hcs : 0 ≤ c * 2 ^ s ∧ c * 2 ^ s < 2 ^ (s + 8) := by
    refine ⟨Int.mul_nonneg hc.1 (Int.le_of_lt hp), ?_⟩
    rw [Int.pow_add, Int.mul_comm]
    exact Int.mul_lt_mul_of_pos_left (by have : (2 : Int) ^ 8 = 256 := by decide
                                         omega) hp
  have lo : ∀ k : Nat, k < s + 8 → zb (u + c * 2 ^ s) k = zb (c * 2 ^ s) k := fun k hk => by
    rw [eu, Int.add_comm, zb_addp hk]
  have lu : ∀ k : Nat, k < s + 8 → zb u k = 0 := fun k hk => by
    have := zb_addp (x := 0) (q := q) hk
    rw [Int.zero_add] at this
    rw [eu, this, zb_zero]
  have hi : ∀ k : Nat, s + 8 ≤ k → zb (u + c * 2 ^ s) k = zb u k := fun k hk => by
    have a := zb_sp (a := q) hcs.1 hcs.2 k
    have b := zb_sp (a := q) (r := 0) (t := s + 8) (by decide) (Int.pow_pos (by decide)) k
    rw [if_neg (by omega)] at a b
    rw [Int.add_zero] at b
    rw [eu, Int.mul_comm q, a, b]
  refine zb_ext32 (zr_or32 _ _) (zR_w32 _) (fun k hk => ?_)
  rw [zb_or32 (zR_w32 _) (zR_w32 _) hk, zb_w32 hk, zb_w32 hk, zb_w32 hk]
  by_cases z : k < s + 8
  · rw [lo k z, lu k z]
    exact ⟨fun w => w.resolve_left (by decide), Or.inr⟩
  · rw [hi k (by omega), zb_hp hcs.1 hcs.2 (by omega)]
    exact ⟨fun w => w.resolve_right (by decide), Or.inl⟩
theorem zshl_p {c : Int} (hc : zR c) : zshl c 24 = w32 (c * 16777216) ∧ zshl c 16 = w32 (c * 65536) ∧ zshl c 8 = w32 (c * 256) ∧ zshl c 0 = w32 (c * 1) := by
  have ea : (Int32.ofInt c).toInt = c := by rw [z_of, w32_id hc]
  exact ⟨z_shlw (a := Int32.ofInt c) (m := Int32.ofInt 24) (k := 24) ea ⟨by decide, by decide, by decide⟩, z_shlw (a := Int32.ofInt c) (m := Int32.ofInt 16) (k := 16) ea ⟨by decide, by decide, by decide⟩, z_shlw (a := Int32.ofInt c) (m := Int32.ofInt 8) (k := 8) ea ⟨by decide, by decide, by decide⟩, z_shlw (a := Int32.ofInt c) (m := Int32.ofInt 0) (k := 0) ea ⟨by decide, by decide, by decide⟩⟩
theorem zushr_p {u : Int} (hu : zU u) : zushr (w32 u) 24 % 256 = u / 16777216 % 256 ∧ zushr (w32 u) 16 % 256 = u / 65536 % 256 ∧ zushr (w32 u) 8 % 256 = u / 256 % 256 ∧ zushr (w32 u) 0 % 256 = u % 256 := by
  have ea : (Int32.ofInt (w32 u)).toInt = w32 u := by rw [z_of, w32_id (zR_w32 u)]
  have e1 : zushr (w32 u) 24 = (w32 u % 4294967296) / 16777216 := z_ushr (a := Int32.ofInt (w32 u)) (m := Int32.ofInt 24) (k := 24) ea ⟨by decide, by decide, by decide⟩ (by decide)
  have e2 : zushr (w32 u) 16 = (w32 u % 4294967296) / 65536 := z_ushr (a := Int32.ofInt (w32 u)) (m := Int32.ofInt 16) (k := 16) ea ⟨by decide, by decide, by decide⟩ (by decide)
  have e3 : zushr (w32 u) 8 = (w32 u % 4294967296) / 256 := z_ushr (a := Int32.ofInt (w32 u)) (m := Int32.ofInt 8) (k := 8) ea ⟨by decide, by decide, by decide⟩ (by decide)
  have e4 : zushr (w32 u) 0 = w32 u := by
    unfold zushr
    have : (Int32.ofInt 0).toUInt32 &&& Int32.toUInt32 31 = 0 := by decide
    rw [this, UInt32.shiftRight_zero]
    exact ea
  rw [e1, e2, e3, e4, w32_m hu]
  refine ⟨rfl, rfl, rfl, ?_⟩
  have := w32_u u
  omega
section
variable {kd an : Nat → Nat} {ai ai' : Nat → Int → Int} {wm bm : Nat → Option Nat} {sz sz' : Nat → Int} {x d w b : Nat} {l : List Int} {wd f m : Int → Int} {p q t v : Int}
/-- the schedule -/
theorem CCN_t3 {K : (Nat → Int → Int) → Prop} (eb : bm d = some b) (kb : kd b = 5) (lb : (an b : Int) = 64) (hs : ∀ i, 0 ≤ i → i < 16 → ai b i = w32 (f i)) (hu : ∀ i, 0 ≤ i → i < 16 → zU (f i)) (hK : ∀ ai', (∀ a, a ≠ b → ai' a = ai a) → (∀ i, 0 ≤ i → i < 64 → ai' b i = w32 (shSc 48 16 f i)) → K ai') : ∃ fu : Nat, wCN_X3_turn_3 K d kd an bm fu 16 ai := by
  obtain ⟨g1, g2⟩ := shSc_e 48 16 f (by decide)
  have gu : ∀ i, 0 ≤ i → i < 64 → zU (shSc 48 16 f i) := fun i i0 i1 => shSc_U 48 16 f hu i i0 (by omega)
  refine wl2 (fun fu t q => wCN_X3_turn_3 K d kd an bm fu t q) (fun t q => (16 ≤ t ∧ t ≤ 64) ∧ (∀ a, a ≠ b → q a = ai a) ∧ ∀ i, 0 ≤ i → i < t → q b i = w32 (shSc 48 16 f i)) (fun t _ => (64 - t).toNat) ?_ 16 ai ⟨by omega, fun _ _ => rfl, fun i i0 i1 => by rw [hs i i0 i1, g1 i i0 i1]⟩
  rintro t q ⟨ht, q1, q2⟩ fu ih
  try dsimp only
  rw [wCN_X3_turn_3]
  refine ⟨fun z => hK q q1 (fun i i0 i1 => q2 i i0 (by omega)), fun z => kOn_of eb ⟨kb, ?_⟩⟩
  have w15 : w32 (t - 15) = t - 15 := w32_id ⟨by omega, by omega⟩
  have w2 : w32 (t - 2) = t - 2 := w32_id ⟨by omega, by omega⟩
  have w16 : w32 (t - 16) = t - 16 := w32_id ⟨by omega, by omega⟩
  have w7 : w32 (t - 7) = t - 7 := w32_id ⟨by omega, by omega⟩
  have w1 : w32 (t + 1) = t + 1 := w32_id ⟨by omega, by omega⟩
  rw [w15, w2, w16, w7, w1]
  have u15 := gu (t - 15) (by omega) (by omega)
  have u2 := gu (t - 2) (by omega) (by omega)
  unfold wpCN_J3_rotateRight
  refine ⟨by omega, fun x2 e2 => ⟨by omega, fun x3 e3 => ⟨by omega, by omega, fun v ev => ⟨by omega, fun a2 ea t' et => ?_⟩⟩⟩⟩
  rw [q2 _ (by omega) (by omega)] at e2 e3
  rw [q2 (t - 16) (by omega) (by omega), q2 (t - 7) (by omega) (by omega), e2, e3, zrot_7 u15, zrot_18 u15, zrot_17 u2, zrot_19 u2, zxor_w (shR_U _ _) (shR_U _ _), zxor_w (shR_U _ _) (shR_U _ _), w32_m u15, w32_m u2] at ev
  have s3 : shSc 48 16 f (t - 15) / 8 = w32 (shSc 48 16 f (t - 15) / 8) := (w32_id ⟨by omega, by omega⟩).symm
  have s10 : shSc 48 16 f (t - 2) / 1024 = w32 (shSc 48 16 f (t - 2) / 1024) := (w32_id ⟨by omega, by omega⟩).symm
  rw [s3, s10, zxor_w (zU_xor (shR_U _ _) (shR_U _ _)) ⟨by omega, by omega⟩, zxor_w (zU_xor (shR_U _ _) (shR_U _ _)) ⟨by omega, by omega⟩, w32_a4, ← w32_mod] at ev
  have ew : v = w32 (shWt (shSc 48 16 f) t) := ev
  rw [et]
  refine ih (t + 1) a2 ⟨by omega, fun a na => by rw [ea, va_up_n na]; exact q1 a na, fun i i0 i1 => ?_⟩ (by omega)
  rw [ea, va_up_s]
  by_cases y : i = t
  · rw [y, updI_s, ew]
    have e3 := g2 t ht.1 (by omega)
    rw [e3]
  · rw [updI_n y]; exact q2 i i0 (by omega)
/-- the 64 steps -/
theorem CCN_t162 {K : Int → Int → Int → Int → Int → Int → Int → Int → Prop} (eb : bm x = some b) (kb : kd b = 5) (lb : (an b : Int) = 64) (hs : ∀ i, 0 ≤ i → i < 64 → ai b i = w32 (f i)) (hu : ∀ i, 0 ≤ i → i < 64 → zU (f i)) {S : sh8} (hK : ∀ a b c d e f g h, (a, b, c, d, e, f, g, h) = S → K (w32 a) (w32 b) (w32 c) (w32 d) (w32 e) (w32 f) (w32 g) (w32 h)) : ∀ (q : Nat) (t a b c d e g h k : Int), t + q = 64 → 0 ≤ t → shU8 (a, b, c, d, e, g, h, k) → shLp f q t (a, b, c, d, e, g, h, k) = S → wCN_X3_turn_162 K x kd an ai bm (q + 1) (w32 a) (w32 b) (w32 c) (w32 d) (w32 e) (w32 g) (w32 h) (w32 k) t
  | 0, t, a, b, c, d, e, g, h, k, et, t0, _, eS => by
    rw [wCN_X3_turn_162]
    exact ⟨fun _ => hK _ _ _ _ _ _ _ _ eS, fun z => absurd (show 64 ≤ t by omega) z⟩
  | q + 1, t, a, b2, c, d, e, g, h, k, et, t0, hu8, eS => by
    obtain ⟨ha, hb, hc, hd, he, hg, hh, hk⟩ := hu8
    have hn : zU (4294967295 - e) := by
      unfold zU at he ⊢; omega
    have w1 : w32 (t + 1) = t + 1 := w32_id ⟨by omega, by omega⟩
    rw [wCN_X3_turn_162]
    dsimp only
    rw [w1]
    unfold wpCN_J3_rotateRight
    refine ⟨fun z => by omega, fun _ => ⟨by omega, kOn_of eb ⟨kb, by omega, fun x10 e10 x11 e11 x5 e5 x1 e1 t2 et2 => ?_⟩⟩⟩
    rw [zrot_6 he, zrot_11 he, zrot_25 he, zxor_w (shR_U _ _) (shR_U _ _), zxor_w (zU_xor (shR_U _ _) (shR_U _ _)) (shR_U _ _), znot_w, zand_w he hg, zand_w hn hh, zxor_w (zU_and he hg) (zU_and hn hh), sg2_K ⟨t0, by omega⟩, hs t t0 (by omega), w32_a5] at e10
    rw [zrot_2 ha, zrot_13 ha, zrot_22 ha, zxor_w (shR_U _ _) (shR_U _ _), zxor_w (zU_xor (shR_U _ _) (shR_U _ _)) (shR_U _ _), zand_w ha hb, zand_w ha hc, zand_w hb hc, zxor_w (zU_and ha hb) (zU_and ha hc), zxor_w (zU_xor (zU_and ha hb) (zU_and ha hc)) (zU_and hb hc), w32_add] at e11
    have e10' : x10 = w32 (shX e g h k (shK t) (f t)) := e10
    have e11' : x11 = w32 (shY a b2 c) := e11
    rw [e10', w32_add, ← w32_mod] at e5
    rw [e10', e11', w32_add, ← w32_mod] at e1
    rw [et2, e5, e1]
    exact CCN_t162 eb kb lb hs hu hK q (t + 1) _ _ _ _ _ _ _ _ (by omega) (by omega) ⟨zU_md _, ha, hb, hc, zU_md _, he, hg, hh⟩ eS
theorem CCN_turn {post : (Nat → Int → Int) → Prop} (ew : wm d = some w) (kw : kd w = 5) (lw : (an w : Int) = 8) (eb : bm d = some b) (kb : kd b = 5) (lb : (an b : Int) = 64) (ne : ¬ w = b) (hw : ∀ i, 0 ≤ i → i < 8 → ai w i = w32 (wd i)) (uw : ∀ i, 0 ≤ i → i < 8 → zU (wd i)) (hb : ∀ t, 0 ≤ t → t < 16 → ai b t = w32 (sh4 m (0 + 4 * t))) (hp : ∀ ai', (∀ a, a ≠ w → a ≠ b → ai' a = ai a) → (∀ i, 0 ≤ i → i < 8 → ai' w i = w32 (shBk wd m 0 i)) → post ai') : wpCN_X3_turn post kd an ai wm bm d := by
  unfold wpCN_X3_turn
  refine CCN_t3 (f := fun t => sh4 m (0 + 4 * t)) eb kb lb hb (fun _ _ _ => sh4_U) (fun a1 f1 s1 => kOn_of ew ⟨kw, ?_⟩)
  have hw1 : ∀ i, 0 ≤ i → i < 8 → a1 w i = w32 (wd i) := fun i i0 i1 => by rw [f1 w ne]; exact hw i i0 i1
  rw [lw]
  refine ⟨by decide, fun x1 e1 => ⟨by decide, fun x2 e2 => ⟨by decide, fun x3 e3 => ⟨by decide, fun x4 e4 => ⟨by decide, fun x5 e5 => ⟨by decide, fun x6 e6 => ⟨by decide, fun x7 e7 => ⟨by decide, fun x8 e8 => ?_⟩⟩⟩⟩⟩⟩⟩⟩
  rw [hw1 0 (by decide) (by decide)] at e1
  rw [hw1 1 (by decide) (by decide)] at e2
  rw [hw1 2 (by decide) (by decide)] at e3
  rw [hw1 3 (by decide) (by decide)] at e4
  rw [hw1 4 (by decide) (by decide)] at e5
  rw [hw1 5 (by decide) (by decide)] at e6
  rw [hw1 6 (by decide) (by decide)] at e7
  rw [hw1 7 (by decide) (by decide)] at e8
  rw [e1, e2, e3, e4, e5, e6, e7, e8]
  have hu : shU8 (sh8w wd) := ⟨uw 0 (by decide) (by decide), uw 1 (by decide) (by decide), uw 2 (by decide) (by decide), uw 3 (by decide) (by decide), uw 4 (by decide) (by decide), uw 5 (by decide) (by decide), uw 6 (by decide) (by decide), uw 7 (by decide) (by decide)⟩
  refine ⟨65, CCN_t162 (f := shSc 48 16 (fun t => sh4 m (0 + 4 * t))) eb kb lb s1 (fun i i0 i1 => shSc_U 48 16 _ (fun _ _ _ => sh4_U) i i0 (by omega)) (S := shLp (shSc 48 16 (fun t => sh4 m (0 + 4 * t))) 64 0 (sh8w wd)) (fun a' b' c' d' e' f' g' h' eS => kOn_of ew ⟨kw, ?_⟩) 64 0 (wd 0) (wd 1) (wd 2) (wd 3) (wd 4) (wd 5) (wd 6) (wd 7) (by decide) (by decide) hu rfl⟩
  rw [lw]
  refine ⟨by decide, fun v0 ev0 b0 eb0 => ⟨by decide, fun v1 ev1 b1 eb1 => ⟨by decide, fun v2 ev2 b2 eb2 => ⟨by decide, fun v3 ev3 b3 eb3 => ⟨by decide, fun v4 ev4 b4 eb4 => ⟨by decide, fun v5 ev5 b5 eb5 => ⟨by decide, fun v6 ev6 b6 eb6 => ⟨by decide, fun v7 ev7 b7 eb7 => ?_⟩⟩⟩⟩⟩⟩⟩⟩
  have r0 : a1 w 0 = w32 (wd 0) := by
    exact hw1 0 (by decide) (by decide)
  rw [r0, w32_add, ← w32_mod] at ev0
  have r1 : b0 w 1 = w32 (wd 1) := by
    rw [eb0, va_up_s, updI_n (by decide)]
    exact hw1 1 (by decide) (by decide)
  rw [r1, w32_add, ← w32_mod] at ev1
  have r2 : b1 w 2 = w32 (wd 2) := by
    rw [eb1, va_up_s, updI_n (by decide), eb0, va_up_s, updI_n (by decide)]
    exact hw1 2 (by decide) (by decide)
  rw [r2, w32_add, ← w32_mod] at ev2
  have r3 : b2 w 3 = w32 (wd 3) := by
    rw [eb2, va_up_s, updI_n (by decide), eb1, va_up_s, updI_n (by decide), eb0, va_up_s, updI_n (by decide)]
    exact hw1 3 (by decide) (by decide)
  rw [r3, w32_add, ← w32_mod] at ev3
  have r4 : b3 w 4 = w32 (wd 4) := by
    rw [eb3, va_up_s, updI_n (by decide), eb2, va_up_s, updI_n (by decide), eb1, va_up_s, updI_n (by decide), eb0, va_up_s, updI_n (by decide)]
    exact hw1 4 (by decide) (by decide)
  rw [r4, w32_add, ← w32_mod] at ev4
  have r5 : b4 w 5 = w32 (wd 5) := by
    rw [eb4, va_up_s, updI_n (by decide), eb3, va_up_s, updI_n (by decide), eb2, va_up_s, updI_n (by decide), eb1, va_up_s, updI_n (by decide), eb0, va_up_s, updI_n (by decide)]
    exact hw1 5 (by decide) (by decide)
  rw [r5, w32_add, ← w32_mod] at ev5
  have r6 : b5 w 6 = w32 (wd 6) := by
    rw [eb5, va_up_s, updI_n (by decide), eb4, va_up_s, updI_n (by decide), eb3, va_up_s, updI_n (by decide), eb2, va_up_s, updI_n (by decide), eb1, va_up_s, updI_n (by decide), eb0, va_up_s, updI_n (by decide)]
    exact hw1 6 (by decide) (by decide)
  rw [r6, w32_add, ← w32_mod] at ev6
  have r7 : b6 w 7 = w32 (wd 7) := by
    rw [eb6, va_up_s, updI_n (by decide), eb5, va_up_s, updI_n (by decide), eb4, va_up_s, updI_n (by decide), eb3, va_up_s, updI_n (by decide), eb2, va_up_s, updI_n (by decide), eb1, va_up_s, updI_n (by decide), eb0, va_up_s, updI_n (by decide)]
    exact hw1 7 (by decide) (by decide)
  rw [r7, w32_add, ← w32_mod] at ev7
  refine hp b7 (fun a na nb => ?_) (fun i i0 i1 => ?_)
  · rw [eb7, va_up_n na, eb6, va_up_n na, eb5, va_up_n na, eb4, va_up_n na, eb3, va_up_n na, eb2, va_up_n na, eb1, va_up_n na, eb0, va_up_n na]
    exact f1 a nb
  · unfold shBk
    rw [← eS]
    obtain ⟨n0, n1, n2, n3, n4, n5, n6, n7⟩ := shN_at (wd := wd) (a := a') (b := b') (c := c') (d := d') (e := e') (f := f') (g := g') (h := h')
    have : i = 0 ∨ i = 1 ∨ i = 2 ∨ i = 3 ∨ i = 4 ∨ i = 5 ∨ i = 6 ∨ i = 7 := by omega
    rcases this with z | z | z | z | z | z | z | z
    · rw [z, n0, eb7, va_up_s, updI_n (by decide), eb6, va_up_s, updI_n (by decide), eb5, va_up_s, updI_n (by decide), eb4, va_up_s, updI_n (by decide), eb3, va_up_s, updI_n (by decide), eb2, va_up_s, updI_n (by decide), eb1, va_up_s, updI_n (by decide), eb0, va_up_s, updI_s, ev0]
    · rw [z, n1, eb7, va_up_s, updI_n (by decide), eb6, va_up_s, updI_n (by decide), eb5, va_up_s, updI_n (by decide), eb4, va_up_s, updI_n (by decide), eb3, va_up_s, updI_n (by decide), eb2, va_up_s, updI_n (by decide), eb1, va_up_s, updI_s, ev1]
    · rw [z, n2, eb7, va_up_s, updI_n (by decide), eb6, va_up_s, updI_n (by decide), eb5, va_up_s, updI_n (by decide), eb4, va_up_s, updI_n (by decide), eb3, va_up_s, updI_n (by decide), eb2, va_up_s, updI_s, ev2]
    · rw [z, n3, eb7, va_up_s, updI_n (by decide), eb6, va_up_s, updI_n (by decide), eb5, va_up_s, updI_n (by decide), eb4, va_up_s, updI_n (by decide), eb3, va_up_s, updI_s, ev3]
    · rw [z, n4, eb7, va_up_s, updI_n (by decide), eb6, va_up_s, updI_n (by decide), eb5, va_up_s, updI_n (by decide), eb4, va_up_s, updI_s, ev4]
    · rw [z, n5, eb7, va_up_s, updI_n (by decide), eb6, va_up_s, updI_n (by decide), eb5, va_up_s, updI_s, ev5]
    · rw [z, n6, eb7, va_up_s, updI_n (by decide), eb6, va_up_s, updI_s, ev6]
    · rw [z, n7, eb7, va_up_s, updI_s, ev7]
/-- a digest has taken in l -/
def chD (kd an : Nat → Nat) (ai : Nat → Int → Int) (wm bm : Nat → Option Nat) (sz : Nat → Int) (d w b : Nat) (l : List Int) : Prop :=
  (wm d = some w ∧ kd w = 5 ∧ (an w : Int) = 8) ∧ (bm d = some b ∧ kd b = 5 ∧ (an b : Int) = 64) ∧ ¬ w = b ∧ sz d = (l.length : Int) ∧ (∀ i, 0 ≤ i → i < 8 → ai w i = w32 ((shRun l).1 i)) ∧ ∀ t, 0 ≤ t → 4 * t < ((l.length % 64 : Nat) : Int) → ai b t = w32 (sh4 (shL (shRun l).2) (0 + 4 * t))
theorem shL_at {r : List Int} {c i : Int} (h0 : 0 ≤ i) : shL (r ++ [c]) i = if i = (r.length : Int) then c else shL r i := by
  unfold shL
  rw [List.getD_eq_getElem?_getD, List.getD_eq_getElem?_getD]
  by_cases z : i = (r.length : Int)
  · rw [if_pos z, List.getElem?_append_right (by omega), show i.toNat - r.length = 0 by omega]; rfl
  · rw [if_neg z]
    by_cases y : i.toNat < r.length
    · rw [List.getElem?_append_left y]
    · rw [List.getElem?_eq_none (by rw [List.length_append, List.length_singleton]; omega), List.getElem?_eq_none (by omega)]
theorem shL_out {r : List Int} {i : Int} (h : (r.length : Int) ≤ i) : shL r i = 0 := by
  unfold shL
  rw [List.getD_eq_getElem?_getD, List.getElem?_eq_none (by omega)]; rfl
/-- one byte more in a block -/
theorem sh4_put {r : List Int} {c t k : Int} (hc : 0 ≤ c ∧ c < 256) (ht : 0 ≤ t) (hk : k = 0 ∨ k = 1 ∨ k = 2 ∨ k = 3) (e : (r.length : Int) = 4 * t + k) : zor (w32 (sh4 (shL r) (0 + 4 * t))) (zshl c (24 - 8 * k)) = w32 (sh4 (shL (r ++ [c])) (0 + 4 * t)) := by
  obtain ⟨p0, p1, p2, p3⟩ := zshl_p (c := c) ⟨by omega, by omega⟩
  have uu : zU (sh4 (shL r) (0 + 4 * t)) := sh4_U
  have at_ : ∀ j : Int, 0 ≤ j → shL (r ++ [c]) (0 + 4 * t + j) = if j = k then c else shL r (0 + 4 * t + j) := fun j j0 => by
    rw [shL_at (by omega)]
    by_cases z : j = k
    · rw [if_pos z, if_pos (by omega)]
    · rw [if_neg z, if_neg (by omega)]
  have out : ∀ j : Int, k ≤ j → shL r (0 + 4 * t + j) = 0 := fun j hj => shL_out (by omega)
  have en : sh4 (shL (r ++ [c])) (0 + 4 * t) = 256 * (256 * (256 * ((if (0 : Int) = k then c else shL r (0 + 4 * t + 0)) % 256) + (if (1 : Int) = k then c else shL r (0 + 4 * t + 1)) % 256) + (if (2 : Int) = k then c else shL r (0 + 4 * t + 2)) % 256) + (if (3 : Int) = k then c else shL r (0 + 4 * t + 3)) % 256 := by
    unfold sh4
    rw [← at_ 0 (by decide), ← at_ 1 (by decide), ← at_ 2 (by decide), ← at_ 3 (by decide), Int.add_zero]
  have eo : sh4 (shL r) (0 + 4 * t) = 256 * (256 * (256 * (shL r (0 + 4 * t + 0) % 256) + shL r (0 + 4 * t + 1) % 256) + shL r (0 + 4 * t + 2) % 256) + shL r (0 + 4 * t + 3) % 256 := by
    unfold sh4
    rw [Int.add_zero]
  rcases hk with z | z | z | z
  · subst z
    rw [out 0 (by decide), out 1 (by decide), out 2 (by decide), out 3 (by decide)] at eo
    rw [if_pos rfl, if_neg (by decide), if_neg (by decide), if_neg (by decide), out 1 (by decide), out 2 (by decide), out 3 (by decide)] at en
    rw [show (24 : Int) - 8 * 0 = 24 by decide, p0, show c * 16777216 = c * 2 ^ 24 by omega, zor_put (s := 24) uu hc (by decide) (q := 0) (by omega)]
    refine congrArg w32 ?_
    omega
  · subst z
    rw [out 1 (by decide), out 2 (by decide), out 3 (by decide)] at eo
    rw [if_neg (by decide), if_pos rfl, if_neg (by decide), if_neg (by decide), out 2 (by decide), out 3 (by decide)] at en
    rw [show (24 : Int) - 8 * 1 = 16 by decide, p1, show c * 65536 = c * 2 ^ 16 by omega, zor_put (s := 16) uu hc (by decide) (q := shL r (0 + 4 * t + 0) % 256) (by omega)]
    refine congrArg w32 ?_
    omega
  · subst z
    rw [out 2 (by decide), out 3 (by decide)] at eo
    rw [if_neg (by decide), if_neg (by decide), if_pos rfl, if_neg (by decide), out 3 (by decide)] at en
    rw [show (24 : Int) - 8 * 2 = 8 by decide, p2, show c * 256 = c * 2 ^ 8 by omega, zor_put (s := 8) uu hc (by decide) (q := 256 * (shL r (0 + 4 * t + 0) % 256) + shL r (0 + 4 * t + 1) % 256) (by omega)]
    refine congrArg w32 ?_
    omega
  · subst z
    rw [out 3 (by decide)] at eo
    rw [if_neg (by decide), if_neg (by decide), if_neg (by decide), if_pos rfl] at en
    rw [show (24 : Int) - 8 * 3 = 0 by decide, p3, show c * 1 = c * 2 ^ 0 by omega, zor_put (s := 0) uu hc (by decide) (q := 256 * (256 * (shL r (0 + 4 * t + 0) % 256) + shL r (0 + 4 * t + 1) % 256) + shL r (0 + 4 * t + 2) % 256) (by omega)]
    refine congrArg w32 ?_
    omega
theorem CCN_begin {post : (Nat → Int → Int) → (Nat → Int) → Prop} (D : chD kd an ai wm bm sz d w b l) (hp : ∀ ai' sz', chD kd an ai' wm bm sz' d w b [] → (∀ a, a ≠ w → a ≠ b → ai' a = ai a) → (∀ a, a ≠ d → sz' a = sz a) → post ai' sz') : wpCN_X3_begin post kd an ai wm sz d := by
  obtain ⟨⟨ew, kw, lw⟩, hb, ne, _, _, _⟩ := D
  unfold wpCN_X3_begin
  refine fun s2 es => kOn_of ew ⟨kw, by rw [lw]; decide, fun a2 ea => hp a2 s2 ⟨⟨ew, kw, lw⟩, hb, ne, by rw [es, va_up_s]; rfl, fun i i0 i1 => ?_, fun t t0 t1 => ?_⟩ (fun a na _ => by rw [ea, va_up_n na]) (fun a na => by rw [es, va_up_n na])⟩
  · rw [ea, va_up_s]
    unfold zcpy
    rw [if_pos (by omega), show (0 : Int) + (i - 0) = i by omega, sg1_W ⟨i0, i1⟩]
    rfl
  · exfalso
    have : (([] : List Int).length % 64 : Nat) = 0 := rfl
    omega
theorem CCN_add {post : (Nat → Int → Int) → (Nat → Int) → Prop} (D : chD kd an ai wm bm sz d w b l) (hl : l.length < 100000) (hp : ∀ ai' sz', chD kd an ai' wm bm sz' d w b (l ++ [v % 256]) → (∀ a, a ≠ w → a ≠ b → ai' a = ai a) → (∀ a, a ≠ d → sz' a = sz a) → post ai' sz') : wpCN_X3_add post kd an ai wm bm sz d v := by
  obtain ⟨⟨ew, kw, lw⟩, ⟨eb, kb, lb⟩, ne, es, hw, hb⟩ := D
  have hv : 0 ≤ v % 256 ∧ v % 256 < 256 := ⟨by omega, by omega⟩
  obtain ⟨hr, hu⟩ := shRun_len l
  unfold wpCN_X3_add
  refine ⟨by omega, fun r er => ⟨by omega, fun s ess => ?_⟩⟩
  have er2 : r = ((l.length % 64 : Nat) : Int) := by omega
  have key : ∀ a1 : Nat → Int → Int, (∀ a, a ≠ b → a1 a = ai a) → (∀ t, 0 ≤ t → 4 * t ≤ r → a1 b t = w32 (sh4 (shL (shRun l).2) (0 + 4 * t))) → wCN_X3_add_35 post d v r s kd an a1 wm bm sz := fun a1 f1 h1 => by
    unfold wCN_X3_add_35
    refine kOn_of eb ⟨kb, by omega, fun u eu a2 ea => ⟨by unfold zL; omega, fun n2 en s2 es2 => ?_⟩⟩
    have put := sh4_put (r := (shRun l).2) (c := v % 256) (t := r / 4) (k := r % 4) hv (by omega) (by omega) (by omega)
    rw [h1 (r / 4) (by omega) (by omega), ess, put] at eu
    have hb2 : ∀ t, 0 ≤ t → 4 * t ≤ r → a2 b t = w32 (sh4 (shL ((shRun l).2 ++ [v % 256])) (0 + 4 * t)) := fun t t0 t1 => by
      rw [ea, va_up_s]
      by_cases z : t = r / 4
      · rw [z, updI_s, eu]
      · rw [updI_n z, h1 t t0 t1]
        refine congrArg w32 ?_
        refine sh4_c (fun i i0 i1 => ?_)
        rw [shL_at (by omega), if_neg (by omega)]
    have hw2 : ∀ i, 0 ≤ i → i < 8 → a2 w i = w32 ((shRun l).1 i) := fun i i0 i1 => by
      rw [ea, va_up_n ne, f1 w ne]; exact hw i i0 i1
    have fr : ∀ a, a ≠ w → a ≠ b → a2 a = ai a := fun a na nb => by rw [ea, va_up_n nb, f1 a nb]
    have es3 : s2 d = ((l ++ [v % 256]).length : Int) := by
      rw [es2, va_up_s, en, es, List.length_append, List.length_singleton]; omega
    have fs : ∀ a, a ≠ d → s2 a = sz a := fun a na => by rw [es2, va_up_n na]
    have el : (l ++ [v % 256]).length = l.length + 1 := by rw [List.length_append, List.length_singleton]
    refine ⟨fun z => ?_, fun z => ?_⟩
    · refine CCN_turn (wd := (shRun l).1) (m := shL ((shRun l).2 ++ [v % 256])) ew kw lw eb kb lb ne hw2 hu (fun t t0 t1 => hb2 t t0 (by omega)) (fun a3 f3 w3 => ?_)
      have eR : shRun (l ++ [v % 256]) = (shBk (shRun l).1 (shL ((shRun l).2 ++ [v % 256])) 0, []) := by
        rw [shRun_s]
        unfold shAd
        rw [if_pos (by omega)]
      refine hp a3 s2 ⟨⟨ew, kw, lw⟩, ⟨eb, kb, lb⟩, ne, es3, fun i i0 i1 => by rw [eR]; exact w3 i i0 i1, fun t t0 t1 => ?_⟩ (fun a na nb => by rw [f3 a na nb]; exact fr a na nb) fs
      rw [el] at t1
      omega
    · have eR : shRun (l ++ [v % 256]) = ((shRun l).1, (shRun l).2 ++ [v % 256]) := by
        rw [shRun_s]
        unfold shAd
        rw [if_neg (by omega)]
      refine hp a2 s2 ⟨⟨ew, kw, lw⟩, ⟨eb, kb, lb⟩, ne, es3, fun i i0 i1 => by rw [eR]; exact hw2 i i0 i1, fun t t0 t1 => ?_⟩ fr fs
      rw [el] at t1
      rw [eR]
      exact hb2 t t0 (by omega)
  refine ⟨fun z => kOn_of eb ⟨kb, by omega, fun a1 ea => key a1 (fun a na => by rw [ea, va_up_n na]) (fun t t0 t1 => ?_)⟩, fun z => key ai (fun _ _ => rfl) (fun t t0 t1 => hb t t0 (by omega))⟩
  rw [ea, va_up_s]
  by_cases y : t = r / 4
  · rw [y, updI_s]
    have out : ∀ j : Int, 0 ≤ j → shL (shRun l).2 (0 + 4 * (r / 4) + j) = 0 := fun j hj => shL_out (by omega)
    unfold sh4
    rw [out 1 (by decide), out 2 (by decide), out 3 (by decide)]
    have := out 0 (by decide)
    rw [Int.add_zero] at this
    rw [this]
    decide
  · rw [updI_n y]; exact hb t t0 (by omega)
theorem CCN_addWord {post : (Nat → Int → Int) → (Nat → Int) → Prop} (D : chD kd an ai wm bm sz d w b l) (hl : l.length + 4 < 100000) {u : Int} (hu : zU u) (hp : ∀ ai' sz', chD kd an ai' wm bm sz' d w b (l ++ shWd u) → (∀ a, a ≠ w → a ≠ b → ai' a = ai a) → (∀ a, a ≠ d → sz' a = sz a) → post ai' sz') : wpCN_X3_addWord post kd an ai wm bm sz d (w32 u) := by
  obtain ⟨p0, p1, p2, p3⟩ := zushr_p hu
  have ln : ∀ (l : List Int) (x : Int), (l ++ [x]).length = l.length + 1 := fun l x => by rw [List.length_append, List.length_singleton]
  unfold wpCN_X3_addWord
  refine ⟨5, ?_⟩
  rw [wCN_X3_addWord_3]
  refine ⟨fun h => absurd h (by decide), fun _ => CCN_add D (by omega) (fun a1 s1 D1 f1 g1 => ⟨by decide, fun k1 e1 => ?_⟩)⟩
  rw [wCN_X3_addWord_3, e1, show (24 : Int) + -8 = 16 by decide]
  refine ⟨fun h => absurd h (by decide), fun _ => CCN_add D1 (by rw [ln]; omega) (fun a2 s2 D2 f2 g2 => ⟨by decide, fun k2 e2 => ?_⟩)⟩
  rw [wCN_X3_addWord_3, e2, show (16 : Int) + -8 = 8 by decide]
  refine ⟨fun h => absurd h (by decide), fun _ => CCN_add D2 (by rw [ln, ln]; omega) (fun a3 s3 D3 f3 g3 => ⟨by decide, fun k3 e3 => ?_⟩)⟩
  rw [wCN_X3_addWord_3, e3, show (8 : Int) + -8 = 0 by decide]
  refine ⟨fun h => absurd h (by decide), fun _ => CCN_add D3 (by rw [ln, ln, ln]; omega) (fun a4 s4 D4 f4 g4 => ⟨by decide, fun k4 e4 => ?_⟩)⟩
  rw [wCN_X3_addWord_3, e4, show (0 : Int) + -8 = -8 by decide]
  refine ⟨fun _ => ?_, fun h => absurd (by decide) h⟩
  rw [p0, p1, p2, p3] at D4
  have el : (((l ++ [u / 16777216 % 256]) ++ [u / 65536 % 256]) ++ [u / 256 % 256]) ++ [u % 256] = l ++ shWd u := by
    unfold shWd
    rw [List.append_assoc, List.append_assoc, List.append_assoc]; rfl
  rw [el] at D4
  exact hp a4 s4 D4 (fun a na nb => by rw [f4 a na nb, f3 a na nb, f2 a na nb, f1 a na nb]) (fun a na => by rw [g4 a na, g3 a na, g2 a na, g1 a na])
/-- the end of a message: its digest is in the words -/
theorem CCN_end {post : (Nat → Int → Int) → (Nat → Int) → Prop} (D : chD kd an ai wm bm sz d w b l) (hl : l.length < 90000) (hp : ∀ ai' sz', chD kd an ai' wm bm sz' d w b (shPad l) → (∀ a, a ≠ w → a ≠ b → ai' a = ai a) → (∀ a, a ≠ d → sz' a = sz a) → post ai' sz') : wpCN_X3_end post kd an ai wm bm sz d := by
  have es := D.2.2.2.1
  unfold wpCN_X3_end
  refine ⟨by unfold zL; omega, fun n8 e8 => CCN_add D (by omega) (fun a1 s1 D1 f1 g1 => ?_)⟩
  have e128 : (128 : Int) % 256 = 128 := by decide
  rw [e128] at D1
  have lz : shZ l.length < 64 := by
    unfold shZ
    omega
  have go : ∀ (k : Nat) (a2 : Nat → Int → Int) (s2 : Nat → Int) (j : Nat), j + k = shZ l.length → chD kd an a2 wm bm s2 d w b ((l ++ [128]) ++ List.replicate j 0) → (∀ a, a ≠ w → a ≠ b → a2 a = ai a) → (∀ a, a ≠ d → s2 a = sz a) → wCN_X3_end_16 (fun (ai_13 : Nat → Int → Int) (mX3_size_14 : Nat → Int) => zR ((n8 % 18446744073709551616) / 4294967296) ∧ ((wpCN_X3_addWord (fun (ai_19 : Nat → Int → Int) (mX3_size_20 : Nat → Int) => (zR (n8) ∧ ((wpCN_X3_addWord (fun (ai_25 : Nat → Int → Int) (mX3_size_26 : Nat → Int) => ((post ai_25 mX3_size_26))) kd an ai_19 wm bm mX3_size_20 d n8)))) kd an ai_13 wm bm mX3_size_14 d ((n8 % 18446744073709551616) / 4294967296)))) d kd an wm bm (k + 1) a2 s2 := fun k => by
    induction k with
    | zero =>
      intro a2 s2 j hj D2 f2 g2
      have es2 := D2.2.2.2.1
      rw [List.length_append, List.length_append, List.length_singleton, List.length_replicate] at es2
      rw [wCN_X3_end_16]
      refine ⟨fun _ => ⟨by omega, ?_⟩, fun w => ?_⟩
      · have z0 : (n8 % 18446744073709551616) / 4294967296 = w32 (8 * (l.length : Int) / 4294967296) := by
          rw [w32_id ⟨by omega, by omega⟩, e8, es]; omega
        rw [z0]
        refine CCN_addWord D2 (by rw [List.length_append, List.length_append, List.length_singleton, List.length_replicate]; omega) ⟨by omega, by omega⟩ (fun a3 s3 D3 f3 g3 => ⟨by omega, ?_⟩)
        have z1 : n8 = w32 (8 * (l.length : Int)) := by
          rw [w32_id ⟨by omega, by omega⟩, e8, es]
        rw [z1]
        refine CCN_addWord D3 (by rw [List.length_append, List.length_append, List.length_append, List.length_singleton, List.length_replicate]; show _ + 4 + 4 < 100000; omega) ⟨by omega, by omega⟩ (fun a4 s4 D4 f4 g4 => ?_)
        have ej : j = shZ l.length := by omega
        rw [ej, List.append_assoc] at D4
        exact hp a4 s4 D4 (fun a na nb => by rw [f4 a na nb, f3 a na nb, f2 a na nb]) (fun a na => by rw [g4 a na, g3 a na, g2 a na])
      · exfalso
        apply w
        rw [es2]
        unfold shZ at hj
        omega
    | succ k ih =>
      intro a2 s2 j hj D2 f2 g2
      have es2 := D2.2.2.2.1
      rw [List.length_append, List.length_append, List.length_singleton, List.length_replicate] at es2
      rw [wCN_X3_end_16]
      refine ⟨fun w => ?_, fun _ => CCN_add D2 (by rw [List.length_append, List.length_append, List.length_singleton, List.length_replicate]; omega) (fun a3 s3 D3 f3 g3 => ?_)⟩
      · exfalso
        rw [es2] at w
        unfold shZ at hj
        omega
      · rw [show (0 : Int) % 256 = 0 by decide, List.append_assoc, ← List.replicate_succ'] at D3
        exact ih a3 s3 (j + 1) (by omega) D3 (fun a na nb => by rw [f3 a na nb, f2 a na nb]) (fun a na => by rw [g3 a na, g2 a na])
  exact ⟨shZ l.length + 1, go (shZ l.length) a1 s1 0 (by omega) (by rw [List.replicate_zero, List.append_nil]; exact D1) f1 g1⟩
end

/-! CanonNames (room CN): graphs by rising keys -/
def cnKy (t : qA) : Int := (t.1 + 8) * 1048576 + (t.2.1 + 8) * 1024 + (t.2.2 + 8)
def cnDk (k : Int) : qA := (k / 1048576 % 1024 - 8, k / 1024 % 1024 - 8, k % 1024 - 8)
def cnOk (n k : Int) : Prop := k = cnKy (cnDk k) ∧ cnTp n (cnDk k)
theorem cnPt_b {n v : Int} (hn : n ≤ 8) (h : cnPt n v) : 0 ≤ v + 8 ∧ v + 8 < 1024 := by
  unfold cnPt at h
  omega
theorem cnDk_y {n : Int} {t : qA} (hn : n ≤ 8) (h : cnTp n t) : cnDk (cnKy t) = t := by
  obtain ⟨a, b, c⟩ := t
  obtain ⟨h1, h2, h3⟩ := h
  have b1 := cnPt_b hn h1
  have b2 := cnPt_b hn h2
  have b3 := cnPt_b hn h3
  dsimp only at b1 b2 b3
  unfold cnDk cnKy
  dsimp only
  rw [show ((a + 8) * 1048576 + (b + 8) * 1024 + (c + 8)) / 1048576 % 1024 - 8 = a by omega, show ((a + 8) * 1048576 + (b + 8) * 1024 + (c + 8)) / 1024 % 1024 - 8 = b by omega, show ((a + 8) * 1048576 + (b + 8) * 1024 + (c + 8)) % 1024 - 8 = c by omega]
theorem cnOk_y {n : Int} {t : qA} (hn : n ≤ 8) (h : cnTp n t) : cnOk n (cnKy t) := by
  unfold cnOk
  rw [cnDk_y hn h]
  exact ⟨rfl, h⟩
theorem cnOk_b {n k : Int} (hn : n ≤ 8) (h : cnOk n k) : 0 ≤ k ∧ k < 1073741824 := by
  obtain ⟨e, h1, h2, h3⟩ := h
  have b1 := cnPt_b hn h1
  have b2 := cnPt_b hn h2
  have b3 := cnPt_b hn h3
  unfold cnKy at e
  omega
/-- bits that lie beside one another -/
theorem zLor_add {x y : Int} {s : Nat} {q : Int} (ex : x = q * 2 ^ s) (hx : 0 ≤ x ∧ x < 4611686018427387904) (hy : 0 ≤ y ∧ y < 2 ^ s) (hs : s ≤ 40) : zLor x y = x + y := by
  have p40 : (2 : Int) ^ s ≤ 2 ^ 40 := pw_le hs
  have e40 : (2 : Int) ^ 40 = 1099511627776 := by decide
  have lx : zL x := ⟨by omega, by omega⟩
  have ly : zL y := ⟨by omega, by omega⟩
  refine zb_ext64 (zr_or64 _ _) ⟨by omega, by omega⟩ (fun k hk => ?_)
  rw [zb_or64 lx ly hk]
  by_cases z : k < s
  · have a : zb (x + y) k = zb y k := by rw [ex, Int.add_comm, zb_addp z]
    have b : zb x k = 0 := by
      have := zb_addp (x := 0) (q := q) z
      rw [Int.zero_add] at this
      rw [ex, this, zb_zero]
    rw [a, b]
    exact ⟨fun w => w.resolve_left (by decide), Or.inr⟩
  · have a := zb_sp (a := q) hy.1 hy.2 k
    have b := zb_sp (a := q) (r := 0) (t := s) (by decide) (Int.pow_pos (by decide)) k
    rw [if_neg z] at a b
    rw [Int.add_zero] at b
    rw [ex, Int.mul_comm q, a, b, zb_hp hy.1 hy.2 (by omega)]
    exact ⟨fun w => w.resolve_right (by decide), Or.inl⟩
theorem CCN_key {post : Int → Prop} {n a b c : Int} (hn : n ≤ 8) (h : cnTp n (a, b, c)) (hp : post (cnKy (a, b, c))) : wpCN_X2_key post a b c := by
  obtain ⟨h1, h2, h3⟩ := h
  have b1 := cnPt_b hn h1
  have b2 := cnPt_b hn h2
  have b3 := cnPt_b hn h3
  dsimp only at b1 b2 b3
  unfold wpCN_X2_key
  have p20 : (2 : Int) ^ 20 = 1048576 := by decide
  have p10 : (2 : Int) ^ 10 = 1024 := by decide
  rw [zLor_add (x := (a + 8) * 1048576) (y := (b + 8) * 1024) (s := 20) (q := a + 8) (by omega) (by omega) (by omega) (by decide), zLor_add (x := (a + 8) * 1048576 + (b + 8) * 1024) (y := c + 8) (s := 10) (q := (a + 8) * 1024 + (b + 8)) (by omega) (by omega) (by omega) (by decide)]
  exact ⟨⟨by omega, by omega⟩, ⟨by omega, by omega⟩, ⟨by omega, by omega⟩, hp⟩
theorem CCN_point {post : Int → Prop} {n k j : Int} (hn : n ≤ 8) (h : cnOk n k) (hj : j = 0 ∨ j = 1 ∨ j = 2) (hp : post ((cnQ3 (cnDk k)).getD j.toNat 0)) : wpCN_X2_point post k j := by
  have b := cnOk_b hn h
  unfold wpCN_X2_point
  have e : (k / 2 ^ (20 - 10 * j).toNat) % 1024 - 8 = (cnQ3 (cnDk k)).getD j.toNat 0 := by
    rcases hj with z | z | z <;> subst z
    · show k / 2 ^ 20 % 1024 - 8 = k / 1048576 % 1024 - 8
      omega
    · show k / 2 ^ 10 % 1024 - 8 = k / 1024 % 1024 - 8
      omega
    · show k / 2 ^ 0 % 1024 - 8 = k % 1024 - 8
      omega
  have r : -8 ≤ (k / 2 ^ (20 - 10 * j).toNat) % 1024 - 8 ∧ (k / 2 ^ (20 - 10 * j).toNat) % 1024 - 8 < 1024 := by
    have := Int.emod_nonneg (k / 2 ^ (20 - 10 * j).toNat) (show (1024 : Int) ≠ 0 by decide)
    have := Int.emod_lt_of_pos (k / 2 ^ (20 - 10 * j).toNat) (show (0 : Int) < 1024 by decide)
    omega
  refine ⟨⟨by omega, by omega⟩, ⟨by omega, by omega⟩, ⟨by omega, by omega⟩, ?_⟩
  rw [e]
  exact hp
/-- a graph: its keys rise -/
def chG (kd an : Nat → Nat) (al : Nat → Int → Int) (gb gc : Nat → Int) (gk : Nat → Option Nat) (g K : Nat) (n m : Int) : Prop :=
  (gk g = some K ∧ kd K = 6 ∧ (an K : Int) = 40) ∧ (gb g = n ∧ 0 ≤ n ∧ n ≤ 8) ∧ (gc g = m ∧ 0 ≤ m ∧ m ≤ 40) ∧ (∀ i, 0 ≤ i → i < m → cnOk n (al K i)) ∧ ∀ i j, 0 ≤ i → i < j → j < m → al K i < al K j
def chL (f : Int → Int) (m : Int) : List qA := aF (fun i => cnDk (f i)) 0 m.toNat
section
variable {kd an : Nat → Nat} {al al' : Nat → Int → Int} {gb gc gc' : Nat → Int} {gk : Nat → Option Nat} {g K x : Nat} {n m k v r i j a b c : Int} {t : qA} {A B : Prop}
theorem chL_mem {f : Int → Int} : t ∈ chL f m ↔ ∃ i, (0 ≤ i ∧ i < m) ∧ t = cnDk (f i) := by
  unfold chL
  rw [aF_mem]
  constructor
  · rintro ⟨i, hi, e⟩
    exact ⟨i, by omega, e⟩
  · rintro ⟨i, hi, e⟩
    exact ⟨i, by omega, e⟩
theorem chG.ok (G : chG kd an al gb gc gk g K n m) (ht : t ∈ chL (al K) m) : cnTp n t := by
  obtain ⟨i, hi, e⟩ := chL_mem.1 ht
  rw [e]; exact (G.2.2.2.1 i hi.1 hi.2).2
theorem chG.nd (G : chG kd an al gb gc gk g K n m) : (chL (al K) m).Nodup := aF_pw _ _ (fun i j i0 ij j1 e => by
  have a := G.2.2.2.1 i i0 (by omega)
  have b := G.2.2.2.1 j (by omega) (by omega)
  have l := G.2.2.2.2 i j i0 ij (by omega)
  rw [a.1, b.1, e] at l
  omega)
/-- where a key is, or would be -/
theorem CCN_find {post : Int → Prop} (eK : gk g = some K) (kK : kd K = 6) (lK : (an K : Int) = 40) (ec : gc g = m) (hm : 0 ≤ m ∧ m ≤ 40) (hs : ∀ i j, 0 ≤ i → i < j → j < m → al K i < al K j) (hp : ∀ r, 0 ≤ r → r ≤ m → (∀ i, 0 ≤ i → i < r → al K i < v) → (∀ i, r ≤ i → i < m → v ≤ al K i) → post r) : wpCN_X2_find post kd an al gc gk g v := by
  unfold wpCN_X2_find
  intro h eh
  rw [eh, ec]
  refine wl2 (fun fu lo hi => wCN_X2_find_8 (fun r => post r) g v kd an al gk fu lo hi) (fun lo hi => (0 ≤ lo ∧ lo ≤ hi ∧ hi ≤ m) ∧ (∀ i, 0 ≤ i → i < lo → al K i < v) ∧ ∀ i, hi ≤ i → i < m → v ≤ al K i) (fun lo hi => (hi - lo).toNat) ?_ 0 m ⟨by omega, fun i i0 i1 => by omega, fun i i0 i1 => by omega⟩
  rintro lo hi ⟨hb, h1, h2⟩ fu ih
  try dsimp only
  rw [wCN_X2_find_8]
  refine ⟨fun z => hp lo hb.1 (by omega) h1 (fun i i0 i1 => h2 i (by omega) i1), fun z => ⟨⟨by omega, by omega⟩, fun y ey => kOn_of eK ⟨kK, by omega, fun w => ?_, fun w => ⟨⟨by omega, by omega⟩, fun lo' el => ?_⟩⟩⟩⟩
  · refine ih lo y ⟨by omega, h1, fun i i0 i1 => ?_⟩ (by omega)
    by_cases u : i = y
    · rw [u]; exact w
    · have := hs y i (by omega) (by omega) i1
      omega
  · rw [el]
    refine ih (y + 1) hi ⟨by omega, fun i i0 i1 => ?_, h2⟩ (by omega)
    by_cases u : i = y
    · rw [u]; omega
    · have := hs i y i0 (by omega) (by omega)
      omega
theorem chL_has (G : chG kd an al gb gc gk g K n m) (ht : cnTp n t) : t ∈ chL (al K) m ↔ ∃ i, (0 ≤ i ∧ i < m) ∧ al K i = cnKy t := by
  have hn := G.2.1.2.2
  rw [chL_mem]
  constructor
  · rintro ⟨i, hi, e⟩
    exact ⟨i, hi, by rw [(G.2.2.2.1 i hi.1 hi.2).1, e]⟩
  · rintro ⟨i, hi, e⟩
    exact ⟨i, hi, by rw [e, cnDk_y hn ht]⟩
theorem CCN_hasB (G : chG kd an al gb gc gk g K n m) (ht : cnTp n t) (h1 : t ∈ chL (al K) m → B) (h0 : ¬ t ∈ chL (al K) m → A) : wpCN_X2_has (fun r => (r = 0 → A) ∧ (¬ r = 0 → B)) kd an al gc gk g (cnKy t) := by
  have hh := chL_has G ht
  obtain ⟨⟨eK, kK, lK⟩, ⟨eb, hn⟩, ⟨ec, hm⟩, ok, hs⟩ := G
  unfold wpCN_X2_has
  refine CCN_find eK kK lK ec hm hs (fun r r0 r1 lo hi => ?_)
  rw [ec]
  refine ⟨fun z => ⟨fun _ => h0 (fun M => ?_), fun y => absurd rfl y⟩, fun z => kOn_of eK ⟨kK, by omega, fun e => ⟨fun y => absurd y (by decide), fun _ => h1 (hh.2 ⟨r, by omega, e⟩)⟩, fun e => ⟨fun _ => h0 (fun M => ?_), fun y => absurd rfl y⟩⟩⟩
  · obtain ⟨i, hi2, e⟩ := hh.1 M
    have := lo i hi2.1 (by omega)
    omega
  · obtain ⟨i, hi2, e2⟩ := hh.1 M
    by_cases w : i < r
    · have := lo i hi2.1 w
      omega
    · have a := hi r (Int.le_refl _) (by omega)
      by_cases y : i = r
      · rw [y] at e2; exact e e2
      · have := hs r i r0 (by omega) hi2.2
        omega
theorem CCN_gadd {post : (Nat → Int → Int) → (Nat → Int) → Prop} (G : chG kd an al gb gc gk g K n m) (ht : cnTp n t) (no : ¬ t ∈ chL (al K) m) (m40 : m < 40) (hp : ∀ al' gc', chG kd an al' gb gc' gk g K n (m + 1) → (chL (al' K) (m + 1)).Perm (t :: chL (al K) m) → (∀ a, a ≠ K → al' a = al a) → (∀ a, a ≠ g → gc' a = gc a) → post al' gc') : wpCN_X2_add post kd an al gc gk g (cnKy t) := by
  have hh := chL_has G ht
  obtain ⟨⟨eK, kK, lK⟩, ⟨eb, hn⟩, ⟨ec, hm⟩, ok, hs⟩ := G
  unfold wpCN_X2_add
  refine CCN_find eK kK lK ec hm hs (fun r r0 r1 lo hi => fun x ex => ?_)
  rw [ex, ec]
  refine wl2 (fun fu k q => wCN_X2_add_12 _ g r kd an gk fu k q) (fun k q => (r ≤ k ∧ k ≤ m) ∧ (∀ a, a ≠ K → q a = al a) ∧ (∀ i, 0 ≤ i → i ≤ k → i < m → q K i = al K i) ∧ ∀ i, k < i → i ≤ m → q K i = al K (i - 1)) (fun k _ => (k - r).toNat) ?_ m al ⟨by omega, fun _ _ => rfl, fun _ _ _ _ => rfl, fun i i0 i1 => by omega⟩
  rintro k q ⟨hk, q0, q1, q2⟩ fu ih
  try dsimp only
  rw [wCN_X2_add_12]
  refine ⟨fun z => kOn_of eK ⟨kK, by omega, fun a2 ea => ⟨⟨by omega, by omega⟩, fun v2 ev g2 eg => ?_⟩⟩, fun z => kOn_of eK ⟨kK, by omega, ⟨by omega, by omega⟩, fun v2 ev => ⟨by omega, fun a2 ea => ⟨⟨by omega, by omega⟩, fun k' ek => ?_⟩⟩⟩⟩
  · have ekr : k = r := by omega
    rw [ekr] at q1 q2
    have at_ : ∀ i, 0 ≤ i → i ≤ m → a2 K i = if i = r then cnKy t else if r < i then al K (i - 1) else al K i := fun i i0 i1 => by
      rw [ea, va_up_s, updI_e]
      by_cases y : i = r
      · rw [if_pos y, if_pos y]
      · rw [if_neg y, if_neg y]
        by_cases y2 : r < i
        · rw [if_pos y2]; exact q2 i y2 i1
        · rw [if_neg y2]; exact q1 i i0 (by omega) (by omega)
    have ne : ∀ i, 0 ≤ i → i < m → ¬ al K i = cnKy t := fun i i0 i1 e => no (hh.2 ⟨i, ⟨i0, i1⟩, e⟩)
    refine hp a2 g2 ⟨⟨eK, kK, lK⟩, ⟨eb, hn⟩, ⟨by rw [eg, va_up_s, ev], by omega, by omega⟩, fun i i0 i1 => ?_, fun i j i0 ij j1 => ?_⟩ ?_ (fun a na => by rw [ea, va_up_n na]; exact q0 a na) (fun a na => by rw [eg, va_up_n na])
    · rw [at_ i i0 (by omega)]
      by_cases y : i = r
      · rw [if_pos y]; exact cnOk_y hn.2 ht
      · rw [if_neg y]
        by_cases y2 : r < i
        · rw [if_pos y2]; exact ok _ (by omega) (by omega)
        · rw [if_neg y2]; exact ok _ i0 (by omega)
    · rw [at_ i i0 (by omega), at_ j (by omega) (by omega)]
      by_cases y : i = r
      · rw [if_pos y, if_neg (by omega), if_pos (by omega)]
        have a1 := hi (j - 1) (by omega) (by omega)
        have a2 := ne (j - 1) (by omega) (by omega)
        omega
      · rw [if_neg y]
        by_cases y2 : r < i
        · rw [if_pos y2, if_neg (by omega), if_pos (by omega)]
          exact hs (i - 1) (j - 1) (by omega) (by omega) (by omega)
        · rw [if_neg y2]
          by_cases y3 : j = r
          · rw [if_pos y3]; exact lo i i0 (by omega)
          · rw [if_neg y3]
            by_cases y4 : r < j
            · rw [if_pos y4]
              by_cases y5 : i = j - 1
              · omega
              · exact hs i (j - 1) i0 (by omega) (by omega)
            · rw [if_neg y4]; exact hs i j i0 ij (by omega)
    · unfold chL
      rw [show (m + 1).toNat = m.toNat + 1 by omega]
      refine aF_ins (f := fun i => cnDk (al K i)) (t := r) ⟨r0, by omega⟩ (fun i i0 i1 => ?_)
      rw [at_ i i0 (by omega)]
      by_cases y : i = r
      · rw [if_pos y, if_pos y, cnDk_y hn.2 ht]
      · rw [if_neg y, if_neg y]
        by_cases y2 : r < i
        · rw [if_pos y2, if_pos y2]
        · rw [if_neg y2, if_neg y2]
  · rw [ek]
    refine ih (k + -1) a2 ⟨by omega, fun a na => by rw [ea, va_up_n na]; exact q0 a na, fun i i0 i1 i2 => ?_, fun i i0 i1 => ?_⟩ (by omega)
    · rw [ea, va_up_s, updI_n (by omega)]; exact q1 i i0 (by omega) i2
    · rw [ea, va_up_s]
      by_cases y : i = k
      · rw [y, updI_s, ev]; exact q1 (k - 1) (by omega) (by omega) (by omega)
      · rw [updI_n y]; exact q2 i (by omega) i1
theorem CCN_remove {post : (Nat → Int → Int) → (Nat → Int) → Prop} (G : chG kd an al gb gc gk g K n m) (ht : cnTp n t) (hm1 : t ∈ chL (al K) m) (hp : ∀ al' gc', chG kd an al' gb gc' gk g K n (m - 1) → (chL (al K) m).Perm (t :: chL (al' K) (m - 1)) → (∀ a, a ≠ K → al' a = al a) → (∀ a, a ≠ g → gc' a = gc a) → post al' gc') : wpCN_X2_remove post kd an al gc gk g (cnKy t) := by
  have hh := (chL_has G ht).1 hm1
  obtain ⟨⟨eK, kK, lK⟩, ⟨eb, hn⟩, ⟨ec, hm⟩, ok, hs⟩ := G
  obtain ⟨s, hs1, es⟩ := hh
  unfold wpCN_X2_remove
  rw [ec]
  refine ⟨⟨by omega, by omega⟩, fun v2 ev g2 eg => ?_⟩
  have ec2 : g2 g = m - 1 := by rw [eg, va_up_s, ev]
  refine CCN_find eK kK lK ec2 (by omega) (fun i j i0 ij j1 => hs i j i0 ij (by omega)) (fun r r0 r1 lo hi => ?_)
  have er : r = s := by
    rcases Int.lt_trichotomy r s with z | z | z
    · have a := hi r (Int.le_refl _) (by omega)
      have b := hs r s r0 z hs1.2
      omega
    · exact z
    · have := lo s hs1.1 z
      omega
  subst er
  refine wl2 (fun fu k q => wCN_X2_remove_16 (fun q => post q g2) g kd an g2 gk fu k q) (fun k q => (r ≤ k ∧ k ≤ m - 1) ∧ (∀ a, a ≠ K → q a = al a) ∧ (∀ i, 0 ≤ i → i < r → q K i = al K i) ∧ (∀ i, r ≤ i → i < k → q K i = al K (i + 1)) ∧ ∀ i, k ≤ i → i < m → q K i = al K i) (fun k _ => (m - k).toNat) ?_ r al ⟨by omega, fun _ _ => rfl, fun _ _ _ => rfl, fun i i0 i1 => by omega, fun _ _ _ => rfl⟩
  rintro k q ⟨hk, q0, q1, q2, q3⟩ fu ih
  try dsimp only
  rw [wCN_X2_remove_16, ec2]
  refine ⟨fun z => ?_, fun z => kOn_of eK ⟨kK, by omega, ⟨by omega, by omega⟩, fun v3 ev3 => ⟨by omega, fun a2 ea k' ek => ?_⟩⟩⟩
  · have at_ : ∀ i, 0 ≤ i → i < m - 1 → q K i = if i < r then al K i else al K (i + 1) := fun i i0 i1 => by
      by_cases y : i < r
      · rw [if_pos y]; exact q1 i i0 y
      · rw [if_neg y]; exact q2 i (by omega) (by omega)
    refine hp q g2 ⟨⟨eK, kK, lK⟩, ⟨eb, hn⟩, ⟨ec2, by omega, by omega⟩, fun i i0 i1 => ?_, fun i j i0 ij j1 => ?_⟩ ?_ q0 (fun a na => by rw [eg, va_up_n na])
    · rw [at_ i i0 i1]
      split
      · exact ok _ i0 (by omega)
      · exact ok _ (by omega) (by omega)
    · rw [at_ i i0 (by omega), at_ j (by omega) j1]
      by_cases y : i < r
      · rw [if_pos y]
        by_cases y2 : j < r
        · rw [if_pos y2]; exact hs i j i0 ij (by omega)
        · rw [if_neg y2]; exact hs i (j + 1) i0 (by omega) (by omega)
      · rw [if_neg y, if_neg (by omega)]; exact hs (i + 1) (j + 1) (by omega) (by omega) (by omega)
    · unfold chL
      rw [show m.toNat = (m - 1).toNat + 1 by omega]
      refine aF_ins (f := fun i => cnDk (q K i)) (t := r) ⟨r0, by omega⟩ (fun i i0 i1 => ?_)
      by_cases y : i = r
      · rw [if_pos y, y, es, cnDk_y hn.2 ht]
      · rw [if_neg y]
        by_cases y2 : r < i
        · rw [if_pos y2, at_ (i - 1) (by omega) (by omega), if_neg (by omega), show i - 1 + 1 = i by omega]
        · rw [if_neg y2, at_ i i0 (by omega), if_pos (by omega)]
  · rw [ek]
    have w1 : w32 (k + 1) = k + 1 := w32_id ⟨by omega, by omega⟩
    refine ih (k + 1) a2 ⟨by omega, fun a na => by rw [ea, va_up_n na]; exact q0 a na, fun i i0 i1 => ?_, fun i i0 i1 => ?_, fun i i0 i1 => ?_⟩ (by omega)
    · rw [ea, va_up_s, updI_n (by omega)]; exact q1 i i0 i1
    · rw [ea, va_up_s]
      by_cases y : i = k
      · rw [y, updI_s, ev3]; exact q3 (k + 1) (by omega) (by omega)
      · rw [updI_n y]; exact q2 i i0 (by omega)
    · rw [ea, va_up_s, updI_n (by omega)]; exact q3 i (by omega) i1
theorem CCN_isPointB (e : gb g = n) (hn : 0 ≤ n ∧ n ≤ 8) (h1 : cnPt n v → B) (h0 : ¬ cnPt n v → A) : wpCN_X2_isPoint (fun r => (r = 0 → A) ∧ (¬ r = 0 → B)) gb g v := by
  unfold cnPt at h1 h0
  unfold wpCN_X2_isPoint
  rw [e]
  have no : ¬ ((0 < v ∧ v ≤ 1000) ∨ v < 0 ∧ -n ≤ v) → (((0 : Int) = 0 → A) ∧ (¬ (0 : Int) = 0 → B)) := fun w => ⟨fun _ => h0 w, fun y => absurd rfl y⟩
  have yes : ((0 < v ∧ v ≤ 1000) ∨ v < 0 ∧ -n ≤ v) → (((1 : Int) = 0 → A) ∧ (¬ (1 : Int) = 0 → B)) := fun w => ⟨fun y => absurd y (by decide), fun _ => h1 w⟩
  exact ⟨fun _ => ⟨fun _ => no (by omega), fun _ => ⟨by omega, fun _ => no (by omega), fun _ => yes (by omega)⟩⟩, fun _ => ⟨fun _ => yes (by omega), fun _ => ⟨fun _ => no (by omega), fun _ => ⟨by omega, fun _ => no (by omega), fun _ => yes (by omega)⟩⟩⟩⟩
end

/-! CanonNames (room CN): hashes beside one another, descriptions -/
/-- eight words of a row -/
def chW (f : Int → Int) (l : List Int) : Prop := l.length = 8 ∧ ∀ i, 0 ≤ i → i < 8 → f i = w32 (shL l i) ∧ zU (shL l i)
theorem shL_aF {f : Int → Int} {m : Nat} {i : Int} (h : 0 ≤ i ∧ i < m) : shL (aF f 0 m) i = f i := by
  unfold shL
  rw [aF_get _ _ _ (by omega), show (0 : Int) + (i.toNat : Int) = i by omega]
theorem aF_shL {l : List Int} : aF (shL l) 0 l.length = l := by
  refine List.ext_getElem (aF_len _ _) (fun i h1 h2 => ?_)
  have a := aF_get (f := shL l) (d := 0) l.length 0 i h2
  rw [List.getD_eq_getElem?_getD, List.getElem?_eq_getElem h1] at a
  have b : shL l (0 + (i : Int)) = l[i] := by
    unfold shL
    rw [show (0 + (i : Int)).toNat = i by omega, List.getD_eq_getElem?_getD, List.getElem?_eq_getElem h2]
    rfl
  rw [← b, ← a]
  rfl
theorem chW_dg {f : Int → Int} {l : List Int} (h : ∀ i, 0 ≤ i → i < 8 → f i = w32 ((shRun (shPad l)).1 i)) : chW f (shDl l) := by
  refine ⟨aF_len _ _, fun i i0 i1 => ?_⟩
  unfold shDl
  rw [shL_aF (by omega)]
  exact ⟨h i i0 i1, shDg_U i i0 i1⟩
theorem w8_mod (x : Int) : w8 (x % 256) = w8 x := by
  have a := w8_m x
  have b := w8_m (x % 256)
  omega
theorem zcmp_u {u v : Int} (hu : zU u) (hv : zU v) : w32 (w32 u + -2147483648) = u - 2147483648 ∧ w32 (w32 v + -2147483648) = v - 2147483648 := by
  have e : ∀ u, zU u → w32 (w32 u + -2147483648) = u - 2147483648 := fun u hu => by
    unfold zU at hu
    have a := w32_u u
    rw [← w32_id (x := u - 2147483648) ⟨by omega, by omega⟩]
    exact w32_c (by omega)
  exact ⟨e u hu, e v hv⟩
section
variable {kd an : Nat → Nat} {ai ai' : Nat → Int → Int} {ar : Nat → Int → Option Nat} {hm bm : Nat → Option Nat} {sz sz' : Nat → Int} {x p q d B_ o : Nat} {l la lb : List Int} {v b k n j : Int} {A B : Prop} {H : Int → List Int} {hA : Int → Nat}
theorem chW_eq (ha : chW (ai p) la) (hb : chW (ai q) lb) : (∀ i, 0 ≤ i → i < 8 → ai p i = ai q i) ↔ la = lb := by
  constructor
  · intro h
    have e : aF (shL la) 0 8 = aF (shL lb) 0 8 := aF_c _ _ (fun i i0 i1 => by
      have a := ha.2 i i0 (by omega)
      have b := hb.2 i i0 (by omega)
      exact w32_i a.2 b.2 (by rw [← a.1, ← b.1]; exact h i i0 (by omega)))
    rw [← aF_shL (l := la), ← aF_shL (l := lb), ha.1, hb.1, e]
  · intro e i i0 i1
    rw [(ha.2 i i0 i1).1, (hb.2 i i0 i1).1, e]
/-- less by the first word that differs -/
theorem chW_lt (ha : chW (ai p) la) (hb : chW (ai q) lb) (hk : 0 ≤ k ∧ k < 8) (he : ∀ i, 0 ≤ i → i < k → ai p i = ai q i) (h : shL la k < shL lb k) : qLx la lb ∧ ¬ la = lb := by
  have hu : ¬ qLx lb la := by
    rw [← aF_shL (l := la), ← aF_shL (l := lb), ha.1, hb.1]
    refine (cnLt_f 8 0).2 ⟨k, by omega, fun i i0 i1 => ?_, h⟩
    have a := ha.2 i i0 (by omega)
    have b := hb.2 i i0 (by omega)
    exact w32_i a.2 b.2 (by rw [← a.1, ← b.1]; exact he i i0 i1)
  exact ⟨(qLx_tot la lb).resolve_right hu, fun e => hu (by rw [e]; exact qLx_r _)⟩
theorem CCN_compare {post : Int → Prop} (kp : kd p = 5) (lp : (an p : Int) = 8) (kq : kd q = 5) (lq : (an q : Int) = 8) (ha : chW (ai p) la) (hb : chW (ai q) lb) (h0 : la = lb → post 0) (h1 : (qLx la lb ∧ ¬ la = lb) → post (-1)) (h2 : (qLx lb la ∧ ¬ lb = la) → post 1) : wpCN_X1_compare post kd an ai (some p) (some q) := by
  unfold wpCN_X1_compare
  refine wloop (fun fu k => wCN_X1_compare_2 _ (some p) (some q) kd an ai fu k) (fun k => (0 ≤ k ∧ k ≤ 8) ∧ ∀ i, 0 ≤ i → i < k → ai p i = ai q i) (fun k => (8 - k).toNat) ?_ 0 ⟨by omega, fun i i0 i1 => by omega⟩
  rintro k ⟨hk, he⟩ fu ih
  try dsimp only
  rw [wCN_X1_compare_2]
  refine ⟨fun z => ⟨fun _ => h0 ((chW_eq ha hb).1 (fun i i0 i1 => he i i0 (by omega))), fun w => by omega⟩, fun z => kOn_of rfl ⟨kp, by omega, kOn_of rfl ⟨kq, by omega, fun e => ⟨by omega, fun k' ek => ?_⟩, fun e => ⟨fun w => by omega, fun _ => kOn_of rfl ⟨kp, by omega, kOn_of rfl ⟨kq, by omega, ?_⟩⟩⟩⟩⟩⟩
  · rw [ek]
    refine ih (k + 1) ⟨by omega, fun i i0 i1 => ?_⟩ (by omega)
    by_cases w : i = k
    · rw [w]; exact e
    · exact he i i0 (by omega)
  · have a := ha.2 k hk.1 (by omega)
    have b := hb.2 k hk.1 (by omega)
    unfold wpCN_J3_compareUnsigned wpCN_J3_compare
    obtain ⟨e1, e2⟩ := zcmp_u a.2 b.2
    rw [a.1, b.1, e1, e2]
    have ne : ¬ shL la k = shL lb k := fun w => e (by rw [a.1, b.1, w])
    refine ⟨fun w => ⟨fun w2 => by omega, fun _ => h2 (chW_lt hb ha (k := k) (by omega) (fun i i0 i1 => (he i i0 i1).symm) (by omega))⟩, fun w => h1 (chW_lt ha hb (k := k) (by omega) he (by omega))⟩
/-! descriptions -/
/-- description d, its bytes in B_, holds l -/
def chB (ai : Nat → Int → Int) (sz : Nat → Int) (d B_ : Nat) (l : List Int) : Prop := sz d = (l.length : Int) ∧ ∀ i, 0 ≤ i → i < (l.length : Int) → ai B_ i = w8 (shL l i) ∧ 0 ≤ shL l i ∧ shL l i < 256
theorem CCN_X4_add {post : (Nat → Int → Int) → (Nat → Int) → Prop} (eb : bm d = some B_) (kb : kd B_ = 7) (lb : (an B_ : Int) = 99) (D : chB ai sz d B_ l) (hl : l.length < 99) (hp : ∀ ai' sz', chB ai' sz' d B_ (l ++ [v % 256]) → (∀ a, a ≠ B_ → ai' a = ai a) → (∀ a, a ≠ d → sz' a = sz a) → post ai' sz') : wpCN_X4_add post kd an ai bm sz d v := by
  obtain ⟨es, hb⟩ := D
  unfold wpCN_X4_add
  refine fun u eu => kOn_of eb ⟨kb, by omega, by rw [eu]; exact (w8_m v).2, fun a2 ea => ⟨⟨by omega, by omega⟩, fun n2 en s2 es2 => hp a2 s2 ⟨?_, fun i i0 i1 => ?_⟩ (fun a na => by rw [ea, va_up_n na]) (fun a na => by rw [es2, va_up_n na])⟩⟩
  · rw [es2, va_up_s, en, es, List.length_append, List.length_singleton]; omega
  · rw [List.length_append, List.length_singleton] at i1
    rw [ea, va_up_s, shL_at i0, updI_e, es]
    by_cases z : i = (l.length : Int)
    · rw [if_pos z, if_pos z, eu, w8_mod]
      exact ⟨rfl, by omega, by omega⟩
    · rw [if_neg z, if_neg z]
      exact hb i i0 (by omega)
theorem CCN_X4_word {post : (Nat → Int → Int) → (Nat → Int) → Prop} (eb : bm d = some B_) (kb : kd B_ = 7) (lb : (an B_ : Int) = 99) (D : chB ai sz d B_ l) (hl : l.length + 4 ≤ 99) {u : Int} (hu : zU u) (hp : ∀ ai' sz', chB ai' sz' d B_ (l ++ shWd u) → (∀ a, a ≠ B_ → ai' a = ai a) → (∀ a, a ≠ d → sz' a = sz a) → post ai' sz') : wpCN_X4_addWord post kd an ai bm sz d (w32 u) := by
  obtain ⟨p0, p1, p2, p3⟩ := zushr_p hu
  have ln : ∀ (l : List Int) (x : Int), (l ++ [x]).length = l.length + 1 := fun l x => by rw [List.length_append, List.length_singleton]
  unfold wpCN_X4_addWord
  refine ⟨5, ?_⟩
  rw [wCN_X4_addWord_3]
  refine ⟨fun h => absurd h (by decide), fun _ => CCN_X4_add eb kb lb D (by omega) (fun a1 s1 D1 f1 g1 => ⟨by decide, fun k1 e1 => ?_⟩)⟩
  rw [wCN_X4_addWord_3, e1, show (24 : Int) + -8 = 16 by decide]
  refine ⟨fun h => absurd h (by decide), fun _ => CCN_X4_add eb kb lb D1 (by rw [ln]; omega) (fun a2 s2 D2 f2 g2 => ⟨by decide, fun k2 e2 => ?_⟩)⟩
  rw [wCN_X4_addWord_3, e2, show (16 : Int) + -8 = 8 by decide]
  refine ⟨fun h => absurd h (by decide), fun _ => CCN_X4_add eb kb lb D2 (by rw [ln, ln]; omega) (fun a3 s3 D3 f3 g3 => ⟨by decide, fun k3 e3 => ?_⟩)⟩
  rw [wCN_X4_addWord_3, e3, show (8 : Int) + -8 = 0 by decide]
  refine ⟨fun h => absurd h (by decide), fun _ => CCN_X4_add eb kb lb D3 (by rw [ln, ln, ln]; omega) (fun a4 s4 D4 f4 g4 => ⟨by decide, fun k4 e4 => ?_⟩)⟩
  rw [wCN_X4_addWord_3, e4, show (0 : Int) + -8 = -8 by decide]
  refine ⟨fun _ => ?_, fun h => absurd (by decide) h⟩
  rw [p0, p1, p2, p3] at D4
  have el : (((l ++ [u / 16777216 % 256]) ++ [u / 65536 % 256]) ++ [u / 256 % 256]) ++ [u % 256] = l ++ shWd u := by
    unfold shWd
    rw [List.append_assoc, List.append_assoc, List.append_assoc]; rfl
  rw [el] at D4
  exact hp a4 s4 D4 (fun a na => by rw [f4 a na, f3 a na, f2 a na, f1 a na]) (fun a na => by rw [g4 a na, g3 a na, g2 a na, g1 a na])
theorem shWd_len (u : Int) : (shWd u).length = 4 := rfl
theorem fl_len : ∀ l : List Int, (l.flatMap shWd).length = 4 * l.length
  | [] => rfl
  | x :: l => by rw [List.flatMap_cons, List.length_append, fl_len l, List.length_cons, shWd_len]; omega
/-- the words of a hash, one after the other -/
theorem CCN_d88 {K : (Nat → Int → Int) → (Nat → Int) → Prop} (kd_ : kd d = 4) (eb : bm d = some B_) (kb : kd B_ = 7) (lb : (an B_ : Int) = 99) (kq : kd q = 5) (lq : (an q : Int) = 8) (qB : q ≠ B_) (W : chW (ai q) la) (D : chB ai sz d B_ l) (hl : l.length + 32 ≤ 99) (hK : ∀ ai' sz', chB ai' sz' d B_ (l ++ la.flatMap shWd) → (∀ a, a ≠ B_ → ai' a = ai a) → (∀ a, a ≠ d → sz' a = sz a) → K ai' sz') : ∃ fu : Nat, wCN_X1_describe_88 K (some d) (some q) 8 kd an bm fu 0 ai sz := by
  refine wl3 (fun fu k a s => wCN_X1_describe_88 K (some d) (some q) 8 kd an bm fu k a s) (fun k a s => (0 ≤ k ∧ k ≤ 8) ∧ chB a s d B_ (l ++ (aF (shL la) 0 k.toNat).flatMap shWd) ∧ (∀ c, c ≠ B_ → a c = ai c) ∧ ∀ c, c ≠ d → s c = sz c) (fun k _ _ => (8 - k).toNat) ?_ 0 ai sz ⟨by omega, by
    rw [show (0 : Int).toNat = 0 by decide, aF, List.flatMap_nil, List.append_nil]
    exact D, fun _ _ => rfl, fun _ _ => rfl⟩
  rintro k a s ⟨hk, h, fa, fs⟩ fu ih
  try dsimp only
  rw [wCN_X1_describe_88]
  refine ⟨fun z => ?_, fun z => kOn_of rfl ⟨kq, by omega, fun u eu => kOn_of rfl ⟨kd_, ?_⟩⟩⟩
  · have ek : k.toNat = la.length := by rw [W.1]; omega
    rw [ek, aF_shL] at h
    exact hK a s h fa fs
  · have w := W.2 k hk.1 (by omega)
    rw [eu, fa q qB, w.1]
    refine CCN_X4_word eb kb lb h (by rw [List.length_append, fl_len, aF_len]; omega) w.2 (fun a2 s2 D2 f2 g2 => ⟨by omega, fun k' ek => ?_⟩)
    rw [ek]
    refine ih (k + 1) a2 s2 ⟨by omega, ?_, fun c nc => by rw [f2 c nc]; exact fa c nc, fun c nc => by rw [g2 c nc]; exact fs c nc⟩ (by omega)
    rw [show (k + 1).toNat = k.toNat + 1 by omega, aF_s, List.flatMap_append, List.flatMap_cons, List.flatMap_nil, List.append_nil, show (0 : Int) + (k.toNat : Int) = k by omega, ← List.append_assoc]
    exact D2
/-- one point of a triple -/
theorem CCN_d45 {K : Int → (Nat → Int → Int) → (Nat → Int) → Prop} {y : Int} (kd_ : kd d = 4) (eb : bm d = some B_) (kb : kd B_ = 7) (lb : (an B_ : Int) = 99) (eh : hm x = some o) (ko : kd o = 8) (lo : (an o : Int) = 9) (hn : n ≤ 8) (hr : ∀ c, 1 ≤ c → c ≤ n → ar o c = some (hA c) ∧ kd (hA c) = 5 ∧ (an (hA c) : Int) = 8 ∧ hA c ≠ B_ ∧ chW (ai (hA c)) (H c)) (D : chB ai sz d B_ l) (hl : l.length + 33 ≤ 99) (hv : cnPt n v) (hj : 0 ≤ j ∧ j < 3) (ey : y = if 0 < v then 0 else if -v = b then 1 else 2) (hK : ∀ ai' sz', chB ai' sz' d B_ (l ++ cnDe H b v) → (∀ a, a ≠ B_ → ai' a = ai a) → (∀ a, a ≠ d → sz' a = sz a) → K (j + 1) ai' sz') : wCN_X1_describe_45 K x (some d) b j v (some d) y kd an ai ar hm bm sz := by
  have ln : (l ++ [y % 256]).length = l.length + 1 := by rw [List.length_append, List.length_singleton]
  unfold cnPt at hv
  unfold wCN_X1_describe_45
  refine kOn_of rfl ⟨kd_, CCN_X4_add eb kb lb D (by omega) (fun a1 s1 D1 f1 g1 => ?_)⟩
  refine ⟨fun z => ⟨by omega, fun w => ⟨by omega, fun j' ej => ?_⟩, fun w => kOn_of eh ⟨ko, by omega, fun r er => ?_⟩⟩, fun z => kOn_of rfl ⟨kd_, ?_⟩⟩
  · have eD : cnDe H b v = [1] := by
      unfold cnDe
      rw [if_neg (by omega), if_pos w]
    rw [if_neg (by omega), if_pos w] at ey
    rw [ej]
    refine hK a1 s1 ?_ f1 g1
    rw [eD]
    rw [ey] at D1
    exact D1
  · have eD : cnDe H b v = 2 :: (H (-v)).flatMap shWd := by
      unfold cnDe
      rw [if_neg (by omega), if_neg w]
    rw [if_neg (by omega), if_neg w] at ey
    obtain ⟨r1, r2, r3, r4, r5⟩ := hr (-v) (by omega) (by omega)
    rw [er, r1]
    refine kOn_of rfl ⟨r2, by omega, fun m em => ?_⟩
    rw [em, r3]
    refine CCN_d88 kd_ eb kb lb r2 r3 r4 (by rw [f1 _ r4]; exact r5) D1 (by rw [ln]; omega) (fun a2 s2 D2 f2 g2 => ⟨by omega, fun j' ej => ?_⟩)
    rw [ej]
    refine hK a2 s2 ?_ (fun a na => by rw [f2 a na, f1 a na]) (fun a na => by rw [g2 a na, g1 a na])
    rw [eD]
    rw [ey, List.append_assoc] at D2
    exact D2
  · have eD : cnDe H b v = 0 :: shWd v := by
      unfold cnDe
      rw [if_pos (by omega)]
    rw [if_pos (by omega)] at ey
    have ev : v = w32 v := (w32_id ⟨by omega, by omega⟩).symm
    have W := CCN_X4_word (post := fun ai_53 mX4_size_54 => (zR (j + 1) ∧ (∀ x5_56 : Int, x5_56 = j + 1 → (K x5_56 ai_53 mX4_size_54)))) (sz := s1) (ai := a1) (u := v) eb kb lb D1 (by rw [ln]; omega) ⟨by omega, by omega⟩ (fun a2 s2 D2 f2 g2 => ⟨by omega, fun j' ej => by
      rw [ej]
      refine hK a2 s2 ?_ (fun a na => by rw [f2 a na, f1 a na]) (fun a na => by rw [g2 a na, g1 a na])
      rw [eD]
      rw [ey, List.append_assoc] at D2
      exact D2⟩)
    rw [← ev] at W
    exact W
theorem cnDe_len8 (h : ∀ v, v < 0 → -n ≤ v → (H (-v)).length = 8) (hv : cnPt n v) : (cnDe H b v).length ≤ 33 := by
  unfold cnPt at hv
  unfold cnDe
  split
  · rw [List.length_cons, shWd_len]; decide
  · split
    · decide
    · rw [List.length_cons, fl_len, h v (by omega) (by omega)]; decide
theorem CCN_describe {post : (Nat → Int → Int) → (Nat → Int) → Prop} (kd_ : kd d = 4) (eb : bm d = some B_) (kb : kd B_ = 7) (lb : (an B_ : Int) = 99) (eh : hm x = some o) (ko : kd o = 8) (lo : (an o : Int) = 9) (hn : n ≤ 8) (hr : ∀ c, 1 ≤ c → c ≤ n → ar o c = some (hA c) ∧ kd (hA c) = 5 ∧ (an (hA c) : Int) = 8 ∧ hA c ≠ B_ ∧ chW (ai (hA c)) (H c)) (hk : cnOk n k) (hp : ∀ ai' sz', chB ai' sz' d B_ (cnD H b (cnDk k)) → (∀ a, a ≠ B_ → ai' a = ai a) → (∀ a, a ≠ d → sz' a = sz a) → post ai' sz') : wpCN_X1_describe post kd an ai ar hm bm sz x (some d) k b := by
  obtain ⟨t1, t2, t3⟩ := hk.2
  have l8 : ∀ v, v < 0 → -n ≤ v → (H (-v)).length = 8 := fun v v0 v1 => (hr (-v) (by omega) (by omega)).2.2.2.2.1
  have n1 := cnDe_len8 (b := b) l8 t1
  have n2 := cnDe_len8 (b := b) l8 t2
  unfold wpCN_X1_describe
  refine kOn_of rfl ⟨kd_, fun s0 e0 => ⟨4, ?_⟩⟩
  have step : ∀ (j v : Int) (fu : Nat) (a1 : Nat → Int → Int) (s1 : Nat → Int) (l : List Int), (j = 0 ∨ j = 1 ∨ j = 2) → (cnQ3 (cnDk k)).getD j.toNat 0 = v → cnPt n v → chB a1 s1 d B_ l → l.length + 33 ≤ 99 → (∀ a, a ≠ B_ → a1 a = ai a) → (∀ a, a ≠ d → s1 a = sz a) → (∀ a2 s2, chB a2 s2 d B_ (l ++ cnDe H b v) → (∀ a, a ≠ B_ → a2 a = ai a) → (∀ a, a ≠ d → s2 a = sz a) → wCN_X1_describe_8 (fun a s => post a s) x (some d) k b kd an ar hm bm fu (j + 1) a2 s2) → wCN_X1_describe_8 (fun a s => post a s) x (some d) k b kd an ar hm bm (fu + 1) j a1 s1 := fun j v fu a1 s1 l hj ev hv D hl f1 g1 nx => by
    have hr1 : ∀ c, 1 ≤ c → c ≤ n → ar o c = some (hA c) ∧ kd (hA c) = 5 ∧ (an (hA c) : Int) = 8 ∧ hA c ≠ B_ ∧ chW (a1 (hA c)) (H c) := fun c c0 c1 => by
      obtain ⟨r1, r2, r3, r4, r5⟩ := hr c c0 c1
      exact ⟨r1, r2, r3, r4, by rw [f1 _ r4]; exact r5⟩
    have fin : ∀ y : Int, y = (if 0 < v then 0 else if -v = b then 1 else 2) → wCN_X1_describe_45 (wCN_X1_describe_8 (fun a s => post a s) x (some d) k b kd an ar hm bm fu) x (some d) b j v (some d) y kd an a1 ar hm bm s1 := fun y ey => CCN_d45 kd_ eb kb lb eh ko lo hn hr1 D hl hv (by omega) ey (fun a2 s2 D2 f2 g2 => nx a2 s2 D2 (fun a na => by rw [f2 a na, f1 a na]) (fun a na => by rw [g2 a na, g1 a na]))
    unfold cnPt at hv
    rw [wCN_X1_describe_8]
    refine ⟨fun z => by omega, fun _ => CCN_point hn hk hj ?_⟩
    rw [ev]
    exact ⟨fun z => ⟨by omega, fun w => fin 1 (by rw [if_neg (by omega), if_pos w]), fun w => fin 2 (by rw [if_neg (by omega), if_neg w])⟩, fun z => fin 0 (by rw [if_pos (by omega)])⟩
  have D0 : chB ai s0 d B_ [] := ⟨by rw [e0, va_up_s]; rfl, fun i i0 i1 => by
    have : (([] : List Int).length : Int) = 0 := rfl
    omega⟩
  refine step 0 (cnDk k).1 3 ai s0 [] (Or.inl rfl) rfl t1 D0 (by decide) (fun _ _ => rfl) (fun a na => by rw [e0, va_up_n na]) (fun a1 s1 D1 f1 g1 => ?_)
  refine step (0 + 1) (cnDk k).2.1 2 a1 s1 _ (by omega) rfl t2 D1 (by rw [List.nil_append]; omega) f1 g1 (fun a2 s2 D2 f2 g2 => ?_)
  refine step (0 + 1 + 1) (cnDk k).2.2 1 a2 s2 _ (by omega) rfl t3 D2 (by rw [List.nil_append, List.length_append]; omega) f2 g2 (fun a3 s3 D3 f3 g3 => ?_)
  rw [wCN_X1_describe_8]
  refine ⟨fun _ => hp a3 s3 ?_ f3 g3, fun w => absurd (by decide) w⟩
  rw [List.nil_append, List.append_assoc] at D3
  exact D3
/-- two descriptions beside one another -/
theorem CCN_compareTo {post : Int → Prop} {e E : Nat} {lb_ : List Int} (ke : kd e = 4) (eb : bm d = some B_) (kb : kd B_ = 7) (lb : (an B_ : Int) = 99) (eE : bm e = some E) (kE_ : kd E = 7) (lE : (an E : Int) = 99) (D : chB ai sz d B_ la) (F : chB ai sz e E lb_) (l1 : la.length ≤ 99) (l2 : lb_.length ≤ 99) (h0 : qLx la lb_ → ∀ r, r ≤ 0 → post r) (h1 : ¬ qLx la lb_ → ∀ r, 0 < r → post r) : wpCN_X4_compareTo post kd an ai bm sz d (some e) := by
  obtain ⟨d1, d2⟩ := D
  obtain ⟨f1, f2⟩ := F
  have cut : ∀ k : Int, 0 ≤ k → k ≤ (la.length : Int) → k ≤ (lb_.length : Int) → (∀ i, 0 ≤ i → i < k → shL la i = shL lb_ i) → (qLx la lb_ ↔ qLx (aF (shL la) k (la.length - k.toNat)) (aF (shL lb_) k (lb_.length - k.toNat))) := fun k k0 k1 k2 he => by
    have := qLx_cut (f := shL la) (g := shL lb_) (s := 0) (t := 0) (m := la.length) (p := lb_.length) (q := k.toNat) (by omega) (by omega) (fun i i0 i1 => by rw [Int.zero_add]; exact he i i0 (by omega))
    rw [aF_shL, aF_shL, show (0 : Int) + (k.toNat : Int) = k by omega] at this
    exact this
  unfold wpCN_X4_compareTo
  refine wloop (fun fu k => wCN_X4_compareTo_2 _ d (some e) kd an ai bm sz fu k) (fun k => (0 ≤ k ∧ k ≤ (la.length : Int) ∧ k ≤ (lb_.length : Int)) ∧ ∀ i, 0 ≤ i → i < k → shL la i = shL lb_ i) (fun k => (100 - k).toNat) ?_ 0 ⟨by omega, fun i i0 i1 => by omega⟩
  rintro k ⟨hk, he⟩ fu ih
  have c := cut k hk.1 hk.2.1 hk.2.2 he
  have ends : (k = (la.length : Int) ∨ k = (lb_.length : Int)) → wpCN_J3_compare (fun r => post r) (sz d) (sz e) := fun w => by
    unfold wpCN_J3_compare
    rw [d1, f1]
    refine ⟨fun z => ⟨fun z2 => h0 (c.2 ?_) 0 (by decide), fun z2 => h1 (fun Q => ?_) 1 (by decide)⟩, fun z => h0 (c.2 ?_) (-1) (by decide)⟩
    · rw [show la.length - k.toNat = 0 by omega]
      exact trivial
    · have Q2 := c.1 Q
      rw [show lb_.length - k.toNat = 0 by omega, show la.length - k.toNat = (la.length - k.toNat - 1) + 1 by omega] at Q2
      exact Q2
    · rw [show la.length - k.toNat = 0 by omega]
      exact trivial
  have at39 : (k = (la.length : Int) ∨ k = (lb_.length : Int)) → wCN_X4_compareTo_39 post d (some e) k kd an ai bm sz := fun w => by
    unfold wCN_X4_compareTo_39
    refine ⟨fun _ => kOn_of rfl ⟨ke, ends w⟩, fun z => kOn_of rfl ⟨ke, fun _ => ends w, fun z2 => ?_⟩⟩
    rw [d1] at z
    rw [f1] at z2
    exact absurd w (fun w => w.elim z z2)
  try dsimp only
  rw [wCN_X4_compareTo_2, d1]
  refine ⟨fun z => at39 (by omega), fun z => kOn_of rfl ⟨ke, ?_⟩⟩
  rw [f1]
  refine ⟨fun z2 => at39 (by omega), fun z2 => kOn_of eb ⟨kb, by omega, kOn_of eE ⟨kE_, by omega, fun eq => ⟨by omega, fun k' ek => ?_⟩, fun ne => ?_⟩⟩⟩
  · rw [ek]
    have a := d2 k hk.1 (by omega)
    have b := f2 k hk.1 (by omega)
    rw [a.1, b.1] at eq
    have m1 := (w8_m (shL la k)).1
    have m2 := (w8_m (shL lb_ k)).1
    refine ih (k + 1) ⟨by omega, fun i i0 i1 => ?_⟩ (by omega)
    by_cases w : i = k
    · rw [w]
      rw [eq] at m1
      omega
    · exact he i i0 (by omega)
  · unfold wCN_X4_compareTo_39
    have a := d2 k hk.1 (by omega)
    have b := f2 k hk.1 (by omega)
    have m1 := (w8_m (shL la k)).1
    have m2 := (w8_m (shL lb_ k)).1
    rw [d1]
    refine ⟨fun w => by omega, fun _ => kOn_of rfl ⟨ke, fun w => ?_, fun _ => kOn_of eb ⟨kb, by omega, kOn_of eE ⟨kE_, by omega, ?_⟩⟩⟩⟩
    · rw [f1] at w; omega
    · rw [a.1, b.1] at ne
      rw [a.1, b.1, m1, m2, show shL la k % 256 = shL la k by omega, show shL lb_ k % 256 = shL lb_ k by omega]
      have ne2 : ¬ shL la k = shL lb_ k := fun w => ne (by rw [w])
      rw [show la.length - k.toNat = (la.length - k.toNat - 1) + 1 by omega, show lb_.length - k.toNat = (lb_.length - k.toNat - 1) + 1 by omega, aF, aF] at c
      unfold wpCN_J3_compare
      refine ⟨fun w => ⟨fun w2 => absurd w2 ne2, fun _ => h1 (fun Q => ?_) 1 (by decide)⟩, fun w => h0 (c.2 (Or.inl (by omega))) (-1) (by decide)⟩
      rcases c.1 Q with y | y
      · omega
      · omega
end

/-! CanonNames (room CN): its shape; a blank's next hash -/
/-- labels: 0 this, 1 kept, 2 digest, 3 its words, 4 its block, 5 descriptions, 6 order, 7 begins numbers best given, 8 row leastRow form, 9 hashes and next, 10 their rows, 11 description objects, 12 their bytes, 13 graphs' keys, 14 graphs, 15 octets -/
def chK : Nat → Nat
  | 0 => 1 | 1 => 9 | 2 => 3 | 3 => 5 | 4 => 5 | 5 => 10 | 6 => 5 | 7 => 5 | 8 => 6 | 9 => 8 | 10 => 5 | 11 => 4 | 12 => 7 | 13 => 6 | 14 => 2 | 15 => 7 | _ => 99
def chLn : Nat → Nat
  | 1 => 8 | 3 => 8 | 4 => 64 | 5 => 40 | 6 => 8 | 7 => 9 | 8 => 40 | 9 => 9 | 10 => 8 | 12 => 99 | 13 => 40 | 15 => 32 | _ => 0
def chN (gn : Int) : Nat → Int
  | 0 => 1 | 1 => 1 | 2 => 1 | 3 => 1 | 4 => 1 | 5 => 1 | 6 => 1 | 7 => 4 | 8 => 3 | 9 => 2 | 10 => 18 | 11 => 40 | 12 => 40 | 13 => gn + 1 | 14 => gn + 1 | 15 => 1 | _ => 0
section
variable {kd an : Nat → Nat} {A : Nat → Int → Nat} {g : Nat → Nat × Int} {gn j : Int}
theorem chX0 (H : Lab chK chLn kd an A g (chN gn)) : kd (A 0 0) = 1 := (H 0 0 (by decide) (show (0 : Int) < 1 by decide)).2.1.1
theorem chX1 (H : Lab chK chLn kd an A g (chN gn)) : kd (A 1 0) = 9 ∧ (an (A 1 0) : Int) = 8 := ⟨(H 1 0 (by decide) (show (0 : Int) < 1 by decide)).2.1.1, congrArg (fun m : Nat => (m : Int)) ((H 1 0 (by decide) (show (0 : Int) < 1 by decide)).2.2 (show (8 : Nat) ≠ 0 by decide))⟩
theorem chX2 (H : Lab chK chLn kd an A g (chN gn)) : kd (A 2 0) = 3 := (H 2 0 (by decide) (show (0 : Int) < 1 by decide)).2.1.1
theorem chX3 (H : Lab chK chLn kd an A g (chN gn)) : kd (A 3 0) = 5 ∧ (an (A 3 0) : Int) = 8 := ⟨(H 3 0 (by decide) (show (0 : Int) < 1 by decide)).2.1.1, congrArg (fun m : Nat => (m : Int)) ((H 3 0 (by decide) (show (0 : Int) < 1 by decide)).2.2 (show (8 : Nat) ≠ 0 by decide))⟩
theorem chX4 (H : Lab chK chLn kd an A g (chN gn)) : kd (A 4 0) = 5 ∧ (an (A 4 0) : Int) = 64 := ⟨(H 4 0 (by decide) (show (0 : Int) < 1 by decide)).2.1.1, congrArg (fun m : Nat => (m : Int)) ((H 4 0 (by decide) (show (0 : Int) < 1 by decide)).2.2 (show (64 : Nat) ≠ 0 by decide))⟩
theorem chX5 (H : Lab chK chLn kd an A g (chN gn)) : kd (A 5 0) = 10 ∧ (an (A 5 0) : Int) = 40 := ⟨(H 5 0 (by decide) (show (0 : Int) < 1 by decide)).2.1.1, congrArg (fun m : Nat => (m : Int)) ((H 5 0 (by decide) (show (0 : Int) < 1 by decide)).2.2 (show (40 : Nat) ≠ 0 by decide))⟩
theorem chX6 (H : Lab chK chLn kd an A g (chN gn)) : kd (A 6 0) = 5 ∧ (an (A 6 0) : Int) = 8 := ⟨(H 6 0 (by decide) (show (0 : Int) < 1 by decide)).2.1.1, congrArg (fun m : Nat => (m : Int)) ((H 6 0 (by decide) (show (0 : Int) < 1 by decide)).2.2 (show (8 : Nat) ≠ 0 by decide))⟩
theorem chX7 (H : Lab chK chLn kd an A g (chN gn)) (h : 0 ≤ j ∧ j < 4) : kd (A 7 j) = 5 ∧ (an (A 7 j) : Int) = 9 := ⟨(H 7 j h.1 (show j < 4 from h.2)).2.1.1, congrArg (fun m : Nat => (m : Int)) ((H 7 j h.1 (show j < 4 from h.2)).2.2 (show (9 : Nat) ≠ 0 by decide))⟩
theorem chX8 (H : Lab chK chLn kd an A g (chN gn)) (h : 0 ≤ j ∧ j < 3) : kd (A 8 j) = 6 ∧ (an (A 8 j) : Int) = 40 := ⟨(H 8 j h.1 (show j < 3 from h.2)).2.1.1, congrArg (fun m : Nat => (m : Int)) ((H 8 j h.1 (show j < 3 from h.2)).2.2 (show (40 : Nat) ≠ 0 by decide))⟩
theorem chX9 (H : Lab chK chLn kd an A g (chN gn)) (h : 0 ≤ j ∧ j < 2) : kd (A 9 j) = 8 ∧ (an (A 9 j) : Int) = 9 := ⟨(H 9 j h.1 (show j < 2 from h.2)).2.1.1, congrArg (fun m : Nat => (m : Int)) ((H 9 j h.1 (show j < 2 from h.2)).2.2 (show (9 : Nat) ≠ 0 by decide))⟩
theorem chX10 (H : Lab chK chLn kd an A g (chN gn)) (h : 0 ≤ j ∧ j < 18) : kd (A 10 j) = 5 ∧ (an (A 10 j) : Int) = 8 := ⟨(H 10 j h.1 (show j < 18 from h.2)).2.1.1, congrArg (fun m : Nat => (m : Int)) ((H 10 j h.1 (show j < 18 from h.2)).2.2 (show (8 : Nat) ≠ 0 by decide))⟩
theorem chX11 (H : Lab chK chLn kd an A g (chN gn)) (h : 0 ≤ j ∧ j < 40) : kd (A 11 j) = 4 := (H 11 j h.1 (show j < 40 from h.2)).2.1.1
theorem chX12 (H : Lab chK chLn kd an A g (chN gn)) (h : 0 ≤ j ∧ j < 40) : kd (A 12 j) = 7 ∧ (an (A 12 j) : Int) = 99 := ⟨(H 12 j h.1 (show j < 40 from h.2)).2.1.1, congrArg (fun m : Nat => (m : Int)) ((H 12 j h.1 (show j < 40 from h.2)).2.2 (show (99 : Nat) ≠ 0 by decide))⟩
theorem chX13 (H : Lab chK chLn kd an A g (chN gn)) (h : 0 ≤ j ∧ j < gn + 1) : kd (A 13 j) = 6 ∧ (an (A 13 j) : Int) = 40 := ⟨(H 13 j h.1 (show j < gn + 1 from h.2)).2.1.1, congrArg (fun m : Nat => (m : Int)) ((H 13 j h.1 (show j < gn + 1 from h.2)).2.2 (show (40 : Nat) ≠ 0 by decide))⟩
theorem chX14 (H : Lab chK chLn kd an A g (chN gn)) (h : 0 ≤ j ∧ j < gn + 1) : kd (A 14 j) = 2 := (H 14 j h.1 (show j < gn + 1 from h.2)).2.1.1
theorem chX15 (H : Lab chK chLn kd an A g (chN gn)) : kd (A 15 0) = 7 ∧ (an (A 15 0) : Int) = 32 := ⟨(H 15 0 (by decide) (show (0 : Int) < 1 by decide)).2.1.1, congrArg (fun m : Nat => (m : Int)) ((H 15 0 (by decide) (show (0 : Int) < 1 by decide)).2.2 (show (32 : Nat) ≠ 0 by decide))⟩
end
/-- what refers to what: hashes are in half hp, the descriptions in the order pi, the graph at hand is number gn -/
def chS (ar : Nat → Int → Option Nat) (mX1_graph mX1_kept mX1_digest mX1_hashes mX1_next mX1_descriptions mX1_order mX1_begins mX1_numbers mX1_best mX1_row mX1_leastRow mX1_given mX1_form mX1_octets mX2_keys mX3_words mX3_block mX4_bytes : Nat → Option Nat) (A : Nat → Int → Nat) (hp : Int) (pi : Int → Int) (gn : Int) : Prop :=
  (mX1_graph (A 0 0) = some (A 14 gn) ∧ mX1_kept (A 0 0) = some (A 1 0) ∧ mX1_digest (A 0 0) = some (A 2 0) ∧ mX1_hashes (A 0 0) = some (A 9 hp) ∧ mX1_next (A 0 0) = some (A 9 (1 - hp)) ∧ mX1_descriptions (A 0 0) = some (A 5 0)) ∧
  (mX1_order (A 0 0) = some (A 6 0) ∧ mX1_begins (A 0 0) = some (A 7 0) ∧ mX1_numbers (A 0 0) = some (A 7 1) ∧ mX1_best (A 0 0) = some (A 7 2) ∧ mX1_given (A 0 0) = some (A 7 3) ∧ mX1_row (A 0 0) = some (A 8 0) ∧ mX1_leastRow (A 0 0) = some (A 8 1) ∧ mX1_form (A 0 0) = some (A 8 2) ∧ mX1_octets (A 0 0) = some (A 15 0)) ∧
  ((∀ j, 0 ≤ j → j ≤ gn → mX2_keys (A 14 j) = some (A 13 j)) ∧ mX3_words (A 2 0) = some (A 3 0) ∧ mX3_block (A 2 0) = some (A 4 0) ∧ ∀ j, 0 ≤ j → j < 40 → mX4_bytes (A 11 j) = some (A 12 j)) ∧
  ((∀ j, 0 ≤ j → j < gn → ar (A 1 0) j = some (A 14 j)) ∧ (∀ s b, (0 ≤ s ∧ s < 2) → (0 ≤ b ∧ b < 9) → ar (A 9 s) b = some (A 10 (9 * s + b))) ∧ ∀ j, 0 ≤ j → j < 40 → ar (A 5 0) j = some (A 11 (pi j))) ∧
  ((∀ j, 0 ≤ j → j < 40 → 0 ≤ pi j ∧ pi j < 40) ∧ ∀ i j, 0 ≤ i → i < j → j < 40 → ¬ pi i = pi j) ∧ (hp = 0 ∨ hp = 1) ∧ 0 ≤ gn ∧ gn ≤ 8
section
variable {kd an : Nat → Nat} {ai ai' al : Nat → Int → Int} {ar ar' : Nat → Int → Option Nat} {mX1_graph mX1_kept mX1_digest mX1_hashes mX1_next mX1_descriptions mX1_order mX1_begins mX1_numbers mX1_best mX1_row mX1_leastRow mX1_given mX1_form mX1_octets mX2_keys mX3_words mX3_block mX4_bytes : Nat → Option Nat} {mX2_blanks mX2_count mX3_size mX4_size : Nat → Int} {A : Nat → Int → Nat} {g : Nat → Nat × Int} {gn hp n m b k c s : Int} {pi : Int → Int} {D : Int → List Int} {H : Int → List Int} {l : List Int}
/-- descriptions 0 .. m-1 hold D -/
def chC (ai : Nat → Int → Int) (mX4_size : Nat → Int) (A : Nat → Int → Nat) (pi : Int → Int) (D : Int → List Int) (m : Int) : Prop := ∀ j, 0 ≤ j → j < m → chB ai mX4_size (A 11 (pi j)) (A 12 (pi j)) (D j) ∧ (D j).length ≤ 99
/-- the hashes in half s -/
def chH (ai : Nat → Int → Int) (A : Nat → Int → Nat) (s n : Int) (H : Int → List Int) : Prop := ∀ b, 1 ≤ b → b ≤ n → chW (ai (A 10 (9 * s + b))) (H b)
theorem CCN_h32 {K : Int → Prop} (hn : n ≤ 8) (ok : cnOk n k) (hb : 1 ≤ b ∧ b ≤ 8) (h1 : cnSt b (cnDk k) → K 1) (h0 : ¬ cnSt b (cnDk k) → K 0) : ∃ fu : Nat, wCN_X1_hashOne_32 K b k fu 0 0 := by
  have z00 : zor 0 0 = 0 := by decide
  have z01 : zor 0 1 = 1 := by decide
  have z10 : zor 1 0 = 1 := by decide
  have z11 : zor 1 1 = 1 := by decide
  have step : ∀ (j v x : Int) (fu : Nat), (j = 0 ∨ j = 1 ∨ j = 2) → (cnQ3 (cnDk k)).getD j.toNat 0 = v → (v = -b → wCN_X1_hashOne_32 K b k fu (zor x 1) (j + 1)) → (¬ v = -b → wCN_X1_hashOne_32 K b k fu (zor x 0) (j + 1)) → wCN_X1_hashOne_32 K b k (fu + 1) x j := fun j v x fu hj ev y1 y0 => by
    rw [wCN_X1_hashOne_32]
    refine ⟨fun z => by omega, fun _ => CCN_point hn ok hj ⟨by omega, ?_⟩⟩
    rw [ev]
    refine ⟨fun e x' ex => ⟨by omega, fun j' ej => ?_⟩, fun e x' ex => ⟨by omega, fun j' ej => ?_⟩⟩
    · rw [ex, ej]; exact y1 e
    · rw [ex, ej]; exact y0 e
  have fin : ∀ x : Int, (x = 1 → K 1) → (x = 0 → K 0) → (x = 0 ∨ x = 1) → wCN_X1_hashOne_32 K b k 1 x (0 + 1 + 1 + 1) := fun x f1 f0 hx => by
    rw [wCN_X1_hashOne_32]
    refine ⟨fun _ => ?_, fun w => absurd (by decide) w⟩
    rcases hx with z | z
    · rw [z]; exact f0 z
    · rw [z]; exact f1 z
  have last : ∀ x : Int, (x = 0 ∨ x = 1) → (x = 1 → (cnDk k).1 = -b ∨ (cnDk k).2.1 = -b) → (x = 0 → ¬ (cnDk k).1 = -b ∧ ¬ (cnDk k).2.1 = -b) → wCN_X1_hashOne_32 K b k 2 x (0 + 1 + 1) := fun x hx x1 x0 => by
    refine step (0 + 1 + 1) (cnDk k).2.2 x 1 (by omega) rfl (fun e => ?_) (fun e => ?_)
    · have : zor x 1 = 1 := by
        rcases hx with z | z <;> rw [z] <;> first | exact z01 | exact z11
      rw [this]
      exact fin 1 (fun _ => h1 (Or.inr (Or.inr e))) (fun w => absurd w (by decide)) (Or.inr rfl)
    · have : zor x 0 = x := by
        rcases hx with z | z <;> rw [z] <;> first | exact z00 | exact z10
      rw [this]
      exact fin x (fun w => h1 (by
        rcases x1 w with y | y
        · exact Or.inl y
        · exact Or.inr (Or.inl y))) (fun w => h0 (fun C => by
        have := x0 w
        rcases C with y | y | y
        · exact this.1 y
        · exact this.2 y
        · exact e y)) hx
  refine ⟨4, step 0 (cnDk k).1 0 3 (by omega) rfl (fun e1 => ?_) (fun e1 => ?_)⟩
  · rw [z01]
    refine step (0 + 1) (cnDk k).2.1 1 2 (by omega) rfl (fun e2 => ?_) (fun e2 => ?_)
    · rw [z11]; exact last 1 (Or.inr rfl) (fun _ => Or.inl e1) (fun w => absurd w (by decide))
    · rw [z10]; exact last 1 (Or.inr rfl) (fun _ => Or.inl e1) (fun w => absurd w (by decide))
  · rw [z00]
    refine step (0 + 1) (cnDk k).2.1 0 2 (by omega) rfl (fun e2 => ?_) (fun e2 => ?_)
    · rw [z01]; exact last 1 (Or.inr rfl) (fun _ => Or.inr e2) (fun w => absurd w (by decide))
    · rw [z00]; exact last 0 (Or.inl rfl) (fun w => absurd w (by decide)) (fun _ => ⟨e1, e2⟩)
/-- where the new description goes -/
theorem CCN_h94 {K : Int → (Nat → Int → Option Nat) → Prop} (L : Lab chK chLn kd an A g (chN gn)) (Sh : chS ar mX1_graph mX1_kept mX1_digest mX1_hashes mX1_next mX1_descriptions mX1_order mX1_begins mX1_numbers mX1_best mX1_row mX1_leastRow mX1_given mX1_form mX1_octets mX2_keys mX3_words mX3_block mX4_bytes A hp pi gn) (hm : 0 ≤ m ∧ m < 40) (C : chC ai mX4_size A pi D m) (Bl : chB ai mX4_size (A 11 (pi m)) (A 12 (pi m)) l) (l99 : l.length ≤ 99) (st : ∀ i j, 0 ≤ i → i < j → j < m → qLx (D i) (D j))
  (hK : ∀ p ar', (0 ≤ p ∧ p ≤ m) → (∀ a, a ≠ A 5 0 → ar' a = ar a) → (∀ j, 0 ≤ j → j < p → ar' (A 5 0) j = ar (A 5 0) j) → (∀ j, p < j → j ≤ m → ar' (A 5 0) j = ar (A 5 0) (j - 1)) → (∀ j, m < j → ar' (A 5 0) j = ar (A 5 0) j) → (∀ j, 0 ≤ j → j < p → qLx (D j) l) → (∀ j, p ≤ j → j < m → qLx l (D j)) → K p ar') : ∃ fu : Nat, wCN_X1_hashOne_94 K (A 0 0) (some (A 11 (pi m))) kd an ai mX1_descriptions mX4_bytes mX4_size fu m ar := by
  obtain ⟨⟨_, _, _, _, _, s6⟩, _, ⟨_, _, _, sb⟩, ⟨_, _, sd⟩, ⟨p1, p2⟩, _⟩ := Sh
  obtain ⟨k5, l5⟩ := chX5 L
  have pm := p1 m hm.1 hm.2
  refine wl2 (fun fu p q => wCN_X1_hashOne_94 K (A 0 0) (some (A 11 (pi m))) kd an ai mX1_descriptions mX4_bytes mX4_size fu p q) (fun p q => (0 ≤ p ∧ p ≤ m) ∧ (∀ a, a ≠ A 5 0 → q a = ar a) ∧ (∀ j, 0 ≤ j → j ≤ p → j < m ∨ p = m → q (A 5 0) j = ar (A 5 0) j) ∧ (∀ j, p < j → j ≤ m → q (A 5 0) j = ar (A 5 0) (j - 1)) ∧ (∀ j, m < j → q (A 5 0) j = ar (A 5 0) j) ∧ ∀ j, p ≤ j → j < m → qLx l (D j)) (fun p _ => p.toNat) ?_ m ar ⟨by omega, fun _ _ => rfl, fun _ _ _ _ => rfl, fun j j0 j1 => by omega, fun _ _ => rfl, fun j j0 j1 => by omega⟩
  rintro p q ⟨hp2, q0, q1, q2, q3, q4⟩ fu ih
  rw [wCN_X1_hashOne_94]
  refine ⟨fun z => hK p q hp2 q0 (fun j j0 j1 => by omega) q2 q3 (fun j j0 j1 => by omega) q4, fun z => kOn_of s6 ⟨k5, by omega, by omega, fun r er => ?_⟩⟩
  have pp := p1 (p - 1) (by omega) (by omega)
  rw [q1 (p - 1) (by omega) (by omega) (by omega), sd (p - 1) (by omega) (by omega)] at er
  have kp := chX11 L pp
  have bp := chX12 L pp
  have km := chX11 L pm
  have bm_ := chX12 L pm
  obtain ⟨c1, c2⟩ := C (p - 1) (by omega) (by omega)
  refine kOn_of er ⟨kp, CCN_compareTo km (sb _ pp.1 pp.2) bp.1 bp.2 (sb _ pm.1 pm.2) bm_.1 bm_.2 c1 Bl c2 l99 (fun le r hr => ⟨fun _ => ?_, fun w => absurd hr w⟩) (fun nl r hr => ⟨fun w => by omega, fun _ r2 er2 => ⟨by omega, ?_⟩⟩)⟩
  · refine hK p q hp2 q0 (fun j j0 j1 => q1 j j0 (by omega) (by omega)) q2 q3 (fun j j0 j1 => ?_) q4
    by_cases y : j = p - 1
    · rw [y]; exact le
    · exact qLx_t (st j (p - 1) j0 (by omega) (by omega)) le
  · rw [q1 (p - 1) (by omega) (by omega) (by omega), sd (p - 1) (by omega) (by omega)] at er2
    refine kOn_of er2 ⟨kp, fun a2 ea => ⟨by omega, fun p' ep => ?_⟩⟩
    rw [ep]
    refine ih (p + -1) a2 ⟨by omega, fun a na => by rw [ea, va_up_n na]; exact q0 a na, fun j j0 j1 j2 => ?_, fun j j0 j1 => ?_, fun j j0 => ?_, fun j j0 j1 => ?_⟩ (by omega)
    · rw [ea, va_up_s, updI_n (by omega)]; exact q1 j j0 (by omega) (by omega)
    · rw [ea, va_up_s]
      by_cases y : j = p
      · rw [y, updI_s]; exact (sd (p - 1) (by omega) (by omega)).symm
      · rw [updI_n y]; exact q2 j (by omega) j1
    · rw [ea, va_up_s, updI_n (by omega)]; exact q3 j j0
    · by_cases y : j = p - 1
      · rw [y]; exact (qLx_tot _ _).resolve_right nl
      · exact q4 j (by omega) j1
/-- all descriptions, sorted -/
theorem CCN_h4 {K : Int → (Nat → Int → Int) → (Nat → Int → Option Nat) → (Nat → Int) → Prop} (L : Lab chK chLn kd an A g (chN gn)) (Sh : chS ar mX1_graph mX1_kept mX1_digest mX1_hashes mX1_next mX1_descriptions mX1_order mX1_begins mX1_numbers mX1_best mX1_row mX1_leastRow mX1_given mX1_form mX1_octets mX2_keys mX3_words mX3_block mX4_bytes A hp pi gn) (G : chG kd an al mX2_blanks mX2_count mX2_keys (A 14 gn) (A 13 gn) n m) (hb : 1 ≤ b ∧ b ≤ n) (HH : chH ai A hp n H)
  (hK : ∀ d ai' ar' mX4_size' pi' D, (0 ≤ d ∧ d ≤ m) → chS ar' mX1_graph mX1_kept mX1_digest mX1_hashes mX1_next mX1_descriptions mX1_order mX1_begins mX1_numbers mX1_best mX1_row mX1_leastRow mX1_given mX1_form mX1_octets mX2_keys mX3_words mX3_block mX4_bytes A hp pi' gn → (∀ a, (∀ j, 0 ≤ j → j < 40 → a ≠ A 12 j) → ai' a = ai a) → (∀ a, a ≠ A 5 0 → ar' a = ar a) → chC ai' mX4_size' A pi' D d → aF D 0 d.toNat = cnS (((chL (al (A 13 gn)) m).filter (fun t => cnSt b t)).map (cnD H b)) → K d ai' ar' mX4_size') : ∃ fu : Nat, wCN_X1_hashOne_4 K (A 0 0) b kd an al mX1_graph mX1_hashes mX1_descriptions mX2_count mX2_keys mX4_bytes fu 0 0 ai ar mX4_size := by
  have Sh0 := Sh
  obtain ⟨⟨s1, _, _, s4, _, s6⟩, _, ⟨sk, _, _, sb⟩, ⟨_, s9, sd⟩, ⟨p1, p2⟩, hhp, hgn⟩ := Sh
  obtain ⟨⟨eK, kK, lK⟩, ⟨_, hn⟩, ⟨ec, hm⟩, ok, _⟩ := G
  obtain ⟨k5, l5⟩ := chX5 L
  have k14 := chX14 L (j := gn) ⟨hgn.1, by omega⟩
  refine wl5 (fun fu d i a r s => wCN_X1_hashOne_4 K (A 0 0) b kd an al mX1_graph mX1_hashes mX1_descriptions mX2_count mX2_keys mX4_bytes fu d i a r s) (fun d i a r s => (0 ≤ i ∧ i ≤ m) ∧ (0 ≤ d ∧ d ≤ i) ∧ (∀ c, (∀ j, 0 ≤ j → j < 40 → c ≠ A 12 j) → a c = ai c) ∧ (∀ c, c ≠ A 5 0 → r c = ar c) ∧ ∃ pi' D, chS r mX1_graph mX1_kept mX1_digest mX1_hashes mX1_next mX1_descriptions mX1_order mX1_begins mX1_numbers mX1_best mX1_row mX1_leastRow mX1_given mX1_form mX1_octets mX2_keys mX3_words mX3_block mX4_bytes A hp pi' gn ∧ chC a s A pi' D d ∧ (aF D 0 d.toNat).Perm (((chL (al (A 13 gn)) i).filter (fun t => cnSt b t)).map (cnD H b)) ∧ (aF D 0 d.toNat).Pairwise qLx ∧ ∀ i j, 0 ≤ i → i < j → j < d → qLx (D i) (D j)) (fun _ i _ _ _ => (m - i).toNat) ?_ 0 0 ai ar mX4_size ⟨by omega, by omega, fun _ _ => rfl, fun _ _ => rfl, pi, fun _ => [], Sh0, fun j j0 j1 => by omega, List.Perm.refl _, List.Pairwise.nil, fun i j i0 ij j1 => by omega⟩
  rintro d i a r s ⟨hi, hd, fa, fr, pi', D, Sh', C, PM, PW, ST⟩ fu ih
  rw [wCN_X1_hashOne_4]
  refine kOn_of s1 ⟨k14, ?_⟩
  rw [ec]
  refine ⟨fun z => ?_, fun z => kOn_of eK ⟨kK, by omega, fun x4 e4 => ?_⟩⟩
  · have ei : i = m := by omega
    rw [ei] at PM
    exact hK d a r s pi' D (by omega) Sh' fa fr C (cnS_e ⟨PM, PW⟩).symm
  have oki := ok i hi.1 (by omega)
  have eL : chL (al (A 13 gn)) (i + 1) = chL (al (A 13 gn)) i ++ [cnDk (al (A 13 gn) i)] := by
    unfold chL
    rw [show (i + 1).toNat = i.toNat + 1 by omega, aF_s, show (0 : Int) + (i.toNat : Int) = i by omega]
  rw [e4]
  refine CCN_h32 hn.2 oki ⟨hb.1, by omega⟩ (fun stn => ⟨fun w => absurd w (by decide), fun _ => ?_⟩) (fun no => ⟨fun _ => ⟨by omega, fun i' ei => ?_⟩, fun w => absurd rfl w⟩)
  · obtain ⟨⟨_, _, _, t4, _, t6⟩, _, ⟨_, _, _, tb⟩, ⟨_, t9, td⟩, ⟨q1, q2⟩, _⟩ := Sh'
    have pd := q1 d hd.1 (by omega)
    have kd_ := chX11 L pd
    obtain ⟨kb, lb⟩ := chX12 L pd
    obtain ⟨ko, lo⟩ := chX9 L (j := hp) (by omega)
    refine kOn_of t6 ⟨k5, by omega, fun rr er => ?_⟩
    rw [er, td d hd.1 (by omega)]
    refine CCN_describe (hA := fun c => A 10 (9 * hp + c)) (H := H) kd_ (tb _ pd.1 pd.2) kb lb t4 ko lo hn.2 (fun c c0 c1 => ?_) oki (fun a2 s2 B2 f2 g2 => ?_)
    · have h10 : 0 ≤ 9 * hp + c ∧ 9 * hp + c < 18 := by omega
      obtain ⟨kr, lr⟩ := chX10 L h10
      refine ⟨t9 hp c (by omega) (by omega), kr, lr, L.ne ⟨h10.1, show _ < (18 : Int) from h10.2⟩ ⟨pd.1, show _ < (40 : Int) from pd.2⟩ (Or.inl (by decide)), ?_⟩
      rw [fa (A 10 (9 * hp + c)) (fun j j0 j1 => L.ne ⟨h10.1, show _ < (18 : Int) from h10.2⟩ ⟨j0, show _ < (40 : Int) from j1⟩ (Or.inl (by decide)))]
      exact HH c c0 c1
    · have C2 : chC a2 s2 A pi' D d := fun j j0 j1 => by
        have pj := q1 j j0 (by omega)
        have nj := q2 j d j0 j1 (by omega)
        have e1 : a2 (A 12 (pi' j)) = a (A 12 (pi' j)) := f2 _ (L.ne ⟨pj.1, show _ < (40 : Int) from pj.2⟩ ⟨pd.1, show _ < (40 : Int) from pd.2⟩ (Or.inr nj))
        have e2 : s2 (A 11 (pi' j)) = s (A 11 (pi' j)) := g2 _ (L.ne ⟨pj.1, show _ < (40 : Int) from pj.2⟩ ⟨pd.1, show _ < (40 : Int) from pd.2⟩ (Or.inr nj))
        have cj := C j j0 j1
        unfold chB
        rw [e1, e2]
        exact cj
      have l99 : (cnD H b (cnDk (al (A 13 gn) i))).length ≤ 99 := by
        have l8 : ∀ v, v < 0 → -n ≤ v → (H (-v)).length = 8 := fun v v0 v1 => (HH (-v) (by omega) (by omega)).1
        have n1 := cnDe_len8 (b := b) l8 oki.2.1
        have n2 := cnDe_len8 (b := b) l8 oki.2.2.1
        have n3 := cnDe_len8 (b := b) l8 oki.2.2.2
        unfold cnD
        rw [List.length_append, List.length_append]
        omega
      have ShR : chS r mX1_graph mX1_kept mX1_digest mX1_hashes mX1_next mX1_descriptions mX1_order mX1_begins mX1_numbers mX1_best mX1_row mX1_leastRow mX1_given mX1_form mX1_octets mX2_keys mX3_words mX3_block mX4_bytes A hp pi' gn := ⟨⟨by assumption, by assumption, by assumption, t4, by assumption, t6⟩, by assumption, ⟨by assumption, by assumption, by assumption, tb⟩, ⟨by assumption, t9, td⟩, ⟨q1, q2⟩, by assumption⟩
      refine CCN_h94 L ShR ⟨hd.1, by omega⟩ C2 B2 l99 ST (fun p r2 hp2 w0 w1 w2 w3 lo_ hi_ => kOn_of t6 ⟨k5, by omega, kOn_of rfl ⟨kd_, fun r3 er3 => ⟨by omega, fun d' ed => ⟨by omega, fun i' ei => ?_⟩⟩⟩⟩)
      rw [ed, ei]
      have at_ : ∀ j, 0 ≤ j → j < 40 → r3 (A 5 0) j = some (A 11 (if j = p then pi' d else if p < j ∧ j ≤ d then pi' (j - 1) else pi' j)) := fun j j0 j1 => by
        rw [er3, va_up_s, updI_e]
        by_cases y : j = p
        · rw [if_pos y, if_pos y]
        · rw [if_neg y, if_neg y]
          by_cases y2 : p < j ∧ j ≤ d
          · rw [if_pos y2, w2 j y2.1 y2.2]; exact td (j - 1) (by omega) (by omega)
          · rw [if_neg y2]
            by_cases y3 : j < p
            · rw [w1 j j0 y3]; exact td j j0 j1
            · rw [w3 j (by omega)]; exact td j j0 j1
      have fr3 : ∀ c, c ≠ A 5 0 → r3 c = r c := fun c nc => by rw [er3, va_up_n nc]; exact w0 c nc
      have n1 : A 1 0 ≠ A 5 0 := L.ne ⟨by decide, show (0 : Int) < 1 by decide⟩ ⟨by decide, show (0 : Int) < 1 by decide⟩ (Or.inl (by decide))
      have n9 : ∀ s, (0 ≤ s ∧ s < 2) → A 9 s ≠ A 5 0 := fun s hs => L.ne ⟨hs.1, show s < (2 : Int) from hs.2⟩ ⟨by decide, show (0 : Int) < 1 by decide⟩ (Or.inl (by decide))
      refine ih (d + 1) (i + 1) a2 r3 s2 ⟨by omega, by omega, fun c hc => by rw [f2 c (hc _ pd.1 pd.2)]; exact fa c hc, fun c nc => by rw [fr3 c nc]; exact fr c nc, fun j => if j = p then pi' d else if p < j ∧ j ≤ d then pi' (j - 1) else pi' j, fun j => if j = p then cnD H b (cnDk (al (A 13 gn) i)) else if p < j then D (j - 1) else D j, ?_, fun j j0 j1 => ?_, ?_, ?_, ?_⟩ (by omega)
      · obtain ⟨u1, u2, u3, ⟨u4, u5, _⟩, _, u6⟩ := ShR
        refine ⟨u1, u2, u3, ⟨fun j j0 j1 => by rw [fr3 _ n1]; exact u4 j j0 j1, fun s b hs hb => by rw [fr3 _ (n9 s hs)]; exact u5 s b hs hb, at_⟩, ⟨fun j j0 j1 => ?_, fun x y x0 xy y1 => ?_⟩, u6⟩
        · dsimp only
          by_cases y : j = p
          · rw [if_pos y]; exact pd
          · rw [if_neg y]
            by_cases y2 : p < j ∧ j ≤ d
            · rw [if_pos y2]; exact q1 (j - 1) (by omega) (by omega)
            · rw [if_neg y2]; exact q1 j j0 j1
        · dsimp only
          have ne : ∀ u v, 0 ≤ u → u < 40 → 0 ≤ v → v < 40 → ¬ u = v → ¬ pi' u = pi' v := fun u v u0 u1 v0 v1 n e => by
            rcases Int.lt_trichotomy u v with w | w | w
            · exact q2 u v u0 w v1 e
            · exact n w
            · exact q2 v u v0 w u1 e.symm
          by_cases z1 : x = p
          · rw [if_pos z1, if_neg (by omega)]
            by_cases z2 : p < y ∧ y ≤ d
            · rw [if_pos z2]; exact ne _ _ (by omega) (by omega) (by omega) (by omega) (by omega)
            · rw [if_neg z2]; exact ne _ _ (by omega) (by omega) (by omega) (by omega) (by omega)
          · rw [if_neg z1]
            by_cases z2 : y = p
            · rw [if_pos z2, if_neg (by omega)]; exact ne _ _ (by omega) (by omega) (by omega) (by omega) (by omega)
            · rw [if_neg z2]
              by_cases z3 : p < x ∧ x ≤ d
              · rw [if_pos z3]
                by_cases z4 : p < y ∧ y ≤ d
                · rw [if_pos z4]; exact ne _ _ (by omega) (by omega) (by omega) (by omega) (by omega)
                · rw [if_neg z4]; exact ne _ _ (by omega) (by omega) (by omega) (by omega) (by omega)
              · rw [if_neg z3]
                by_cases z4 : p < y ∧ y ≤ d
                · rw [if_pos z4]; exact ne _ _ (by omega) (by omega) (by omega) (by omega) (by omega)
                · rw [if_neg z4]; exact ne _ _ (by omega) (by omega) (by omega) (by omega) (by omega)
      · dsimp only
        by_cases y : j = p
        · rw [if_pos y, if_pos y]; exact ⟨B2, l99⟩
        · rw [if_neg y, if_neg y]
          by_cases y2 : p < j
          · rw [if_pos y2, if_pos ⟨y2, by omega⟩]; exact C2 (j - 1) (by omega) (by omega)
          · rw [if_neg y2, if_neg (fun w => y2 w.1)]; exact C2 j j0 (by omega)
      · rw [show (d + 1).toNat = d.toNat + 1 by omega, eL, List.filter_append, List.map_append, List.filter_cons_of_pos (by exact decide_eq_true stn), List.filter_nil]
        have ins := aF_ins (f := D) (k := d.toNat) (t := p) (v := cnD H b (cnDk (al (A 13 gn) i))) (g := fun j => if j = p then cnD H b (cnDk (al (A 13 gn) i)) else if p < j then D (j - 1) else D j) ⟨hp2.1, by omega⟩ (fun _ _ _ => rfl)
        exact ins.trans ((PM.cons _).trans (List.perm_append_singleton _ _).symm)
      all_goals
        have so : ∀ x y, 0 ≤ x → x < y → y < d + 1 → qLx (if x = p then cnD H b (cnDk (al (A 13 gn) i)) else if p < x then D (x - 1) else D x) (if y = p then cnD H b (cnDk (al (A 13 gn) i)) else if p < y then D (y - 1) else D y) := fun x y x0 xy y1 => by
          by_cases z1 : x = p
          · rw [if_pos z1, if_neg (by omega), if_pos (by omega)]; exact hi_ (y - 1) (by omega) (by omega)
          · rw [if_neg z1]
            by_cases z2 : p < x
            · rw [if_pos z2, if_neg (by omega), if_pos (by omega)]; exact ST (x - 1) (y - 1) (by omega) (by omega) (by omega)
            · rw [if_neg z2]
              by_cases z3 : y = p
              · rw [if_pos z3]; exact lo_ x x0 (by omega)
              · rw [if_neg z3]
                by_cases z4 : p < y
                · rw [if_pos z4]
                  by_cases z5 : x = y - 1
                  · omega
                  · exact ST x (y - 1) x0 (by omega) (by omega)
                · rw [if_neg z4]; exact ST x y x0 xy (by omega)
        first
        | exact so
        | exact aF_pw _ _ (fun x y x0 xy y1 => so x y x0 xy (by omega))
  · rw [ei]
    refine ih d (i + 1) a r s ⟨by omega, by omega, fa, fr, pi', D, Sh', C, ?_, PW, ST⟩ (by omega)
    rw [eL, List.filter_append, List.map_append, List.filter_cons_of_neg (by rw [decide_eq_true_eq]; exact no), List.filter_nil, List.map_nil, List.append_nil]
    exact PM
end
