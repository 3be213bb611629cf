/-! KnowDisk, the reference (X57): numbers in rows of bytes, sums, sectors copied (printed by tools/kdgen.py) -/
def kdNo (r : Int → Int) (a : Int) : Int := zor (zor (zor ((r a) * 16777216) ((r (a + 1)) * 65536)) ((r (a + 2)) * 256)) (r (a + 3))
def kdWi (r : Int → Int) (a : Int) : Int := zLor (kdNo r a * 4294967296) (kdNo r (a + 4) % 4294967296)
def kdSt (r : Int → Int) (a v : Int) : Int → Int := updI (updI (updI (updI r (a + 0) (v / 16777216 % 256)) (a + 1) (v / 65536 % 256)) (a + 2) (v / 256 % 256)) (a + 3) (v / 1 % 256)
def kdSw (r : Int → Int) (a v : Int) : Int → Int := kdSt (kdSt r a (w32 (v / 4294967296))) (a + 4) (w32 v)
def kdSx (s b : Int) : Int := w32 ((zor (w32 ((zxor s b) * 2048)) (((zxor s b) % 4294967296) / 2097152)) * (-2048144777))
def kdSm (b : Int → Int) : Nat → Int
  | 0 => 0
  | n + 1 => kdSx (kdSm b n) (b (4 + n))
def kdSum (r : Int → Int) (k : Int) : Int := kdSm (fun i => r (32 * k + i)) 28
def kdCl (r : Int → Int) (k : Int) : Int → Int := kdSt r (32 * k) (kdSum r k)
/-- n bytes of a sector, copied to a sector -/
def kdCn (r : Int → Int) (to : Int) (src : Int → Int) (fr n : Int) : Int → Int := fun i => if 32 * to ≤ i ∧ i < 32 * to + n then src (32 * fr + (i - 32 * to)) else r i
section
variable {r : Int → Int} {a b v k n i u : Int} {f : Nat}

variable {post : Int → Prop} {postr : (Int → Int) → Prop} {K : (Int → Int) → Prop} {Q : Int → Prop}
theorem T57_number_open (ha : 0 ≤ a ∧ a + 4 ≤ 2048) (hp : post (kdNo r a)) : wpX57_number_open post r a := by
  unfold wpX57_number_open
  exact ⟨by omega, by omega, by omega, by omega, hp⟩
theorem T57_wide_open (ha : 0 ≤ a ∧ a + 8 ≤ 2048) (hp : post (kdWi r a)) : wpX57_wide_open post r a := by
  unfold wpX57_wide_open
  exact T57_number_open (by omega) ⟨by omega, T57_number_open (by omega) hp⟩
theorem T57_number_later (ha : 0 ≤ a ∧ a + 4 ≤ 2048) (hp : post (kdNo r a)) : wpX57_number_later post r a := by
  unfold wpX57_number_later
  exact ⟨by omega, by omega, by omega, by omega, hp⟩
theorem T57_wide_later (ha : 0 ≤ a ∧ a + 8 ≤ 2048) (hp : post (kdWi r a)) : wpX57_wide_later post r a := by
  unfold wpX57_wide_later
  exact T57_number_later (by omega) ⟨by omega, T57_number_later (by omega) hp⟩
theorem T57_number_disk (ha : 0 ≤ a ∧ a + 4 ≤ 2048) (hp : post (kdNo r a)) : wpX57_number_disk post r a := by
  unfold wpX57_number_disk
  exact ⟨by omega, by omega, by omega, by omega, hp⟩
theorem T57_wide_disk (ha : 0 ≤ a ∧ a + 8 ≤ 2048) (hp : post (kdWi r a)) : wpX57_wide_disk post r a := by
  unfold wpX57_wide_disk
  exact T57_number_disk (by omega) ⟨by omega, T57_number_disk (by omega) hp⟩
theorem T57_ss_open {P : Int} (hi : 0 ≤ i ∧ i < 4) (hP : (2 : Int) ^ (24 - 8 * i).toNat = P) (ha : 0 ≤ a ∧ a + 4 ≤ 2048) (h : wX57_set_open_2 K a v f (i + 1) (updI r (a + i) (v / P % 256))) : wX57_set_open_2 K a v (f + 1) i r := by
  rw [wX57_set_open_2]
  exact ⟨fun w => by omega, fun _ => ⟨by omega, by omega, fun u eu => ⟨by omega, fun q eq => ⟨by omega, fun x ex => by rw [eq, eu, ex, hP]; exact h⟩⟩⟩⟩
theorem T57_set_open (ha : 0 ≤ a ∧ a + 4 ≤ 2048) (hp : postr (kdSt r a v)) : wpX57_set_open postr r a v := by
  unfold wpX57_set_open
  refine ⟨5, T57_ss_open (P := 16777216) (by decide) (by decide) ha (T57_ss_open (P := 65536) (by decide) (by decide) ha (T57_ss_open (P := 256) (by decide) (by decide) ha (T57_ss_open (P := 1) (by decide) (by decide) ha ?_)))⟩
  rw [wX57_set_open_2]
  exact ⟨fun _ => hp, fun w => absurd (by decide) w⟩
theorem T57_setWide_open (ha : 0 ≤ a ∧ a + 8 ≤ 2048) (hp : postr (kdSw r a v)) : wpX57_setWide_open postr r a v := by
  unfold wpX57_setWide_open
  refine T57_set_open (by omega) ?_
  rw [w32_id (show zR (a + 4) by omega)]
  exact T57_set_open (by omega) hp
theorem T57_ss_head {P : Int} (hi : 0 ≤ i ∧ i < 4) (hP : (2 : Int) ^ (24 - 8 * i).toNat = P) (ha : 0 ≤ a ∧ a + 4 ≤ 32) (h : wX57_set_head_2 K a v f (i + 1) (updI r (a + i) (v / P % 256))) : wX57_set_head_2 K a v (f + 1) i r := by
  rw [wX57_set_head_2]
  exact ⟨fun w => by omega, fun _ => ⟨by omega, by omega, fun u eu => ⟨by omega, fun q eq => ⟨by omega, fun x ex => by rw [eq, eu, ex, hP]; exact h⟩⟩⟩⟩
theorem T57_set_head (ha : 0 ≤ a ∧ a + 4 ≤ 32) (hp : postr (kdSt r a v)) : wpX57_set_head postr r a v := by
  unfold wpX57_set_head
  refine ⟨5, T57_ss_head (P := 16777216) (by decide) (by decide) ha (T57_ss_head (P := 65536) (by decide) (by decide) ha (T57_ss_head (P := 256) (by decide) (by decide) ha (T57_ss_head (P := 1) (by decide) (by decide) ha ?_)))⟩
  rw [wX57_set_head_2]
  exact ⟨fun _ => hp, fun w => absurd (by decide) w⟩
theorem T57_setWide_head (ha : 0 ≤ a ∧ a + 8 ≤ 32) (hp : postr (kdSw r a v)) : wpX57_setWide_head postr r a v := by
  unfold wpX57_setWide_head
  refine T57_set_head (by omega) ?_
  rw [w32_id (show zR (a + 4) by omega)]
  exact T57_set_head (by omega) hp
theorem T57_sum_open (hk : 0 ≤ k ∧ k ≤ 63) (hp : post (kdSum r k)) : wpX57_sum_open post r k := by
  have go : ∀ (j m : Nat), m + j = 28 → wX57_sum_open_4 (fun (x2_14 : Int) => post x2_14) k r (j + 1) (kdSm (fun i => r (32 * k + i)) m) (4 + (m : Int)) := fun j => by
    induction j with
    | zero =>
      intro m hm
      rw [wX57_sum_open_4]
      have e : m = 28 := by omega
      subst e
      exact ⟨fun _ => hp, fun w => absurd (by decide) w⟩
    | succ j ih =>
      intro m hm
      rw [wX57_sum_open_4]
      have e1 : w32 (32 * k) = 32 * k := w32_id (by omega)
      have e2 : w32 (32 * k + (4 + (m : Int))) = 32 * k + (4 + (m : Int)) := w32_id (by omega)
      dsimp only
      rw [e1, e2]
      refine ⟨fun w => by omega, fun _ => ⟨by omega, fun x ex s es i ei => ?_⟩⟩
      rw [w32_id (show zR (4 + (m : Int) + 1) by omega)] at ei
      have I := ih (m + 1) (by omega)
      rw [show (4 : Int) + ((m + 1 : Nat) : Int) = 4 + (m : Int) + 1 by omega] at I
      rw [ei, es, ex]
      exact I
  unfold wpX57_sum_open
  exact ⟨29, go 28 0 rfl⟩
theorem T57_sum_head (hk : 0 ≤ k ∧ k ≤ 0) (hp : post (kdSum r k)) : wpX57_sum_head post r k := by
  have go : ∀ (j m : Nat), m + j = 28 → wX57_sum_head_4 (fun (x2_14 : Int) => post x2_14) k r (j + 1) (kdSm (fun i => r (32 * k + i)) m) (4 + (m : Int)) := fun j => by
    induction j with
    | zero =>
      intro m hm
      rw [wX57_sum_head_4]
      have e : m = 28 := by omega
      subst e
      exact ⟨fun _ => hp, fun w => absurd (by decide) w⟩
    | succ j ih =>
      intro m hm
      rw [wX57_sum_head_4]
      have e1 : w32 (32 * k) = 32 * k := w32_id (by omega)
      have e2 : w32 (32 * k + (4 + (m : Int))) = 32 * k + (4 + (m : Int)) := w32_id (by omega)
      dsimp only
      rw [e1, e2]
      refine ⟨fun w => by omega, fun _ => ⟨by omega, fun x ex s es i ei => ?_⟩⟩
      rw [w32_id (show zR (4 + (m : Int) + 1) by omega)] at ei
      have I := ih (m + 1) (by omega)
      rw [show (4 : Int) + ((m + 1 : Nat) : Int) = 4 + (m : Int) + 1 by omega] at I
      rw [ei, es, ex]
      exact I
  unfold wpX57_sum_head
  exact ⟨29, go 28 0 rfl⟩
theorem T57_sum_disk (hk : 0 ≤ k ∧ k ≤ 63) (hp : post (kdSum r k)) : wpX57_sum_disk post r k := by
  have go : ∀ (j m : Nat), m + j = 28 → wX57_sum_disk_4 (fun (x2_14 : Int) => post x2_14) k r (j + 1) (kdSm (fun i => r (32 * k + i)) m) (4 + (m : Int)) := fun j => by
    induction j with
    | zero =>
      intro m hm
      rw [wX57_sum_disk_4]
      have e : m = 28 := by omega
      subst e
      exact ⟨fun _ => hp, fun w => absurd (by decide) w⟩
    | succ j ih =>
      intro m hm
      rw [wX57_sum_disk_4]
      have e1 : w32 (32 * k) = 32 * k := w32_id (by omega)
      have e2 : w32 (32 * k + (4 + (m : Int))) = 32 * k + (4 + (m : Int)) := w32_id (by omega)
      dsimp only
      rw [e1, e2]
      refine ⟨fun w => by omega, fun _ => ⟨by omega, fun x ex s es i ei => ?_⟩⟩
      rw [w32_id (show zR (4 + (m : Int) + 1) by omega)] at ei
      have I := ih (m + 1) (by omega)
      rw [show (4 : Int) + ((m + 1 : Nat) : Int) = 4 + (m : Int) + 1 by omega] at I
      rw [ei, es, ex]
      exact I
  unfold wpX57_sum_disk
  exact ⟨29, go 28 0 rfl⟩
theorem T57_sum_later (hk : 0 ≤ k ∧ k ≤ 63) (hp : post (kdSum r k)) : wpX57_sum_later post r k := by
  have go : ∀ (j m : Nat), m + j = 28 → wX57_sum_later_4 (fun (x2_14 : Int) => post x2_14) k r (j + 1) (kdSm (fun i => r (32 * k + i)) m) (4 + (m : Int)) := fun j => by
    induction j with
    | zero =>
      intro m hm
      rw [wX57_sum_later_4]
      have e : m = 28 := by omega
      subst e
      exact ⟨fun _ => hp, fun w => absurd (by decide) w⟩
    | succ j ih =>
      intro m hm
      rw [wX57_sum_later_4]
      have e1 : w32 (32 * k) = 32 * k := w32_id (by omega)
      have e2 : w32 (32 * k + (4 + (m : Int))) = 32 * k + (4 + (m : Int)) := w32_id (by omega)
      dsimp only
      rw [e1, e2]
      refine ⟨fun w => by omega, fun _ => ⟨by omega, fun x ex s es i ei => ?_⟩⟩
      rw [w32_id (show zR (4 + (m : Int) + 1) by omega)] at ei
      have I := ih (m + 1) (by omega)
      rw [show (4 : Int) + ((m + 1 : Nat) : Int) = 4 + (m : Int) + 1 by omega] at I
      rw [ei, es, ex]
      exact I
  unfold wpX57_sum_later
  exact ⟨29, go 28 0 rfl⟩
theorem T57_close_open (hk : 0 ≤ k ∧ k ≤ 63) (hp : postr (kdCl r k)) : wpX57_close_open postr r k := by
  unfold wpX57_close_open
  exact T57_sum_open hk ⟨by omega, T57_set_open (by omega) hp⟩
theorem T57_close_head (hk : 0 ≤ k ∧ k ≤ 0) (hp : postr (kdCl r k)) : wpX57_close_head postr r k := by
  unfold wpX57_close_head
  exact T57_sum_head hk ⟨by omega, T57_set_head (by omega) hp⟩
theorem T57_isRight_diskB {A B : Prop} (hk : 0 ≤ k ∧ k ≤ 63) (h1 : kdNo r (32 * k) = kdSum r k → B) (h0 : ¬ kdNo r (32 * k) = kdSum r k → A) : wpX57_isRight_disk (fun x => (x = 0 → A) ∧ (¬ x = 0 → B)) r k := by
  unfold wpX57_isRight_disk
  exact ⟨by omega, T57_number_disk (by omega) (T57_sum_disk hk ⟨fun e => ⟨fun w => absurd w (by decide), fun _ => h1 e⟩, fun e => ⟨fun _ => h0 e, fun w => absurd rfl w⟩⟩)⟩
theorem T57_isRight_laterB {A B : Prop} (hk : 0 ≤ k ∧ k ≤ 63) (h1 : kdNo r (32 * k) = kdSum r k → B) (h0 : ¬ kdNo r (32 * k) = kdSum r k → A) : wpX57_isRight_later (fun x => (x = 0 → A) ∧ (¬ x = 0 → B)) r k := by
  unfold wpX57_isRight_later
  exact ⟨by omega, T57_number_later (by omega) (T57_sum_later hk ⟨fun e => ⟨fun w => absurd w (by decide), fun _ => h1 e⟩, fun e => ⟨fun _ => h0 e, fun w => absurd rfl w⟩⟩)⟩
theorem kdCn_0 {to fr : Int} {src : Int → Int} : kdCn r to src fr 0 = r := funext fun i => by unfold kdCn; rw [if_neg (by omega)]
theorem kdCn_u {to fr : Int} {src : Int → Int} (hn : 0 ≤ n) : updI (kdCn r to src fr n) (32 * to + n) (src (32 * fr + n)) = kdCn r to src fr (n + 1) := funext fun i => by
  unfold updI kdCn
  by_cases e : i = 32 * to + n
  · rw [if_pos e, if_pos (by omega), e, show 32 * to + n - 32 * to = n by omega]
  · rw [if_neg e]
    by_cases w : 32 * to ≤ i ∧ i < 32 * to + n
    · rw [if_pos w, if_pos (by omega)]
    · rw [if_neg w, if_neg (by omega)]
theorem T57_queue_open {postq : (Int → Int) → (Int → Int) → (Int → Int) → Int → Prop} {lt src tg by' : Int → Int} {be fr to : Int} (hf : 0 ≤ fr ∧ fr ≤ 63) (ht : 0 ≤ to ∧ to ≤ 63) (hb : 0 ≤ be ∧ be < 1200) (hp : postq (kdCn lt to src fr 32) (updI tg be to) (kdCn by' be src fr 32) (be + 1)) : wpX57_queue_open postq lt src tg by' be fr to := by
  have go : ∀ (j : Nat) (n : Int), 0 ≤ n → n + j = 32 → wX57_queue_open_13 (fun (l : Int → Int) (b : Int → Int) => zR (be + 1) ∧ (∀ be2 : Int, be2 = be + 1 → (postq l (updI tg be to) b be2))) fr to src be (j + 1) n (kdCn lt to src fr n) (kdCn by' be src fr n) := fun j => by
    induction j with
    | zero =>
      intro n h0 hn
      rw [wX57_queue_open_13]
      have e : n = 32 := by omega
      subst e
      exact ⟨fun _ => ⟨by omega, fun b2 eb => by rw [eb]; exact hp⟩, fun w => absurd (by decide) w⟩
    | succ j ih =>
      intro n h0 hn
      rw [wX57_queue_open_13]
      refine ⟨fun w => by omega, fun _ => ⟨by omega, fun v ev => ⟨by omega, fun b eb v2 ev2 => ⟨by omega, fun l el => ⟨by omega, fun x ex => ?_⟩⟩⟩⟩⟩
      rw [ev, kdCn_u h0] at eb
      rw [ev2, kdCn_u h0] at el
      rw [eb, el, ex]
      exact ih (n + 1) (by omega) (by omega)
  unfold wpX57_queue_open
  refine ⟨hb, fun t et => ⟨33, ?_⟩⟩
  rw [et]
  have G := go 32 0 (by decide) (by decide)
  rw [kdCn_0, kdCn_0] at G
  exact G
theorem T57_queue_head {postq : (Int → Int) → (Int → Int) → (Int → Int) → Int → Prop} {lt src tg by' : Int → Int} {be fr to : Int} (hf : 0 ≤ fr ∧ fr ≤ 0) (ht : 0 ≤ to ∧ to ≤ 63) (hb : 0 ≤ be ∧ be < 1200) (hp : postq (kdCn lt to src fr 32) (updI tg be to) (kdCn by' be src fr 32) (be + 1)) : wpX57_queue_head postq lt tg by' be src fr to := by
  have go : ∀ (j : Nat) (n : Int), 0 ≤ n → n + j = 32 → wX57_queue_head_13 (fun (l : Int → Int) (b : Int → Int) => zR (be + 1) ∧ (∀ be2 : Int, be2 = be + 1 → (postq l (updI tg be to) b be2))) fr to be src (j + 1) n (kdCn lt to src fr n) (kdCn by' be src fr n) := fun j => by
    induction j with
    | zero =>
      intro n h0 hn
      rw [wX57_queue_head_13]
      have e : n = 32 := by omega
      subst e
      exact ⟨fun _ => ⟨by omega, fun b2 eb => by rw [eb]; exact hp⟩, fun w => absurd (by decide) w⟩
    | succ j ih =>
      intro n h0 hn
      rw [wX57_queue_head_13]
      refine ⟨fun w => by omega, fun _ => ⟨by omega, fun v ev => ⟨by omega, fun b eb v2 ev2 => ⟨by omega, fun l el => ⟨by omega, fun x ex => ?_⟩⟩⟩⟩⟩
      rw [ev, kdCn_u h0] at eb
      rw [ev2, kdCn_u h0] at el
      rw [eb, el, ex]
      exact ih (n + 1) (by omega) (by omega)
  unfold wpX57_queue_head
  refine ⟨hb, fun t et => ⟨33, ?_⟩⟩
  rw [et]
  have G := go 32 0 (by decide) (by decide)
  rw [kdCn_0, kdCn_0] at G
  exact G
end

/-! KnowDisk, the reference (X57): pages, who holds a sector -/
def kdOp (pl : Int → Int) (k : Int) : Prop := ∃ p, (0 ≤ p ∧ p < 30) ∧ pl p = k
def kdWt (tg : Int → Int) (fi be k : Int) : Prop := ∃ w, (fi ≤ w ∧ w < be) ∧ tg w = k
def kdBt (s k : Int) : Prop := s / 2 ^ k.toNat % 2 = 1
def kdSs (se : Int → Int) (ol nw k : Int) : Prop := ∃ s, (ol ≤ s ∧ s ≤ nw) ∧ kdBt (se s) k
def kdKs (ks : Int → Int) (kn k : Int) : Prop := ∃ s, (0 ≤ s ∧ s < kn) ∧ kdBt (ks s) k
/-- a sector is held -/
def kdHd (pl tg : Int → Int) (fi be : Int) (se : Int → Int) (ol nw : Int) (ks : Int → Int) (kn k : Int) : Prop := kdOp pl k ∨ kdWt tg fi be k ∨ kdSs se ol nw k ∨ kdKs ks kn k
/-- the least free sector of 48; -1 -/
noncomputable def kdFs (pl tg : Int → Int) (fi be : Int) (se : Int → Int) (ol nw : Int) (ks : Int → Int) (kn : Int) : Int :=
  if fstI (fun j => ¬ kdHd pl tg fi be se ol nw ks kn (2 + j)) 46 < 46 then 2 + fstI (fun j => ¬ kdHd pl tg fi be se ol nw ks kn (2 + j)) 46 else -1
noncomputable def kdFp (pl : Int → Int) : Int := if fstI (fun p => pl p = -1) 30 < 30 then fstI (fun p => pl p = -1) 30 else -1
def kdBo (lt op ld : Int → Int) (k i : Int) : Int := if ld k = 0 then lt (32 * k + i) else op (32 * k + i)
def kdVo (lt op ld : Int → Int) (k : Int) : Int := if ld k = 0 then kdWi lt (32 * k + 8) else kdWi op (32 * k + 8)
def kdTu (v : Int) : Int := zLxor (zLor (v * 512) ((v % 18446744073709551616) / 36028797018963968)) 25214903917
def kdFl (f : Int → Int) (n v : Int) : Int → Int := fun i => if 0 ≤ i ∧ i < n then v else f i
def kdCy (f g : Int → Int) (n : Int) : Int → Int := fun i => if 0 ≤ i ∧ i < n then g i else f i
section
variable {pl tg se ks lt op ld dk nu : Int → Int} {fi be ol nw kn k p i v n : Int} {A B : Prop} {post : Int → Prop}
theorem T57_isPageB (h1 : 0 ≤ p → p < 30 → ¬ pl p = -1 → B) (h0 : ¬ ((0 ≤ p ∧ p < 30) ∧ ¬ pl p = -1) → A) : wpX57_isPage (fun r => (r = 0 → A) ∧ (¬ r = 0 → B)) pl p := by
  unfold wpX57_isPage
  refine ⟨fun w => ⟨fun _ => h0 (by omega), fun z => absurd rfl z⟩, fun w => ⟨fun w2 => ⟨fun _ => h0 (by omega), fun z => absurd rfl z⟩, fun w2 => ⟨by omega, fun w3 => ⟨fun _ => h0 (fun z => z.2 w3), fun z => absurd rfl z⟩, fun w3 => ⟨fun z => absurd z (by decide), fun _ => h1 (by omega) (by omega) w3⟩⟩⟩⟩
theorem T57_byteOf (hk : 0 ≤ k ∧ k < 64) (hi : 0 ≤ i ∧ i < 32) (hp : post (kdBo lt op ld k i)) : wpX57_byteOf post lt op ld k i := by
  unfold kdBo at hp
  unfold wpX57_byteOf
  refine ⟨hk, fun w => ⟨by omega, ?_⟩, fun w => ⟨by omega, ?_⟩⟩
  · rw [if_pos w] at hp; exact hp
  · rw [if_neg w] at hp; exact hp
def kdKo (lt op ld : Int → Int) (k : Int) : Int := if kdBo lt op ld k 4 ≤ 127 then kdBo lt op ld k 4 else kdBo lt op ld k 4 - 256
theorem T57_kindOf (hk : 0 ≤ k ∧ k < 64) (hb : 0 ≤ kdBo lt op ld k 4 ∧ kdBo lt op ld k 4 < 256) (hp : post (kdKo lt op ld k)) : wpX57_kindOf post lt op ld k := by
  unfold kdKo at hp
  unfold wpX57_kindOf
  refine T57_byteOf hk (by decide) ⟨fun w => ?_, fun w => ⟨by omega, ?_⟩⟩
  · rw [if_pos w] at hp; exact hp
  · rw [if_neg w] at hp; exact hp
theorem T57_valueOf (hk : 0 ≤ k ∧ k < 64) (hp : post (kdVo lt op ld k)) : wpX57_valueOf post lt op ld k := by
  unfold kdVo at hp
  unfold wpX57_valueOf
  refine ⟨hk, fun w => ⟨by omega, T57_wide_later (by omega) ?_⟩, fun w => ⟨by omega, T57_wide_open (by omega) ?_⟩⟩
  · rw [if_pos w] at hp; exact hp
  · rw [if_neg w] at hp; exact hp
theorem T57_turned (hp : post (kdTu v)) : wpX57_turned post v := hp
theorem T57_freePage (hp : post (kdFp pl)) : wpX57_freePage post pl := by
  obtain ⟨hb, h1, h2⟩ := fstI_s (fun p => pl p = -1) 30
  unfold kdFp at hp
  unfold wpX57_freePage
  refine wloop (fun f x => wX57_freePage_2 _ pl f x) (fun x => 0 ≤ x ∧ x ≤ fstI (fun p => pl p = -1) 30) (fun x => (30 - x).toNat) ?_ 0 ⟨by decide, hb.1⟩
  rintro x ⟨x0, x1⟩ f ih
  rw [wX57_freePage_2]
  have hb2 : fstI (fun p => pl p = -1) 30 ≤ 30 := hb.2
  refine ⟨fun w => ?_, fun w => ⟨by omega, fun e => ?_, fun e => ⟨by omega, fun x2 ex => ?_⟩⟩⟩
  · rw [if_neg (by omega)] at hp
    exact ⟨fun _ => hp, fun z => absurd w z⟩
  · have ef : fstI (fun p => pl p = -1) 30 = x := by
      rcases Int.lt_or_eq_of_le x1 with q | q
      · exact absurd e (h2 x x0 q)
      · exact q.symm
    rw [ef, if_pos (by omega)] at hp
    exact ⟨fun z => absurd z w, fun _ => hp⟩
  · have ne : ¬ fstI (fun p => pl p = -1) 30 = x := fun q => by
      have := h1 (by show fstI (fun p => pl p = -1) 30 < ((30 : Nat) : Int); omega)
      rw [q] at this
      exact e this
    subst ex
    exact ih _ ⟨by omega, by omega⟩ (by omega)
theorem T57_isOpenB (h1 : kdOp pl k → B) (h0 : ¬ kdOp pl k → A) : wpX57_isOpen (fun r => (r = 0 → A) ∧ (¬ r = 0 → B)) pl k := by
  unfold wpX57_isOpen
  refine wl2 (fun f x y => wX57_isOpen_4 _ k pl f x y) (fun x y => (0 ≤ y ∧ y ≤ 30) ∧ ((x = 0 ∧ ∀ p, 0 ≤ p → p < y → ¬ pl p = k) ∨ (x = 1 ∧ kdOp pl k))) (fun _ y => (30 - y).toNat) ?_ 0 0 ⟨by decide, Or.inl ⟨rfl, fun p p0 p1 => by omega⟩⟩
  rintro x y ⟨hy, hx⟩ f ih
  rw [wX57_isOpen_4]
  refine ⟨fun w => ?_, fun w => ⟨fun e => ⟨by omega, fun e2 => ⟨by omega, fun y2 ey => ?_⟩, fun e2 => ⟨by omega, fun y2 ey => ?_⟩⟩, fun e => ⟨by omega, fun y2 ey => ?_⟩⟩⟩
  · rcases hx with ⟨e, no⟩ | ⟨e, yes⟩
    · exact ⟨Or.inl e, fun _ => h0 (fun ⟨p, hp, q⟩ => no p hp.1 (by omega) q), fun z => absurd e z⟩
    · exact ⟨Or.inr e, fun z => by omega, fun _ => h1 yes⟩
  · subst ey
    exact ih _ _ ⟨by omega, Or.inr ⟨rfl, y, by omega, e2⟩⟩ (by omega)
  · subst ey
    rcases hx with ⟨_, no⟩ | ⟨e', _⟩
    · refine ih _ _ ⟨by omega, Or.inl ⟨rfl, fun p p0 p1 q => ?_⟩⟩ (by omega)
      by_cases z : p = y
      · rw [z] at q; exact e2 q
      · exact no p p0 (by omega) q
    · omega
  · subst ey
    rcases hx with ⟨e', _⟩ | ⟨_, yes⟩
    · omega
    · exact ih _ _ ⟨by omega, Or.inr ⟨rfl, yes⟩⟩ (by omega)
theorem T57_isWaitingB (hf : 0 ≤ fi) (hbe : be ≤ 1200) (h1 : kdWt tg fi be k → B) (h0 : ¬ kdWt tg fi be k → A) : wpX57_isWaiting (fun r => (r = 0 → A) ∧ (¬ r = 0 → B)) tg fi be k := by
  unfold wpX57_isWaiting
  refine wl2 (fun f x y => wX57_isWaiting_7 _ k tg be f x y) (fun x y => (fi ≤ y ∧ (y ≤ be ∨ y = fi)) ∧ ((x = 0 ∧ ∀ p, fi ≤ p → p < y → ¬ tg p = k) ∨ (x = 1 ∧ kdWt tg fi be k))) (fun _ y => (be - y).toNat) ?_ 0 fi ⟨⟨by omega, Or.inr rfl⟩, Or.inl ⟨rfl, fun p p0 p1 => by omega⟩⟩
  rintro x y ⟨hy, hx⟩ f ih
  rw [wX57_isWaiting_7]
  refine ⟨fun w => ?_, fun w => ⟨fun e => ⟨by omega, fun e2 => ⟨by omega, fun y2 ey => ?_⟩, fun e2 => ⟨by omega, fun y2 ey => ?_⟩⟩, fun e => ⟨by omega, fun y2 ey => ?_⟩⟩⟩
  · rcases hx with ⟨e, no⟩ | ⟨e, yes⟩
    · exact ⟨Or.inl e, fun _ => h0 (fun ⟨p, hp, q⟩ => no p hp.1 (by omega) q), fun z => absurd e z⟩
    · exact ⟨Or.inr e, fun z => by omega, fun _ => h1 yes⟩
  · subst ey
    exact ih _ _ ⟨by omega, Or.inr ⟨rfl, y, by omega, e2⟩⟩ (by omega)
  · subst ey
    rcases hx with ⟨_, no⟩ | ⟨e', _⟩
    · refine ih _ _ ⟨by omega, Or.inl ⟨rfl, fun p p0 p1 q => ?_⟩⟩ (by omega)
      by_cases z : p = y
      · rw [z] at q; exact e2 q
      · exact no p p0 (by omega) q
    · omega
  · subst ey
    rcases hx with ⟨e', _⟩ | ⟨_, yes⟩
    · omega
    · exact ih _ _ ⟨by omega, Or.inr ⟨rfl, yes⟩⟩ (by omega)
theorem T57_h68 {K : Int → Prop} {x2 : Int} {P : Prop} (hk : 0 ≤ k ∧ k < 64) (hn : kn ≤ 4) (hx : (x2 = 0 ∧ ¬ P) ∨ (x2 = 1 ∧ P)) (h : ∀ r, (r = 0 ∧ ¬ (P ∨ kdKs ks kn k)) ∨ (r = 1 ∧ (P ∨ kdKs ks kn k)) → K r) : ∃ fu : Nat, wX57_isHeld_68 K k ks kn fu x2 0 := by
  refine wl2 (fun f x y => wX57_isHeld_68 K k ks kn f x y) (fun x y => (0 ≤ y ∧ (y ≤ kn ∨ y = 0)) ∧ ((x = 0 ∧ ¬ P ∧ ∀ p, 0 ≤ p → p < y → ¬ kdBt (ks p) k) ∨ (x = 1 ∧ (P ∨ kdKs ks kn k)))) (fun _ y => (kn - y).toNat) ?_ x2 0 ⟨⟨by omega, Or.inr rfl⟩, hx.elim (fun e => Or.inl ⟨e.1, e.2, fun p p0 p1 => by omega⟩) (fun e => Or.inr ⟨e.1, Or.inl e.2⟩)⟩
  rintro x y ⟨hy, hx⟩ f ih
  rw [wX57_isHeld_68]
  refine ⟨fun w => ?_, fun w => ⟨fun e => ⟨by omega, hk, fun e2 => ⟨by omega, fun y2 ey => ?_⟩, fun e2 => ⟨by omega, fun y2 ey => ?_⟩⟩, fun e => ⟨by omega, fun y2 ey => ?_⟩⟩⟩
  · rcases hx with ⟨e, np, no⟩ | ⟨e, yes⟩
    · exact h x (Or.inl ⟨e, fun z => z.elim np (fun ⟨p, hp, q⟩ => no p hp.1 (by omega) q)⟩)
    · exact h x (Or.inr ⟨e, yes⟩)
  · subst ey
    exact ih _ _ ⟨by omega, Or.inr ⟨rfl, Or.inr ⟨y, by omega, e2⟩⟩⟩ (by omega)
  · subst ey
    rcases hx with ⟨_, np, no⟩ | ⟨e', _⟩
    · refine ih _ _ ⟨by omega, Or.inl ⟨rfl, np, fun p p0 p1 q => ?_⟩⟩ (by omega)
      by_cases z : p = y
      · rw [z] at q; exact e2 q
      · exact no p p0 (by omega) q
    · omega
  · subst ey
    rcases hx with ⟨e', _⟩ | ⟨_, yes⟩
    · omega
    · exact ih _ _ ⟨by omega, Or.inr ⟨rfl, yes⟩⟩ (by omega)
theorem T57_h27 {K : Int → Prop} {x2 : Int} {P : Prop} (hk : 0 ≤ k ∧ k < 64) (ho : 0 ≤ ol) (hn : nw < 1200) (hx : (x2 = 0 ∧ ¬ P) ∨ (x2 = 1 ∧ P)) (h : ∀ r, (r = 0 ∧ ¬ (P ∨ kdSs se ol nw k)) ∨ (r = 1 ∧ (P ∨ kdSs se ol nw k)) → K r) : ∃ fu : Nat, wX57_isHeld_27 K k se nw fu x2 ol := by
  refine wl2 (fun f x y => wX57_isHeld_27 K k se nw f x y) (fun x y => (ol ≤ y ∧ (y ≤ nw + 1 ∨ y = ol)) ∧ ((x = 0 ∧ ¬ P ∧ ∀ p, ol ≤ p → p < y → ¬ kdBt (se p) k) ∨ (x = 1 ∧ (P ∨ kdSs se ol nw k)))) (fun _ y => (nw + 1 - y).toNat) ?_ x2 ol ⟨⟨by omega, Or.inr rfl⟩, hx.elim (fun e => Or.inl ⟨e.1, e.2, fun p p0 p1 => by omega⟩) (fun e => Or.inr ⟨e.1, Or.inl e.2⟩)⟩
  rintro x y ⟨hy, hx⟩ f ih
  rw [wX57_isHeld_27]
  refine ⟨fun w => ?_, fun w => ⟨fun e => ⟨by omega, hk, fun e2 => ⟨by omega, fun y2 ey => ?_⟩, fun e2 => ⟨by omega, fun y2 ey => ?_⟩⟩, fun e => ⟨by omega, fun y2 ey => ?_⟩⟩⟩
  · rcases hx with ⟨e, np, no⟩ | ⟨e, yes⟩
    · exact h x (Or.inl ⟨e, fun z => z.elim np (fun ⟨p, hp, q⟩ => no p hp.1 (by omega) q)⟩)
    · exact h x (Or.inr ⟨e, yes⟩)
  · subst ey
    exact ih _ _ ⟨by omega, Or.inr ⟨rfl, Or.inr ⟨y, by omega, e2⟩⟩⟩ (by omega)
  · subst ey
    rcases hx with ⟨_, np, no⟩ | ⟨e', _⟩
    · refine ih _ _ ⟨by omega, Or.inl ⟨rfl, np, fun p p0 p1 q => ?_⟩⟩ (by omega)
      by_cases z : p = y
      · rw [z] at q; exact e2 q
      · exact no p p0 (by omega) q
    · omega
  · subst ey
    rcases hx with ⟨e', _⟩ | ⟨_, yes⟩
    · omega
    · exact ih _ _ ⟨by omega, Or.inr ⟨rfl, yes⟩⟩ (by omega)
/-- the bounds of the rows that are gone over -/
def kdBd (fi be ol nw kn : Int) : Prop := (0 ≤ fi ∧ be ≤ 1200) ∧ (0 ≤ ol ∧ nw < 1200) ∧ 0 ≤ kn ∧ kn ≤ 4
theorem T57_isHeldB (D : kdBd fi be ol nw kn) (hk : 0 ≤ k ∧ k < 64) (h1 : kdHd pl tg fi be se ol nw ks kn k → B) (h0 : ¬ kdHd pl tg fi be se ol nw ks kn k → A) : wpX57_isHeld (fun r => (r = 0 → A) ∧ (¬ r = 0 → B)) pl tg fi be se ol nw ks kn k := by
  have fin : ∀ (x2 : Int) (P : Prop), (P ↔ kdOp pl k ∨ kdWt tg fi be k) → ((x2 = 0 ∧ ¬ P) ∨ (x2 = 1 ∧ P)) → ∃ fu : Nat, wX57_isHeld_27 (fun (x2_36 : Int) => (∃ fu : Nat, wX57_isHeld_68 (fun (x2_37 : Int) => (x2_37 = 0 ∨ x2_37 = 1) ∧ ((x2_37 = 0 → A) ∧ (¬ x2_37 = 0 → B))) k ks kn fu x2_36 0)) k se nw fu x2 ol := fun x2 P e hx => by
    refine T57_h27 hk D.2.1.1 D.2.1.2 hx (fun r hr => T57_h68 hk D.2.2.2 hr (fun q hq => ?_))
    rcases hq with ⟨z, n⟩ | ⟨z, y⟩
    · refine ⟨Or.inl z, fun _ => h0 (fun w => n ?_), fun w => absurd z w⟩
      rcases w with w | w | w | w
      · exact Or.inl (Or.inl (e.2 (Or.inl w)))
      · exact Or.inl (Or.inl (e.2 (Or.inr w)))
      · exact Or.inl (Or.inr w)
      · exact Or.inr w
    · refine ⟨Or.inr z, fun w => by omega, fun _ => h1 ?_⟩
      rcases y with (w | w) | w
      · rcases e.1 w with w | w
        · exact Or.inl w
        · exact Or.inr (Or.inl w)
      · exact Or.inr (Or.inr (Or.inl w))
      · exact Or.inr (Or.inr (Or.inr w))
  unfold wpX57_isHeld
  exact T57_isOpenB (fun o => fin 1 True ⟨fun _ => Or.inl o, fun _ => trivial⟩ (Or.inr ⟨rfl, trivial⟩)) (fun no => T57_isWaitingB D.1.1 D.1.2 (fun w => fin 1 True ⟨fun _ => Or.inr w, fun _ => trivial⟩ (Or.inr ⟨rfl, trivial⟩)) (fun nw' => fin 0 False ⟨fun z => z.elim, fun z => z.elim no nw'⟩ (Or.inl ⟨rfl, id⟩)))
theorem T57_freeSector (D : kdBd fi be ol nw kn) (hp : post (kdFs pl tg fi be se ol nw ks kn)) : wpX57_freeSector post 48 pl tg fi be se ol nw ks kn := by
  obtain ⟨hb, h1, h2⟩ := fstI_s (fun j => ¬ kdHd pl tg fi be se ol nw ks kn (2 + j)) 46
  unfold kdFs at hp
  unfold wpX57_freeSector
  generalize eF : fstI (fun j => ¬ kdHd pl tg fi be se ol nw ks kn (2 + j)) 46 = F at hb h1 h2 hp
  have hb2 : F ≤ 46 := hb.2
  refine wloop (fun f x => wX57_freeSector_2 _ 48 pl tg fi be se ol nw ks kn f x) (fun x => 2 ≤ x ∧ x ≤ 2 + F) (fun x => (48 - x).toNat) ?_ 2 ⟨by decide, by omega⟩
  rintro x ⟨x0, x1⟩ f ih
  rw [wX57_freeSector_2]
  refine ⟨fun w => ?_, fun w => T57_isHeldB D (by omega) (fun e => ⟨by omega, fun x2 ex => ?_⟩) (fun e => ?_)⟩
  · rw [if_neg (by omega)] at hp
    exact ⟨fun _ => hp, fun z => absurd w z⟩
  · have ne : ¬ F = x - 2 := fun q => by
      have := h1 (by show F < ((46 : Nat) : Int); omega)
      rw [q, show 2 + (x - 2) = x by omega] at this
      exact this e
    subst ex
    exact ih _ ⟨by omega, by omega⟩ (by omega)
  · have ef : F = x - 2 := by
      rcases Int.lt_or_eq_of_le x1 with q | q
      · have := h2 (x - 2) (by omega) (by omega)
        rw [show 2 + (x - 2) = x by omega] at this
        exact absurd e this
      · omega
    rw [ef, if_pos (by omega), show 2 + (x - 2) = x by omega] at hp
    exact ⟨fun z => absurd z w, fun _ => hp⟩
theorem T57_begin {postb : (Int → Int) → (Int → Int) → (Int → Int) → Int → Int → Int → (Int → Int) → (Int → Int) → Int → Int → Int → Prop} {x1 x2 : Int} (hp : postb (kdCy lt dk 2048) (kdFl ld 64 0) (kdFl pl 30 (-1)) 0 0 0 (updI nu 0 x1) (updI se 0 x2) 0 0 0) : wpX57_begin postb dk lt ld pl nu se x1 x2 := by
  have fl0 : ∀ (f : Int → Int) (v : Int), f = kdFl f 0 v := fun f v => funext fun i => by unfold kdFl; rw [if_neg (by omega)]
  have flu : ∀ (f : Int → Int) (n v : Int), 0 ≤ n → updI (kdFl f n v) n v = kdFl f (n + 1) v := fun f n v hn => funext fun i => by
    unfold updI kdFl
    by_cases e : i = n
    · rw [if_pos e, if_pos (by omega)]
    · rw [if_neg e]
      by_cases w : 0 ≤ i ∧ i < n
      · rw [if_pos w, if_pos (by omega)]
      · rw [if_neg w, if_neg (by omega)]
  have cyu : ∀ (f g : Int → Int) (n : Int), 0 ≤ n → updI (kdCy f g n) n (g n) = kdCy f g (n + 1) := fun f g n hn => funext fun i => by
    unfold updI kdCy
    by_cases e : i = n
    · rw [if_pos e, if_pos (by omega), e]
    · rw [if_neg e]
      by_cases w : 0 ≤ i ∧ i < n
      · rw [if_pos w, if_pos (by omega)]
      · rw [if_neg w, if_neg (by omega)]
  unfold wpX57_begin
  intro n2 en s2 es
  rw [en, es]
  refine wl2 (fun f x y => wX57_begin_47 _ f x y) (fun x y => (0 ≤ x ∧ x ≤ 30) ∧ y = kdFl pl x (-1)) (fun x _ => (30 - x).toNat) ?_ 0 pl ⟨by decide, fl0 _ _⟩
  rintro x y ⟨hx, ey⟩ f ih
  rw [wX57_begin_47]
  refine ⟨fun w => ?_, fun w => ⟨by omega, fun y2 e2 => ⟨by omega, fun x2 ex => ?_⟩⟩⟩
  rotate_left
  · subst ex
    exact ih _ _ ⟨by omega, by rw [e2, ey, flu _ _ _ hx.1]⟩ (by omega)
  have ex : x = 30 := by omega
  rw [ey, ex]
  refine wl2 (fun f x y => wX57_begin_71 _ f x y) (fun x y => (0 ≤ x ∧ x ≤ 64) ∧ y = kdFl ld x 0) (fun x _ => (64 - x).toNat) ?_ 0 ld ⟨by decide, fl0 _ _⟩
  rintro x y ⟨hx, ey⟩ f ih
  rw [wX57_begin_71]
  refine ⟨fun w => ?_, fun w => ⟨by omega, fun y2 e2 => ⟨by omega, fun x2 ex => ?_⟩⟩⟩
  rotate_left
  · subst ex
    exact ih _ _ ⟨by omega, by rw [e2, ey, flu _ _ _ hx.1]⟩ (by omega)
  have ex : x = 64 := by omega
  rw [ey, ex]
  refine wl2 (fun f x y => wX57_begin_95 _ dk f x y) (fun x y => (0 ≤ x ∧ x ≤ 2048) ∧ y = kdCy lt dk x) (fun x _ => (2048 - x).toNat) ?_ 0 lt ⟨by decide, funext fun i => by unfold kdCy; rw [if_neg (by omega)]⟩
  rintro x y ⟨hx, ey⟩ f ih
  rw [wX57_begin_95]
  refine ⟨fun w => ?_, fun w => ⟨by omega, fun v ev y2 e2 => ⟨by omega, fun x2 ex => ?_⟩⟩⟩
  · have ex : x = 2048 := by omega
    rw [ey, ex]; exact hp
  · subst ex
    exact ih _ _ ⟨by omega, by rw [e2, ev, ey, cyu _ _ _ hx.1]⟩ (by omega)
end

/-! KnowDisk, the reference (X57): a sector laid; page, derived -/
def kdIp (pl : Int → Int) (p : Int) : Prop := (0 ≤ p ∧ p < 30) ∧ ¬ pl p = -1
def kdZ (op : Int → Int) (k n : Int) : Int → Int := fun i => if 32 * k ≤ i ∧ i < 32 * k + n then 0 else op i
def kdLy (op : Int → Int) (k kind page src v : Int) : Int → Int := kdCl (kdSw (updI (updI (updI (kdZ op k 32) (32 * k + 4) kind) (32 * k + 5) page) (32 * k + 6) src) (32 * k + 8) v) k
/-- laid: answer, open bytes, laid ones, places, changed; fs: the free sector -/
def kdLr (fu fs : Int) (op ld pl : Int → Int) (ch kind page src v : Int) : Int × (Int → Int) × (Int → Int) × (Int → Int) × Int :=
  if page = -1 ∨ fs = -1 ∨ ¬ fu = 0 then (-4, op, ld, pl, ch) else (page, kdLy op fs kind page src v, updI (if pl page = -1 then ld else updI ld (pl page) 0) fs 1, updI pl page fs, 1)
noncomputable def kdPg (ru fu fs : Int) (lt op ld pl : Int → Int) (ch kind of_ v : Int) : Int × (Int → Int) × (Int → Int) × (Int → Int) × Int :=
  if ru = 0 then (-3, op, ld, pl, ch) else if kind < 0 ∨ 3 < kind then (-2, op, ld, pl, ch) else
  pif (¬ (of_ = -1 ∧ (kind = 1 ∨ kind = 2)) ∧ ¬ kdIp pl of_) (-1, op, ld, pl, ch)
    (if kind = 3 then (if kdKo lt op ld (pl of_) = 3 then (-1, op, ld, pl, ch) else kdLr fu fs op ld pl ch 3 (kdFp pl) of_ (kdTu (kdVo lt op ld (pl of_))))
     else if 0 < kind then kdLr fu fs op ld pl ch kind (if of_ = -1 ∧ (kind = 1 ∨ kind = 2) then kdFp pl else of_) 255 v
     else (of_, op, updI ld (pl of_) 0, updI pl of_ (-1), 1))
/-- derived: answer and what is laid -/
noncomputable def kdDe (ru fu fs : Int) (lt op ld pl : Int → Int) (ch p : Int) : Int × (Int → Int) × (Int → Int) × (Int → Int) × Int :=
  if ru = 0 then (-3, op, ld, pl, ch) else
  pif (kdIp pl p ∧ kdKo lt op ld (pl p) = 3)
    (pif (kdIp pl (kdBo lt op ld (pl p) 6))
      (if (¬ ld (pl p) = 0 ∨ kdNo lt (32 * pl p) = kdSum lt (pl p)) ∧ kdVo lt op ld (pl p) = kdTu (kdVo lt op ld (pl (kdBo lt op ld (pl p) 6))) then (0, op, ld, pl, ch)
       else (if (kdLr fu fs op ld pl ch 3 p (kdBo lt op ld (pl p) 6) (kdTu (kdVo lt op ld (pl (kdBo lt op ld (pl p) 6))))).1 = -4 then -4 else 1, (kdLr fu fs op ld pl ch 3 p (kdBo lt op ld (pl p) 6) (kdTu (kdVo lt op ld (pl (kdBo lt op ld (pl p) 6))))).2))
      (0, op, ld, pl, ch))
    (-1, op, ld, pl, ch)
/-- places and bytes of sectors -/
def kdPb (lt op pl : Int → Int) : Prop := (∀ p, 0 ≤ p → p < 30 → pl p = -1 ∨ (2 ≤ pl p ∧ pl p < 48)) ∧ ∀ i, 0 ≤ i → i < 2048 → (0 ≤ lt i ∧ lt i < 256) ∧ 0 ≤ op i ∧ op i < 256
section
variable {pl tg se ks lt op ld dk nu : Int → Int} {fi be ol nw kn k p i v n ru fu ch kind of_ src page : Int} {A B : Prop} {post : Int → (Int → Int) → (Int → Int) → (Int → Int) → Int → Prop}
theorem kdBo_b (P : kdPb lt op pl) (hk : 0 ≤ k ∧ k < 64) (hi : 0 ≤ i ∧ i < 32) : 0 ≤ kdBo lt op ld k i ∧ kdBo lt op ld k i < 256 := by
  have := P.2 (32 * k + i) (by omega) (by omega)
  unfold kdBo
  split
  · exact this.1
  · exact this.2
theorem kdFs_b : kdFs pl tg fi be se ol nw ks kn = -1 ∨ (2 ≤ kdFs pl tg fi be se ol nw ks kn ∧ kdFs pl tg fi be se ol nw ks kn < 48) := by
  have h := (fstI_s (fun j => ¬ kdHd pl tg fi be se ol nw ks kn (2 + j)) 46).1
  unfold kdFs
  split
  · right; omega
  · exact Or.inl rfl
theorem kdFp_b : kdFp pl = -1 ∨ ((0 ≤ kdFp pl ∧ kdFp pl < 30) ∧ pl (kdFp pl) = -1) := by
  obtain ⟨h, h1, _⟩ := fstI_s (fun p => pl p = -1) 30
  unfold kdFp
  split
  · exact Or.inr ⟨by omega, h1 (by omega)⟩
  · exact Or.inl rfl
theorem T57_lay30 {K : (Int → Int) → Prop} (hk : 0 ≤ k ∧ k < 64) (hp : K (kdZ op k 32)) : ∃ fu : Nat, wX57_lay_30 K k fu 0 op := by
  refine wl2 (fun f x y => wX57_lay_30 K k f x y) (fun x y => (0 ≤ x ∧ x ≤ 32) ∧ y = kdZ op k x) (fun x _ => (32 - x).toNat) ?_ 0 op ⟨by decide, funext fun i => by unfold kdZ; rw [if_neg (by omega)]⟩
  rintro x y ⟨hx, ey⟩ f ih
  rw [wX57_lay_30]
  refine ⟨fun w => ?_, fun w => ⟨by omega, fun y2 e2 => ⟨by omega, fun x2 ex => ?_⟩⟩⟩
  · have : x = 32 := by omega
    rw [ey, this]; exact hp
  · subst ex
    refine ih _ _ ⟨by omega, ?_⟩ (by omega)
    rw [e2, ey]
    refine funext fun i => ?_
    unfold updI kdZ
    by_cases e : i = 32 * k + x
    · rw [if_pos e, if_pos (by omega)]
    · rw [if_neg e]
      by_cases w2 : 32 * k ≤ i ∧ i < 32 * k + x
      · rw [if_pos w2, if_pos (by omega)]
      · rw [if_neg w2, if_neg (by omega)]
theorem T57_lay {R : Int × (Int → Int) × (Int → Int) × (Int → Int) × Int} (D : kdBd fi be ol nw kn) (hP : ∀ p, 0 ≤ p → p < 30 → pl p = -1 ∨ (2 ≤ pl p ∧ pl p < 48)) (hpg : page = -1 ∨ (0 ≤ page ∧ page < 30)) (eR : R = kdLr fu (kdFs pl tg fi be se ol nw ks kn) op ld pl ch kind page src v) (hp : post R.1 R.2.1 R.2.2.1 R.2.2.2.1 R.2.2.2.2) : wpX57_lay post 48 fu op ld pl ch tg fi be se ol nw ks kn kind page src v := by
  have fb := kdFs_b (pl := pl) (tg := tg) (fi := fi) (be := be) (se := se) (ol := ol) (nw := nw) (ks := ks) (kn := kn)
  unfold wpX57_lay
  refine T57_freeSector D ?_
  generalize kdFs pl tg fi be se ol nw ks kn = fs at fb eR ⊢
  have bad : page = -1 ∨ fs = -1 ∨ ¬ fu = 0 → post (-4) op ld pl ch := fun w => by
    unfold kdLr at eR
    rw [if_pos w] at eR
    rw [eR] at hp
    exact hp
  refine ⟨fun e => bad (Or.inl e), fun e => ⟨fun e2 => bad (Or.inr (Or.inl e2)), fun e2 => ⟨fun e3 => ?_, fun e3 => bad (Or.inr (Or.inr e3))⟩⟩⟩
  have nb : ¬ (page = -1 ∨ fs = -1 ∨ ¬ fu = 0) := by omega
  unfold kdLr at eR
  rw [if_neg nb] at eR
  rw [eR] at hp
  refine T57_lay30 (by omega) ⟨by omega, fun o1 eo1 => ⟨by omega, fun o2 eo2 => ⟨by omega, fun o3 eo3 => ⟨by omega, T57_setWide_open (by omega) (T57_close_open (by omega) ⟨by omega, ?_⟩)⟩⟩⟩⟩
  have eo : kdCl (kdSw o3 (32 * fs + 8) v) fs = kdLy op fs kind page src v := by rw [eo3, eo2, eo1]; rfl
  rw [eo]
  have q := hP page (by omega) (by omega)
  have fin : ∀ l : Int → Int, l = (if pl page = -1 then ld else updI ld (pl page) 0) → wX57_lay_145 post page fs (kdLy op fs kind page src v) l pl := fun l el => by
    rw [← el] at hp
    unfold wX57_lay_145
    exact ⟨by omega, fun l2 e2 => ⟨by omega, fun p2 e3 => by rw [e2, e3]; exact hp⟩⟩
  exact ⟨fun e4 => fin _ (by rw [if_pos e4]), fun e4 => ⟨by omega, fun l el => fin _ (by rw [if_neg e4]; exact el)⟩⟩
theorem T57_page59 {R : Int × (Int → Int) × (Int → Int) × (Int → Int) × Int} {fr : Int} (D : kdBd fi be ol nw kn) (P : kdPb lt op pl) (hk : 0 ≤ kind ∧ kind ≤ 3) (hfr : (fr = 1 ∧ of_ = -1 ∧ (kind = 1 ∨ kind = 2)) ∨ (fr = 0 ∧ ¬ (of_ = -1 ∧ (kind = 1 ∨ kind = 2)) ∧ kdIp pl of_))
    (eR : R = if kind = 3 then (if kdKo lt op ld (pl of_) = 3 then (-1, op, ld, pl, ch) else kdLr fu (kdFs pl tg fi be se ol nw ks kn) op ld pl ch 3 (kdFp pl) of_ (kdTu (kdVo lt op ld (pl of_))))
     else if 0 < kind then kdLr fu (kdFs pl tg fi be se ol nw ks kn) op ld pl ch kind (if of_ = -1 ∧ (kind = 1 ∨ kind = 2) then kdFp pl else of_) 255 v
     else (of_, op, updI ld (pl of_) 0, updI pl of_ (-1), 1)) (hp : post R.1 R.2.1 R.2.2.1 R.2.2.2.1 R.2.2.2.2) : wX57_page_59 post kind of_ v fr 48 fu lt op ld pl ch tg fi be se ol nw ks kn := by
  have fpb := kdFp_b (pl := pl)
  have fpb2 : kdFp pl = -1 ∨ (0 ≤ kdFp pl ∧ kdFp pl < 30) := by omega
  unfold wX57_page_59
  refine ⟨fun k3 => ?_, fun k3 => ⟨fun k0 => ?_, fun k0 => ⟨fun f0 => ?_, fun f0 => ?_⟩⟩⟩
  · rw [if_pos k3] at eR
    rcases hfr with h | ⟨_, _, ip⟩
    · omega
    have q := P.1 of_ ip.1.1 ip.1.2
    have ne := ip.2
    refine ⟨ip.1, T57_kindOf (by omega) (kdBo_b P (by omega) (by decide)) ⟨fun e => ?_, fun e => ?_⟩⟩
    · rw [if_pos e] at eR
      rw [eR] at hp; exact hp
    · rw [if_neg e] at eR
      exact T57_freePage (T57_valueOf (by omega) (T57_turned (T57_lay D P.1 fpb2 eR hp)))
  · rw [if_neg k3, if_neg (by omega)] at eR
    rcases hfr with h | ⟨_, _, ip⟩
    · omega
    have q := P.1 of_ ip.1.1 ip.1.2
    have ne := ip.2
    rw [eR] at hp
    exact ⟨ip.1, by omega, fun l el p2 ep => by rw [el, ep]; exact hp⟩
  · rw [if_neg k3, if_pos (by omega)] at eR
    rcases hfr with h | ⟨_, nf, ip⟩
    · omega
    rw [if_neg nf] at eR
    exact T57_lay D P.1 (Or.inr ip.1) eR hp
  · rw [if_neg k3, if_pos (by omega)] at eR
    rcases hfr with ⟨_, h⟩ | h
    · rw [if_pos h] at eR
      exact T57_freePage (T57_lay D P.1 fpb2 eR hp)
    · exact absurd h.1 f0
theorem T57_page {R : Int × (Int → Int) × (Int → Int) × (Int → Int) × Int} (D : kdBd fi be ol nw kn) (P : kdPb lt op pl) (eR : R = kdPg ru fu (kdFs pl tg fi be se ol nw ks kn) lt op ld pl ch kind of_ v) (hp : post R.1 R.2.1 R.2.2.1 R.2.2.2.1 R.2.2.2.2) : wpX57_page post 48 ru fu lt op ld pl ch tg fi be se ol nw ks kn kind of_ v := by
  unfold kdPg at eR
  unfold wpX57_page
  refine ⟨fun r0 => ?_, fun r0 => ⟨fun k0 => ?_, fun k0 => ⟨fun k3 => ?_, fun k3 => ?_⟩⟩⟩
  · rw [if_pos r0] at eR
    rw [eR] at hp; exact hp
  · rw [if_neg r0, if_pos (Or.inl k0)] at eR
    rw [eR] at hp; exact hp
  · rw [if_neg r0, if_neg (by omega)] at eR
    have hk : 0 ≤ kind ∧ kind ≤ 3 := by omega
    have fresh : of_ = -1 ∧ (kind = 1 ∨ kind = 2) → wX57_page_59 post kind of_ v 1 48 fu lt op ld pl ch tg fi be se ol nw ks kn := fun h => by
      rw [pif_f (fun w => w.1 h)] at eR
      exact T57_page59 D P hk (Or.inl ⟨rfl, h⟩) eR hp
    have old : ¬ (of_ = -1 ∧ (kind = 1 ∨ kind = 2)) → wpX57_isPage (fun (r_42 : Int) => (((r_42 = 0 → (post (-1) op ld pl ch)) ∧ (¬ r_42 = 0 → (wX57_page_59 post kind of_ v 0 48 fu lt op ld pl ch tg fi be se ol nw ks kn))))) pl of_ := fun h => by
      refine T57_isPageB (fun a b e => ?_) (fun e => ?_)
      · have ip : kdIp pl of_ := ⟨⟨a, b⟩, e⟩
        rw [pif_f (fun w => w.2 ip)] at eR
        exact T57_page59 D P hk (Or.inr ⟨rfl, h, ip⟩) eR hp
      · rw [pif_t ⟨h, e⟩] at eR
        rw [eR] at hp; exact hp
    refine ⟨fun o => ⟨fun k1 => ⟨fun z => absurd z (by decide), fun _ => fresh ⟨o, Or.inl k1⟩⟩, fun k1 => ⟨fun k2 => ⟨fun z => absurd z (by decide), fun _ => fresh ⟨o, Or.inr k2⟩⟩, fun k2 => ⟨fun _ => old (by omega), fun z => absurd rfl z⟩⟩⟩, fun o => ⟨fun _ => old (by omega), fun z => absurd rfl z⟩⟩
  · rw [if_neg r0, if_pos (by omega)] at eR
    rw [eR] at hp; exact hp
end

/-! KnowDisk, the reference (X57): derived, writes that reach the disk, sync, cut -/
def kdWr (dk tg by' : Int → Int) (fi n : Int) : Int → Int := kdCn dk (tg fi) by' fi n
/-- m writes that wait reach the disk -/
def kdWm (dk tg by' : Int → Int) (fi : Int) : Nat → Int → Int
  | 0 => dk
  | m + 1 => kdWr (kdWm dk tg by' fi m) tg by' (fi + m) 32
section
variable {pl tg se ks lt op ld dk nu by' ku : Int → Int} {fi be ol nw kn k p i v n ru fu ch kind of_ src page x : Int} {A B : Prop}
theorem T57_d99 {post : Int → (Int → Int) → (Int → Int) → (Int → Int) → Int → Prop} {y0 due : Int} (D : kdBd fi be ol nw kn) (P : kdPb lt op pl) (hp30 : 0 ≤ p ∧ p < 30) (hk : 0 ≤ k ∧ k < 64) {C : Prop} (hy : (y0 = 0 ∧ ¬ C) ∨ (y0 = 1 ∧ C)) (h0 : C ∧ kdVo lt op ld k = due → post 0 op ld pl ch) (h1 : ¬ (C ∧ kdVo lt op ld k = due) → ∀ R, R = kdLr fu (kdFs pl tg fi be se ol nw ks kn) op ld pl ch 3 p src due → post (if R.1 = -4 then -4 else 1) R.2.1 R.2.2.1 R.2.2.2.1 R.2.2.2.2) : wX57_derived_99 post p k src due y0 48 fu lt op ld pl ch tg fi be se ol nw ks kn := by
  have lay : ¬ (C ∧ kdVo lt op ld k = due) → wpX57_lay (fun (r_21 : Int) (f_open_22 : Int → Int) (f_laid_23 : Int → Int) (f_places_24 : Int → Int) (f_changed_25 : Int) => (((r_21 = (-4) → (post (-4) f_open_22 f_laid_23 f_places_24 f_changed_25)) ∧ (¬ r_21 = (-4) → (post 1 f_open_22 f_laid_23 f_places_24 f_changed_25))))) 48 fu op ld pl ch tg fi be se ol nw ks kn 3 p src due := fun w => by
    have H := h1 w _ rfl
    refine T57_lay D P.1 (Or.inr hp30) rfl ⟨fun e => ?_, fun e => ?_⟩
    · rw [if_pos e] at H; exact H
    · rw [if_neg e] at H; exact H
  unfold wX57_derived_99
  refine ⟨fun e => lay (fun w => ?_), fun e => T57_valueOf hk ⟨fun e2 => h0 ⟨?_, e2⟩, fun e2 => lay (fun w => e2 w.2)⟩⟩
  · rcases hy with ⟨_, n⟩ | ⟨z, _⟩
    · exact n w.1
    · omega
  · rcases hy with ⟨z, _⟩ | ⟨_, c⟩
    · exact absurd z e
    · exact c
theorem T57_derived {post : Int → (Int → Int) → (Int → Int) → (Int → Int) → Int → Prop} {R : Int × (Int → Int) × (Int → Int) × (Int → Int) × Int} (D : kdBd fi be ol nw kn) (P : kdPb lt op pl) (eR : R = kdDe ru fu (kdFs pl tg fi be se ol nw ks kn) lt op ld pl ch p) (hp : post R.1 R.2.1 R.2.2.1 R.2.2.2.1 R.2.2.2.2) : wpX57_derived post 48 ru fu lt op ld pl ch tg fi be se ol nw ks kn p := by
  unfold kdDe at eR
  unfold wpX57_derived
  refine ⟨fun r0 => ?_, fun r0 => ?_⟩
  · rw [if_pos r0] at eR
    rw [eR] at hp; exact hp
  rw [if_neg r0] at eR
  refine T57_isPageB (fun a b e => ?_) (fun e => ?_)
  rotate_left
  · rw [pif_f (fun w => e w.1)] at eR
    rw [eR] at hp; exact hp
  have ip : kdIp pl p := ⟨⟨a, b⟩, e⟩
  have q := P.1 p a b
  refine ⟨⟨a, b⟩, T57_kindOf (by omega) (kdBo_b P (by omega) (by decide)) ⟨fun k3 x ex => ?_, fun k3 => ?_⟩⟩
  rotate_left
  · rw [pif_f (fun w => k3 w.2)] at eR
    rw [eR] at hp; exact hp
  rw [pif_t ⟨ip, k3⟩] at eR
  subst ex
  refine T57_byteOf (by omega) (by decide) ?_
  generalize kdBo lt op ld (pl p) 6 = s at eR ⊢
  refine T57_isPageB (fun a2 b2 e2 => ?_) (fun e2 => ?_)
  rotate_left
  · rw [pif_f (show ¬ kdIp pl s from e2)] at eR
    rw [eR] at hp; exact hp
  have ip2 : kdIp pl s := ⟨⟨a2, b2⟩, e2⟩
  have q2 := P.1 s a2 b2
  rw [pif_t ip2] at eR
  refine ⟨⟨a2, b2⟩, T57_valueOf (by omega) (T57_turned ⟨by omega, ?_⟩)⟩
  have go : ∀ (y0 : Int), ((y0 = 0 ∧ ¬ (¬ ld (pl p) = 0 ∨ kdNo lt (32 * pl p) = kdSum lt (pl p))) ∨ (y0 = 1 ∧ (¬ ld (pl p) = 0 ∨ kdNo lt (32 * pl p) = kdSum lt (pl p)))) → wX57_derived_99 post p (pl p) s (kdTu (kdVo lt op ld (pl s))) y0 48 fu lt op ld pl ch tg fi be se ol nw ks kn := fun y0 hy => by
    refine T57_d99 D P ⟨a, b⟩ (by omega) hy (fun w => ?_) (fun w R' eR' => ?_)
    · rw [if_pos w] at eR
      rw [eR] at hp; exact hp
    · rw [if_neg w, ← eR'] at eR
      rw [eR] at hp; exact hp
  exact ⟨fun l0 => T57_isRight_laterB (by omega) (fun e => go 1 (Or.inr ⟨rfl, Or.inr e⟩)) (fun e => go 0 (Or.inl ⟨rfl, fun w => w.elim (fun z => z l0) e⟩)), fun l0 => go 1 (Or.inr ⟨rfl, Or.inl l0⟩)⟩
theorem T57_full {post : Int → Int → Prop} (h0 : x = 0 ∨ x = 1) (h1 : fu = 0 ∨ fu = 1) (hp : post fu x) : wpX57_full post fu x := ⟨h0, h1, hp⟩
theorem T57_write {post : (Int → Int) → Int → Prop} (hf : 0 ≤ fi ∧ fi < 1200) (ht : 0 ≤ tg fi ∧ tg fi < 64) (hn : n ≤ 32) (hp : post (kdWr dk tg by' fi (if n < 0 then 0 else n)) (fi + 1)) : wpX57_write post dk tg by' fi n := by
  unfold kdWr at hp
  unfold wpX57_write
  refine wl2 (fun f x d => wX57_write_2 _ n tg by' fi f x d) (fun x d => (0 ≤ x ∧ x ≤ (if n < 0 then 0 else n)) ∧ d = kdCn dk (tg fi) by' fi x) (fun x _ => (32 - x).toNat) ?_ 0 dk ⟨⟨by decide, by split <;> omega⟩, kdCn_0.symm⟩
  rintro x d ⟨hx, ed⟩ f ih
  rw [wX57_write_2]
  have hx2 : x ≤ n ∨ (x = 0 ∧ n < 0) := by
    by_cases w : n < 0
    · rw [if_pos w] at hx; omega
    · rw [if_neg w] at hx; omega
  refine ⟨fun w => ⟨by omega, fun f2 ef => ?_⟩, fun w => ⟨hf, by omega, fun v ev => ⟨by omega, fun d2 ed2 => ⟨by omega, fun x2 ex => ?_⟩⟩⟩⟩
  · have e : x = (if n < 0 then 0 else n) := by
      by_cases w : n < 0
      · rw [if_pos w]; omega
      · rw [if_neg w]; omega
    rw [ed, ef, e]; exact hp
  · subst ex
    refine ih _ _ ⟨⟨by omega, by rw [if_neg (by omega)]; omega⟩, ?_⟩ (by omega)
    rw [ed2, ev, ed, kdCn_u hx.1]
theorem kdWm_s (m : Nat) : kdWm dk tg by' fi (m + 1) = kdWr (kdWm dk tg by' fi m) tg by' (fi + m) 32 := rfl
theorem T57_sync10 {K : (Int → Int) → Int → Prop} (hf : 0 ≤ fi ∧ be ≤ 1200) (ht : ∀ i, fi ≤ i → i < be → 0 ≤ tg i ∧ tg i < 64) (hp : K (kdWm dk tg by' fi (be - fi).toNat) (fi + ((be - fi).toNat : Int))) : ∃ fu : Nat, wX57_sync_10 K tg by' be fu dk fi := by
  refine wl2 (fun f d x => wX57_sync_10 K tg by' be f d x) (fun d x => ∃ m : Nat, m ≤ (be - fi).toNat ∧ d = kdWm dk tg by' fi m ∧ x = fi + m) (fun _ x => (be - x).toNat) ?_ dk fi ⟨0, Nat.zero_le _, rfl, by omega⟩
  rintro d x ⟨m, hm, ed, ex⟩ f ih
  rw [wX57_sync_10]
  refine ⟨fun w => ?_, fun w => T57_write (by omega) (ht x (by omega) (by omega)) (by decide) ?_⟩
  · have : m = (be - fi).toNat := by omega
    rw [ed, ex, this]; exact hp
  · refine ih _ _ ⟨m + 1, by omega, ?_, by omega⟩ (by omega)
    rw [if_neg (by decide), ed, ex]; rfl
theorem T57_sync {post : Int → (Int → Int) → Int → Int → (Int → Int) → (Int → Int) → Int → Int → Prop} (hf : (0 ≤ fi ∧ fi ≤ be) ∧ be ≤ 1200) (hn : 0 ≤ nw ∧ nw < 1200) (ht : ∀ i, fi ≤ i → i < be → 0 ≤ tg i ∧ tg i < 64) (h0 : ru = 0 → post (-3) dk fi be nu se ol nw) (h1 : ¬ ru = 0 → post (nu nw) (kdWm dk tg by' fi (be - fi).toNat) 0 0 (updI nu 0 (nu nw)) (updI se 0 (se nw)) 0 0) : wpX57_sync post ru dk tg by' fi be nu se ol nw := by
  unfold wpX57_sync
  refine ⟨h0, fun r0 => T57_sync10 (by omega) ht ?_⟩
  have H := h1 r0
  unfold wpX57_settle wX57_settle_21
  refine ⟨fun _ => ⟨hn, fun v ev n2 en w ew s2 es => ⟨by decide, ?_⟩⟩, fun w => absurd (by omega) w⟩
  rw [en, es, ev, ew, updI_s]; exact H
/-- how many writes a cut lets through -/
def kdCm (fi be keep : Int) : Nat := if keep ≤ 0 then 0 else if keep < be - fi then keep.toNat else (be - fi).toNat
def kdCt (tear : Int) : Int := if tear < 0 then 0 else if 32 < tear then 32 else tear
/-- the disk when it was cut -/
def kdCd (dk tg by' : Int → Int) (fi be keep tear : Int) : Int → Int := if fi + kdCm fi be keep < be then kdWr (kdWm dk tg by' fi (kdCm fi be keep)) tg by' (fi + kdCm fi be keep) (kdCt tear) else kdWm dk tg by' fi (kdCm fi be keep)
theorem T57_cut {post : Int → (Int → Int) → (Int → Int) → (Int → Int) → (Int → Int) → Int → Int → Int → (Int → Int) → (Int → Int) → Int → Int → Int → Prop} {keep tear : Int} (hf : (0 ≤ fi ∧ fi ≤ be) ∧ be ≤ 1200) (ht : ∀ i, fi ≤ i → i < be → 0 ≤ tg i ∧ tg i < 64) (h0 : ru = 0 → post ru dk lt ld pl ch fi be nu se ol nw kn) (h1 : ¬ ru = 0 → post 0 (kdCd dk tg by' fi be keep tear) (kdCy lt (kdCd dk tg by' fi be keep tear) 2048) (kdFl ld 64 0) (kdFl pl 30 (-1)) 0 0 0 (updI nu 0 0) (updI se 0 0) 0 0 0) : wpX57_cut post ru dk lt ld pl ch tg by' fi be nu se ol nw kn keep tear := by
  unfold wpX57_cut
  refine ⟨h0, fun r0 => ?_⟩
  have H := h1 r0
  unfold kdCd at H
  have cm : (kdCm fi be keep : Int) ≤ be - fi := by
    unfold kdCm
    split
    · show (0 : Int) ≤ be - fi; omega
    · split <;> omega
  have done : ∀ m : Nat, m = kdCm fi be keep → wX57_cut_38 post tear (kdWm dk tg by' fi m) lt ld pl tg by' (fi + m) be nu se := fun m em => by
    rw [← em] at H cm
    unfold wX57_cut_38
    refine ⟨fun w => ?_, fun w => ?_⟩
    · rw [if_neg (by omega)] at H
      exact T57_begin H
    · rw [if_pos (by omega)] at H
      have t := ht (fi + m) (by omega) (by omega)
      unfold kdCt at H
      refine ⟨fun t0 => ⟨fun t1 => T57_write (by omega) t (by omega) ?_, fun t1 => T57_write (by omega) t (by omega) ?_⟩, fun t0 => T57_write (by omega) t (by omega) ?_⟩
      · rw [if_neg (by omega)]
        rw [if_neg (by omega), if_neg (by omega)] at H
        exact T57_begin H
      · rw [if_neg (by decide)]
        rw [if_neg (by omega), if_pos (by omega)] at H
        exact T57_begin H
      · rw [if_neg (by decide)]
        rw [if_pos (by omega)] at H
        exact T57_begin H
  refine wl3 (fun f x d y => wX57_cut_10 _ keep tg by' be f x d y) (fun x d y => ∃ m : Nat, m ≤ kdCm fi be keep ∧ x = m ∧ d = kdWm dk tg by' fi m ∧ y = fi + m) (fun x _ _ => (be - fi - x).toNat) ?_ 0 dk fi ⟨0, Nat.zero_le _, rfl, rfl, by omega⟩
  rintro x d y ⟨m, hm, ex, ed, ey⟩ f ih
  rw [wX57_cut_10]
  refine ⟨fun w => ?_, fun w => ⟨fun w2 => ?_, fun w2 => T57_write (by omega) (ht y (by omega) (by omega)) (by decide) ⟨by omega, fun x2 ex2 => ?_⟩⟩⟩
  · rw [ed, ey]
    refine done m ?_
    unfold kdCm at hm ⊢
    split
    · rename_i h; rw [if_pos h] at hm; omega
    · rename_i h
      rw [if_neg h] at hm
      split
      · rename_i h2; rw [if_pos h2] at hm; omega
      · rename_i h2; rw [if_neg h2] at hm; omega
  · rw [ed, ey]
    exact done m (by omega)
  · refine ih _ _ _ ⟨m + 1, ?_, by omega, ?_, by omega⟩ (by omega)
    · unfold kdCm
      split
      · omega
      · split <;> omega
    · rw [if_neg (by decide), ed, ey]; rfl
theorem T57_poke {post : Int → (Int → Int) → (Int → Int) → Prop} {mask : Int} (hf : 0 ≤ fi ∧ be ≤ 1200) (P : kdPb lt op pl) (h3 : ru = 0 → post (-3) dk lt) (h1 : ¬ ru = 0 → ¬ kdIp pl p → post (-1) dk lt) (h2 : ¬ ru = 0 → kdIp pl p → ((i < 0 ∨ 32 ≤ i) ∨ mask < 1 ∨ 255 < mask) → post (-2) dk lt) (h4 : ¬ ru = 0 → kdIp pl p → ¬ ((i < 0 ∨ 32 ≤ i) ∨ mask < 1 ∨ 255 < mask) → (¬ ld (pl p) = 0 ∨ kdWt tg fi be (pl p)) → post (-3) dk lt)
    (h0 : ¬ ru = 0 → kdIp pl p → ¬ ((i < 0 ∨ 32 ≤ i) ∨ mask < 1 ∨ 255 < mask) → ¬ (¬ ld (pl p) = 0 ∨ kdWt tg fi be (pl p)) → post (zxor (dk (32 * pl p + i)) mask) (updI dk (32 * pl p + i) (zxor (dk (32 * pl p + i)) mask)) (updI lt (32 * pl p + i) (zxor (dk (32 * pl p + i)) mask))) : wpX57_poke post ru dk lt ld pl tg fi be p i mask := by
  unfold wpX57_poke
  refine ⟨h3, fun r0 => T57_isPageB (fun a b e => ?_) (fun e => h1 r0 e)⟩
  have ip : kdIp pl p := ⟨⟨a, b⟩, e⟩
  have q := P.1 p a b
  have h2 := h2 r0 ip
  have h4 := h4 r0 ip
  have h0 := h0 r0 ip
  refine ⟨fun w => h2 (by omega), fun w => ⟨fun w2 => h2 (by omega), fun w2 => ⟨fun w3 => h2 (by omega), fun w3 => ⟨fun w4 => ⟨⟨a, b⟩, fun x ex => ⟨by omega, fun l0 => ?_, fun l0 => ?_⟩⟩, fun w4 => h2 (by omega)⟩⟩⟩⟩
  · subst ex
    refine T57_isWaitingB hf.1 hf.2 (fun wt => h4 (by omega) (Or.inr wt)) (fun wt => ⟨by omega, fun v ev d2 e2 u eu l2 el => ?_⟩)
    have H := h0 (by omega) (fun z => z.elim (fun y => y l0) wt)
    rw [e2, updI_s] at eu
    rw [el, eu, e2, updI_s, ev]; exact H
  · subst ex
    exact h4 (by omega) (Or.inl l0)
end

/-! KnowDisk, the reference (X57): what is wrong, backups, drops -/
/-- a page whose sector, all written, is not right -/
def kdWg (lt ld pl : Int → Int) (p : Int) : Prop := ¬ pl p = -1 ∧ ld (pl p) = 0 ∧ ¬ kdNo lt (32 * pl p) = kdSum lt (pl p)
noncomputable def kdWl (lt ld pl : Int → Int) : Int := if fstI (kdWg lt ld pl) 30 < 30 then fstI (kdWg lt ld pl) 30 else -1
noncomputable def kdWq (ru : Int) (lt ld pl : Int → Int) (what : Int) : Int :=
  if ru = 0 then -3 else if what < 0 ∨ 2 < what then -2 else if what = 0 then cntI (kdWg lt ld pl) 30 else if kdWl lt ld pl = -1 then -1 else if what = 1 then kdWl lt ld pl else pl (kdWl lt ld pl)
/-- how many bits a number has -/
noncomputable def kdBc (s : Int) : Int := cntI (kdBt s) 64
noncomputable def kdHc (pl tg : Int → Int) (fi be : Int) (se : Int → Int) (ol nw : Int) (ks : Int → Int) (kn : Int) : Int := cntI (fun j => kdHd pl tg fi be se ol nw ks kn (2 + j)) 62
/-- the first one kept with a number; kn -/
noncomputable def kdKf (ku : Int → Int) (kn v : Int) : Int := fstI (fun j => ku j = v) kn.toNat
/-- one left out -/
def kdLo (f : Int → Int) (k n : Int) : Int → Int := fun i => if k ≤ i ∧ i < n then f (i + 1) else f i
section
variable {pl tg se ks lt op ld dk nu by' ku : Int → Int} {fi be ol nw kn k p i v n ru fu ch what x : Int} {A B : Prop} {post : Int → Prop}
theorem T57_wrong (P : kdPb lt op pl) (hp : post (kdWq ru lt ld pl what)) : wpX57_wrong post ru lt ld pl what := by
  obtain ⟨fb, f1, f2⟩ := fstI_s (kdWg lt ld pl) 30
  have fb2 : fstI (kdWg lt ld pl) 30 ≤ 30 := fb.2
  unfold kdWq at hp
  unfold wpX57_wrong
  refine ⟨fun r0 => ?_, fun r0 => ⟨fun w => ?_, fun w => ⟨fun w2 => ?_, fun w2 => ?_⟩⟩⟩
  · rw [if_pos r0] at hp; exact hp
  · rw [if_neg r0, if_pos (Or.inl w)] at hp; exact hp
  rotate_left
  · rw [if_neg r0, if_pos (by omega)] at hp; exact hp
  rw [if_neg r0, if_neg (by omega)] at hp
  have key : ∃ fu : Nat, wX57_wrong_29 (fun (x2_28 : Int) (x3_29 : Int) => ((what = 0 → (post x2_28)) ∧ (¬ what = 0 → (((x3_29 = (-1) → (post (-1))) ∧ (¬ x3_29 = (-1) → (((what = 1 → (post x3_29)) ∧ (¬ what = 1 → ((0 ≤ x3_29 ∧ x3_29 < 30) ∧ (post (pl x3_29)))))))))))) lt ld pl fu 0 (-1) 0 := by
    refine wl3 (fun f a b c => wX57_wrong_29 _ lt ld pl f a b c) (fun a b c => (0 ≤ c ∧ c ≤ 30) ∧ a = cntI (kdWg lt ld pl) c.toNat ∧ ((b = -1 ∧ ∀ j, 0 ≤ j → j < c → ¬ kdWg lt ld pl j) ∨ ((0 ≤ b ∧ b < c) ∧ kdWg lt ld pl b ∧ ∀ j, 0 ≤ j → j < b → ¬ kdWg lt ld pl j))) (fun _ _ c => (30 - c).toNat) ?_ 0 (-1) 0 ⟨by decide, rfl, Or.inl ⟨rfl, fun j j0 j1 => by omega⟩⟩
    rintro a b c ⟨hc, ea, hb⟩ f ih
    rw [wX57_wrong_29]
    have ab : 0 ≤ a ∧ a ≤ 30 := by
      have := cntI_b (kdWg lt ld pl) c.toNat
      omega
    have skip : ¬ kdWg lt ld pl c → ¬ 30 ≤ c → zR (c + 1) ∧ (∀ x4_8 : Int, x4_8 = c + 1 → (wX57_wrong_29 (fun (x2_28 : Int) (x3_29 : Int) => ((what = 0 → (post x2_28)) ∧ (¬ what = 0 → (((x3_29 = (-1) → (post (-1))) ∧ (¬ x3_29 = (-1) → (((what = 1 → (post x3_29)) ∧ (¬ what = 1 → ((0 ≤ x3_29 ∧ x3_29 < 30) ∧ (post (pl x3_29)))))))))))) lt ld pl f a b x4_8)) := fun nw' w => ⟨by omega, fun c2 ec => by
      subst ec
      refine ih _ _ _ ⟨by omega, by rw [ea, cntI_f hc.1 nw'], ?_⟩ (by omega)
      rcases hb with ⟨e, h⟩ | ⟨e, h, h'⟩
      · refine Or.inl ⟨e, fun j j0 j1 => ?_⟩
        by_cases z : j = c
        · rw [z]; exact nw'
        · exact h j j0 (by omega)
      · exact Or.inr ⟨by omega, h, h'⟩⟩
    refine ⟨fun w => ?_, fun w => ⟨by omega, fun e => skip (fun z => z.1 e) w, fun e => ?_⟩⟩
    · have ec : c = 30 := by omega
      subst ec
      have ea' : a = cntI (kdWg lt ld pl) 30 := ea
      refine ⟨fun z => ?_, fun z => ?_⟩
      · rw [if_pos z, ← ea'] at hp; exact hp
      · rw [if_neg z] at hp
        have el : kdWl lt ld pl = b := by
          unfold kdWl
          rcases hb with ⟨eb, h⟩ | ⟨eb, h, h'⟩
          · rw [fstI_u (k := 30) (by decide) (by decide) (fun q => absurd q (by decide)) (fun j j0 j1 => h j j0 j1), if_neg (by decide), eb]
          · rw [fstI_u (k := b) eb.1 (by show b ≤ 30; omega) (fun _ => h) h', if_pos eb.2]
        rw [el] at hp
        refine ⟨fun y => ?_, fun y => ⟨fun u => ?_, fun u => ⟨?_, ?_⟩⟩⟩
        · rw [if_pos y] at hp; exact hp
        · rw [if_neg y, if_pos u] at hp; exact hp
        · rcases hb with ⟨eb, h⟩ | ⟨eb, h, h'⟩
          · exact absurd eb y
          · exact eb
        · rw [if_neg y, if_neg u] at hp; exact hp
    · have q := P.1 c (by omega) (by omega)
      refine ⟨by omega, fun l0 => T57_isRight_laterB (by omega) (fun e2 => skip (fun z => z.2.2 e2) w) (fun e2 => ?_), fun l0 => skip (fun z => l0 z.2.1) w⟩
      have yw : kdWg lt ld pl c := ⟨e, l0, e2⟩
      refine ⟨by omega, fun a2 ea2 => ?_⟩
      have ca : a2 = cntI (kdWg lt ld pl) (c + 1).toNat := by rw [ea2, cntI_t hc.1 yw, ea]
      refine ⟨fun eb => ⟨by omega, fun c2 ec => ?_⟩, fun eb => ⟨by omega, fun c2 ec => ?_⟩⟩
      · subst ec
        refine ih _ _ _ ⟨by omega, ca, Or.inr ⟨by omega, yw, fun j j0 j1 => ?_⟩⟩ (by omega)
        rcases hb with ⟨_, h⟩ | ⟨z, _⟩
        · exact h j j0 j1
        · omega
      · subst ec
        refine ih _ _ _ ⟨by omega, ca, ?_⟩ (by omega)
        rcases hb with ⟨z, _⟩ | ⟨z, h, h'⟩
        · exact absurd z eb
        · exact Or.inr ⟨by omega, h, h'⟩
  exact key
theorem T57_bits (hp : post (kdBc v)) : wpX57_bits post v := by
  unfold kdBc at hp
  unfold wpX57_bits
  refine wl2 (fun f a b => wX57_bits_4 _ v f a b) (fun a b => (0 ≤ b ∧ b ≤ 64) ∧ a = cntI (kdBt v) b.toNat) (fun _ b => (64 - b).toNat) ?_ 0 0 ⟨by decide, rfl⟩
  rintro a b ⟨hb, ea⟩ f ih
  rw [wX57_bits_4]
  have ab := cntI_b (kdBt v) b.toNat
  refine ⟨fun w => ?_, fun w => ⟨by omega, by omega, fun a2 ea2 => ⟨by omega, fun b2 eb => ?_⟩⟩⟩
  · have e : b = 64 := by omega
    rw [ea, e]; exact hp
  · subst eb
    refine ih _ _ ⟨by omega, ?_⟩ (by omega)
    by_cases z : kdBt v b
    · rw [cntI_t hb.1 z, ea2, ea]
      unfold kdBt at z
      rw [z]
    · rw [cntI_f hb.1 z, ea2, ea]
      unfold kdBt at z
      omega
theorem T57_backup {post : Int → (Int → Int) → (Int → Int) → Int → Prop} (hn : 0 ≤ nw ∧ nw < 1200) (hk : 0 ≤ kn ∧ kn ≤ 4) (h3 : ru = 0 → post (-3) ku ks kn) (h1 : ¬ ru = 0 → ¬ nu nw = v → post (-1) ku ks kn) (h4 : ¬ ru = 0 → nu nw = v → kn = 4 → post (-4) ku ks kn) (h0 : ¬ ru = 0 → nu nw = v → kn < 4 → post (kdBc (se nw)) (updI ku kn v) (updI ks kn (se nw)) (kn + 1)) : wpX57_backup post ru nu se nw ku ks kn v := by
  unfold wpX57_backup
  refine ⟨h3, fun r0 => ⟨hn, fun e => ⟨h4 r0 e, fun w => ⟨by omega, fun k2 e2 y ey s2 es => ⟨by omega, fun n2 en => T57_bits ?_⟩⟩⟩, h1 r0⟩⟩
  rw [e2, es, ey, en]; exact h0 r0 e (by omega)
theorem T57_heldCount (D : kdBd fi be ol nw kn) (hp : post (kdHc pl tg fi be se ol nw ks kn)) : wpX57_heldCount post pl tg fi be se ol nw ks kn := by
  unfold kdHc at hp
  unfold wpX57_heldCount
  refine wl2 (fun f a b => wX57_heldCount_4 _ pl tg fi be se ol nw ks kn f a b) (fun a b => (2 ≤ b ∧ b ≤ 64) ∧ a = cntI (fun j => kdHd pl tg fi be se ol nw ks kn (2 + j)) (b - 2).toNat) (fun _ b => (64 - b).toNat) ?_ 0 2 ⟨by decide, rfl⟩
  rintro a b ⟨hb, ea⟩ f ih
  rw [wX57_heldCount_4]
  have ab := cntI_b (fun j => kdHd pl tg fi be se ol nw ks kn (2 + j)) (b - 2).toNat
  refine ⟨fun w => ?_, fun w => T57_isHeldB D (by omega) (fun y => ⟨by omega, fun a2 ea2 => ⟨by omega, fun b2 eb => ?_⟩⟩) (fun y => ⟨by omega, fun a2 ea2 => ⟨by omega, fun b2 eb => ?_⟩⟩)⟩
  · have e : b = 64 := by omega
    rw [ea, e]; exact hp
  · subst eb
    refine ih _ _ ⟨by omega, ?_⟩ (by omega)
    rw [show b + 1 - 2 = b - 2 + 1 by omega, cntI_t (p := fun j => kdHd pl tg fi be se ol nw ks kn (2 + j)) (by omega) (by show kdHd pl tg fi be se ol nw ks kn (2 + (b - 2)); rw [show 2 + (b - 2) = b by omega]; exact y), ea2, ea]
  · subst eb
    refine ih _ _ ⟨by omega, ?_⟩ (by omega)
    rw [show b + 1 - 2 = b - 2 + 1 by omega, cntI_f (p := fun j => kdHd pl tg fi be se ol nw ks kn (2 + j)) (by omega) (by show ¬ kdHd pl tg fi be se ol nw ks kn (2 + (b - 2)); rw [show 2 + (b - 2) = b by omega]; exact y), ea2, ea, Int.add_zero]
theorem T57_drop64 {K : (Int → Int) → (Int → Int) → Prop} (hk : 0 ≤ k) (hn : kn ≤ 3) (hkn : k ≤ kn) (hp : K (kdLo ku k kn) (kdLo ks k kn)) : ∃ fu : Nat, wX57_drop_64 K kn fu k ku ks := by
  have lou : ∀ (f : Int → Int) (x : Int), k ≤ x → x < kn → updI (kdLo f k x) x (kdLo f k x (x + 1)) = kdLo f k (x + 1) := fun f x h0 h1 => funext fun i => by
    unfold updI kdLo
    by_cases e : i = x
    · rw [if_pos e, if_neg (by omega), if_pos (by omega), e]
    · rw [if_neg e]
      by_cases w : k ≤ i ∧ i < x
      · rw [if_pos w, if_pos (by omega)]
      · rw [if_neg w, if_neg (by omega)]
  refine wl3 (fun f a b c => wX57_drop_64 K kn f a b c) (fun a b c => (k ≤ a ∧ a ≤ kn) ∧ b = kdLo ku k a ∧ c = kdLo ks k a) (fun a _ _ => (kn - a).toNat) ?_ k ku ks ⟨by omega, funext fun i => by unfold kdLo; rw [if_neg (by omega)], funext fun i => by unfold kdLo; rw [if_neg (by omega)]⟩
  rintro a b c ⟨ha, eb, ec⟩ f ih
  rw [wX57_drop_64]
  refine ⟨fun w => ?_, fun w => ⟨by omega, fun y ey => ⟨by omega, fun b2 e2 u eu c2 e3 => ⟨by omega, fun a2 ea => ?_⟩⟩⟩⟩
  · have e : a = kn := by omega
    rw [eb, ec, e]; exact hp
  · subst ea
    refine ih _ _ _ ⟨by omega, ?_, ?_⟩ (by omega)
    · rw [e2, ey, eb]; exact lou ku a ha.1 (by omega)
    · rw [e3, eu, ec]; exact lou ks a ha.1 (by omega)
theorem T57_drop {post : Int → (Int → Int) → (Int → Int) → Int → Prop} (D : kdBd fi be ol nw kn) (h3 : ru = 0 → post (-3) ku ks kn) (h1 : ¬ ru = 0 → kdKf ku kn v = kn → post (-1) ku ks kn) (h0 : ¬ ru = 0 → kdKf ku kn v < kn → post (kdHc pl tg fi be se ol nw ks kn - kdHc pl tg fi be se ol nw (kdLo ks (kdKf ku kn v) (kn - 1)) (kn - 1)) (kdLo ku (kdKf ku kn v) (kn - 1)) (kdLo ks (kdKf ku kn v) (kn - 1)) (kn - 1)) : wpX57_drop post ru pl tg fi be se ol nw ku ks kn v := by
  have hkn := D.2.2
  obtain ⟨fb, f1, f2⟩ := fstI_s (fun j => ku j = v) kn.toNat
  have ef : kdKf ku kn v = fstI (fun j => ku j = v) kn.toNat := rfl
  unfold wpX57_drop
  refine ⟨h3, fun r0 => ?_⟩
  have h1 := h1 r0
  have h0 := h0 r0
  generalize kdKf ku kn v = F at ef h1 h0
  rw [← ef] at fb f1 f2
  refine wloop (fun f x => wX57_drop_12 _ v ku kn f x) (fun x => 0 ≤ x ∧ x ≤ F) (fun x => (kn - x).toNat) ?_ 0 ⟨by decide, fb.1⟩
  rintro x ⟨x0, x1⟩ f ih
  rw [wX57_drop_12]
  refine ⟨fun w => ?_, fun w => ⟨by omega, fun e => ?_, fun e => ⟨by omega, fun x2 ex => ?_⟩⟩⟩
  · have e1 : x = kn := by omega
    unfold wX57_drop_36
    exact ⟨fun _ => h1 (by omega), fun z => absurd e1 z⟩
  · have exF : F = x := by
      rcases Int.lt_or_eq_of_le x1 with q | q
      · exact absurd e (f2 x x0 q)
      · exact q.symm
    rw [exF] at h0 h1
    unfold wX57_drop_36
    refine ⟨fun z => by omega, fun z => T57_heldCount D ⟨by omega, fun k2 ek => T57_drop64 x0 (by omega) (by omega) ?_⟩⟩
    subst ek
    have D' : kdBd fi be ol nw (kn - 1) := ⟨D.1, D.2.1, by omega⟩
    have c1 := cntI_b (fun j => kdHd pl tg fi be se ol nw ks kn (2 + j)) 62
    have c2 := cntI_b (fun j => kdHd pl tg fi be se ol nw (kdLo ks x (kn - 1)) (kn - 1) (2 + j)) 62
    refine T57_heldCount D' ⟨?_, h0 (by omega)⟩
    unfold kdHc
    omega
  · have ne : ¬ F = x := fun q => by
      have := f1 (by omega)
      rw [q] at this
      exact e this
    subst ex
    exact ih _ ⟨by omega, by omega⟩ (by omega)
end

/-! KnowDisk, the reference (X57): commit -/
/-- later, open, laid, targets, bytes, behind -/
def kdQt : Type := (Int → Int) × (Int → Int) × (Int → Int) × (Int → Int) × (Int → Int) × Int
/-- a laid sector k gets its transaction's number and waits -/
def kdCk (n k : Int) (S : kdQt) : kdQt := if S.2.2.1 k = 0 then S else (kdCn S.1 k (kdCl (kdSt S.2.1 (32 * k + 16) n) k) k 32, kdCl (kdSt S.2.1 (32 * k + 16) n) k, updI S.2.2.1 k 0, updI S.2.2.2.1 S.2.2.2.2.2 k, kdCn S.2.2.2.2.1 S.2.2.2.2.2 (kdCl (kdSt S.2.1 (32 * k + 16) n) k) k 32, S.2.2.2.2.2 + 1)
def kdCs (n : Int) (S : kdQt) : Nat → kdQt
  | 0 => S
  | m + 1 => kdCk n (2 + m) (kdCs n S m)
/-- the sectors of pages, and their sums' sum -/
noncomputable def kdHs (lt pl : Int → Int) : Nat → Int × Int
  | 0 => (0, 0)
  | m + 1 => pif (kdOp pl (2 + m)) (zLor (kdHs lt pl m).1 (zLshl 1 (2 + m)), zxor (kdHs lt pl m).2 (kdNo lt (32 * (2 + m)))) (kdHs lt pl m)
/-- a head -/
def kdHr (hd : Int → Int) (s n a : Int) : Int → Int := kdCl (kdSt (kdSt (kdSw (updI (kdFl hd 32 0) 4 9) 8 s) 16 n) 20 a) 0
section
variable {pl tg se ks lt op ld dk nu by' ku hd : Int → Int} {fi be ol nw kn k p i v n ru fu ch what x : Int} {A B : Prop} {S : kdQt}
theorem kdCk_0 (h : S.2.2.1 k = 0) : kdCk n k S = S := if_pos h
theorem kdCk_1 (h : ¬ S.2.2.1 k = 0) : kdCk n k S = (kdCn S.1 k (kdCl (kdSt S.2.1 (32 * k + 16) n) k) k 32, kdCl (kdSt S.2.1 (32 * k + 16) n) k, updI S.2.2.1 k 0, updI S.2.2.2.1 S.2.2.2.2.2 k, kdCn S.2.2.2.2.1 S.2.2.2.2.2 (kdCl (kdSt S.2.1 (32 * k + 16) n) k) k 32, S.2.2.2.2.2 + 1) := if_neg h
theorem kdCs_be : ∀ m : Nat, S.2.2.2.2.2 ≤ (kdCs n S m).2.2.2.2.2 ∧ (kdCs n S m).2.2.2.2.2 ≤ S.2.2.2.2.2 + m
  | 0 => by show S.2.2.2.2.2 ≤ S.2.2.2.2.2 ∧ S.2.2.2.2.2 ≤ S.2.2.2.2.2 + ((0 : Nat) : Int); omega
  | m + 1 => by
    have ih := kdCs_be m
    rw [kdCs]
    by_cases w : (kdCs n S m).2.2.1 (2 + m) = 0
    · rw [kdCk_0 w]; omega
    · rw [kdCk_1 w]; dsimp only; omega
theorem T57_c46 {K : (Int → Int) → (Int → Int) → (Int → Int) → (Int → Int) → (Int → Int) → Int → Prop} (hb : 0 ≤ S.2.2.2.2.2 ∧ S.2.2.2.2.2 ≤ 1100) (hp : K (kdCs n S 46).1 (kdCs n S 46).2.1 (kdCs n S 46).2.2.1 (kdCs n S 46).2.2.2.1 (kdCs n S 46).2.2.2.2.1 (kdCs n S 46).2.2.2.2.2) : ∀ (j m : Nat), m + j = 46 → wX57_commit_46 K n 48 (j + 1) (2 + m) (kdCs n S m).1 (kdCs n S m).2.1 (kdCs n S m).2.2.1 (kdCs n S m).2.2.2.1 (kdCs n S m).2.2.2.2.1 (kdCs n S m).2.2.2.2.2 := fun j => by
  induction j with
  | zero =>
    intro m hm
    rw [wX57_commit_46]
    have e : m = 46 := by omega
    subst e
    exact ⟨fun _ => hp, fun w => absurd (by decide) w⟩
  | succ j ih =>
    intro m hm
    rw [wX57_commit_46]
    have I := ih (m + 1) (by omega)
    have eC : kdCs n S (m + 1) = kdCk n (2 + m) (kdCs n S m) := rfl
    have bb := kdCs_be (S := S) (n := n) m
    rw [show (2 : Int) + ((m + 1 : Nat) : Int) = 2 + (m : Int) + 1 by omega] at I
    refine ⟨fun w => by omega, fun _ => ⟨by omega, fun l0 => ⟨by omega, fun x ex => ?_⟩, fun l0 => ⟨by omega, T57_set_open (by omega) (T57_close_open (by omega) (fun l el => T57_queue_open (by omega) (by omega) (by omega) ⟨by omega, fun x ex => ?_⟩))⟩⟩⟩
    · rw [eC.trans (kdCk_0 l0)] at I
      rw [ex]; exact I
    · rw [eC.trans (kdCk_1 l0)] at I
      rw [ex, el]; exact I
theorem T57_c120 {K : Int → Int → Prop} (hp : K (kdHs lt pl 46).1 (kdHs lt pl 46).2) : ∀ (j m : Nat), m + j = 46 → wX57_commit_120 K 48 lt pl (j + 1) (kdHs lt pl m).1 (kdHs lt pl m).2 (2 + m) := fun j => by
  induction j with
  | zero =>
    intro m hm
    rw [wX57_commit_120]
    have e : m = 46 := by omega
    subst e
    exact ⟨fun _ => hp, fun w => absurd (by decide) w⟩
  | succ j ih =>
    intro m hm
    rw [wX57_commit_120]
    have I := ih (m + 1) (by omega)
    have eC : kdHs lt pl (m + 1) = pif (kdOp pl (2 + m)) (zLor (kdHs lt pl m).1 (zLshl 1 (2 + m)), zxor (kdHs lt pl m).2 (kdNo lt (32 * (2 + m)))) (kdHs lt pl m) := rfl
    rw [show (2 : Int) + ((m + 1 : Nat) : Int) = 2 + (m : Int) + 1 by omega] at I
    refine ⟨fun w => by omega, fun _ => T57_isOpenB (fun y => ?_) (fun y => ⟨by omega, fun x ex => ?_⟩)⟩
    · rw [pif_t y] at eC
      rw [eC] at I
      refine fun s es => ⟨by omega, T57_number_later (by omega) (fun a ea => ⟨by omega, fun x ex => ?_⟩)⟩
      rw [es, ea, ex]; exact I
    · rw [pif_f y] at eC
      rw [eC] at I
      rw [ex]; exact I
theorem T57_c174 {K : (Int → Int) → Prop} (hp : K (kdFl hd 32 0)) : ∃ fu : Nat, wX57_commit_174 K fu 0 hd := by
  refine wl2 (fun f x y => wX57_commit_174 K f x y) (fun x y => (0 ≤ x ∧ x ≤ 32) ∧ y = kdFl hd x 0) (fun x _ => (32 - x).toNat) ?_ 0 hd ⟨by decide, funext fun i => by unfold kdFl; rw [if_neg (by omega)]⟩
  rintro x y ⟨hx, ey⟩ f ih
  rw [wX57_commit_174]
  refine ⟨fun w => ?_, fun w => ⟨by omega, fun y2 e2 => ⟨by omega, fun x2 ex => ?_⟩⟩⟩
  · have e : x = 32 := by omega
    rw [ey, e]; exact hp
  · subst ex
    refine ih _ _ ⟨by omega, ?_⟩ (by omega)
    rw [e2, ey]
    refine funext fun i => ?_
    unfold updI kdFl
    by_cases e : i = x
    · rw [if_pos e, if_pos (by omega)]
    · rw [if_neg e]
      by_cases w2 : 0 ≤ i ∧ i < x
      · rw [if_pos w2, if_pos (by omega)]
      · rw [if_neg w2, if_neg (by omega)]
theorem T57_commit {post : Int → (Int → Int) → (Int → Int) → (Int → Int) → Int → (Int → Int) → (Int → Int) → Int → (Int → Int) → (Int → Int) → Int → (Int → Int) → Prop} (hb : 0 ≤ be ∧ be ≤ 1100) (hn : 0 ≤ nw ∧ nw < 1199) (hu : 0 ≤ nu nw) (h3 : ru = 0 ∨ ch = 0 → post (-3) lt op ld ch tg by' be nu se nw hd) (h2 : ¬ (ru = 0 ∨ ch = 0) → (n ≤ nu nw ∨ 1000000 < n) → post (-2) lt op ld ch tg by' be nu se nw hd)
    (h0 : ¬ (ru = 0 ∨ ch = 0) → ¬ (n ≤ nu nw ∨ 1000000 < n) → ∀ S : kdQt, S = kdCs n (lt, op, ld, tg, by', be) 46 → ∀ h : Int → Int, h = kdHr hd (kdHs S.1 pl 46).1 n (kdHs S.1 pl 46).2 → post (S.2.2.2.2.2 + 1 - be) (kdCn S.1 (n % 2) h 0 32) S.2.1 S.2.2.1 0 (updI S.2.2.2.1 S.2.2.2.2.2 (n % 2)) (kdCn S.2.2.2.2.1 S.2.2.2.2.2 h 0 32) (S.2.2.2.2.2 + 1) (updI nu (nw + 1) n) (updI se (nw + 1) (kdHs S.1 pl 46).1) (nw + 1) h) : wpX57_commit post 48 ru lt op ld pl ch tg by' be nu se nw hd n := by
  unfold wpX57_commit
  refine ⟨fun r0 => h3 (Or.inl r0), fun r0 => ⟨fun c0 => h3 (Or.inr c0), fun c0 => ⟨by omega, fun w => h2 (by omega) (Or.inl w), fun w => ⟨fun w2 => ?_, fun w2 => h2 (by omega) (by omega)⟩⟩⟩⟩
  have H := h0 (by omega) (by omega) _ rfl _ rfl
  have bb := kdCs_be (S := (lt, op, ld, tg, by', be)) (n := n) 46
  have b2 : be ≤ (kdCs n (lt, op, ld, tg, by', be) 46).2.2.2.2.2 ∧ (kdCs n (lt, op, ld, tg, by', be) 46).2.2.2.2.2 ≤ be + 46 := bb
  refine ⟨47, T57_c46 (S := (lt, op, ld, tg, by', be)) hb ⟨47, T57_c120 (T57_c174 (fun h1 e1 => T57_setWide_head (by decide) (T57_set_head (by decide) (T57_set_head (by decide) (T57_close_head (by decide) ⟨by omega, T57_queue_head (by decide) (by omega) (by omega) ⟨by omega, fun w' ew => ⟨by omega, fun n2 en s2 es => ⟨by omega, ?_⟩⟩⟩⟩))))) 46 0 rfl⟩ 46 0 rfl⟩
  rw [en, es, ew, e1]; exact H
end

/-! KnowDisk, the reference (X57): heads that are whole; start -/
def kdOk (dk : Int → Int) (s j : Int) : Prop := (2 ≤ j ∧ j < 48) ∧ kdNo dk (32 * j) = kdSum dk j ∧ (0 < dk (32 * j + 4) ∧ dk (32 * j + 4) < 4) ∧ dk (32 * j + 5) < 30 ∧ ∀ i, 0 ≤ i → i < j → kdBt s i → ¬ dk (32 * i + 5) = dk (32 * j + 5)
noncomputable def kdAx (dk : Int → Int) (s : Int) : Nat → Int
  | 0 => 0
  | m + 1 => pif (kdBt s m) (zxor (kdAx dk s m) (kdNo dk (32 * m))) (kdAx dk s m)
def kdWh (dk : Int → Int) (k : Int) : Prop := dk (32 * k + 4) = 9 ∧ kdNo dk (32 * k) = kdSum dk k ∧ (∀ j, 0 ≤ j → j < 64 → kdBt (kdWi dk (32 * k + 8)) j → kdOk dk (kdWi dk (32 * k + 8)) j) ∧ kdAx dk (kdWi dk (32 * k + 8)) 64 = kdNo dk (32 * k + 20)
/-- the head that one starts from; -1 -/
noncomputable def kdHh (dk : Int → Int) : Int := pif (kdWh dk 0 ∧ (kdWh dk 1 → kdNo dk 48 ≤ kdNo dk 16)) 0 (pif (kdWh dk 1) 1 (-1))
noncomputable def kdPs (dk : Int → Int) (s : Int) (pl : Int → Int) : Nat → Int → Int
  | 0 => pl
  | m + 1 => pif (kdBt s m) (updI (kdPs dk s pl m) (dk (32 * m + 5)) m) (kdPs dk s pl m)
noncomputable def kdHn (dk : Int → Int) (h : Int) : Int := if h = -1 then 0 else kdNo dk (32 * h + 16)
noncomputable def kdHw (dk : Int → Int) (h : Int) : Int := if h = -1 then 0 else kdWi dk (32 * h + 8)
def kdBy (dk : Int → Int) : Prop := ∀ i, 0 ≤ i → i < 2048 → 0 ≤ dk i ∧ dk i < 256
theorem kd2_r : ∀ n : Nat, n < 31 → -2147483648 ≤ (2 : Int) ^ n ∧ (2 : Int) ^ n < 2147483648 := by decide
section
variable {pl se lt op ld dk nu : Int → Int} {fi be ol nw kn k p i v n ru ch x s : Int} {A B : Prop}
theorem T57_w55 {K : Int → Int → Prop} (hd : kdBy dk) (h1 : (∀ j, 0 ≤ j → j < 64 → kdBt s j → kdOk dk s j) → K (kdAx dk s 64) 1) (h0 : ¬ (∀ j, 0 ≤ j → j < 64 → kdBt s j → kdOk dk s j) → ∀ a, K a 0) : ∃ fu : Nat, wX57_isWhole_55 K s 48 dk fu 0 0 1 0 := by
  refine wl4 (fun f a p g j => wX57_isWhole_55 K s 48 dk f a p g j) (fun a p g j => (0 ≤ j ∧ j ≤ 64) ∧ ((g = 0 ∧ ¬ (∀ j, 0 ≤ j → j < 64 → kdBt s j → kdOk dk s j)) ∨ (g = 1 ∧ (∀ i, 0 ≤ i → i < j → kdBt s i → kdOk dk s i) ∧ a = kdAx dk s j.toNat ∧ (-2147483648 ≤ p ∧ p < 2147483648) ∧ ∀ q : Nat, q < 31 → (zb p q = 1 ↔ ∃ i, (0 ≤ i ∧ i < j) ∧ kdBt s i ∧ dk (32 * i + 5) = q)))) (fun _ _ _ j => (64 - j).toNat) ?_ 0 0 1 0 ⟨by decide, Or.inr ⟨rfl, fun i i0 i1 => by omega, rfl, by decide, fun q _ => ⟨fun z => by rw [zb_zero] at z; exact absurd z (by decide), fun ⟨i, hi, _⟩ => by omega⟩⟩⟩
  rintro a p g j ⟨hj, hg⟩ f ih
  rw [wX57_isWhole_55]
  refine ⟨fun w => ?_, fun w => ⟨fun g0 => ?_, fun g0 => ?_⟩⟩
  · rcases hg with ⟨e, no⟩ | ⟨e, yes, ea, _⟩
    · rw [e]; exact h0 no a
    · have ej : j = 64 := by omega
      rw [ej] at ea yes
      rw [e, ea]; exact h1 yes
  · rcases hg with ⟨e, no⟩ | ⟨e, _⟩
    · rw [e]; exact h0 no a
    · omega
  rcases hg with ⟨e, _⟩ | ⟨e, yes, ea, pr, pb⟩
  · omega
  have jn : ((j.toNat : Nat) : Int) = j := by omega
  have eA : kdAx dk s (j + 1).toNat = pif (kdBt s j) (zxor (kdAx dk s j.toNat) (kdNo dk (32 * j))) (kdAx dk s j.toNat) := by
    rw [show (j + 1).toNat = j.toNat + 1 by omega, kdAx, jn]
  refine ⟨by omega, fun b0 => ⟨by omega, fun j2 ej => ?_⟩, fun b0 => ⟨by omega, fun t et => ?_⟩⟩
  · subst ej
    have nb : ¬ kdBt s j := fun z => by unfold kdBt at z; omega
    refine ih _ _ _ _ ⟨by omega, Or.inr ⟨e, fun i i0 i1 bi => ?_, by rw [eA, pif_f nb]; exact ea, pr, fun q hq => ?_⟩⟩ (by omega)
    · by_cases z : i = j
      · rw [z] at bi; exact absurd bi nb
      · exact yes i i0 (by omega) bi
    · rw [pb q hq]
      refine ⟨fun ⟨i, hi, r⟩ => ⟨i, by omega, r⟩, fun ⟨i, hi, r⟩ => ⟨i, ?_, r⟩⟩
      by_cases z : i = j
      · rw [z] at r; exact absurd r.1 nb
      · omega
  have yb : kdBt s j := by unfold kdBt; omega
  have dt := hd (32 * j + 5) (by omega) (by omega)
  rw [← et] at dt
  have bad : ¬ kdOk dk s j → wX57_isWhole_175 (wX57_isWhole_55 K s 48 dk f) a p j t 0 dk := fun no => by
    unfold wX57_isWhole_175
    exact ⟨fun _ => ⟨by omega, T57_number_disk (by omega) (fun a2 ea2 => ⟨by omega, fun j2 ej => by
      subst ej
      exact ih _ _ _ _ ⟨by omega, Or.inl ⟨rfl, fun all => no (all j hj.1 (by omega) yb)⟩⟩ (by omega)⟩)⟩, fun z => absurd rfl z⟩
  refine ⟨fun w1 => bad (fun z => by have := z.1; omega), fun w1 => ⟨fun w2 => bad (fun z => by have := z.1; omega), fun w2 => T57_isRight_diskB (by omega) (fun r1 => ⟨by omega, fun w3 => bad (fun z => by have := z.2.2.1; omega), fun w3 => ⟨fun w4 => bad (fun z => by have := z.2.2.1; omega), fun w4 => ⟨fun w5 => bad (fun z => by have := z.2.2.2.1; omega), fun w5 => ⟨by omega, fun w6 => ?_, fun w6 => bad (fun z => ?_)⟩⟩⟩⟩) (fun r1 => bad (fun z => r1 z.2.1))⟩⟩
  · have tn : ((t.toNat : Nat) : Int) = t := by omega
    have z6 : ¬ zb p t.toNat = 1 := fun q => by unfold zb at q; omega
    have ok : kdOk dk s j := ⟨by omega, r1, by omega, by omega, fun i i0 i1 bi eq => z6 ((pb t.toNat (by omega)).2 ⟨i, by omega, bi, by omega⟩)⟩
    have p2 := kd2_r t.toNat (by omega)
    unfold wX57_isWhole_175
    refine ⟨fun z => absurd z (by decide), fun _ => ⟨by omega, fun p3 ep => ⟨by omega, T57_number_disk (by omega) (fun a2 ea2 => ⟨by omega, fun j2 ej => ?_⟩)⟩⟩⟩
    subst ej
    refine ih _ _ _ _ ⟨by omega, Or.inr ⟨rfl, fun i i0 i1 bi => ?_, by rw [eA, pif_t yb, ← ea]; exact ea2, by rw [ep]; exact zr_or32 _ _, fun q hq => ?_⟩⟩ (by omega)
    · by_cases z : i = j
      · rw [z]; exact ok
      · exact yes i i0 (by omega) bi
    · rw [ep, zb_or32 pr p2 (by omega), zb_pow, pb q hq]
      refine ⟨fun z => ?_, fun ⟨i, hi, bi, eq⟩ => ?_⟩
      · rcases z with ⟨i, hi, r⟩ | z
        · exact ⟨i, by omega, r⟩
        · exact ⟨j, by omega, yb, by omega⟩
      · by_cases z : i = j
        · rw [z] at eq; exact Or.inr (by omega)
        · exact Or.inl ⟨i, by omega, bi, eq⟩
  · have z6 : zb p t.toNat = 1 := zb_n1 w6
    obtain ⟨i, hi, bi, eq⟩ := (pb t.toNat (by omega)).1 z6
    exact z.2.2.2.2 i hi.1 hi.2 bi (by omega)
theorem T57_isWhole {post : Int → Prop} (hd : kdBy dk) (hk : 0 ≤ k ∧ k ≤ 1) (h1 : kdWh dk k → post 1) (h0 : ¬ kdWh dk k → post 0) : wpX57_isWhole post 48 dk k := by
  unfold wpX57_isWhole
  refine ⟨by omega, fun y ey => ⟨by omega, fun e9 => T57_isRight_diskB (by omega) (fun r1 => ⟨by omega, T57_wide_disk (by omega) (T57_w55 hd (fun ok => ?_) (fun nok a => ?_))⟩) (fun r1 => h0 (fun z => r1 z.2.1)), fun e9 => h0 (fun z => e9 (by rw [ey]; exact z.1))⟩⟩
  · unfold wX57_isWhole_214
    subst ey
    exact ⟨fun z => absurd z (by decide), fun _ => ⟨by omega, T57_number_disk (by omega) ⟨fun q => h1 ⟨e9, r1, ok, q⟩, fun q => h0 (fun z => q z.2.2.2)⟩⟩⟩
  · unfold wX57_isWhole_214
    subst ey
    exact ⟨fun _ => h0 (fun z => nok z.2.2.1), fun z => absurd rfl z⟩
theorem T57_s134 {K : (Int → Int) → Prop} (hn : 0 ≤ nw ∧ nw < 1200) (hd : ∀ j, 0 ≤ j → j < 64 → kdBt (se nw) j → 0 ≤ dk (32 * j + 5) ∧ dk (32 * j + 5) < 30) (hp : K (kdPs dk (se nw) pl 64)) : ∃ fu : Nat, wX57_start_134 K dk se nw fu 0 pl := by
  refine wl2 (fun f j l => wX57_start_134 K dk se nw f j l) (fun j l => (0 ≤ j ∧ j ≤ 64) ∧ l = kdPs dk (se nw) pl j.toNat) (fun j _ => (64 - j).toNat) ?_ 0 pl ⟨by decide, rfl⟩
  rintro j l ⟨hj, el⟩ f ih
  rw [wX57_start_134]
  have jn : ((j.toNat : Nat) : Int) = j := by omega
  have eA : kdPs dk (se nw) pl (j + 1).toNat = pif (kdBt (se nw) j) (updI (kdPs dk (se nw) pl j.toNat) (dk (32 * j + 5)) j) (kdPs dk (se nw) pl j.toNat) := by
    rw [show (j + 1).toNat = j.toNat + 1 by omega, kdPs, jn]
  refine ⟨fun w => ?_, fun w => ⟨hn, by omega, fun b => ⟨by omega, hd j hj.1 (by omega) b, fun l2 e2 => ⟨by omega, fun j2 ej => ?_⟩⟩, fun b => ⟨by omega, fun j2 ej => ?_⟩⟩⟩
  · have e : j = 64 := by omega
    rw [el, e]; exact hp
  · subst ej
    exact ih _ _ ⟨by omega, by rw [eA, pif_t (show kdBt (se nw) j from b), ← el]; exact e2⟩ (by omega)
  · subst ej
    exact ih _ _ ⟨by omega, by rw [eA, pif_f (show ¬ kdBt (se nw) j from b)]; exact el⟩ (by omega)
theorem kdBt_0 : ¬ kdBt 0 k := fun z => by
  have := zb_zero k.toNat
  unfold zb at this
  unfold kdBt at z
  omega
theorem T57_s98 {post : Int → Int → (Int → Int) → (Int → Int) → (Int → Int) → Int → Int → Int → (Int → Int) → (Int → Int) → Int → Int → Int → Prop} {h : Int} (hd : kdBy dk) (hh : h = -1 ∨ ((0 ≤ h ∧ h ≤ 1) ∧ kdWh dk h)) (hv : v = kdHn dk h) (hp : post (kdHn dk h) 1 (kdCy lt dk 2048) (kdFl ld 64 0) (kdPs dk (kdHw dk h) (kdFl pl 30 (-1)) 64) 0 0 0 (updI nu 0 (kdHn dk h)) (updI se 0 (kdHw dk h)) 0 0 0) : wX57_start_98 post h v dk lt ld pl nu se := by
  unfold wX57_start_98
  have run : ∀ s : Int, s = kdHw dk h → wpX57_begin (fun (f_later_52 : Int → Int) (f_laid_53 : Int → Int) (f_places_54 : Int → Int) (f_changed_55 : Int) (f_first_56 : Int) (f_behind_57 : Int) (f_numbers_58 : Int → Int) (f_sectors_59 : Int → Int) (f_oldest_60 : Int) (f_newest_61 : Int) (f_kept_62 : Int) => ((∃ fu : Nat, wX57_start_134 (fun (f_places_63 : Int → Int) => (0 ≤ f_newest_61 ∧ f_newest_61 < 1200) ∧ (post (f_numbers_58 f_newest_61) 1 f_later_52 f_laid_53 f_places_63 f_changed_55 f_first_56 f_behind_57 f_numbers_58 f_sectors_59 f_oldest_60 f_newest_61 f_kept_62)) dk f_sectors_59 f_newest_61 fu 0 f_places_54))) dk lt ld pl nu se v s := fun s es => by
    refine T57_begin (T57_s134 (by decide) (fun j j0 j1 b => ?_) ?_)
    · rw [updI_s, es] at b
      have dt := hd (32 * j + 5) (by omega) (by omega)
      rcases hh with e | ⟨r, w⟩
      · unfold kdHw at b
        rw [if_pos e] at b
        exact absurd b kdBt_0
      · unfold kdHw at b
        rw [if_neg (by omega)] at b
        have := (w.2.2.1 j j0 j1 b).2.2.2.1
        omega
    · rw [updI_s, updI_s, es, hv]
      exact ⟨by decide, hp⟩
  refine ⟨fun e => run 0 (by unfold kdHw; rw [if_pos e]), fun e => ⟨by omega, T57_wide_disk (by omega) (run _ (by unfold kdHw; rw [if_neg e]))⟩⟩
theorem T57_start {post : Int → Int → (Int → Int) → (Int → Int) → (Int → Int) → Int → Int → Int → (Int → Int) → (Int → Int) → Int → Int → Int → Prop} (hd : kdBy dk) (h3 : ¬ ru = 0 → post (-3) ru lt ld pl ch fi be nu se ol nw kn) (h0 : ru = 0 → ∀ h, h = kdHh dk → post (kdHn dk h) 1 (kdCy lt dk 2048) (kdFl ld 64 0) (kdPs dk (kdHw dk h) (kdFl pl 30 (-1)) 64) 0 0 0 (updI nu 0 (kdHn dk h)) (updI se 0 (kdHw dk h)) 0 0 0) : wpX57_start post 48 ru dk lt ld pl ch fi be nu se ol nw kn := by
  have s70 : ∀ h : Int, ru = 0 → h = kdHh dk → (h = -1 ∨ ((0 ≤ h ∧ h ≤ 1) ∧ kdWh dk h)) → wX57_start_70 post h dk lt ld pl nu se := fun h r0 eh hh => by
    unfold wX57_start_70
    refine ⟨fun e => T57_s98 hd hh (by unfold kdHn; rw [if_pos e]) (h0 r0 h eh), fun e => ⟨by omega, T57_number_disk (by omega) (T57_s98 hd hh (by unfold kdHn; rw [if_neg e]) (h0 r0 h eh))⟩⟩
  unfold wpX57_start
  refine ⟨fun r0 => ?_, h3⟩
  refine T57_isWhole hd (by decide) (fun W0 => T57_isWhole hd (by decide) (fun W1 => T57_number_disk (by decide) (T57_number_disk (by decide) ⟨fun z => absurd z (by decide), fun _ => ⟨fun z => absurd z (by decide), fun _ => ⟨fun lt' => ⟨fun z => absurd z (by decide), fun _ => ?_⟩, fun ge => ?_⟩⟩⟩)) (fun W1 => T57_number_disk (by decide) (T57_number_disk (by decide) ⟨fun z => absurd z (by decide), fun _ => ⟨fun _ => ?_, fun z => absurd rfl z⟩⟩))) (fun W0 => T57_isWhole hd (by decide) (fun W1 => T57_number_disk (by decide) (T57_number_disk (by decide) ⟨fun _ => ⟨fun z => absurd z (by decide), fun _ => ?_⟩, fun z => absurd rfl z⟩)) (fun W1 => T57_number_disk (by decide) (T57_number_disk (by decide) ⟨fun _ => ⟨fun _ => ?_, fun z => absurd rfl z⟩, fun z => absurd rfl z⟩)))
  · refine s70 1 r0 ?_ (Or.inr ⟨by decide, W1⟩)
    unfold kdHh
    rw [pif_f (fun z => by have := z.2 W1; omega), pif_t W1]
  · refine s70 0 r0 ?_ (Or.inr ⟨by decide, W0⟩)
    unfold kdHh
    rw [pif_t ⟨W0, fun _ => by omega⟩]
  · refine s70 0 r0 ?_ (Or.inr ⟨by decide, W0⟩)
    unfold kdHh
    rw [pif_t ⟨W0, fun z => absurd z W1⟩]
  · refine s70 1 r0 ?_ (Or.inr ⟨by decide, W1⟩)
    unfold kdHh
    rw [pif_f (fun z => W0 z.1), pif_t W1]
  · refine s70 (-1) r0 ?_ (Or.inl rfl)
    unfold kdHh
    rw [pif_f (fun z => W0 z.1), pif_f W1]
end
