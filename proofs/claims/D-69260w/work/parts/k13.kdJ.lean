/-! KnowDisk: what holds of the state between calls -/
def kdBz (s : Int) : Prop := ¬ kdBt s 0 ∧ ¬ kdBt s 1
def kdVr (T : Int) (dk lt op ld pl nu se ks tg by' : Int → Int) (fu fi be ol nw kn mo : Int) : Prop :=
  (kdPb lt op pl ∧ kdBy dk ∧ ∀ i, 0 ≤ by' i ∧ by' i < 256) ∧ kdRg pl tg fi be se ol nw ks kn ∧
  (0 ≤ nu nw ∧ (dk 16 < 128 ∧ dk 48 < 128) ∧ ∀ w, fi ≤ w → w < be → tg w < 2 → by' (32 * w + 16) < 128) ∧
  ((∀ s, ol ≤ s → s ≤ nw → kdBz (se s)) ∧ ∀ s, 0 ≤ s → s < kn → kdBz (ks s)) ∧ (fu = 0 ∨ fu = 1) ∧
  (0 ≤ T ∧ T ≤ 500) ∧ be + cntI (fun i => ¬ ld (2 + i) = 0) 46 ≤ T ∧ nw ≤ T ∧ mo ≤ T
/-- T bounds what comes with the calls: writes that wait, states, changes of the list -/
def kdV (T : Int) (S : KS) : Prop := kdVr T S.dk S.lt S.op S.ld S.pl S.nu S.se S.ks S.tg S.by' S.fu S.fi S.be S.ol S.nw S.kn S.mo
section
variable {T T' k a v i n page src kind of_ fs ru fu ch fi be ol nw kn mo p mask keep tear : Int} {r f g dk lt op ld pl nu se ku ks tg by' ld' hd : Int → Int} {R : Int × (Int → Int) × (Int → Int) × (Int → Int) × Int}
theorem cntI_1 {p q : Int → Prop} {x : Int} (h : ∀ i, ¬ i = x → q i → p i) : ∀ n : Nat, ((n : Int) ≤ x → cntI q n ≤ cntI p n) ∧ cntI q n ≤ cntI p n + 1
  | 0 => ⟨fun _ => Int.le_refl _, by unfold cntI; decide⟩
  | n + 1 => by
    obtain ⟨a, b⟩ := cntI_1 h n
    have bd : ∀ P : Prop, 0 ≤ pif P (1 : Int) 0 ∧ pif P (1 : Int) 0 ≤ 1 := fun P => by
      by_cases z : P
      · rw [pif_t z]; decide
      · rw [pif_f z]; decide
    have b1 := bd (q n)
    have b2 := bd (p n)
    unfold cntI
    by_cases e : (n : Int) = x
    · have a := a (by omega)
      exact ⟨fun w => by omega, by omega⟩
    · by_cases w : q n
      · have w2 := h n e w
        rw [pif_t w, pif_t w2]
        exact ⟨fun z => by have := a (by omega); omega, by omega⟩
      · rw [pif_f w]
        exact ⟨fun z => by have := a (by omega); omega, by omega⟩
theorem kvI_0 {p : Int → Prop} (h : ∀ i : Int, 0 ≤ i → i < 46 → ¬ p i) : cntI p 46 = 0 := by
  have : ∀ n : Nat, n ≤ 46 → cntI p n = 0 := by
    intro n
    induction n with
    | zero => intro _; rfl
    | succ n ih => intro hn; unfold cntI; rw [ih (by omega), pif_f (h n (by omega) (by omega))]; rfl
  exact this 46 (Nat.le_refl _)
theorem kv_u (h : 0 ≤ r i ∧ r i < 256) (hv : 0 ≤ v ∧ v < 256) : 0 ≤ updI r a v i ∧ updI r a v i < 256 := by
  unfold updI
  split
  · exact hv
  · exact h
theorem kv_St (h : 0 ≤ r i ∧ r i < 256) : 0 ≤ kdSt r a v i ∧ kdSt r a v i < 256 := kv_u (kv_u (kv_u (kv_u h (by omega)) (by omega)) (by omega)) (by omega)
theorem kv_Sw (h : 0 ≤ r i ∧ r i < 256) : 0 ≤ kdSw r a v i ∧ kdSw r a v i < 256 := kv_St (kv_St h)
theorem kv_Cl (h : 0 ≤ r i ∧ r i < 256) : 0 ≤ kdCl r k i ∧ kdCl r k i < 256 := kv_St h
theorem kv_Z (h : 0 ≤ r i ∧ r i < 256) : 0 ≤ kdZ r k n i ∧ kdZ r k n i < 256 := by
  unfold kdZ
  split
  · decide
  · exact h
theorem kv_Ly (h : 0 ≤ op i ∧ op i < 256) (h1 : 0 ≤ kind ∧ kind < 256) (h2 : 0 ≤ page ∧ page < 256) (h3 : 0 ≤ src ∧ src < 256) : 0 ≤ kdLy op k kind page src v i ∧ kdLy op k kind page src v i < 256 := kv_Cl (kv_Sw (kv_u (kv_u (kv_u (kv_Z h) h1) h2) h3))
theorem kv_Cn {to fr : Int} {s : Int → Int} (h : 0 ≤ r i ∧ r i < 256) (hs : ∀ j, 0 ≤ j → j < n → 0 ≤ s (32 * fr + j) ∧ s (32 * fr + j) < 256) : 0 ≤ kdCn r to s fr n i ∧ kdCn r to s fr n i < 256 := by
  unfold kdCn
  split
  · exact hs _ (by omega) (by omega)
  · exact h
theorem kv_or {x y : Int} (hx : 0 ≤ x ∧ x < 2147483648) (hy : 0 ≤ y ∧ y < 2147483648) : 0 ≤ zor x y ∧ zor x y < 2147483648 := by
  have p31 : (2 : Int) ^ 31 = 2147483648 := by decide
  have zx : zR x := by unfold zR; omega
  have zy : zR y := by unfold zR; omega
  have o := zb_or32 zx zy (k := 31) (by decide)
  have r := zr_or32 x y
  have bx : ¬ zb x 31 = 1 := by unfold zb; rw [p31]; omega
  have b_y : ¬ zb y 31 = 1 := by unfold zb; rw [p31]; omega
  have bo : ¬ zb (zor x y) 31 = 1 := fun w => (o.mp w).elim bx b_y
  unfold zb at bo
  rw [p31] at bo
  unfold zR at r
  omega
theorem kv_No (hb : ∀ j, 0 ≤ j → j < 4 → 0 ≤ r (a + j) ∧ r (a + j) < 256) (h : r a < 128) : 0 ≤ kdNo r a := by
  have h0 := hb 0 (by decide) (by decide)
  have h1 := hb 1 (by decide) (by decide)
  have h2 := hb 2 (by decide) (by decide)
  have h3 := hb 3 (by decide) (by decide)
  rw [Int.add_zero] at h0
  unfold kdNo
  exact (kv_or (kv_or (kv_or (by omega) (by omega)) (by omega)) (by omega)).1
theorem kdBz_0 : kdBz 0 := ⟨by unfold kdBt; decide, by unfold kdBt; decide⟩
theorem zL_0 : zL 0 := by unfold zL; decide
/-- a sector laid -/
theorem kdVr.lay (H : kdVr T dk lt op ld pl nu se ks tg by' fu fi be ol nw kn mo) (hT : T ≤ 499) (hf : fs = -1 ∨ (2 ≤ fs ∧ fs < 48)) (hp : page = -1 ∨ (0 ≤ page ∧ page < 30)) (hk : 0 ≤ kind ∧ kind < 256) (hs : 0 ≤ src ∧ src < 256) (eR : R = kdLr fu fs op ld pl ch kind page src v) : kdVr (T + 1) dk lt R.2.1 R.2.2.1 R.2.2.2.1 nu se ks tg by' fu fi be ol nw kn mo := by
  obtain ⟨⟨⟨p1, p2⟩, p3, p4⟩, ⟨g1, g2, g3, g4, g5, g6, g7⟩, n1, b1, f1, t1, t2, t3, t4⟩ := H
  unfold kdLr at eR
  by_cases q : page = -1 ∨ fs = -1 ∨ ¬ fu = 0
  · rw [if_pos q] at eR
    subst eR
    exact ⟨⟨⟨p1, p2⟩, p3, p4⟩, ⟨g1, g2, g3, g4, g5, g6, g7⟩, n1, b1, f1, by omega, by show be + cntI (fun i => ¬ ld (2 + i) = 0) 46 ≤ T + 1; omega, by omega, by omega⟩
  · rw [if_neg q] at eR
    subst eR
    have pl' : ∀ p, 0 ≤ p → p < 30 → updI pl page fs p = -1 ∨ (2 ≤ updI pl page fs p ∧ updI pl page fs p < 48) := fun p a b => by
      by_cases e : p = page
      · rw [e, updI_s]; exact hf
      · rw [updI_n e]; exact p1 p a b
    have c1 := (cntI_1 (p := fun i => ¬ ld (2 + i) = 0) (q := fun i => ¬ updI (if pl page = -1 then ld else updI ld (pl page) 0) fs 1 (2 + i) = 0) (x := fs - 2) (fun i hi w => by
      have ne : ¬ 2 + i = fs := by omega
      have w : ¬ updI (if pl page = -1 then ld else updI ld (pl page) 0) fs 1 (2 + i) = 0 := w
      rw [updI_n ne] at w
      show ¬ ld (2 + i) = 0
      by_cases z : pl page = -1
      · rw [if_pos z] at w; exact w
      · rw [if_neg z] at w
        by_cases z2 : 2 + i = pl page
        · rw [z2, updI_s] at w; exact absurd rfl w
        · rw [updI_n z2] at w; exact w) 46).2
    exact ⟨⟨⟨pl', fun i a b => ⟨(p2 i a b).1, kv_Ly (p2 i a b).2 hk (by omega) hs⟩⟩, p3, p4⟩, ⟨pl', g2, g3, g4, g5, g6, g7⟩, n1, b1, f1, by omega, by show be + cntI (fun i => ¬ updI (if pl page = -1 then ld else updI ld (pl page) 0) fs 1 (2 + i) = 0) 46 ≤ T + 1; omega, by omega, by omega⟩
theorem kdVr.up (H : kdVr T dk lt op ld pl nu se ks tg by' fu fi be ol nw kn mo) (h : T ≤ T' ∧ T' ≤ 500) : kdVr T' dk lt op ld pl nu se ks tg by' fu fi be ol nw kn mo := by
  obtain ⟨h1, h2, h3, h4, h5, h6, h7, h8, h9⟩ := H
  exact ⟨h1, h2, h3, h4, h5, by omega, by omega, by omega, by omega⟩
theorem kdVr.pg (H : kdVr T dk lt op ld pl nu se ks tg by' fu fi be ol nw kn mo) (hT : T ≤ 499) (hf : fs = -1 ∨ (2 ≤ fs ∧ fs < 48)) (eR : R = kdPg ru fu fs lt op ld pl ch kind of_ v) : kdVr (T + 1) dk lt R.2.1 R.2.2.1 R.2.2.2.1 nu se ks tg by' fu fi be ol nw kn mo := by
  have U := H.up (T' := T + 1) ⟨by omega, by omega⟩
  have fpb := kdFp_b (pl := pl)
  have fp : kdFp pl = -1 ∨ (0 ≤ kdFp pl ∧ kdFp pl < 30) := fpb.elim Or.inl (fun w => Or.inr w.1)
  unfold kdPg at eR
  by_cases q1 : ru = 0
  · rw [if_pos q1] at eR; subst eR; exact U
  rw [if_neg q1] at eR
  by_cases q2 : kind < 0 ∨ 3 < kind
  · rw [if_pos q2] at eR; subst eR; exact U
  rw [if_neg q2] at eR
  by_cases q3 : ¬ (of_ = -1 ∧ (kind = 1 ∨ kind = 2)) ∧ ¬ kdIp pl of_
  · rw [pif_t q3] at eR; subst eR; exact U
  rw [pif_f q3] at eR
  by_cases q4 : kind = 3
  · rw [if_pos q4] at eR
    have ip : kdIp pl of_ := by
      by_cases z : kdIp pl of_
      · exact z
      · exact absurd ⟨fun w => by omega, z⟩ q3
    have ipb := ip.1
    by_cases q5 : kdKo lt op ld (pl of_) = 3
    · rw [if_pos q5] at eR; subst eR; exact U
    · rw [if_neg q5] at eR
      exact H.lay hT hf fp (by decide) (by omega) eR
  rw [if_neg q4] at eR
  by_cases q5 : 0 < kind
  · rw [if_pos q5] at eR
    by_cases q6 : of_ = -1 ∧ (kind = 1 ∨ kind = 2)
    · rw [if_pos q6] at eR
      exact H.lay hT hf fp (by omega) (by decide) eR
    · rw [if_neg q6] at eR
      have ip : kdIp pl of_ := by
        by_cases z : kdIp pl of_
        · exact z
        · exact absurd ⟨q6, z⟩ q3
      exact H.lay hT hf (Or.inr ip.1) (by omega) (by decide) eR
  rw [if_neg q5] at eR
  subst eR
  obtain ⟨⟨⟨p1, p2⟩, p3, p4⟩, ⟨g1, g2, g3, g4, g5, g6, g7⟩, n1, b1, f1, t1, t2, t3, t4⟩ := U
  have pl' : ∀ p, 0 ≤ p → p < 30 → updI pl of_ (-1) p = -1 ∨ (2 ≤ updI pl of_ (-1) p ∧ updI pl of_ (-1) p < 48) := fun p a b => by
    by_cases e : p = of_
    · rw [e, updI_s]; exact Or.inl rfl
    · rw [updI_n e]; exact p1 p a b
  have c1 := (cntI_1 (p := fun i => ¬ ld (2 + i) = 0) (q := fun i => ¬ updI ld (pl of_) 0 (2 + i) = 0) (x := 46) (fun i hi w => by
    have w : ¬ updI ld (pl of_) 0 (2 + i) = 0 := w
    show ¬ ld (2 + i) = 0
    by_cases z2 : 2 + i = pl of_
    · rw [z2, updI_s] at w; exact absurd rfl w
    · rw [updI_n z2] at w; exact w) 46).1 (by decide)
  exact ⟨⟨⟨pl', p2⟩, p3, p4⟩, ⟨pl', g2, g3, g4, g5, g6, g7⟩, n1, b1, f1, t1, by show be + cntI (fun i => ¬ updI ld (pl of_) 0 (2 + i) = 0) 46 ≤ T + 1; omega, t3, t4⟩
theorem kdVr.derived (H : kdVr T dk lt op ld pl nu se ks tg by' fu fi be ol nw kn mo) (hT : T ≤ 499) (hf : fs = -1 ∨ (2 ≤ fs ∧ fs < 48)) (eR : R = kdDe ru fu fs lt op ld pl ch p) : kdVr (T + 1) dk lt R.2.1 R.2.2.1 R.2.2.2.1 nu se ks tg by' fu fi be ol nw kn mo := by
  have U := H.up (T' := T + 1) ⟨by omega, by omega⟩
  unfold kdDe at eR
  by_cases q1 : ru = 0
  · rw [if_pos q1] at eR; subst eR; exact U
  rw [if_neg q1] at eR
  by_cases q2 : kdIp pl p ∧ kdKo lt op ld (pl p) = 3
  · rw [pif_t q2] at eR
    have pb := H.1.1.1 p q2.1.1.1 q2.1.1.2
    have ne := q2.1.2
    have sb := kdBo_b (ld := ld) (k := pl p) (i := 6) H.1.1 (by omega) (by decide)
    by_cases q3 : kdIp pl (kdBo lt op ld (pl p) 6)
    · rw [pif_t q3] at eR
      by_cases q4 : (¬ ld (pl p) = 0 ∨ kdNo lt (32 * pl p) = kdSum lt (pl p)) ∧ kdVo lt op ld (pl p) = kdTu (kdVo lt op ld (pl (kdBo lt op ld (pl p) 6)))
      · rw [if_pos q4] at eR; subst eR; exact U
      · rw [if_neg q4] at eR
        have L := H.lay (ch := ch) (v := kdTu (kdVo lt op ld (pl (kdBo lt op ld (pl p) 6)))) hT hf (Or.inr q2.1.1) (kind := 3) (by decide) sb rfl
        rw [eR]
        exact L
    · rw [pif_f q3] at eR; subst eR; exact U
  · rw [pif_f q2] at eR; subst eR; exact U
/-- it begins anew -/
theorem kdVr.begin {nn ss : Int} {plx : Int → Int} (H : kdVr T dk lt op ld pl nu se ks tg by' fu fi be ol nw kn mo) (hT : T ≤ 499) (hn : 0 ≤ nn) (hs : zL ss) (hb : kdBz ss) (hp : ∀ p, 0 ≤ p → p < 30 → plx p = -1 ∨ (2 ≤ plx p ∧ plx p < 48)) : kdVr (T + 1) dk (kdCy lt dk 2048) op (kdFl ld 64 0) plx (updI nu 0 nn) (updI se 0 ss) ks tg by' fu 0 0 0 0 0 (mo + 1) := by
  obtain ⟨⟨⟨p1, p2⟩, p3, p4⟩, ⟨g1, g2, g3, g4, g5, g6, g7⟩, n1, b1, f1, t1, t2, t3, t4⟩ := H
  have cb := cntI_b (fun i => ¬ ld (2 + i) = 0) 46
  have c0 : cntI (fun i => ¬ kdFl ld 64 0 (2 + i) = 0) 46 = 0 := kvI_0 (fun i i0 i1 w => w (by unfold kdFl; rw [if_pos (by omega)]))
  refine ⟨⟨⟨hp, fun i a b => ⟨?_, (p2 i a b).2⟩⟩, p3, p4⟩, ⟨hp, fun s a b => by omega, fun s a b => ?_, fun s a b => by omega, by omega, by omega, by omega⟩, ⟨by rw [updI_s]; exact hn, n1.2.1, fun w a b => by omega⟩, ⟨fun s a b => ?_, fun s a b => by omega⟩, f1, by omega, by rw [c0]; omega, by omega, by omega⟩
  · unfold kdCy
    rw [if_pos ⟨a, b⟩]; exact p3 i a b
  · have : s = 0 := by omega
    rw [this, updI_s]; exact hs
  · have : s = 0 := by omega
    rw [this, updI_s]; exact hb
theorem kdFl_m1 : ∀ p, 0 ≤ p → p < 30 → kdFl pl 30 (-1) p = -1 ∨ (2 ≤ kdFl pl 30 (-1) p ∧ kdFl pl 30 (-1) p < 48) := fun p a b => Or.inl (by unfold kdFl; rw [if_pos ⟨a, b⟩])
/-- what waited is written -/
theorem kv_Wr {w : Int} (hd : kdBy dk ∧ dk 16 < 128 ∧ dk 48 < 128) (hb : ∀ i, 0 ≤ by' i ∧ by' i < 256) (ht : 0 ≤ tg w) (hh : tg w < 2 → by' (32 * w + 16) < 128) (hn : n ≤ 32) : kdBy (kdWr dk tg by' w n) ∧ kdWr dk tg by' w n 16 < 128 ∧ kdWr dk tg by' w n 48 < 128 := by
  refine ⟨fun i a b => kv_Cn (hd.1 i a b) (fun j _ _ => hb _), ?_, ?_⟩
  · unfold kdWr kdCn
    by_cases z : 32 * tg w ≤ 16 ∧ 16 < 32 * tg w + n
    · rw [if_pos z, show 32 * w + (16 - 32 * tg w) = 32 * w + 16 by omega]
      exact hh (by omega)
    · rw [if_neg z]; exact hd.2.1
  · unfold kdWr kdCn
    by_cases z : 32 * tg w ≤ 48 ∧ 48 < 32 * tg w + n
    · rw [if_pos z]
      by_cases z1 : tg w = 1
      · rw [show 32 * w + (48 - 32 * tg w) = 32 * w + 16 by omega]
        exact hh (by omega)
      · omega
    · rw [if_neg z]; exact hd.2.2
theorem kv_Wm (hd : kdBy dk ∧ dk 16 < 128 ∧ dk 48 < 128) (hb : ∀ i, 0 ≤ by' i ∧ by' i < 256) (ht : ∀ w, fi ≤ w → w < be → 0 ≤ tg w) (hh : ∀ w, fi ≤ w → w < be → tg w < 2 → by' (32 * w + 16) < 128) : ∀ m : Nat, fi + m ≤ be → kdBy (kdWm dk tg by' fi m) ∧ kdWm dk tg by' fi m 16 < 128 ∧ kdWm dk tg by' fi m 48 < 128
  | 0, _ => hd
  | m + 1, h => kv_Wr (kv_Wm hd hb ht hh m (by omega)) hb (ht _ (by omega) (by omega)) (hh _ (by omega) (by omega)) (Int.le_refl _)
theorem kv_Cd (hd : kdBy dk ∧ dk 16 < 128 ∧ dk 48 < 128) (hb : ∀ i, 0 ≤ by' i ∧ by' i < 256) (ht : ∀ w, fi ≤ w → w < be → 0 ≤ tg w) (hh : ∀ w, fi ≤ w → w < be → tg w < 2 → by' (32 * w + 16) < 128) (hf : fi ≤ be) : kdBy (kdCd dk tg by' fi be keep tear) ∧ kdCd dk tg by' fi be keep tear 16 < 128 ∧ kdCd dk tg by' fi be keep tear 48 < 128 := by
  have cm : fi + kdCm fi be keep ≤ be := by
    unfold kdCm
    split
    · show fi + ((0 : Nat) : Int) ≤ be; omega
    · split <;> omega
  have W := kv_Wm hd hb ht hh (kdCm fi be keep) cm
  unfold kdCd
  by_cases z : fi + kdCm fi be keep < be
  · rw [if_pos z]
    exact kv_Wr W hb (ht _ (by omega) z) (hh _ (by omega) z) (by unfold kdCt; split; decide; split <;> omega)
  · rw [if_neg z]; exact W
theorem kdVr.disk {dk' : Int → Int} (H : kdVr T dk lt op ld pl nu se ks tg by' fu fi be ol nw kn mo) (h : kdBy dk' ∧ dk' 16 < 128 ∧ dk' 48 < 128) : kdVr T dk' lt op ld pl nu se ks tg by' fu fi be ol nw kn mo := by
  obtain ⟨⟨p1, p3, p4⟩, g, n1, r⟩ := H
  exact ⟨⟨p1, h.1, p4⟩, g, ⟨n1.1, h.2, n1.2.2⟩, r⟩
theorem kdVr.sync (H : kdVr T dk lt op ld pl nu se ks tg by' fu fi be ol nw kn mo) : kdVr T (kdWm dk tg by' fi (be - fi).toNat) lt op ld pl (updI nu 0 (nu nw)) (updI se 0 (se nw)) ks tg by' fu 0 0 0 0 kn mo := by
  obtain ⟨⟨p1, p3, p4⟩, ⟨g1, g2, g3, g4, g5, g6, g7⟩, n1, b1, f1, t1, t2, t3, t4⟩ := H
  have W := kv_Wm (be := be) ⟨p3, n1.2.1⟩ p4 (fun w a b => (g2 w a b).1) n1.2.2 (be - fi).toNat (by omega)
  refine ⟨⟨p1, W.1, p4⟩, ⟨g1, fun s a b => by omega, fun s a b => ?_, g4, by omega, by omega, g7⟩, ⟨by rw [updI_s]; exact n1.1, W.2, fun w a b => by omega⟩, ⟨fun s a b => ?_, b1.2⟩, f1, t1, by omega, by omega, t4⟩
  · have : s = 0 := by omega
    rw [this, updI_s]; exact g3 nw (by omega) (Int.le_refl _)
  · have : s = 0 := by omega
    rw [this, updI_s]; exact b1.1 nw (by omega) (Int.le_refl _)
/-- one started again -/
theorem kv_Wh {k : Int} (h : kdWh dk k) {j : Int} (j0 : 0 ≤ j) (j1 : j < 64) (b : kdBt (kdWi dk (32 * k + 8)) j) : 2 ≤ j ∧ j < 48 := (h.2.2.1 j j0 j1 b).1
theorem kv_Hw : zL (kdHw dk (kdHh dk)) ∧ ∀ j, 0 ≤ j → j < 64 → kdBt (kdHw dk (kdHh dk)) j → 2 ≤ j ∧ j < 48 := by
  have z0 : ∀ j, ¬ kdBt 0 j := fun j => by unfold kdBt; simp
  unfold kdHh
  by_cases q : kdWh dk 0 ∧ (kdWh dk 1 → kdNo dk 48 ≤ kdNo dk 16)
  · rw [pif_t q]
    exact ⟨zr_or64 _ _, fun j a b w => kv_Wh q.1 a b w⟩
  · rw [pif_f q]
    by_cases q2 : kdWh dk 1
    · rw [pif_t q2]
      exact ⟨zr_or64 _ _, fun j a b w => kv_Wh q2 a b w⟩
    · rw [pif_f q2]
      exact ⟨zL_0, fun j a b w => absurd w (z0 j)⟩
theorem kv_Hn (hd : kdBy dk ∧ dk 16 < 128 ∧ dk 48 < 128) : 0 ≤ kdHn dk (kdHh dk) := by
  have n0 := kv_No (r := dk) (a := 16) (fun j a b => hd.1 _ (by omega) (by omega)) hd.2.1
  have n1 := kv_No (r := dk) (a := 48) (fun j a b => hd.1 _ (by omega) (by omega)) hd.2.2
  unfold kdHh
  by_cases q : kdWh dk 0 ∧ (kdWh dk 1 → kdNo dk 48 ≤ kdNo dk 16)
  · rw [pif_t q]; exact n0
  · rw [pif_f q]
    by_cases q2 : kdWh dk 1
    · rw [pif_t q2]; exact n1
    · rw [pif_f q2]; exact Int.le_refl 0
theorem kv_Ps {s : Int} (hs : ∀ j, 0 ≤ j → j < 64 → kdBt s j → 2 ≤ j ∧ j < 48) (hp : ∀ p, 0 ≤ p → p < 30 → pl p = -1 ∨ (2 ≤ pl p ∧ pl p < 48)) : ∀ m : Nat, m ≤ 64 → ∀ p, 0 ≤ p → p < 30 → kdPs dk s pl m p = -1 ∨ (2 ≤ kdPs dk s pl m p ∧ kdPs dk s pl m p < 48)
  | 0, _ => hp
  | m + 1, h => fun p a b => by
    have ih := kv_Ps hs hp m (by omega)
    unfold kdPs
    by_cases q : kdBt s m
    · rw [pif_t q]
      by_cases e : p = dk (32 * m + 5)
      · rw [e, updI_s]; exact Or.inr (hs m (by omega) (by omega) q)
      · rw [updI_n e]; exact ih p a b
    · rw [pif_f q]; exact ih p a b
theorem kdVr.start (H : kdVr T dk lt op ld pl nu se ks tg by' fu fi be ol nw kn mo) (hT : T ≤ 499) : kdVr (T + 1) dk (kdCy lt dk 2048) op (kdFl ld 64 0) (kdPs dk (kdHw dk (kdHh dk)) (kdFl pl 30 (-1)) 64) (updI nu 0 (kdHn dk (kdHh dk))) (updI se 0 (kdHw dk (kdHh dk))) ks tg by' fu 0 0 0 0 0 (mo + 1) := by
  have W := kv_Hw (dk := dk)
  exact H.begin hT (kv_Hn ⟨H.1.2.1, H.2.2.1.2.1⟩) W.1 ⟨fun w => by have := W.2 0 (by decide) (by decide) w; omega, fun w => by have := W.2 1 (by decide) (by decide) w; omega⟩ (kv_Ps W.2 kdFl_m1 64 (Nat.le_refl _))
theorem kdVr.cut (H : kdVr T dk lt op ld pl nu se ks tg by' fu fi be ol nw kn mo) (hT : T ≤ 499) : kdVr (T + 1) (kdCd dk tg by' fi be keep tear) (kdCy lt (kdCd dk tg by' fi be keep tear) 2048) op (kdFl ld 64 0) (kdFl pl 30 (-1)) (updI nu 0 0) (updI se 0 0) ks tg by' fu 0 0 0 0 0 (mo + 1) := by
  obtain ⟨⟨p1, p3, p4⟩, ⟨g1, g2, g3, g4, g5, g6, g7⟩, n1, b1, f1, t1, t2, t3, t4⟩ := id H
  exact (H.disk (kv_Cd ⟨p3, n1.2.1⟩ p4 (fun w a b => (g2 w a b).1) n1.2.2 g5.2.1)).begin hT (Int.le_refl 0) zL_0 kdBz_0 kdFl_m1
theorem kv_xor {x m : Int} (hx : 0 ≤ x ∧ x < 256) (hm : 0 ≤ m ∧ m < 256) : 0 ≤ zxor x m ∧ zxor x m < 256 := by
  have w := kd_w8 (x := x)
  have e := kd_xor (a := w8 x) (m := m) (u := x) w.1 (by rw [w.2]; omega) hm
  omega
theorem kdVr.poke (H : kdVr T dk lt op ld pl nu se ks tg by' fu fi be ol nw kn mo) (hp : kdIp pl p) (hi : ¬ ((i < 0 ∨ 32 ≤ i) ∨ mask < 1 ∨ 255 < mask)) : kdVr T (updI dk (32 * pl p + i) (zxor (dk (32 * pl p + i)) mask)) (updI lt (32 * pl p + i) (zxor (dk (32 * pl p + i)) mask)) op ld pl nu se ks tg by' fu fi be ol nw kn mo := by
  obtain ⟨⟨⟨p1, p2⟩, p3, p4⟩, g, n1, r⟩ := H
  have pb := p1 p hp.1.1 hp.1.2
  have ne := hp.2
  have x := kv_xor (p3 (32 * pl p + i) (by omega) (by omega)) (m := mask) (by omega)
  refine ⟨⟨⟨p1, fun j a b => ⟨kv_u (p2 j a b).1 x, (p2 j a b).2⟩⟩, fun j a b => kv_u (p3 j a b) x, p4⟩, g, ⟨n1.1, ⟨?_, ?_⟩, n1.2.2⟩, r⟩
  · rw [updI_n (by omega)]; exact n1.2.1.1
  · rw [updI_n (by omega)]; exact n1.2.1.2
theorem kdVr.backup (H : kdVr T dk lt op ld pl nu se ks tg by' fu fi be ol nw kn mo) (hT : T ≤ 499) (hk : ¬ kn = 4) : kdVr (T + 1) dk lt op ld pl nu se (updI ks kn (se nw)) tg by' fu fi be ol nw (kn + 1) (mo + 1) := by
  obtain ⟨p, ⟨g1, g2, g3, g4, g5, g6, g7⟩, n1, b1, f1, t1, t2, t3, t4⟩ := H
  refine ⟨p, ⟨g1, g2, g3, fun s a b => ?_, g5, g6, by omega⟩, n1, ⟨b1.1, fun s a b => ?_⟩, f1, by omega, by omega, by omega, by omega⟩
  · by_cases e : s = kn
    · rw [e, updI_s]; exact g3 nw g6.2.1 (Int.le_refl _)
    · rw [updI_n e]; exact g4 s a (by omega)
  · by_cases e : s = kn
    · rw [e, updI_s]; exact b1.1 nw g6.2.1 (Int.le_refl _)
    · rw [updI_n e]; exact b1.2 s a (by omega)
theorem kdVr.drop {j : Int} (H : kdVr T dk lt op ld pl nu se ks tg by' fu fi be ol nw kn mo) (hT : T ≤ 499) (hj : 0 ≤ j ∧ j < kn) : kdVr (T + 1) dk lt op ld pl nu se (kdLo ks j (kn - 1)) tg by' fu fi be ol nw (kn - 1) (mo + 1) := by
  obtain ⟨p, ⟨g1, g2, g3, g4, g5, g6, g7⟩, n1, b1, f1, t1, t2, t3, t4⟩ := H
  refine ⟨p, ⟨g1, g2, g3, fun s a b => ?_, g5, g6, by omega⟩, n1, ⟨b1.1, fun s a b => ?_⟩, f1, by omega, by omega, by omega, by omega⟩
  · unfold kdLo
    split
    · exact g4 _ (by omega) (by omega)
    · exact g4 s a (by omega)
  · unfold kdLo
    split
    · exact b1.2 _ (by omega) (by omega)
    · exact b1.2 s a (by omega)
/-- sectors laid come to wait -/
theorem kv_Cs (hp : ∀ i, 0 ≤ i → i < 2048 → (0 ≤ lt i ∧ lt i < 256) ∧ 0 ≤ op i ∧ op i < 256) (hb : ∀ i, 0 ≤ by' i ∧ by' i < 256) (hf : 0 ≤ fi ∧ fi ≤ be) (ht : ∀ w, fi ≤ w → w < be → 0 ≤ tg w ∧ tg w < 48) (hh : ∀ w, fi ≤ w → w < be → tg w < 2 → by' (32 * w + 16) < 128) : ∀ m : Nat, m ≤ 46 → ∀ Q : kdQt, Q = kdCs n (lt, op, ld, tg, by', be) m →
    (∀ i, 0 ≤ i → i < 2048 → (0 ≤ Q.1 i ∧ Q.1 i < 256) ∧ 0 ≤ Q.2.1 i ∧ Q.2.1 i < 256) ∧ (∀ i, 0 ≤ Q.2.2.2.2.1 i ∧ Q.2.2.2.2.1 i < 256) ∧ (∀ w, fi ≤ w → w < Q.2.2.2.2.2 → 0 ≤ Q.2.2.2.1 w ∧ Q.2.2.2.1 w < 48) ∧ (∀ w, fi ≤ w → w < Q.2.2.2.2.2 → Q.2.2.2.1 w < 2 → Q.2.2.2.2.1 (32 * w + 16) < 128) ∧ Q.2.2.2.2.2 = be + cntI (fun i => ¬ ld (2 + i) = 0) m ∧ ∀ k, Q.2.2.1 k = if 2 ≤ k ∧ k < 2 + (m : Int) then 0 else ld k
  | 0, _, Q, eQ => by
    have eQ : Q = (lt, op, ld, tg, by', be) := eQ
    subst eQ
    refine ⟨hp, hb, ht, hh, ?_, fun k => ?_⟩
    · show be = be + 0; omega
    · rw [if_neg (by omega)]
  | m + 1, hm, Q, eQ => by
    obtain ⟨P, eP⟩ : ∃ P, P = kdCs n (lt, op, ld, tg, by', be) m := ⟨_, rfl⟩
    obtain ⟨i1, i2, i3, i4, i5, i6⟩ := kv_Cs hp hb hf ht hh m (by omega) P eP
    have eQ : Q = kdCk n (2 + m) (kdCs n (lt, op, ld, tg, by', be) m) := eQ
    rw [← eP] at eQ
    have lk : P.2.2.1 (2 + m) = ld (2 + m) := by rw [i6, if_neg (by omega)]
    have cb := cntI_b (fun i => ¬ ld (2 + i) = 0) m
    by_cases z : P.2.2.1 (2 + m) = 0
    · rw [kdCk_0 z] at eQ
      subst eQ
      refine ⟨i1, i2, i3, i4, ?_, fun k => ?_⟩
      · have : cntI (fun i => ¬ ld (2 + i) = 0) (m + 1) = cntI (fun i => ¬ ld (2 + i) = 0) m := by
          show cntI (fun i => ¬ ld (2 + i) = 0) m + pif (¬ ld (2 + (m : Int)) = 0) 1 0 = _
          rw [pif_f (fun w => w (by rw [← lk]; exact z))]; omega
        rw [this]; exact i5
      · rw [i6]
        by_cases q : k = 2 + m
        · rw [if_neg (by omega), if_pos (by omega), q, ← lk]; exact z
        · by_cases q2 : 2 ≤ k ∧ k < 2 + (m : Int)
          · rw [if_pos q2, if_pos (by omega)]
          · rw [if_neg q2, if_neg (by omega)]
    · rw [kdCk_1 z] at eQ
      subst eQ
      have ob : ∀ i, 0 ≤ i → i < 2048 → 0 ≤ kdCl (kdSt P.2.1 (32 * (2 + m) + 16) n) (2 + m) i ∧ kdCl (kdSt P.2.1 (32 * (2 + m) + 16) n) (2 + m) i < 256 := fun i a b => kv_Cl (kv_St (i1 i a b).2)
      have sb : ∀ j, 0 ≤ j → j < 32 → 0 ≤ kdCl (kdSt P.2.1 (32 * (2 + m) + 16) n) (2 + m) (32 * (2 + m) + j) ∧ kdCl (kdSt P.2.1 (32 * (2 + m) + 16) n) (2 + m) (32 * (2 + m) + j) < 256 := fun j a b => ob _ (by omega) (by omega)
      refine ⟨fun i a b => ⟨kv_Cn (i1 i a b).1 sb, ob i a b⟩, fun i => kv_Cn (i2 i) sb, fun w a b => ?_, fun w a b c => ?_, ?_, fun k => ?_⟩
      · show 0 ≤ updI P.2.2.2.1 P.2.2.2.2.2 (2 + m) w ∧ updI P.2.2.2.1 P.2.2.2.2.2 (2 + m) w < 48
        have b : w < P.2.2.2.2.2 + 1 := b
        by_cases e : w = P.2.2.2.2.2
        · rw [e, updI_s]; omega
        · rw [updI_n e]; exact i3 w a (by omega)
      · have b : w < P.2.2.2.2.2 + 1 := b
        have c : updI P.2.2.2.1 P.2.2.2.2.2 (2 + m) w < 2 := c
        show kdCn P.2.2.2.2.1 P.2.2.2.2.2 _ (2 + m) 32 (32 * w + 16) < 128
        by_cases e : w = P.2.2.2.2.2
        · rw [e, updI_s] at c; omega
        · rw [updI_n e] at c
          unfold kdCn
          rw [if_neg (by omega)]
          exact i4 w a (by omega) c
      · show P.2.2.2.2.2 + 1 = be + (cntI (fun i => ¬ ld (2 + i) = 0) m + pif (¬ ld (2 + (m : Int)) = 0) 1 0)
        rw [pif_t (show ¬ ld (2 + (m : Int)) = 0 from fun w => z (lk.trans w))]; omega
      · show updI P.2.2.1 (2 + m) 0 k = _
        by_cases q : k = 2 + m
        · rw [q, updI_s, if_pos (by omega)]
        · rw [updI_n q, i6]
          by_cases q2 : 2 ≤ k ∧ k < 2 + (m : Int)
          · rw [if_pos q2, if_pos (by omega)]
          · rw [if_neg q2, if_neg (by omega)]
theorem kv_Hr {s a : Int} (j0 : 0 ≤ i) (j1 : i < 32) : 0 ≤ kdHr hd s n a i ∧ kdHr hd s n a i < 256 := kv_Cl (kv_St (kv_St (kv_Sw (kv_u (by unfold kdFl; rw [if_pos ⟨j0, j1⟩]; decide) (by decide)))))
theorem kv_Hr16 {s a : Int} (hn : 0 ≤ n ∧ n ≤ 1000000) : kdHr hd s n a 16 < 128 := by
  unfold kdHr
  rw [kdCl_n (by omega), kdSt_n (by omega)]
  unfold kdSt
  rw [updI_n (by omega), updI_n (by omega), updI_n (by omega), Int.add_zero, updI_s]
  omega
/-- a head does not rest on what was there -/
theorem kdHr_c {hd hd' : Int → Int} {s a : Int} (j0 : 0 ≤ i) (j1 : i < 32) : kdHr hd s n a i = kdHr hd' s n a i := by
  have base : ∀ i, 0 ≤ i → i < 32 → kdSt (kdSt (kdSw (updI (kdFl hd 32 0) 4 9) 8 s) 16 n) 20 a i = kdSt (kdSt (kdSw (updI (kdFl hd' 32 0) 4 9) 8 s) 16 n) 20 a i := fun i a b => by
    refine kdSt_c (kdSt_c (kdSw_c ?_))
    by_cases e : i = 4
    · rw [e, updI_s, updI_s]
    · rw [updI_n e, updI_n e]
      unfold kdFl
      rw [if_pos ⟨a, b⟩, if_pos ⟨a, b⟩]
  unfold kdHr
  rw [kdCl0, kdCl0, kdSm_c 28 (fun i a b => base i (by omega) (by omega))]
  exact kdSt_c (base i j0 j1)
theorem kdVr.commit {Q : kdQt} (H : kdVr T dk lt op ld pl nu se ks tg by' fu fi be ol nw kn mo) (hT : T ≤ 499) (hn : ¬ (n ≤ nu nw ∨ 1000000 < n)) (eQ : Q = kdCs n (lt, op, ld, tg, by', be) 46) : kdVr (T + 1) dk (kdCn Q.1 (n % 2) (kdHr (fun _ => 0) (kdHs Q.1 pl 46).1 n (kdHs Q.1 pl 46).2) 0 32) Q.2.1 Q.2.2.1 pl (updI nu (nw + 1) n) (updI se (nw + 1) (kdHs Q.1 pl 46).1) ks (updI Q.2.2.2.1 Q.2.2.2.2.2 (n % 2)) (kdCn Q.2.2.2.2.1 Q.2.2.2.2.2 (kdHr (fun _ => 0) (kdHs Q.1 pl 46).1 n (kdHs Q.1 pl 46).2) 0 32) fu fi (Q.2.2.2.2.2 + 1) ol (nw + 1) kn mo := by
  obtain ⟨⟨⟨p1, p2⟩, p3, p4⟩, ⟨g1, g2, g3, g4, g5, g6, g7⟩, n1, b1, f1, t1, t2, t3, t4⟩ := H
  obtain ⟨i1, i2, i3, i4, i5, i6⟩ := kv_Cs (fi := fi) p2 p4 ⟨g5.1, g5.2.1⟩ g2 n1.2.2 46 (Nat.le_refl _) Q eQ
  have nb : 0 ≤ n ∧ n ≤ 1000000 := by omega
  obtain ⟨z1, z2⟩ := kdHs_b (lt := Q.1) (pl := pl) 46 (Nat.le_refl _)
  generalize (kdHs Q.1 pl 46).1 = s at z1 z2 ⊢
  generalize (kdHs Q.1 pl 46).2 = x
  have hb : ∀ j, 0 ≤ j → j < 32 → 0 ≤ kdHr (fun _ => 0) s n x (32 * 0 + j) ∧ kdHr (fun _ => 0) s n x (32 * 0 + j) < 256 := fun j a b => by
    rw [show 32 * 0 + j = j by omega]
    exact kv_Hr a b
  have c0 : cntI (fun i => ¬ Q.2.2.1 (2 + i) = 0) 46 = 0 := kvI_0 (fun i a b w => w (by rw [i6, if_pos (by omega)]))
  have cb := cntI_b (fun i => ¬ ld (2 + i) = 0) 46
  have bz : kdBz s := ⟨fun w => by have := ((z2 0 (by decide)).mp w).2.1; omega, fun w => by have := ((z2 1 (by decide)).mp w).2.1; omega⟩
  refine ⟨⟨⟨p1, fun i a b => ⟨kv_Cn (i1 i a b).1 hb, (i1 i a b).2⟩⟩, p3, fun i => kv_Cn (i2 i) hb⟩, ⟨p1, fun w a b => ?_, fun w a b => ?_, g4, by omega, by omega, g7⟩, ⟨by rw [updI_s]; exact nb.1, n1.2.1, fun w a b c => ?_⟩, ⟨fun w a b => ?_, b1.2⟩, f1, by omega, by rw [c0]; omega, by omega, by omega⟩
  · by_cases e : w = Q.2.2.2.2.2
    · rw [e, updI_s]; omega
    · rw [updI_n e]; exact i3 w a (by omega)
  · by_cases e : w = nw + 1
    · rw [e, updI_s]; exact z1
    · rw [updI_n e]; exact g3 w a (by omega)
  · unfold kdCn
    by_cases e : w = Q.2.2.2.2.2
    · rw [if_pos (by omega), show 32 * 0 + (32 * w + 16 - 32 * Q.2.2.2.2.2) = 16 by omega]
      exact kv_Hr16 nb
    · rw [updI_n e] at c
      rw [if_neg (by omega)]
      exact i4 w a (by omega) c
  · by_cases e : w = nw + 1
    · rw [e, updI_s]; exact bz
    · rw [updI_n e]; exact b1.1 w a (by omega)
end
/-! KnowDisk: what a call does, as functions on one state -/
def kqR (S : KS) (R : Int × (Int → Int) × (Int → Int) × (Int → Int) × Int) : Int × KS := (R.1, KS.mk S.dk S.lt R.2.1 R.2.2.1 R.2.2.2.1 S.nu S.se S.ku S.ks S.tg S.by' S.ru S.fu R.2.2.2.2 S.fi S.be S.ol S.nw S.kn S.mo)
noncomputable def kqPage (kind of_ v : Int) (S : KS) : Int × KS := kqR S (kdPg S.ru S.fu (kdFs S.pl S.tg S.fi S.be S.se S.ol S.nw S.ks S.kn) S.lt S.op S.ld S.pl S.ch kind of_ v)
noncomputable def kqDerived (p : Int) (S : KS) : Int × KS := kqR S (kdDe S.ru S.fu (kdFs S.pl S.tg S.fi S.be S.se S.ol S.nw S.ks S.kn) S.lt S.op S.ld S.pl S.ch p)
def kqFull (v : Int) (S : KS) : Int × KS := (S.fu, KS.mk S.dk S.lt S.op S.ld S.pl S.nu S.se S.ku S.ks S.tg S.by' S.ru v S.ch S.fi S.be S.ol S.nw S.kn S.mo)
noncomputable def kqWrong (what : Int) (S : KS) : Int := kdWq S.ru S.lt S.ld S.pl what
section
variable {T T' n keep tear p i mask v what kind of_ : Int} {S : KS}
theorem kdV.up (H : kdV T S) (h : T ≤ T' ∧ T' ≤ 500) : kdV T' S := kdVr.up H h
theorem kdV.page (H : kdV T S) (hT : T ≤ 499) : kdV (T + 1) (kqPage kind of_ v S).2 := kdVr.pg H hT kdFs_b rfl
theorem kdV.derived (H : kdV T S) (hT : T ≤ 499) : kdV (T + 1) (kqDerived p S).2 := kdVr.derived H hT kdFs_b rfl
theorem kdV.full (H : kdV T S) (hv : v = 0 ∨ v = 1) : kdV T (kqFull v S).2 := by
  obtain ⟨h1, h2, h3, h4, h5, h6⟩ := H
  exact ⟨h1, h2, h3, h4, hv, h6⟩
theorem kdV.commit (H : kdV T S) (hT : T ≤ 499) : kdV (T + 1) (kdCo S n).2 := by
  have U := H.up (T' := T + 1) ⟨by omega, by omega⟩
  unfold kdCo
  by_cases q : S.ru = 0 ∨ S.ch = 0
  · rw [if_pos q]; exact U
  rw [if_neg q]
  by_cases q2 : n ≤ S.nu S.nw ∨ 1000000 < n
  · rw [if_pos q2]; exact U
  rw [if_neg q2]
  obtain ⟨Q, eQ⟩ : ∃ Q, Q = kdCs n (S.lt, S.op, S.ld, S.tg, S.by', S.be) 46 := ⟨_, rfl⟩
  rw [← eQ]
  exact kdVr.commit H hT q2 eQ
theorem kdV.sync (H : kdV T S) : kdV T (kdSy S).2 := by
  unfold kdSy
  by_cases q : S.ru = 0
  · rw [if_pos q]; exact H
  · rw [if_neg q]; exact kdVr.sync H
theorem kdV.cut (H : kdV T S) (hT : T ≤ 499) : kdV (T + 1) (kdCu S keep tear) := by
  unfold kdCu
  by_cases q : S.ru = 0
  · rw [if_pos q]; exact H.up ⟨by omega, by omega⟩
  · rw [if_neg q]; exact kdVr.cut H hT
theorem kdV.start (H : kdV T S) (hT : T ≤ 499) : kdV (T + 1) (kdSt2 S).2 := by
  unfold kdSt2
  by_cases q : ¬ S.ru = 0
  · rw [if_pos q]; exact H.up ⟨by omega, by omega⟩
  · rw [if_neg q]; exact kdVr.start H hT
theorem kdV.poke (H : kdV T S) : kdV T (kdPk S p i mask).2 := by
  unfold kdPk
  by_cases q : S.ru = 0
  · rw [if_pos q]; exact H
  rw [if_neg q]
  by_cases q2 : kdIp S.pl p
  · rw [pif_t q2]
    by_cases q3 : (i < 0 ∨ 32 ≤ i) ∨ mask < 1 ∨ 255 < mask
    · rw [if_pos q3]; exact H
    rw [if_neg q3]
    by_cases q4 : ¬ S.ld (S.pl p) = 0 ∨ kdWt S.tg S.fi S.be (S.pl p)
    · rw [pif_t q4]; exact H
    · rw [pif_f q4]; exact kdVr.poke H q2 q3
  · rw [pif_f q2]; exact H
theorem kdV.backup (H : kdV T S) (hT : T ≤ 499) : kdV (T + 1) (kdBk S v).2 := by
  have U := H.up (T' := T + 1) ⟨by omega, by omega⟩
  unfold kdBk
  by_cases q : S.ru = 0
  · rw [if_pos q]; exact U
  rw [if_neg q]
  by_cases q2 : ¬ S.nu S.nw = v
  · rw [if_pos q2]; exact U
  rw [if_neg q2]
  by_cases q3 : S.kn = 4
  · rw [if_pos q3]; exact U
  · rw [if_neg q3]; exact kdVr.backup H hT q3
theorem kdKf_b {ku : Int → Int} {kn : Int} (h : 0 ≤ kn) : 0 ≤ kdKf ku kn v ∧ kdKf ku kn v ≤ kn := by
  have q := (fstI_s (fun j => ku j = v) kn.toNat).1
  unfold kdKf
  omega
theorem kdV.drop (H : kdV T S) (hT : T ≤ 499) : kdV (T + 1) (kdDp S v).2 := by
  have U := H.up (T' := T + 1) ⟨by omega, by omega⟩
  have k4 : 0 ≤ S.kn := H.2.1.2.2.2.2.2.2.1
  have kb := kdKf_b (ku := S.ku) (v := v) k4
  unfold kdDp
  by_cases q : S.ru = 0
  · rw [if_pos q]; exact U
  rw [if_neg q]
  by_cases q2 : kdKf S.ku S.kn v = S.kn
  · rw [if_pos q2]; exact U
  · rw [if_neg q2]; exact kdVr.drop H hT (by omega)
end
/-- the component (room KD) is in state S -/
def kqIC (kd : Nat → Nat) (an : Nat → Nat) (ai : Nat → Int → Int) (al : Nat → Int → Int) (ar : Nat → Int → Option Nat) (mX42_disk : Nat → Option Nat) (mX42_count : Nat → Int) (mX42_runs : Nat → Int) (mX42_isFull : Nat → Int) (mX42_places : Nat → Option Nat) (mX42_laid : Nat → Option Nat) (mX42_changed : Nat → Int) (mX42_waiting : Nat → Option Nat) (mX42_states : Nat → Option Nat) (mX42_kept : Nat → Option Nat) (mX43_number : Nat → Int) (mX43_sectors : Nat → Int) (mX63_bytes : Nat → Option Nat) (mX64_to : Nat → Int) (mX64_sector : Nat → Option Nat) (mJ1_modCount : Nat → Int) (mJ2_elementData : Nat → Option Nat) (mJ2_size : Nat → Int) (mJ5_elements : Nat → Option Nat) (mJ5_head : Nat → Int) (mJ5_tail : Nat → Int) (mJ22_cursor : Nat → Int) (mJ22_remaining : Nat → Int) (mJ22_lastRet : Nat → Int) (mJ22_this_0 : Nat → Option Nat) (mJ23_cursor : Nat → Int) (mJ23_lastRet : Nat → Int) (mJ23_expectedModCount : Nat → Int) (mJ23_this_0 : Nat → Option Nat) (sa : Nat → Nat) (x : Nat) (T : Int) (S : KS) : Prop := kdOK kd an ai al ar mX42_disk mX42_count mX42_runs mX42_isFull mX42_places mX42_laid mX42_changed mX42_waiting mX42_states mX42_kept mX43_number mX43_sectors mX63_bytes mX64_to mX64_sector mJ1_modCount mJ2_elementData mJ2_size mJ5_elements mJ5_head mJ5_tail mJ22_cursor mJ22_remaining mJ22_lastRet mJ22_this_0 mJ23_cursor mJ23_lastRet mJ23_expectedModCount mJ23_this_0 sa x S ∧ kdV T S
section
variable {kd : Nat → Nat} {an : Nat → Nat} {ai : Nat → Int → Int} {al : Nat → Int → Int} {ar : Nat → Int → Option Nat} {mX42_disk : Nat → Option Nat} {mX42_count : Nat → Int} {mX42_runs : Nat → Int} {mX42_isFull : Nat → Int} {mX42_places : Nat → Option Nat} {mX42_laid : Nat → Option Nat} {mX42_changed : Nat → Int} {mX42_waiting : Nat → Option Nat} {mX42_states : Nat → Option Nat} {mX42_kept : Nat → Option Nat} {mX43_number : Nat → Int} {mX43_sectors : Nat → Int} {mX63_bytes : Nat → Option Nat} {mX64_to : Nat → Int} {mX64_sector : Nat → Option Nat} {mJ1_modCount : Nat → Int} {mJ2_elementData : Nat → Option Nat} {mJ2_size : Nat → Int} {mJ5_elements : Nat → Option Nat} {mJ5_head : Nat → Int} {mJ5_tail : Nat → Int} {mJ22_cursor : Nat → Int} {mJ22_remaining : Nat → Int} {mJ22_lastRet : Nat → Int} {mJ22_this_0 : Nat → Option Nat} {mJ23_cursor : Nat → Int} {mJ23_lastRet : Nat → Int} {mJ23_expectedModCount : Nat → Int} {mJ23_this_0 : Nat → Option Nat} {sa : Nat → Nat} {x : Nat} {T n keep tear p i mask v what kind of_ : Int} {S : KS} {MC MS : Nat}
theorem QKD_page {post : Int → (Nat → Nat) → (Nat → Nat) → (Nat → Int → Int) → (Nat → Int → Option Nat) → (Nat → Int) → (Nat → Option Nat) → (Nat → Int) → (Nat → Int) → (Nat → Int) → (Nat → Option Nat) → (Nat → Int) → (Nat → Int) → (Nat → Int) → (Nat → Option Nat) → Prop} (R : kqIC kd an ai al ar mX42_disk mX42_count mX42_runs mX42_isFull mX42_places mX42_laid mX42_changed mX42_waiting mX42_states mX42_kept mX43_number mX43_sectors mX63_bytes mX64_to mX64_sector mJ1_modCount mJ2_elementData mJ2_size mJ5_elements mJ5_head mJ5_tail mJ22_cursor mJ22_remaining mJ22_lastRet mJ22_this_0 mJ23_cursor mJ23_lastRet mJ23_expectedModCount mJ23_this_0 sa x T S) (hM : 11 ≤ MC ∧ 119 ≤ MS) (hT : T ≤ 499) (h : ∀ m1 m2 m3 m4 m5 m6 m7 m8 m9 m10 m11 m12 m13 m14, kqIC m1 m2 m3 al m4 mX42_disk mX42_count mX42_runs mX42_isFull mX42_places mX42_laid m5 mX42_waiting mX42_states mX42_kept mX43_number mX43_sectors m6 mX64_to mX64_sector mJ1_modCount mJ2_elementData mJ2_size mJ5_elements mJ5_head mJ5_tail m7 m8 m9 m10 m11 m12 m13 m14 sa x (T + 1) ((kqPage kind of_ v S).2) → post (kqPage kind of_ v S).1 m1 m2 m3 m4 m5 m6 m7 m8 m9 m10 m11 m12 m13 m14) : wpKD_X42_page MC MS post kd an ai ar mX42_disk mX42_count mX42_runs mX42_isFull mX42_places mX42_laid mX42_changed mX42_waiting mX42_states mX42_kept mX43_sectors mX63_bytes mX64_to mX64_sector mJ1_modCount mJ2_elementData mJ2_size mJ5_elements mJ5_head mJ5_tail mJ22_cursor mJ22_remaining mJ22_lastRet mJ22_this_0 mJ23_cursor mJ23_lastRet mJ23_expectedModCount mJ23_this_0 x kind of_ v := by
  obtain ⟨O, H⟩ := R
  exact CKD_page hM O rfl (fun m1 m2 m3 m4 m5 m6 m7 m8 m9 m10 m11 m12 m13 m14 O' => h _ _ _ _ _ _ _ _ _ _ _ _ _ _ ⟨O', H.page hT⟩)
theorem QKD_derived {post : Int → (Nat → Nat) → (Nat → Nat) → (Nat → Int → Int) → (Nat → Int → Option Nat) → (Nat → Int) → (Nat → Option Nat) → (Nat → Int) → (Nat → Int) → (Nat → Int) → (Nat → Option Nat) → (Nat → Int) → (Nat → Int) → (Nat → Int) → (Nat → Option Nat) → Prop} (R : kqIC kd an ai al ar mX42_disk mX42_count mX42_runs mX42_isFull mX42_places mX42_laid mX42_changed mX42_waiting mX42_states mX42_kept mX43_number mX43_sectors mX63_bytes mX64_to mX64_sector mJ1_modCount mJ2_elementData mJ2_size mJ5_elements mJ5_head mJ5_tail mJ22_cursor mJ22_remaining mJ22_lastRet mJ22_this_0 mJ23_cursor mJ23_lastRet mJ23_expectedModCount mJ23_this_0 sa x T S) (hM : 11 ≤ MC ∧ 119 ≤ MS) (hT : T ≤ 499) (h : ∀ m1 m2 m3 m4 m5 m6 m7 m8 m9 m10 m11 m12 m13 m14, kqIC m1 m2 m3 al m4 mX42_disk mX42_count mX42_runs mX42_isFull mX42_places mX42_laid m5 mX42_waiting mX42_states mX42_kept mX43_number mX43_sectors m6 mX64_to mX64_sector mJ1_modCount mJ2_elementData mJ2_size mJ5_elements mJ5_head mJ5_tail m7 m8 m9 m10 m11 m12 m13 m14 sa x (T + 1) ((kqDerived p S).2) → post (kqDerived p S).1 m1 m2 m3 m4 m5 m6 m7 m8 m9 m10 m11 m12 m13 m14) : wpKD_X42_derived MC MS post kd an ai ar mX42_disk mX42_count mX42_runs mX42_isFull mX42_places mX42_laid mX42_changed mX42_waiting mX42_states mX42_kept mX43_sectors mX63_bytes mX64_to mX64_sector mJ1_modCount mJ2_elementData mJ2_size mJ5_elements mJ5_head mJ5_tail mJ22_cursor mJ22_remaining mJ22_lastRet mJ22_this_0 mJ23_cursor mJ23_lastRet mJ23_expectedModCount mJ23_this_0 x p := by
  obtain ⟨O, H⟩ := R
  exact CKD_derived hM O rfl (fun m1 m2 m3 m4 m5 m6 m7 m8 m9 m10 m11 m12 m13 m14 O' => h _ _ _ _ _ _ _ _ _ _ _ _ _ _ ⟨O', H.derived hT⟩)
theorem QKD_commit {post : Int → (Nat → Nat) → (Nat → Nat) → (Nat → Int → Int) → (Nat → Int → Option Nat) → (Nat → Int) → (Nat → Int) → (Nat → Int) → (Nat → Option Nat) → (Nat → Int) → (Nat → Option Nat) → (Nat → Option Nat) → (Nat → Int) → (Nat → Int) → (Nat → Int) → (Nat → Int) → (Nat → Int) → (Nat → Option Nat) → (Nat → Int) → (Nat → Int) → Prop} (R : kqIC kd an ai al ar mX42_disk mX42_count mX42_runs mX42_isFull mX42_places mX42_laid mX42_changed mX42_waiting mX42_states mX42_kept mX43_number mX43_sectors mX63_bytes mX64_to mX64_sector mJ1_modCount mJ2_elementData mJ2_size mJ5_elements mJ5_head mJ5_tail mJ22_cursor mJ22_remaining mJ22_lastRet mJ22_this_0 mJ23_cursor mJ23_lastRet mJ23_expectedModCount mJ23_this_0 sa x T S) (hM : 240 ≤ MC ∧ 47 * (2 * T.toNat + 104) + 4500 ≤ MS) (hT : T ≤ 499) (h : ∀ m1 m2 m3 m4 m5 m6 m7 m8 m9 m10 m11 m12 m13 m14 m15 m16 m17 m18 m19, kqIC m1 m2 m3 al m4 mX42_disk mX42_count mX42_runs mX42_isFull mX42_places mX42_laid m5 mX42_waiting mX42_states mX42_kept m6 m7 m8 m9 m10 mJ1_modCount mJ2_elementData mJ2_size m11 m12 m13 m14 m15 m16 m17 m18 m19 mJ23_expectedModCount mJ23_this_0 sa x (T + 1) ((kdCo S n).2) → post (kdCo S n).1 m1 m2 m3 m4 m5 m6 m7 m8 m9 m10 m11 m12 m13 m14 m15 m16 m17 m18 m19) : wpKD_X42_commit MC MS post kd an ai ar mX42_disk mX42_count mX42_runs mX42_places mX42_laid mX42_changed mX42_waiting mX42_states mX43_number mX43_sectors mX63_bytes mX64_to mX64_sector mJ1_modCount mJ2_elementData mJ2_size mJ5_elements mJ5_head mJ5_tail mJ22_cursor mJ22_remaining mJ22_lastRet mJ22_this_0 mJ23_cursor mJ23_lastRet mJ23_expectedModCount mJ23_this_0 sa x n := by
  obtain ⟨O, H⟩ := R
  obtain ⟨h1, h2, h3, h4, h5, h6, h7, h8, h9⟩ := id H
  have cb := cntI_b (fun i => ¬ S.ld (2 + i) = 0) 46
  exact CKD_commit (BB := T.toNat) (by omega) (by omega) (by omega) h3.1 hM O (fun m1 m2 m3 m4 m5 m6 m7 m8 m9 m10 m11 m12 m13 m14 m15 m16 m17 m18 m19 O' => h _ _ _ _ _ _ _ _ _ _ _ _ _ _ _ _ _ _ _ ⟨O', H.commit hT⟩)
theorem QKD_sync {post : Int → (Nat → Int → Int) → (Nat → Int → Option Nat) → (Nat → Int) → Prop} (R : kqIC kd an ai al ar mX42_disk mX42_count mX42_runs mX42_isFull mX42_places mX42_laid mX42_changed mX42_waiting mX42_states mX42_kept mX43_number mX43_sectors mX63_bytes mX64_to mX64_sector mJ1_modCount mJ2_elementData mJ2_size mJ5_elements mJ5_head mJ5_tail mJ22_cursor mJ22_remaining mJ22_lastRet mJ22_this_0 mJ23_cursor mJ23_lastRet mJ23_expectedModCount mJ23_this_0 sa x T S) (h : ∀ m1 m2 m3, kqIC kd an m1 al m2 mX42_disk mX42_count mX42_runs mX42_isFull mX42_places mX42_laid mX42_changed mX42_waiting mX42_states mX42_kept mX43_number mX43_sectors mX63_bytes mX64_to mX64_sector mJ1_modCount mJ2_elementData mJ2_size mJ5_elements m3 mJ5_tail mJ22_cursor mJ22_remaining mJ22_lastRet mJ22_this_0 mJ23_cursor mJ23_lastRet mJ23_expectedModCount mJ23_this_0 sa x T ((kdSy S).2) → post (kdSy S).1 m1 m2 m3) : wpKD_X42_sync post kd an ai ar mX42_disk mX42_runs mX42_waiting mX42_states mX43_number mX63_bytes mX64_to mX64_sector mJ5_elements mJ5_head mJ5_tail x  := by
  obtain ⟨O, H⟩ := R
  exact CKD_sync O (fun m1 m2 m3 O' => h _ _ _ ⟨O', H.sync⟩)
theorem QKD_cut {post : (Nat → Nat) → (Nat → Nat) → (Nat → Int → Int) → (Nat → Int → Option Nat) → (Nat → Int) → (Nat → Int) → (Nat → Int) → (Nat → Int) → (Nat → Int) → (Nat → Int) → (Nat → Option Nat) → (Nat → Int) → (Nat → Int) → Prop} (R : kqIC kd an ai al ar mX42_disk mX42_count mX42_runs mX42_isFull mX42_places mX42_laid mX42_changed mX42_waiting mX42_states mX42_kept mX43_number mX43_sectors mX63_bytes mX64_to mX64_sector mJ1_modCount mJ2_elementData mJ2_size mJ5_elements mJ5_head mJ5_tail mJ22_cursor mJ22_remaining mJ22_lastRet mJ22_this_0 mJ23_cursor mJ23_lastRet mJ23_expectedModCount mJ23_this_0 sa x T S) (hM : 2 ≤ MC ∧ 12 ≤ MS) (hT : T ≤ 499) (h : ∀ m1 m2 m3 m4 m5 m6 m7 m8 m9 m10 m11 m12 m13, kqIC m1 m2 m3 al m4 mX42_disk mX42_count m5 mX42_isFull mX42_places mX42_laid m6 mX42_waiting mX42_states mX42_kept m7 m8 mX63_bytes mX64_to mX64_sector m9 mJ2_elementData m10 m11 m12 m13 mJ22_cursor mJ22_remaining mJ22_lastRet mJ22_this_0 mJ23_cursor mJ23_lastRet mJ23_expectedModCount mJ23_this_0 sa x (T + 1) ((kdCu S keep tear)) → post  m1 m2 m3 m4 m5 m6 m7 m8 m9 m10 m11 m12 m13) : wpKD_X42_cut MC MS post kd an ai ar mX42_disk mX42_runs mX42_places mX42_laid mX42_changed mX42_waiting mX42_states mX42_kept mX43_number mX43_sectors mX63_bytes mX64_to mX64_sector mJ1_modCount mJ2_elementData mJ2_size mJ5_elements mJ5_head mJ5_tail sa x keep tear := by
  obtain ⟨O, H⟩ := R
  have mo := H.2.2.2.2.2.2.2.2
  exact CKD_cut hM (by omega) O (fun m1 m2 m3 m4 m5 m6 m7 m8 m9 m10 m11 m12 m13 O' => h _ _ _ _ _ _ _ _ _ _ _ _ _ ⟨O', H.cut hT⟩)
theorem QKD_start {post : Int → (Nat → Nat) → (Nat → Nat) → (Nat → Int → Int) → (Nat → Int → Option Nat) → (Nat → Int) → (Nat → Int) → (Nat → Int) → (Nat → Int) → (Nat → Option Nat) → (Nat → Int) → (Nat → Int) → (Nat → Option Nat) → (Nat → Int) → (Nat → Int) → Prop} (R : kqIC kd an ai al ar mX42_disk mX42_count mX42_runs mX42_isFull mX42_places mX42_laid mX42_changed mX42_waiting mX42_states mX42_kept mX43_number mX43_sectors mX63_bytes mX64_to mX64_sector mJ1_modCount mJ2_elementData mJ2_size mJ5_elements mJ5_head mJ5_tail mJ22_cursor mJ22_remaining mJ22_lastRet mJ22_this_0 mJ23_cursor mJ23_lastRet mJ23_expectedModCount mJ23_this_0 sa x T S) (hM : 400 ≤ MC ∧ 6500 ≤ MS) (hT : T ≤ 499) (h : ∀ m1 m2 m3 m4 m5 m6 m7 m8 m9 m10 m11 m12 m13 m14, kqIC m1 m2 m3 al m4 mX42_disk mX42_count m5 mX42_isFull mX42_places mX42_laid m6 mX42_waiting mX42_states mX42_kept m7 m8 m9 mX64_to mX64_sector m10 mJ2_elementData m11 m12 m13 m14 mJ22_cursor mJ22_remaining mJ22_lastRet mJ22_this_0 mJ23_cursor mJ23_lastRet mJ23_expectedModCount mJ23_this_0 sa x (T + 1) ((kdSt2 S).2) → post (kdSt2 S).1 m1 m2 m3 m4 m5 m6 m7 m8 m9 m10 m11 m12 m13 m14) : wpKD_X42_start MC MS post kd an ai ar mX42_disk mX42_count mX42_runs mX42_places mX42_laid mX42_changed mX42_waiting mX42_states mX42_kept mX43_number mX43_sectors mX63_bytes mJ1_modCount mJ2_elementData mJ2_size mJ5_elements mJ5_head mJ5_tail sa x  := by
  obtain ⟨O, H⟩ := R
  have mo := H.2.2.2.2.2.2.2.2
  exact CKD_start hM O (by omega) (fun m1 m2 m3 m4 m5 m6 m7 m8 m9 m10 m11 m12 m13 m14 O' => h _ _ _ _ _ _ _ _ _ _ _ _ _ _ ⟨O', H.start hT⟩)
theorem QKD_full {post : Int → (Nat → Int) → Prop} (R : kqIC kd an ai al ar mX42_disk mX42_count mX42_runs mX42_isFull mX42_places mX42_laid mX42_changed mX42_waiting mX42_states mX42_kept mX43_number mX43_sectors mX63_bytes mX64_to mX64_sector mJ1_modCount mJ2_elementData mJ2_size mJ5_elements mJ5_head mJ5_tail mJ22_cursor mJ22_remaining mJ22_lastRet mJ22_this_0 mJ23_cursor mJ23_lastRet mJ23_expectedModCount mJ23_this_0 sa x T S) (hv : v = 0 ∨ v = 1) (h : ∀ m1, kqIC kd an ai al ar mX42_disk mX42_count mX42_runs m1 mX42_places mX42_laid mX42_changed mX42_waiting mX42_states mX42_kept mX43_number mX43_sectors mX63_bytes mX64_to mX64_sector mJ1_modCount mJ2_elementData mJ2_size mJ5_elements mJ5_head mJ5_tail mJ22_cursor mJ22_remaining mJ22_lastRet mJ22_this_0 mJ23_cursor mJ23_lastRet mJ23_expectedModCount mJ23_this_0 sa x T ((kqFull v S).2) → post (kqFull v S).1 m1) : wpKD_X42_full post mX42_isFull x v := by
  obtain ⟨O, H⟩ := R
  exact CKD_full hv H.2.2.2.2.1 O (fun m1 O' => h _ ⟨O', H.full hv⟩)
theorem QKD_poke {post : Int → (Nat → Nat) → (Nat → Int → Int) → (Nat → Int) → (Nat → Int) → (Nat → Int) → (Nat → Option Nat) → (Nat → Int) → (Nat → Int) → Prop} (R : kqIC kd an ai al ar mX42_disk mX42_count mX42_runs mX42_isFull mX42_places mX42_laid mX42_changed mX42_waiting mX42_states mX42_kept mX43_number mX43_sectors mX63_bytes mX64_to mX64_sector mJ1_modCount mJ2_elementData mJ2_size mJ5_elements mJ5_head mJ5_tail mJ22_cursor mJ22_remaining mJ22_lastRet mJ22_this_0 mJ23_cursor mJ23_lastRet mJ23_expectedModCount mJ23_this_0 sa x T S) (hM : 1 ≤ MC ∧ 4 ≤ MS) (h : ∀ m1 m2 m3 m4 m5 m6 m7 m8, kqIC m1 an m2 al ar mX42_disk mX42_count mX42_runs mX42_isFull mX42_places mX42_laid mX42_changed mX42_waiting mX42_states mX42_kept mX43_number mX43_sectors mX63_bytes mX64_to mX64_sector mJ1_modCount mJ2_elementData mJ2_size mJ5_elements mJ5_head mJ5_tail m3 m4 m5 m6 m7 m8 mJ23_expectedModCount mJ23_this_0 sa x T ((kdPk S p i mask).2) → post (kdPk S p i mask).1 m1 m2 m3 m4 m5 m6 m7 m8) : wpKD_X42_poke MC MS post kd an ai ar mX42_disk mX42_runs mX42_places mX42_laid mX42_waiting mX64_to mJ1_modCount mJ2_elementData mJ2_size mJ5_elements mJ5_head mJ5_tail mJ22_cursor mJ22_remaining mJ22_lastRet mJ22_this_0 mJ23_cursor mJ23_lastRet mJ23_expectedModCount mJ23_this_0 x p i mask := by
  obtain ⟨O, H⟩ := R
  exact CKD_poke hM O (fun m1 m2 m3 m4 m5 m6 m7 m8 O' => h _ _ _ _ _ _ _ _ ⟨O', H.poke⟩)
theorem QKD_wrong {post : Int → (Nat → Nat) → (Nat → Nat) → (Nat → Int → Int) → (Nat → Option Nat) → (Nat → Int) → (Nat → Int) → (Nat → Int) → (Nat → Option Nat) → (Nat → Int) → (Nat → Int) → Prop} (R : kqIC kd an ai al ar mX42_disk mX42_count mX42_runs mX42_isFull mX42_places mX42_laid mX42_changed mX42_waiting mX42_states mX42_kept mX43_number mX43_sectors mX63_bytes mX64_to mX64_sector mJ1_modCount mJ2_elementData mJ2_size mJ5_elements mJ5_head mJ5_tail mJ22_cursor mJ22_remaining mJ22_lastRet mJ22_this_0 mJ23_cursor mJ23_lastRet mJ23_expectedModCount mJ23_this_0 sa x T S) (hM : 90 ≤ MC ∧ 1110 ≤ MS) (h : ∀ m1 m2 m3 m4 m5 m6 m7 m8 m9 m10, kqIC m1 m2 m3 al ar mX42_disk mX42_count mX42_runs mX42_isFull mX42_places mX42_laid mX42_changed mX42_waiting mX42_states mX42_kept mX43_number mX43_sectors m4 mX64_to mX64_sector mJ1_modCount mJ2_elementData mJ2_size mJ5_elements mJ5_head mJ5_tail m5 m6 m7 m8 m9 m10 mJ23_expectedModCount mJ23_this_0 sa x T S → post (kqWrong what S) m1 m2 m3 m4 m5 m6 m7 m8 m9 m10) : wpKD_X42_wrong MC MS post kd an ai ar mX42_disk mX42_runs mX42_places mX42_laid mX42_waiting mX63_bytes mX64_to mX64_sector mJ1_modCount mJ2_elementData mJ2_size mJ5_elements mJ5_head mJ5_tail mJ22_cursor mJ22_remaining mJ22_lastRet mJ22_this_0 mJ23_cursor mJ23_lastRet mJ23_expectedModCount mJ23_this_0 x what := by
  obtain ⟨O, H⟩ := R
  exact CKD_wrong hM O (fun m1 m2 m3 m4 m5 m6 m7 m8 m9 m10 O' => h _ _ _ _ _ _ _ _ _ _ ⟨O', H⟩)
theorem QKD_backup {post : Int → (Nat → Nat) → (Nat → Nat) → (Nat → Int → Option Nat) → (Nat → Int) → (Nat → Option Nat) → (Nat → Int) → Prop} (R : kqIC kd an ai al ar mX42_disk mX42_count mX42_runs mX42_isFull mX42_places mX42_laid mX42_changed mX42_waiting mX42_states mX42_kept mX43_number mX43_sectors mX63_bytes mX64_to mX64_sector mJ1_modCount mJ2_elementData mJ2_size mJ5_elements mJ5_head mJ5_tail mJ22_cursor mJ22_remaining mJ22_lastRet mJ22_this_0 mJ23_cursor mJ23_lastRet mJ23_expectedModCount mJ23_this_0 sa x T S) (hM : 1 ≤ MC ∧ 20 ≤ MS) (hT : T ≤ 499) (h : ∀ m1 m2 m3 m4 m5 m6, kqIC m1 m2 ai al m3 mX42_disk mX42_count mX42_runs mX42_isFull mX42_places mX42_laid mX42_changed mX42_waiting mX42_states mX42_kept mX43_number mX43_sectors mX63_bytes mX64_to mX64_sector m4 m5 m6 mJ5_elements mJ5_head mJ5_tail mJ22_cursor mJ22_remaining mJ22_lastRet mJ22_this_0 mJ23_cursor mJ23_lastRet mJ23_expectedModCount mJ23_this_0 sa x (T + 1) ((kdBk S v).2) → post (kdBk S v).1 m1 m2 m3 m4 m5 m6) : wpKD_X42_backup MC MS post kd an ar mX42_runs mX42_states mX42_kept mX43_number mX43_sectors mJ1_modCount mJ2_elementData mJ2_size mJ5_elements mJ5_tail sa x v := by
  obtain ⟨O, H⟩ := R
  have mo := H.2.2.2.2.2.2.2.2
  exact CKD_backup hM (by omega) O (fun m1 m2 m3 m4 m5 m6 O' => h _ _ _ _ _ _ ⟨O', H.backup hT⟩)
theorem QKD_drop {post : Int → (Nat → Nat) → (Nat → Int → Option Nat) → (Nat → Int) → (Nat → Int) → (Nat → Int) → (Nat → Int) → (Nat → Int) → (Nat → Option Nat) → (Nat → Int) → (Nat → Int) → (Nat → Int) → (Nat → Option Nat) → Prop} (R : kqIC kd an ai al ar mX42_disk mX42_count mX42_runs mX42_isFull mX42_places mX42_laid mX42_changed mX42_waiting mX42_states mX42_kept mX43_number mX43_sectors mX63_bytes mX64_to mX64_sector mJ1_modCount mJ2_elementData mJ2_size mJ5_elements mJ5_head mJ5_tail mJ22_cursor mJ22_remaining mJ22_lastRet mJ22_this_0 mJ23_cursor mJ23_lastRet mJ23_expectedModCount mJ23_this_0 sa x T S) (hM : 6 ≤ MC ∧ 24 ≤ MS) (hT : T ≤ 499) (h : ∀ m1 m2 m3 m4 m5 m6 m7 m8 m9 m10 m11 m12, kqIC m1 an ai al m2 mX42_disk mX42_count mX42_runs mX42_isFull mX42_places mX42_laid mX42_changed mX42_waiting mX42_states mX42_kept mX43_number mX43_sectors mX63_bytes mX64_to mX64_sector m3 mJ2_elementData m4 mJ5_elements mJ5_head mJ5_tail m5 m6 m7 m8 m9 m10 m11 m12 sa x (T + 1) ((kdDp S v).2) → post (kdDp S v).1 m1 m2 m3 m4 m5 m6 m7 m8 m9 m10 m11 m12) : wpKD_X42_drop MC MS post kd an ai ar mX42_runs mX42_places mX42_waiting mX42_states mX42_kept mX43_number mX43_sectors mX64_to mJ1_modCount mJ2_elementData mJ2_size mJ5_elements mJ5_head mJ5_tail mJ22_cursor mJ22_remaining mJ22_lastRet mJ22_this_0 mJ23_cursor mJ23_lastRet mJ23_expectedModCount mJ23_this_0 x v := by
  obtain ⟨O, H⟩ := R
  have mo := H.2.2.2.2.2.2.2.2
  exact CKD_drop hM (by omega) O (fun s a b => H.2.2.2.1.2 s a b) (fun m1 m2 m3 m4 m5 m6 m7 m8 m9 m10 m11 m12 O' => h _ _ _ _ _ _ _ _ _ _ _ _ ⟨O', H.drop hT⟩)
end
