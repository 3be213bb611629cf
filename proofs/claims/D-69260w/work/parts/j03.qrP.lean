/-! QlRewrite, plain: atoms, what is freed, names -/
abbrev qA : Type := Int × Int × Int
noncomputable def qSu (V : Int → Prop) (v : Int) : Int := pif (V v) 6 v
noncomputable def qSt (V : Int → Prop) (t : qA) : qA := (t.1, qSu V t.2.1, qSu V t.2.2)
def qHas (t : qA) (v : Int) : Prop := t.2.1 = v ∨ t.2.2 = v
def qOne (t : qA) (v : Int) : Prop := (t.2.1 = v ∧ ¬ t.2.2 = v) ∨ (¬ t.2.1 = v ∧ t.2.2 = v)
/-- a variable that is no answer -/
def qOt (a b v : Int) : Prop := ¬ v = 6 ∧ ¬ v = 7 ∧ ¬ v = a ∧ ¬ v = b
/-- it stands once -/
def qLo (a b : Int) (T : qA → Prop) (v : Int) : Prop := qOt a b v ∧ ∃ t, T t ∧ qOne t v ∧ ∀ t', T t' → qHas t' v → t' = t
def qIm (V : Int → Prop) (T : qA → Prop) : qA → Prop := fun t => ∃ s, T s ∧ t = qSt V s
/-- freed one after the other -/
def qRe (a b : Int) (T : qA → Prop) : Nat → (Int → Prop) → Prop
  | 0, V => ∀ v, ¬ V v
  | k + 1, V => ∃ U v, qRe a b T k U ∧ qLo a b (qIm U T) v ∧ ∀ w, V w ↔ U w ∨ w = v
def qNf (a b : Int) (T N : qA → Prop) : Prop := ∃ k V, qRe a b T k V ∧ (∀ v, ¬ qLo a b (qIm V T) v) ∧ ∀ t, N t ↔ qIm V T t
section
variable {V W U : Int → Prop} {T N M : qA → Prop} {a b v w : Int} {t s : qA}
theorem qSu_t (h : V v) : qSu V v = 6 := pif_t h
theorem qSu_f (h : ¬ V v) : qSu V v = v := pif_f h
theorem qSu_v (hv : ¬ v = 6) (h : qSu V w = v) : w = v ∧ ¬ V v := by
  by_cases z : V w
  · rw [qSu_t z] at h; exact absurd h.symm hv
  · rw [qSu_f z] at h; exact ⟨h, by rw [← h]; exact z⟩
theorem qSu_m (hVW : ∀ v, V v → W v) : qSu W (qSu V v) = qSu W v := by
  by_cases z : V v
  · rw [qSu_t z, qSu_t (hVW v z)]
    by_cases y : W 6
    · exact qSu_t y
    · exact qSu_f y
  · rw [qSu_f z]
theorem qSt_m (hVW : ∀ v, V v → W v) : qSt W (qSt V t) = qSt W t := by
  unfold qSt
  dsimp only
  rw [qSu_m hVW, qSu_m hVW]
theorem qSt_h (hv : ¬ v = 6) : qHas (qSt V t) v ↔ qHas t v ∧ ¬ V v := by
  unfold qHas qSt
  dsimp only
  constructor
  · rintro (h | h)
    · exact ⟨Or.inl (qSu_v hv h).1, (qSu_v hv h).2⟩
    · exact ⟨Or.inr (qSu_v hv h).1, (qSu_v hv h).2⟩
  · rintro ⟨h | h, n⟩
    · left; rw [h]; exact qSu_f n
    · right; rw [h]; exact qSu_f n
theorem qSt_o (hv : ¬ v = 6) (n : ¬ V v) : qOne (qSt V t) v ↔ qOne t v := by
  have e : ∀ x, qSu V x = v ↔ x = v := fun x => ⟨fun h => (qSu_v hv h).1, fun h => by rw [h]; exact qSu_f n⟩
  unfold qOne qSt
  dsimp only
  rw [e, e]
/-- what stands once stays so -/
theorem qLo_m (hVW : ∀ v, V v → W v) (h : qLo a b (qIm V T) v) : W v ∨ qLo a b (qIm W T) v := by
  by_cases z : W v
  · exact Or.inl z
  · right
    obtain ⟨ho, t, ⟨s, hs, et⟩, h1, h2⟩ := h
    have nV : ¬ V v := fun y => z (hVW v y)
    have h6 := ho.1
    refine ⟨ho, qSt W s, ⟨s, hs, rfl⟩, (qSt_o h6 z).2 ?_, ?_⟩
    · rw [et] at h1; exact (qSt_o h6 nV).1 h1
    · rintro t' ⟨s', hs', et'⟩ hh
      rw [et'] at hh ⊢
      have e := h2 (qSt V s') ⟨s', hs', rfl⟩ ((qSt_h h6).2 ⟨((qSt_h h6).1 hh).1, nV⟩)
      rw [← qSt_m hVW (t := s'), e, et, qSt_m hVW]
theorem qRe_le (hW : ∀ v, ¬ qLo a b (qIm W T) v) : ∀ (k : Nat) (V : Int → Prop), qRe a b T k V → ∀ v, V v → W v
  | 0, V, h, v, hv => absurd hv (h v)
  | k + 1, V, h, v, hv => by
    obtain ⟨U, u, h1, h2, h3⟩ := h
    have ih := qRe_le hW k U h1
    rcases (h3 v).1 hv with z | z
    · exact ih v z
    · rw [z]
      exact (qLo_m ih h2).resolve_right (hW u)
theorem qIm_c (h : ∀ v, V v ↔ W v) : qIm V T t ↔ qIm W T t := by
  have e : V = W := funext fun v => propext (h v)
  rw [e]
theorem qNf_u (h : qNf a b T N) (g : qNf a b T M) : N t ↔ M t := by
  obtain ⟨k, V, h1, h2, h3⟩ := h
  obtain ⟨l, W, g1, g2, g3⟩ := g
  rw [h3, g3]
  exact qIm_c (fun v => ⟨qRe_le g2 k V h1 v, qRe_le h2 l W g1 v⟩)
/-- with other numbers for the variables -/
def qTr (f : Int → Int) (t : qA) : qA := (t.1, f t.2.1, f t.2.2)
def qIg (f : Int → Int) (T : qA → Prop) : qA → Prop := fun t => ∃ s, T s ∧ t = qTr f s
section
variable {f : Int → Int} (hi : ∀ x y, f x = f y → x = y) (h6 : f 6 = 6) (h7 : f 7 = 7)
def qIv (f : Int → Int) (V : Int → Prop) : Int → Prop := fun w => ∃ v, V v ∧ w = f v
theorem qIv_f (hi : ∀ x y, f x = f y → x = y) : qIv f V (f v) ↔ V v := ⟨fun ⟨u, h, e⟩ => by rw [hi _ _ e]; exact h, fun h => ⟨v, h, rfl⟩⟩
theorem qSu_r (hi : ∀ x y, f x = f y → x = y) (h6 : f 6 = 6) : qSu (qIv f V) (f v) = f (qSu V v) := by
  by_cases z : V v
  · rw [qSu_t z, qSu_t ((qIv_f hi).2 z), h6]
  · rw [qSu_f z, qSu_f (fun y => z ((qIv_f hi).1 y))]
theorem qSt_r (hi : ∀ x y, f x = f y → x = y) (h6 : f 6 = 6) : qSt (qIv f V) (qTr f t) = qTr f (qSt V t) := by
  unfold qSt qTr
  dsimp only
  rw [qSu_r hi h6, qSu_r hi h6]
theorem qIm_r (hi : ∀ x y, f x = f y → x = y) (h6 : f 6 = 6) : qIm (qIv f V) (qIg f T) t ↔ qIg f (qIm V T) t := by
  constructor
  · rintro ⟨s, ⟨u, hu, rfl⟩, rfl⟩
    exact ⟨qSt V u, ⟨u, hu, rfl⟩, qSt_r hi h6⟩
  · rintro ⟨s, ⟨u, hu, rfl⟩, rfl⟩
    exact ⟨qTr f u, ⟨u, hu, rfl⟩, (qSt_r hi h6).symm⟩
theorem qTr_h (hi : ∀ x y, f x = f y → x = y) : qHas (qTr f t) (f v) ↔ qHas t v := or_congr ⟨hi _ _, fun h => congrArg f h⟩ ⟨hi _ _, fun h => congrArg f h⟩
theorem qTr_o (hi : ∀ x y, f x = f y → x = y) : qOne (qTr f t) (f v) ↔ qOne t v := by
  have e : ∀ x, f x = f v ↔ x = v := fun x => ⟨hi _ _, fun h => congrArg f h⟩
  unfold qOne qTr
  dsimp only
  rw [e, e]
theorem qTr_i (hi : ∀ x y, f x = f y → x = y) (h : qTr f t = qTr f s) : t = s := by
  unfold qTr at h
  obtain ⟨t1, t2, t3⟩ := t
  obtain ⟨s1, s2, s3⟩ := s
  injection h with e1 e2
  injection e2 with e3 e4
  dsimp only at e1 e3 e4
  rw [e1, hi _ _ e3, hi _ _ e4]
theorem qOt_r (hi : ∀ x y, f x = f y → x = y) (h6 : f 6 = 6) (h7 : f 7 = 7) : qOt (f a) (f b) (f v) ↔ qOt a b v := by
  unfold qOt
  have e : ∀ x, f v = f x ↔ v = x := fun x => ⟨hi _ _, fun h => congrArg f h⟩
  have e6 := e 6
  have e7 := e 7
  rw [h6] at e6
  rw [h7] at e7
  rw [e6, e7, e, e]
theorem qLo_r (hi : ∀ x y, f x = f y → x = y) (h6 : f 6 = 6) (h7 : f 7 = 7) : qLo (f a) (f b) (qIg f T) (f v) ↔ qLo a b T v := by
  unfold qLo
  refine and_congr (qOt_r hi h6 h7) ⟨?_, ?_⟩
  · rintro ⟨t, ⟨s, hs, rfl⟩, h1, h2⟩
    exact ⟨s, hs, (qTr_o hi).1 h1, fun t' ht' hh => qTr_i hi (h2 _ ⟨t', ht', rfl⟩ ((qTr_h hi).2 hh))⟩
  · rintro ⟨t, ht, h1, h2⟩
    refine ⟨qTr f t, ⟨t, ht, rfl⟩, (qTr_o hi).2 h1, ?_⟩
    rintro t' ⟨s, hs, rfl⟩ hh
    rw [h2 s hs ((qTr_h hi).1 hh)]
/-- what stands once is some number's -/
theorem qLo_i (h : qLo a b (qIg f T) w) : ∃ v, w = f v := by
  obtain ⟨_, t, ⟨s, hs, rfl⟩, h1, _⟩ := h
  rcases h1 with h1 | h1
  · exact ⟨s.2.1, h1.1.symm⟩
  · exact ⟨s.2.2, h1.2.symm⟩
theorem qIm_rf (hi : ∀ x y, f x = f y → x = y) (h6 : f 6 = 6) : qIm (qIv f V) (qIg f T) = qIg f (qIm V T) := funext fun t => propext (qIm_r hi h6)
theorem qRe_r (hi : ∀ x y, f x = f y → x = y) (h6 : f 6 = 6) (h7 : f 7 = 7) : ∀ (k : Nat) (V : Int → Prop), qRe a b T k V → qRe (f a) (f b) (qIg f T) k (qIv f V)
  | 0, V, h => fun w ⟨v, hv, _⟩ => h v hv
  | k + 1, V, h => by
    obtain ⟨U, u, h1, h2, h3⟩ := h
    refine ⟨qIv f U, f u, qRe_r hi h6 h7 k U h1, ?_, fun w => ?_⟩
    · rw [qIm_rf hi h6]
      exact (qLo_r hi h6 h7).2 h2
    · constructor
      · rintro ⟨v, hv, rfl⟩
        rcases (h3 v).1 hv with z | z
        · exact Or.inl ⟨v, z, rfl⟩
        · right; rw [z]
      · rintro (⟨v, hv, rfl⟩ | z)
        · exact ⟨v, (h3 v).2 (Or.inl hv), rfl⟩
        · exact ⟨u, (h3 u).2 (Or.inr rfl), z⟩
theorem qNf_r (hi : ∀ x y, f x = f y → x = y) (h6 : f 6 = 6) (h7 : f 7 = 7) (h : qNf a b T N) : qNf (f a) (f b) (qIg f T) (qIg f N) := by
  obtain ⟨k, V, h1, h2, h3⟩ := h
  refine ⟨k, qIv f V, qRe_r hi h6 h7 k V h1, fun w hw => ?_, fun t => ?_⟩
  · rw [qIm_rf hi h6] at hw
    obtain ⟨v, rfl⟩ := qLo_i hw
    exact h2 v ((qLo_r hi h6 h7).1 hw)
  · rw [qIm_rf hi h6]
    exact ⟨fun ⟨s, hs, e⟩ => ⟨s, (h3 s).1 hs, e⟩, fun ⟨s, hs, e⟩ => ⟨s, (h3 s).2 hs, e⟩⟩
end
end
/-- a variable's code by names r -/
def qCo (a b : Int) (r : Int → Int) (v : Int) : Int := if v = 6 ∨ v = 7 then v else if v = a then 0 else if v = b then 1 else r v
def qCd (a b : Int) (r : Int → Int) (t : qA) : Int := 64 * t.1 + 8 * qCo a b r t.2.1 + qCo a b r t.2.2
/-- the others that stand in atoms -/
def qOc (a b : Int) (l : List qA) (v : Int) : Prop := qOt a b v ∧ ∃ t, t ∈ l ∧ qHas t v
def qNm (a b : Int) (l : List qA) (m : Int) (r : Int → Int) : Prop := (∀ v, qOc a b l v → 2 ≤ r v ∧ r v < 2 + m) ∧ ∀ v w, qOc a b l v → qOc a b l w → r v = r w → v = w
def qRow (a b : Int) (l : List qA) (r : Int → Int) (c : List Int) : Prop := c.Perm (l.map (qCd a b r)) ∧ c.Pairwise (fun x y => x ≤ y)
def qLx : List Int → List Int → Prop
  | [], _ => True
  | _ :: _, [] => False
  | x :: c, y :: d => x < y ∨ (x = y ∧ qLx c d)
/-- the least row -/
def qLs (a b : Int) (l : List qA) (c : List Int) : Prop := ∃ o : List Int, o.Nodup ∧ (∀ v, v ∈ o ↔ qOc a b l v) ∧ (∃ r, qNm a b l o.length r ∧ qRow a b l r c) ∧ ∀ r c', qNm a b l o.length r → qRow a b l r c' → qLx c c'
def qFm (a b : Int) (l0 : List qA) (c : List Int) : Prop := ∃ l : List qA, l.Nodup ∧ qNf a b (fun t => t ∈ l0) (fun t => t ∈ l) ∧ qLs a b l c
theorem qLx_a : ∀ {c d : List Int}, qLx c d → qLx d c → c = d
  | [], [], _, _ => rfl
  | [], _ :: _, _, h => h.elim
  | _ :: _, [], h, _ => h.elim
  | x :: c, y :: d, h, g => by
    rcases h with h | ⟨h1, h2⟩
    · rcases g with g | ⟨g1, _⟩
      · exact absurd (Int.lt_trans h g) (Int.lt_irrefl _)
      · rw [g1] at h; exact absurd h (Int.lt_irrefl _)
    · rcases g with g | ⟨_, g2⟩
      · rw [h1] at g; exact absurd g (Int.lt_irrefl _)
      · rw [h1, qLx_a h2 g2]
section
variable {a b v m : Int} {l l' l0 l1 : List qA} {c d : List Int} {r : Int → Int}
theorem qOc_p (h : l.Perm l') : qOc a b l v ↔ qOc a b l' v := and_congr Iff.rfl ⟨fun ⟨t, ht, q⟩ => ⟨t, h.mem_iff.1 ht, q⟩, fun ⟨t, ht, q⟩ => ⟨t, h.mem_iff.2 ht, q⟩⟩
theorem qNm_p (h : l.Perm l') (H : qNm a b l m r) : qNm a b l' m r := ⟨fun v hv => H.1 v ((qOc_p h).2 hv), fun v w hv hw => H.2 v w ((qOc_p h).2 hv) ((qOc_p h).2 hw)⟩
theorem qRow_p (h : l.Perm l') (H : qRow a b l r c) : qRow a b l' r c := ⟨H.1.trans (h.map _), H.2⟩
theorem qLs_u (h : l.Perm l') (H : qLs a b l c) (G : qLs a b l' d) : c = d := by
  obtain ⟨o, o1, o2, ⟨r, r1, r2⟩, o3⟩ := H
  obtain ⟨p, p1, p2, ⟨s, s1, s2⟩, p3⟩ := G
  have e : o.Perm p := (List.perm_ext_iff_of_nodup o1 p1).2 (fun v => (o2 v).trans ((qOc_p h).trans (p2 v).symm))
  have el : o.length = p.length := e.length_eq
  rw [el] at r1 o3
  exact qLx_a (o3 s d (qNm_p h.symm s1) (qRow_p h.symm s2)) (p3 r c (qNm_p h r1) (qRow_p h r2))
theorem qFm_u (H : qFm a b l0 c) (G : qFm a b l1 d) (e : ∀ t, t ∈ l0 ↔ t ∈ l1) : c = d := by
  obtain ⟨l, h1, h2, h3⟩ := H
  obtain ⟨l', g1, g2, g3⟩ := G
  have e' : (fun t => t ∈ l0) = (fun t => t ∈ l1) := funext fun t => propext (e t)
  rw [e'] at h2
  exact qLs_u ((List.perm_ext_iff_of_nodup h1 g1).2 (fun t => qNf_u h2 g2)) h3 g3
section
variable {f : Int → Int}
theorem qCo_r (hi : ∀ x y, f x = f y → x = y) (h6 : f 6 = 6) (h7 : f 7 = 7) {r' : Int → Int} (hr : r' (f v) = r v) : qCo (f a) (f b) r' (f v) = qCo a b r v := by
  have e : ∀ x, f v = f x ↔ v = x := fun x => ⟨hi _ _, fun h => congrArg f h⟩
  have e6 := e 6
  have e7 := e 7
  rw [h6] at e6
  rw [h7] at e7
  unfold qCo
  by_cases z : v = 6 ∨ v = 7
  · rw [if_pos z, if_pos (z.imp e6.2 e7.2)]
    rcases z with z | z
    · rw [z, h6]
    · rw [z, h7]
  · rw [if_neg z, if_neg (fun y => z (y.imp e6.1 e7.1))]
    by_cases za : v = a
    · rw [if_pos za, if_pos ((e a).2 za)]
    · rw [if_neg za, if_neg (fun y => za ((e a).1 y))]
      by_cases zb : v = b
      · rw [if_pos zb, if_pos ((e b).2 zb)]
      · rw [if_neg zb, if_neg (fun y => zb ((e b).1 y)), hr]
theorem qOc_r (hi : ∀ x y, f x = f y → x = y) (h6 : f 6 = 6) (h7 : f 7 = 7) : qOc (f a) (f b) (l.map (qTr f)) (f v) ↔ qOc a b l v := by
  refine and_congr (qOt_r hi h6 h7) ⟨?_, ?_⟩
  · rintro ⟨t, ht, q⟩
    obtain ⟨s, hs, rfl⟩ := List.mem_map.1 ht
    exact ⟨s, hs, (qTr_h hi).1 q⟩
  · rintro ⟨t, ht, q⟩
    exact ⟨qTr f t, List.mem_map.2 ⟨t, ht, rfl⟩, (qTr_h hi).2 q⟩
theorem qOc_ri {w : Int} (h : qOc a b (l.map (qTr f)) w) : ∃ v, w = f v := by
  obtain ⟨_, t, ht, q⟩ := h
  obtain ⟨s, hs, rfl⟩ := List.mem_map.1 ht
  rcases q with q | q
  · exact ⟨s.2.1, q.symm⟩
  · exact ⟨s.2.2, q.symm⟩
theorem qMap_r (hi : ∀ x y, f x = f y → x = y) (h6 : f 6 = 6) (h7 : f 7 = 7) {r' : Int → Int} (hr : ∀ v, r' (f v) = r v) : (l.map (qTr f)).map (qCd (f a) (f b) r') = l.map (qCd a b r) := by
  rw [List.map_map]
  refine List.map_congr_left (fun t ht => ?_)
  show 64 * t.1 + 8 * qCo (f a) (f b) r' (f t.2.1) + qCo (f a) (f b) r' (f t.2.2) = _
  rw [qCo_r hi h6 h7 (hr _), qCo_r hi h6 h7 (hr _)]
  rfl
theorem qLs_r (hi : ∀ x y, f x = f y → x = y) (h6 : f 6 = 6) (h7 : f 7 = 7) (H : qLs a b l c) : qLs (f a) (f b) (l.map (qTr f)) c := by
  obtain ⟨o, o1, o2, ⟨r, r1, r2⟩, o3⟩ := H
  -- numbers back
  obtain ⟨g, hg⟩ : ∃ g : Int → Int, ∀ v, g (f v) = v := by
    refine ⟨fun w => Classical.epsilon (fun v => f v = w), fun v => ?_⟩
    have e : f (Classical.epsilon (fun u => f u = f v)) = f v := Classical.epsilon_spec (p := fun u => f u = f v) ⟨v, rfl⟩
    exact hi _ _ e
  have nd : (o.map f).Nodup := by
    rw [List.Nodup, List.pairwise_map]
    exact o1.imp (fun h e => h (hi _ _ e))
  refine ⟨o.map f, nd, fun w => ?_, ⟨fun w => r (g w), ?_, ?_⟩, fun r' c' h1 h2 => ?_⟩
  · constructor
    · intro h
      obtain ⟨v, hv, rfl⟩ := List.mem_map.1 h
      exact (qOc_r hi h6 h7).2 ((o2 v).1 hv)
    · intro h
      obtain ⟨v, rfl⟩ := qOc_ri h
      exact List.mem_map.2 ⟨v, (o2 v).2 ((qOc_r hi h6 h7).1 h), rfl⟩
  · rw [List.length_map]
    refine ⟨fun w hw => ?_, fun w u hw hu e => ?_⟩
    · obtain ⟨v, rfl⟩ := qOc_ri hw
      show 2 ≤ r (g (f v)) ∧ r (g (f v)) < _
      rw [hg]; exact r1.1 v ((qOc_r hi h6 h7).1 hw)
    · obtain ⟨v, rfl⟩ := qOc_ri hw
      obtain ⟨x, rfl⟩ := qOc_ri hu
      have e' : r (g (f v)) = r (g (f x)) := e
      rw [hg, hg] at e'
      rw [r1.2 v x ((qOc_r hi h6 h7).1 hw) ((qOc_r hi h6 h7).1 hu) e']
  · refine ⟨?_, r2.2⟩
    rw [qMap_r hi h6 h7 (r := r) (fun v => by show r (g (f v)) = r v; rw [hg])]
    exact r2.1
  · rw [List.length_map] at h1
    refine o3 (fun v => r' (f v)) c' ⟨fun v hv => h1.1 (f v) ((qOc_r hi h6 h7).2 hv), fun v w hv hw e => hi _ _ (h1.2 (f v) (f w) ((qOc_r hi h6 h7).2 hv) ((qOc_r hi h6 h7).2 hw) e)⟩ ⟨?_, h2.2⟩
    have h3 := h2.1
    rw [qMap_r hi h6 h7 (r := fun v => r' (f v)) (fun v => rfl)] at h3
    exact h3
theorem qFm_r (hi : ∀ x y, f x = f y → x = y) (h6 : f 6 = 6) (h7 : f 7 = 7) (H : qFm a b l0 c) : qFm (f a) (f b) (l0.map (qTr f)) c := by
  obtain ⟨l, h1, h2, h3⟩ := H
  have em : ∀ k : List qA, (fun t => t ∈ k.map (qTr f)) = qIg f (fun t => t ∈ k) := fun k => funext fun t => propext ⟨fun h => by
    obtain ⟨s, hs, e⟩ := List.mem_map.1 h
    exact ⟨s, hs, e.symm⟩, fun ⟨s, hs, e⟩ => List.mem_map.2 ⟨s, hs, e.symm⟩⟩
  refine ⟨l.map (qTr f), ?_, ?_, qLs_r hi h6 h7 h3⟩
  · rw [List.Nodup, List.pairwise_map]
    exact h1.imp (fun h e => h (qTr_i hi e))
  · rw [em, em]
    exact qNf_r hi h6 h7 h2
end
end

/-! rows as lists, plain -/
def aF {α : Type} (f : Int → α) (k : Int) : Nat → List α
  | 0 => []
  | m + 1 => f k :: aF f (k + 1) m
section
variable {α β : Type} {f g : Int → α} {k i : Int} {v : α}
theorem aF_len : ∀ (m : Nat) (k : Int), (aF f k m).length = m
  | 0, _ => rfl
  | m + 1, k => by rw [aF, List.length_cons, aF_len m (k + 1)]
theorem aF_c : ∀ (m : Nat) (k : Int), (∀ i, k ≤ i → i < k + m → f i = g i) → aF f k m = aF g k m
  | 0, _, _ => rfl
  | m + 1, k, h => by rw [aF, aF, h k (Int.le_refl _) (by omega), aF_c m (k + 1) (fun i i0 i1 => h i (by omega) (by omega))]
theorem aF_mem : ∀ (m : Nat) (k : Int), v ∈ aF f k m ↔ ∃ i, (k ≤ i ∧ i < k + m) ∧ v = f i
  | 0, k => ⟨fun h => absurd h (by rw [aF]; simp), fun ⟨i, h, _⟩ => by omega⟩
  | m + 1, k => by
    rw [aF, List.mem_cons, aF_mem m (k + 1)]
    constructor
    · rintro (h | ⟨i, h, e⟩)
      · exact ⟨k, by omega, h⟩
      · exact ⟨i, by omega, e⟩
    · rintro ⟨i, h, e⟩
      by_cases z : i = k
      · left; rw [e, z]
      · exact Or.inr ⟨i, by omega, e⟩
theorem aF_map (h : α → β) : ∀ (m : Nat) (k : Int), (aF f k m).map h = aF (fun i => h (f i)) k m
  | 0, _ => rfl
  | m + 1, k => by rw [aF, aF, List.map_cons, aF_map h m (k + 1)]
theorem aF_pw {R : α → α → Prop} : ∀ (m : Nat) (k : Int), (∀ i j, k ≤ i → i < j → j < k + m → R (f i) (f j)) → (aF f k m).Pairwise R
  | 0, _, _ => List.Pairwise.nil
  | m + 1, k, h => by
    rw [aF]
    refine List.Pairwise.cons (fun v hv => ?_) (aF_pw m (k + 1) (fun i j i0 ij j1 => h i j (by omega) ij (by omega)))
    obtain ⟨j, hj, e⟩ := (aF_mem m (k + 1)).1 hv
    rw [e]; exact h k j (Int.le_refl _) (by omega) (by omega)
theorem aF_get {d : α} : ∀ (m : Nat) (k : Int) (i : Nat), i < m → (aF f k m).getD i d = f (k + i)
  | 0, _, _, h => by omega
  | m + 1, k, 0, _ => by rw [aF, show k + ((0 : Nat) : Int) = k by omega]; rfl
  | m + 1, k, i + 1, h => by
    rw [aF, show k + ((i + 1 : Nat) : Int) = k + 1 + (i : Nat) by omega, ← aF_get m (k + 1) i (by omega)]
    rfl
/-- two that stand beside one another change places -/
theorem aF_sw {f' : Int → α} (h0 : f' i = f (i + 1)) (h1 : f' (i + 1) = f i) (h2 : ∀ j, ¬ j = i → ¬ j = i + 1 → f' j = f j) : ∀ (m : Nat) (k : Int), k ≤ i → i + 1 < k + m → (aF f' k m).Perm (aF f k m)
  | 0, _, _, h => by omega
  | 1, _, _, h => by omega
  | m + 2, k, hk, hm => by
    by_cases z : k = i
    · subst z
      rw [aF, aF, aF, aF, h0, h1, aF_c m (k + 1 + 1) (fun j j0 j1 => h2 j (by omega) (by omega))]
      exact List.Perm.swap _ _ _
    · rw [aF, h2 k z (by omega)]
      show List.Perm _ (aF f k (m + 1 + 1))
      rw [aF]
      exact (aF_sw h0 h1 h2 (m + 1) (k + 1) (by omega) (by omega)).cons _
theorem aF_s : ∀ (m : Nat) (k : Int), aF f k (m + 1) = aF f k m ++ [f (k + m)]
  | 0, k => by rw [aF, aF, aF, show k + ((0 : Nat) : Int) = k by omega]; rfl
  | m + 1, k => by
    rw [aF, aF_s m (k + 1)]
    show f k :: (aF f (k + 1) m ++ _) = (aF f k (m + 1)) ++ _
    rw [aF, List.cons_append, show k + 1 + (m : Int) = k + ((m + 1 : Nat) : Int) by omega]
end
section
variable {f g : Int → Int} {k n : Int}
/-- rows by their first difference -/
theorem qLx_1 : ∀ (m : Nat) (s : Int), s ≤ k → (∀ i, s ≤ i → i < k → f i = g i) → (s + m ≤ k ∨ (k < s + m ∧ f k < g k)) → qLx (aF f s m) (aF g s m)
  | 0, _, _, _, _ => trivial
  | m + 1, s, hs, he, h => by
    rw [aF, aF]
    by_cases z : s = k
    · left
      rw [z]
      rcases h with h | h
      · omega
      · exact h.2
    · right
      exact ⟨he s (Int.le_refl _) (by omega), qLx_1 m (s + 1) (by omega) (fun i i0 i1 => he i (by omega) i1) (by omega)⟩
theorem qLx_t : ∀ {a b c : List Int}, qLx a b → qLx b c → qLx a c
  | [], _, _, _, _ => trivial
  | _ :: _, [], _, h, _ => h.elim
  | _ :: _, _ :: _, [], _, h => h.elim
  | x :: a, y :: b, z :: c, h, g => by
    rcases h with h | ⟨h, h'⟩
    · rcases g with g | ⟨g, _⟩
      · exact Or.inl (Int.lt_trans h g)
      · left; rw [← g]; exact h
    · rcases g with g | ⟨g, g'⟩
      · left; rw [h]; exact g
      · exact Or.inr ⟨h.trans g, qLx_t h' g'⟩
end

/-! rows as lists, plain (2) -/
theorem aF_eq {α : Type} {f g : Int → α} : ∀ (m p : Nat) (k s : Int), aF f k m = aF g s p ↔ m = p ∧ ∀ i : Int, 0 ≤ i → i < m → f (k + i) = g (s + i)
  | 0, 0, _, _ => ⟨fun _ => ⟨rfl, fun i i0 i1 => by omega⟩, fun _ => rfl⟩
  | 0, p + 1, _, _ => ⟨fun h => by rw [aF, aF] at h; exact absurd h (by simp), fun h => absurd h.1 (by omega)⟩
  | m + 1, 0, _, _ => ⟨fun h => by rw [aF, aF] at h; exact absurd h (by simp), fun h => absurd h.1 (by omega)⟩
  | m + 1, p + 1, k, s => by
    rw [aF, aF, List.cons.injEq, aF_eq m p (k + 1) (s + 1)]
    constructor
    · rintro ⟨h0, hm, h1⟩
      refine ⟨by omega, fun i i0 i1 => ?_⟩
      by_cases z : i = 0
      · rw [z, Int.add_zero, Int.add_zero]; exact h0
      · have := h1 (i - 1) (by omega) (by omega)
        rw [show k + 1 + (i - 1) = k + i by omega, show s + 1 + (i - 1) = s + i by omega] at this
        exact this
    · rintro ⟨hm, h1⟩
      refine ⟨by have := h1 0 (by decide) (by omega); rw [Int.add_zero, Int.add_zero] at this; exact this, by omega, fun i i0 i1 => ?_⟩
      have := h1 (i + 1) (by omega) (by omega)
      rw [show k + 1 + i = k + (i + 1) by omega, show s + 1 + i = s + (i + 1) by omega]
      exact this
theorem qLx_r : ∀ l : List Int, qLx l l
  | [] => trivial
  | _ :: l => Or.inr ⟨rfl, qLx_r l⟩
/-- one put into a sorted row -/
theorem aF_ap {α : Type} {f : Int → α} : ∀ (m p : Nat) (k : Int), aF f k (m + p) = aF f k m ++ aF f (k + m) p
  | 0, p, k => by rw [Nat.zero_add, aF, List.nil_append, show k + ((0 : Nat) : Int) = k by omega]
  | m + 1, p, k => by
    rw [show m + 1 + p = (m + p) + 1 by omega, aF, aF_ap m p (k + 1), aF, List.cons_append, show k + 1 + (m : Int) = k + ((m + 1 : Nat) : Int) by omega]
theorem aF_sh {α : Type} {f g : Int → α} {m : Nat} {k s : Int} (h : ∀ i : Int, 0 ≤ i → i < m → f (k + i) = g (s + i)) : aF f k m = aF g s m := (aF_eq m m k s).2 ⟨rfl, h⟩
theorem aF_ins {α : Type} {f g : Int → α} {k : Nat} {t : Int} {v : α} (ht : 0 ≤ t ∧ t ≤ k) (h : ∀ i : Int, 0 ≤ i → i ≤ k → g i = if i = t then v else if t < i then f (i - 1) else f i) : (aF g 0 (k + 1)).Perm (v :: aF f 0 k) := by
  obtain ⟨p, hp⟩ : ∃ p : Nat, k = t.toNat + p := ⟨k - t.toNat, by omega⟩
  have e1 : aF g 0 (k + 1) = aF f 0 t.toNat ++ v :: aF f t p := by
    rw [show k + 1 = t.toNat + (p + 1) by omega, aF_ap, aF]
    have gt : g (0 + (t.toNat : Int)) = v := by rw [h _ (by omega) (by omega), if_pos (by omega)]
    rw [gt, aF_sh (f := g) (g := f) (m := t.toNat) (k := 0) (s := 0) (fun i i0 i1 => by rw [h _ (by omega) (by omega), if_neg (by omega), if_neg (by omega)]), aF_sh (f := g) (g := f) (m := p) (k := 0 + (t.toNat : Int) + 1) (s := t) (fun i i0 i1 => by rw [h _ (by omega) (by omega), if_neg (by omega), if_pos (by omega)]; exact congrArg f (by omega))]
  have e2 : aF f 0 k = aF f 0 t.toNat ++ aF f t p := by
    rw [hp, aF_ap, show 0 + (t.toNat : Int) = t by omega]
  rw [e1, e2]
  exact List.perm_middle
