/-! ProofChecker (room PC): statements in words, sentences -/
def pcTl_ : List (Nat × List Int) := [(269, [99, 108, 97, 115, 115, 32, 65, 32, 105, 115, 32, 98, 101, 108, 111, 119, 32, 99, 108, 97, 115, 115, 32, 66]), (270, [65, 32, 105, 115, 32, 98, 101, 108, 111, 119, 32, 66]), (271, [119, 104, 97, 116, 32, 65, 32, 98, 101, 103, 105, 110, 115, 32, 97, 116, 32, 105, 115, 32, 99, 108, 97, 115, 115, 32, 66]), (272, [119, 104, 97, 116, 32, 65, 32, 108, 101, 97, 100, 115, 32, 116, 111, 32, 105, 115, 32, 99, 108, 97, 115, 115, 32, 66]), (273, [99, 108, 97, 115, 115, 32, 65, 32, 97, 110, 100, 32, 99, 108, 97, 115, 115, 32, 66, 32, 104, 97, 118, 101, 32, 110, 111, 116, 104, 105, 110, 103, 32, 105, 110, 32, 99, 111, 109, 109, 111, 110]), (274, [65, 32, 103, 111, 101, 115, 32, 116, 104, 114, 111, 117, 103, 104]), (275, [65, 32, 103, 111, 101, 115, 32, 101, 105, 116, 104, 101, 114, 32, 119, 97, 121]), (276, [65, 32, 105, 115, 32, 66, 32, 116, 104, 101, 32, 111, 116, 104, 101, 114, 32, 119, 97, 121]), (277, [65, 32, 108, 101, 97, 100, 115, 32, 116, 111, 32, 111, 110, 101]), (278, [65, 32, 105, 115, 32, 110, 111, 116, 32, 66]), (279, [99, 111, 110, 116, 114, 97, 100, 105, 99, 116, 105, 111, 110]), (280, [110, 111, 116, 104, 105, 110, 103]), (281, [65, 32, 105, 115, 32, 99, 108, 97, 115, 115, 32, 66]), (282, [65, 32, 105, 115, 32, 66]), (283, [65, 32, 66, 32]), (284, [46, 32]), (285, [44, 32, 98, 121, 32]), (286, [32, 102, 114, 111, 109, 32]), (287, [32, 97, 110, 100, 32]), (288, [46])]
/-- the texts of ProofChecker lie outside as they should -/
def pcTS (sa : Nat → Nat) (so : kSo) : Prop := ∀ q, q ∈ pcTl_ → txS so (sa q.1) q.2
def pcWl (a b : Int) : List Int → List Int
  | [] => []
  | c :: P => (if c = 65 then pcNu a else if c = 66 then pcNu b else [c]) ++ pcWl a b P
theorem pcWl_a {a b : Int} {Q : List Int} : ∀ P : List Int, pcWl a b (P ++ Q) = pcWl a b P ++ pcWl a b Q
  | [] => rfl
  | c :: P => by rw [List.cons_append, pcWl, pcWl, pcWl_a P, List.append_assoc]
theorem pcWn_t {a b : Int} {P : List Int} : ∀ i : Nat, i ≤ P.length → pcWn P a b i = pcWl a b (P.take i)
  | 0, _ => rfl
  | i + 1, h => by
    rw [pcWn, pcWn_t i (by omega), List.take_succ, List.getElem?_eq_getElem (show i < P.length by omega), pcWl_a, List.getD_eq_getElem?_getD, List.getElem?_eq_getElem (show i < P.length by omega)]
    show _ = _ ++ (_ ++ [])
    rw [List.append_nil]; rfl
theorem pcWn_w {a b : Int} {P : List Int} : pcWn P a b P.length = pcWl a b P := by rw [pcWn_t _ (Nat.le_refl _), List.take_length]
theorem pcw_269 {a b : Int} : pcWl a b [99, 108, 97, 115, 115, 32, 65, 32, 105, 115, 32, 98, 101, 108, 111, 119, 32, 99, 108, 97, 115, 115, 32, 66] = pcPh 20 ++ (pcNu a ++ (pcPh 22 ++ pcNu b)) := by simp [pcWl, pcPh, pcPl_]
theorem pcw_270 {a b : Int} : pcWl a b [65, 32, 105, 115, 32, 98, 101, 108, 111, 119, 32, 66] = pcNu a ++ (pcPh 23 ++ pcNu b) := by simp [pcWl, pcPh, pcPl_]
theorem pcw_271 {a b : Int} : pcWl a b [119, 104, 97, 116, 32, 65, 32, 98, 101, 103, 105, 110, 115, 32, 97, 116, 32, 105, 115, 32, 99, 108, 97, 115, 115, 32, 66] = pcPh 21 ++ (pcNu a ++ (pcPh 24 ++ pcNu b)) := by simp [pcWl, pcPh, pcPl_]
theorem pcw_272 {a b : Int} : pcWl a b [119, 104, 97, 116, 32, 65, 32, 108, 101, 97, 100, 115, 32, 116, 111, 32, 105, 115, 32, 99, 108, 97, 115, 115, 32, 66] = pcPh 21 ++ (pcNu a ++ (pcPh 25 ++ pcNu b)) := by simp [pcWl, pcPh, pcPl_]
theorem pcw_273 {a b : Int} : pcWl a b [99, 108, 97, 115, 115, 32, 65, 32, 97, 110, 100, 32, 99, 108, 97, 115, 115, 32, 66, 32, 104, 97, 118, 101, 32, 110, 111, 116, 104, 105, 110, 103, 32, 105, 110, 32, 99, 111, 109, 109, 111, 110] = pcPh 20 ++ (pcNu a ++ (pcPh 26 ++ (pcNu b ++ pcPh 34))) := by simp [pcWl, pcPh, pcPl_]
theorem pcw_274 {a b : Int} : pcWl a b [65, 32, 103, 111, 101, 115, 32, 116, 104, 114, 111, 117, 103, 104] = pcNu a ++ pcPh 27 := by simp [pcWl, pcPh, pcPl_]
theorem pcw_275 {a b : Int} : pcWl a b [65, 32, 103, 111, 101, 115, 32, 101, 105, 116, 104, 101, 114, 32, 119, 97, 121] = pcNu a ++ pcPh 28 := by simp [pcWl, pcPh, pcPl_]
theorem pcw_276 {a b : Int} : pcWl a b [65, 32, 105, 115, 32, 66, 32, 116, 104, 101, 32, 111, 116, 104, 101, 114, 32, 119, 97, 121] = pcNu a ++ (pcPh 29 ++ (pcNu b ++ pcPh 35)) := by simp [pcWl, pcPh, pcPl_]
theorem pcw_277 {a b : Int} : pcWl a b [65, 32, 108, 101, 97, 100, 115, 32, 116, 111, 32, 111, 110, 101] = pcNu a ++ pcPh 30 := by simp [pcWl, pcPh, pcPl_]
theorem pcw_278 {a b : Int} : pcWl a b [65, 32, 105, 115, 32, 110, 111, 116, 32, 66] = pcNu a ++ (pcPh 31 ++ pcNu b) := by simp [pcWl, pcPh, pcPl_]
theorem pcw_279 {a b : Int} : pcWl a b [99, 111, 110, 116, 114, 97, 100, 105, 99, 116, 105, 111, 110] = pcPh 19 := by simp [pcWl, pcPh, pcPl_]
theorem pcw_280 {a b : Int} : pcWl a b [110, 111, 116, 104, 105, 110, 103] = pcPh 18 := by simp [pcWl, pcPh, pcPl_]
theorem pcw_281 {a b : Int} : pcWl a b [65, 32, 105, 115, 32, 99, 108, 97, 115, 115, 32, 66] = pcNu a ++ (pcPh 32 ++ pcNu b) := by simp [pcWl, pcPh, pcPl_]
theorem pcw_282 {a b : Int} : pcWl a b [65, 32, 105, 115, 32, 66] = pcNu a ++ (pcPh 29 ++ pcNu b) := by simp [pcWl, pcPh, pcPl_]
theorem pcw_283 {a b : Int} : pcWl a b [65, 32, 66, 32] = pcNu a ++ (pcPh 33 ++ (pcNu b ++ pcPh 33)) := by simp [pcWl, pcPh, pcPl_]
section
variable {kd : Nat → Nat} {an : Nat → Nat} {ai : Nat → Int → Int} {al : Nat → Int → Int} {ar : Nat → Int → Option Nat} {mX8_rules : Nat → Option Nat} {mX8_axioms : Nat → Option Nat} {mX8_axiomCount : Nat → Int} {mX8_givens : Nat → Option Nat} {mX8_givenCount : Nat → Int} {mX8_wanted : Nat → Option Nat} {mX8_rows : Nat → Option Nat} {mX8_rowCount : Nat → Int} {mX8_looked : Nat → Int} {mX8_from : Nat → Option Nat} {mX8_needed : Nat → Option Nat} {mX8_broken : Nat → Int} {mX8_places : Nat → Option Nat} {mX8_text : Nat → Option Nat} {mX8_size : Nat → Int} {mX9_kind : Nat → Int} {mX9_a : Nat → Int} {mX9_b : Nat → Int} {mX9_c : Nat → Int} {mX26_rule : Nat → Int} {mX26_instance : Nat → Int} {mX26_premises : Nat → Option Nat} {mX26_count : Nat → Int} {mX26_states : Nat → Option Nat} {mX26_right : Nat → Int} {mX26_size : Nat → Int} {mX10_takes : Nat → Int} {mX10_name : Nat → Option Nat} {mX12_any : Nat → Int} {mX14_kind : Nat → Int} {mX16_kind : Nat → Int} {mX18_first : Nat → Int} {mX19_either : Nat → Int} {sa : Nat → Nat} {so : kSo} {A : Nat → Int → Nat} {gi : Nat → Nat × Int} {Ro : Int → Nat} {s : Int} {t : Int → Int} {L L0 : List Int} {ax tr ru ins ct pr : Int → Int} {na nt n br root : Int} {tx : List Int}
theorem CPC_sw {post : (Nat → Int → Int) → (Nat → Int) → Prop} {x y : Int} (j : Nat) (L : List Int) (hj : (j, L) ∈ pcTl_) (TS : pcTS sa so) (H : pcSh kd an ai al ar mX8_rules mX8_axioms mX8_axiomCount mX8_givens mX8_givenCount mX8_wanted mX8_rows mX8_rowCount mX8_looked mX8_from mX8_needed mX8_broken mX8_places mX8_text mX8_size mX9_kind mX9_a mX9_b mX9_c mX26_rule mX26_instance mX26_premises mX26_count mX26_states mX26_right mX26_size mX10_takes mX10_name mX12_any mX14_kind mX16_kind mX18_first mX19_either A gi Ro) (hx : 0 ≤ x ∧ x < 1000) (hy : 0 ≤ y ∧ y < 1000) (hL : L.length ≤ 43) (B : txB t s L0) (hl : L0.length ≤ 60) (hp : ∀ t' s', txB t' s' (L0 ++ pcWl x y L) → post (va_up ai (A 15 0) t') (va_up mX8_size (A 0 0) s')) : wpPC_X8_sayWith post kd an (va_up ai (A 15 0) t) mX8_text (va_up mX8_size (A 0 0) s) sa so (A 0 0) (some (sa j)) x y := by
  have := pcWn_l (P := L) (a := x) (b := y) L.length
  have T : txS so (sa j) L := TS _ hj
  refine CPC_with H hx hy T (by omega) B (by omega) (fun t' s' B' => hp t' s' ?_)
  rw [pcWn_w] at B'
  exact B'
theorem CPC_sy {post : (Nat → Int → Int) → (Nat → Int) → Prop} (j : Nat) (L : List Int) (hj : (j, L) ∈ pcTl_) (TS : pcTS sa so) (H : pcSh kd an ai al ar mX8_rules mX8_axioms mX8_axiomCount mX8_givens mX8_givenCount mX8_wanted mX8_rows mX8_rowCount mX8_looked mX8_from mX8_needed mX8_broken mX8_places mX8_text mX8_size mX9_kind mX9_a mX9_b mX9_c mX26_rule mX26_instance mX26_premises mX26_count mX26_states mX26_right mX26_size mX10_takes mX10_name mX12_any mX14_kind mX16_kind mX18_first mX19_either A gi Ro) (B : txB t s L0) (hl : L0.length + L.length ≤ 200) (hp : ∀ t' s', txB t' s' (L0 ++ L) → post (va_up ai (A 15 0) t') (va_up mX8_size (A 0 0) s')) : wpPC_X8_say post kd an (va_up ai (A 15 0) t) mX8_text (va_up mX8_size (A 0 0) s) sa so (A 0 0) (some (sa j)) := CPC_say H (TS _ hj) B hl hp
theorem CPC_stm {post : (Nat → Int → Int) → (Nat → Int) → Prop} {o : Nat} {k a b c : Int} (H : pcSh kd an ai al ar mX8_rules mX8_axioms mX8_axiomCount mX8_givens mX8_givenCount mX8_wanted mX8_rows mX8_rowCount mX8_looked mX8_from mX8_needed mX8_broken mX8_places mX8_text mX8_size mX9_kind mX9_a mX9_b mX9_c mX26_rule mX26_instance mX26_premises mX26_count mX26_states mX26_right mX26_size mX10_takes mX10_name mX12_any mX14_kind mX16_kind mX18_first mX19_either A gi Ro) (TS : pcTS sa so) (ko : kd o = 2) (f0 : mX9_kind o = k) (f1 : mX9_a o = a) (f2 : mX9_b o = b) (f3 : mX9_c o = c) (r0 : 0 ≤ k ∧ k ≤ 12) (r1 : 0 ≤ a ∧ a < 1000) (r2 : 0 ≤ b ∧ b < 1000) (r3 : 0 ≤ c ∧ c < 1000) (B : txB t s L0) (hl : L0.length ≤ 60) (hp : ∀ t' s', txB t' s' (L0 ++ pcStm k a b c) → post (va_up ai (A 15 0) t') (va_up mX8_size (A 0 0) s')) : wpPC_X8_sayStatement post kd an (va_up ai (A 15 0) t) mX8_text (va_up mX8_size (A 0 0) s) mX9_kind mX9_a mX9_b mX9_c sa so (A 0 0) (some o) := by
  unfold wpPC_X8_sayStatement
  refine kOn_some ⟨ko, ?_⟩
  rw [f0, f1, f2, f3]
  unfold pcStm at hp
  have k46 : b = 0 ∨ b = 1 → k = 11 → wPC_X8_sayStatement_46 post (A 0 0) (some o) kd an (va_up ai (A 15 0) t) mX8_text (va_up mX8_size (A 0 0) s) mX9_a mX9_b mX9_c sa so := fun hb hk => by
    subst hk
    unfold wPC_X8_sayStatement_46
    refine kOn_some ⟨ko, ?_⟩
    rw [f1, f2, f3]
    refine ⟨fun e => ?_, fun e => ?_⟩
    · subst e
      exact CPC_sw 281 [65, 32, 105, 115, 32, 99, 108, 97, 115, 115, 32, 66] (by simp [pcTl_]) TS H r1 r3 (by decide) B (by omega) (fun t' s' B' => hp t' s' (by rw [pcw_281] at B'; exact B'))
    · have : b = 1 := by omega
      subst this
      exact CPC_sw 282 [65, 32, 105, 115, 32, 66] (by simp [pcTl_]) TS H r1 r3 (by decide) B (by omega) (fun t' s' B' => hp t' s' (by rw [pcw_282] at B'; exact B'))
  refine ⟨fun e => ⟨fun e1 => k46 (Or.inl e1) e, fun e1 => ⟨fun e2 => k46 (Or.inr e2) e, fun e2 => ?_⟩⟩, fun e => ?_⟩
  · subst e
    refine CPC_sw 283 [65, 32, 66, 32] (by simp [pcTl_]) TS H r1 r2 (by decide) B (by omega) (fun t' s' B' => CPC_num H r3 B' (by rw [List.length_append]; have := pcNu_l a; have := pcNu_l b; rw [pcw_283]; simp [pcPh, pcPl_]; omega) (fun t2 s2 B2 => hp t2 s2 ?_))
    rw [if_neg (by decide), if_neg (by decide), if_neg (by decide), if_neg (by decide), if_neg (by decide), if_neg (by decide), if_neg (by decide), if_neg (by decide), if_neg (by decide), if_neg (by decide), if_neg (by decide), if_pos rfl, if_neg e1, if_neg e2]
    rw [pcw_283] at B2
    simpa only [List.append_assoc] using B2
  · unfold wpPC_X8_pattern
    have kk : k = 0 ∨ k = 1 ∨ k = 2 ∨ k = 3 ∨ k = 4 ∨ k = 5 ∨ k = 6 ∨ k = 7 ∨ k = 8 ∨ k = 9 ∨ k = 10 ∨ k = 12 := by omega
    rcases kk with h | h | h | h | h | h | h | h | h | h | h | h
    · subst h
      have g := CPC_sw 280 [110, 111, 116, 104, 105, 110, 103] (by simp [pcTl_]) TS H r1 r2 (by decide) B (by omega) (fun t' s' B' => hp t' s' (by rw [pcw_280] at B'; exact B'))
      simp
      exact g
    · subst h
      have g := CPC_sw 269 [99, 108, 97, 115, 115, 32, 65, 32, 105, 115, 32, 98, 101, 108, 111, 119, 32, 99, 108, 97, 115, 115, 32, 66] (by simp [pcTl_]) TS H r1 r2 (by decide) B (by omega) (fun t' s' B' => hp t' s' (by rw [pcw_269] at B'; exact B'))
      simp
      exact g
    · subst h
      have g := CPC_sw 270 [65, 32, 105, 115, 32, 98, 101, 108, 111, 119, 32, 66] (by simp [pcTl_]) TS H r1 r2 (by decide) B (by omega) (fun t' s' B' => hp t' s' (by rw [pcw_270] at B'; exact B'))
      simp
      exact g
    · subst h
      have g := CPC_sw 271 [119, 104, 97, 116, 32, 65, 32, 98, 101, 103, 105, 110, 115, 32, 97, 116, 32, 105, 115, 32, 99, 108, 97, 115, 115, 32, 66] (by simp [pcTl_]) TS H r1 r2 (by decide) B (by omega) (fun t' s' B' => hp t' s' (by rw [pcw_271] at B'; exact B'))
      simp
      exact g
    · subst h
      have g := CPC_sw 272 [119, 104, 97, 116, 32, 65, 32, 108, 101, 97, 100, 115, 32, 116, 111, 32, 105, 115, 32, 99, 108, 97, 115, 115, 32, 66] (by simp [pcTl_]) TS H r1 r2 (by decide) B (by omega) (fun t' s' B' => hp t' s' (by rw [pcw_272] at B'; exact B'))
      simp
      exact g
    · subst h
      have g := CPC_sw 273 [99, 108, 97, 115, 115, 32, 65, 32, 97, 110, 100, 32, 99, 108, 97, 115, 115, 32, 66, 32, 104, 97, 118, 101, 32, 110, 111, 116, 104, 105, 110, 103, 32, 105, 110, 32, 99, 111, 109, 109, 111, 110] (by simp [pcTl_]) TS H r1 r2 (by decide) B (by omega) (fun t' s' B' => hp t' s' (by rw [pcw_273] at B'; exact B'))
      simp
      exact g
    · subst h
      have g := CPC_sw 274 [65, 32, 103, 111, 101, 115, 32, 116, 104, 114, 111, 117, 103, 104] (by simp [pcTl_]) TS H r1 r2 (by decide) B (by omega) (fun t' s' B' => hp t' s' (by rw [pcw_274] at B'; exact B'))
      simp
      exact g
    · subst h
      have g := CPC_sw 275 [65, 32, 103, 111, 101, 115, 32, 101, 105, 116, 104, 101, 114, 32, 119, 97, 121] (by simp [pcTl_]) TS H r1 r2 (by decide) B (by omega) (fun t' s' B' => hp t' s' (by rw [pcw_275] at B'; exact B'))
      simp
      exact g
    · subst h
      have g := CPC_sw 276 [65, 32, 105, 115, 32, 66, 32, 116, 104, 101, 32, 111, 116, 104, 101, 114, 32, 119, 97, 121] (by simp [pcTl_]) TS H r1 r2 (by decide) B (by omega) (fun t' s' B' => hp t' s' (by rw [pcw_276] at B'; exact B'))
      simp
      exact g
    · subst h
      have g := CPC_sw 277 [65, 32, 108, 101, 97, 100, 115, 32, 116, 111, 32, 111, 110, 101] (by simp [pcTl_]) TS H r1 r2 (by decide) B (by omega) (fun t' s' B' => hp t' s' (by rw [pcw_277] at B'; exact B'))
      simp
      exact g
    · subst h
      have g := CPC_sw 278 [65, 32, 105, 115, 32, 110, 111, 116, 32, 66] (by simp [pcTl_]) TS H r1 r2 (by decide) B (by omega) (fun t' s' B' => hp t' s' (by rw [pcw_278] at B'; exact B'))
      simp
      exact g
    · subst h
      have g := CPC_sw 279 [99, 111, 110, 116, 114, 97, 100, 105, 99, 116, 105, 111, 110] (by simp [pcTl_]) TS H r1 r2 (by decide) B (by omega) (fun t' s' B' => hp t' s' (by rw [pcw_279] at B'; exact B'))
      simp
      exact g
end
