/-! HR2: a line's call to a room, reference's side (printed by tools/hsc.py) -/
set_option maxRecDepth 100000
set_option maxHeartbeats 4000000
theorem hs_ih {n : Nat} : ((n : Int) = 0 ↔ n = 0) := by omega
theorem hs_i0 {n : Nat} : ((if n = 0 then (0 : Int) else 1) = 0 ↔ n = 0) := by split <;> simp [*]
theorem SR_namesCall {MC : Nat} {MS : Nat} {post : Int → Int → cnT → Prop} {kd : Nat → Nat} {an : Nat → Nat} {al : Nat → Int → Int} {mX45_names : Nat → Option Nat} {mX45_need : Nat → Option Nat} {R47_th : Int} {R47_S : cnT} {ra : Nat → Nat} {x0 : Nat} {x1 : Int} {A : Nat} (hA : mX45_need x0 = some A) (kA : kd A = 5) (nA : an A = 8) (hn : mX45_names x0 = some (ra 1)) (hM : 4000 ≤ MC ∧ 40000 ≤ MS) (h1 : 0 ≤ x1 ∧ x1 < 15) (h : ∀ (R47_th' : Int), post (hsCN x1 (al A) R47_S).1 R47_th' (hsCN x1 (al A) R47_S).2) : wpSR_X45_namesCall MC MS post kd an al mX45_names mX45_need R47_th R47_S ra x0 x1 := by
  unfold wpSR_X45_namesCall
  obtain rfl | rfl | rfl | rfl | rfl | rfl | rfl | rfl | rfl | rfl | rfl | rfl | rfl | rfl | rfl : x1 = 0 ∨ x1 = 1 ∨ x1 = 2 ∨ x1 = 3 ∨ x1 = 4 ∨ x1 = 5 ∨ x1 = 6 ∨ x1 = 7 ∨ x1 = 8 ∨ x1 = 9 ∨ x1 = 10 ∨ x1 = 11 ∨ x1 = 12 ∨ x1 = 13 ∨ x1 = 14 := by omega
  · rw [hsCN_0] at h
    dsimp only at h
    refine ⟨fun _ => ?_, fun e => absurd rfl e⟩
    repeat' first
      | unfold cR47_blank
      | exact hs_w32 _
      | exact (hs_w32 _).1
      | exact hsB_o _
      | exact kA
      | exact rfl
      | exact Or.inr rfl
      | exact Or.inl rfl
      | exact h _ 
      | contradiction
      | refine kOn_of hA ?_
      | refine kOn_of hn ?_
      | refine And.intro ?_ ?_
      | omega
      | intro _
  · rw [hsCN_1] at h
    dsimp only at h
    refine ⟨fun e => absurd e (by decide), fun _ => ⟨fun _ => ?_, fun e => absurd rfl e⟩⟩
    repeat' first
      | unfold cR47_triple
      | exact hs_w32 _
      | exact (hs_w32 _).1
      | exact hsB_o _
      | exact kA
      | exact rfl
      | exact Or.inr rfl
      | exact Or.inl rfl
      | exact h _ 
      | contradiction
      | refine kOn_of hA ?_
      | refine kOn_of hn ?_
      | refine And.intro ?_ ?_
      | omega
      | intro _
  · rw [hsCN_2] at h
    dsimp only at h
    refine ⟨fun e => absurd e (by decide), fun _ => ⟨fun e => absurd e (by decide), fun _ => ⟨fun _ => ?_, fun e => absurd rfl e⟩⟩⟩
    repeat' first
      | unfold cR47_drop
      | exact hs_w32 _
      | exact (hs_w32 _).1
      | exact hsB_o _
      | exact kA
      | exact rfl
      | exact Or.inr rfl
      | exact Or.inl rfl
      | exact h _ 
      | contradiction
      | refine kOn_of hA ?_
      | refine kOn_of hn ?_
      | refine And.intro ?_ ?_
      | omega
      | intro _
  · rw [hsCN_3] at h
    dsimp only at h
    refine ⟨fun e => absurd e (by decide), fun _ => ⟨fun e => absurd e (by decide), fun _ => ⟨fun e => absurd e (by decide), fun _ => ⟨fun _ => ?_, fun e => absurd rfl e⟩⟩⟩⟩
    repeat' first
      | unfold cR47_name
      | exact hs_w32 _
      | exact (hs_w32 _).1
      | exact hsB_o _
      | exact kA
      | exact rfl
      | exact Or.inr rfl
      | exact Or.inl rfl
      | exact h _ 
      | contradiction
      | refine kOn_of hA ?_
      | refine kOn_of hn ?_
      | refine And.intro ?_ ?_
      | omega
      | intro _
  · rw [hsCN_4] at h
    dsimp only at h
    refine ⟨fun e => absurd e (by decide), fun _ => ⟨fun e => absurd e (by decide), fun _ => ⟨fun e => absurd e (by decide), fun _ => ⟨fun e => absurd e (by decide), fun _ => ⟨fun _ => ?_, fun e => absurd rfl e⟩⟩⟩⟩⟩
    repeat' first
      | unfold cR47_named
      | exact hs_w32 _
      | exact (hs_w32 _).1
      | exact hsB_o _
      | exact kA
      | exact rfl
      | exact Or.inr rfl
      | exact Or.inl rfl
      | exact h _ 
      | contradiction
      | refine kOn_of hA ?_
      | refine kOn_of hn ?_
      | refine And.intro ?_ ?_
      | omega
      | intro _
  · rw [hsCN_5] at h
    dsimp only at h
    refine ⟨fun e => absurd e (by decide), fun _ => ⟨fun e => absurd e (by decide), fun _ => ⟨fun e => absurd e (by decide), fun _ => ⟨fun e => absurd e (by decide), fun _ => ⟨fun e => absurd e (by decide), fun _ => ⟨fun _ => ?_, fun e => absurd rfl e⟩⟩⟩⟩⟩⟩
    repeat' first
      | unfold cR47_form
      | exact hs_w32 _
      | exact (hs_w32 _).1
      | exact hsB_o _
      | exact kA
      | exact rfl
      | exact Or.inr rfl
      | exact Or.inl rfl
      | exact h _ 
      | contradiction
      | refine kOn_of hA ?_
      | refine kOn_of hn ?_
      | refine And.intro ?_ ?_
      | omega
      | intro _
  · rw [hsCN_6] at h
    dsimp only at h
    refine ⟨fun e => absurd e (by decide), fun _ => ⟨fun e => absurd e (by decide), fun _ => ⟨fun e => absurd e (by decide), fun _ => ⟨fun e => absurd e (by decide), fun _ => ⟨fun e => absurd e (by decide), fun _ => ⟨fun e => absurd e (by decide), fun _ => ⟨fun _ => ?_, fun e => absurd rfl e⟩⟩⟩⟩⟩⟩⟩
    repeat' first
      | unfold cR47_hash
      | exact hs_w32 _
      | exact (hs_w32 _).1
      | exact hsB_o _
      | exact kA
      | exact rfl
      | exact Or.inr rfl
      | exact Or.inl rfl
      | exact h _ 
      | contradiction
      | refine kOn_of hA ?_
      | refine kOn_of hn ?_
      | refine And.intro ?_ ?_
      | omega
      | intro _
  · rw [hsCN_7] at h
    dsimp only at h
    refine ⟨fun e => absurd e (by decide), fun _ => ⟨fun e => absurd e (by decide), fun _ => ⟨fun e => absurd e (by decide), fun _ => ⟨fun e => absurd e (by decide), fun _ => ⟨fun e => absurd e (by decide), fun _ => ⟨fun e => absurd e (by decide), fun _ => ⟨fun e => absurd e (by decide), fun _ => ⟨fun _ => ?_, fun e => absurd rfl e⟩⟩⟩⟩⟩⟩⟩⟩
    repeat' first
      | unfold cR47_rounds
      | exact hs_w32 _
      | exact (hs_w32 _).1
      | exact hsB_o _
      | exact kA
      | exact rfl
      | exact Or.inr rfl
      | exact Or.inl rfl
      | exact h _ 
      | contradiction
      | refine kOn_of hA ?_
      | refine kOn_of hn ?_
      | refine And.intro ?_ ?_
      | omega
      | intro _
  · rw [hsCN_8] at h
    dsimp only at h
    refine ⟨fun e => absurd e (by decide), fun _ => ⟨fun e => absurd e (by decide), fun _ => ⟨fun e => absurd e (by decide), fun _ => ⟨fun e => absurd e (by decide), fun _ => ⟨fun e => absurd e (by decide), fun _ => ⟨fun e => absurd e (by decide), fun _ => ⟨fun e => absurd e (by decide), fun _ => ⟨fun e => absurd e (by decide), fun _ => ⟨fun _ => ?_, fun e => absurd rfl e⟩⟩⟩⟩⟩⟩⟩⟩⟩
    repeat' first
      | unfold cR47_first
      | exact hs_w32 _
      | exact (hs_w32 _).1
      | exact hsB_o _
      | exact kA
      | exact rfl
      | exact Or.inr rfl
      | exact Or.inl rfl
      | exact h _ 
      | contradiction
      | refine kOn_of hA ?_
      | refine kOn_of hn ?_
      | refine And.intro ?_ ?_
      | omega
      | intro _
  · rw [hsCN_9] at h
    dsimp only at h
    refine ⟨fun e => absurd e (by decide), fun _ => ⟨fun e => absurd e (by decide), fun _ => ⟨fun e => absurd e (by decide), fun _ => ⟨fun e => absurd e (by decide), fun _ => ⟨fun e => absurd e (by decide), fun _ => ⟨fun e => absurd e (by decide), fun _ => ⟨fun e => absurd e (by decide), fun _ => ⟨fun e => absurd e (by decide), fun _ => ⟨fun e => absurd e (by decide), fun _ => ⟨fun _ => ?_, fun e => absurd rfl e⟩⟩⟩⟩⟩⟩⟩⟩⟩⟩
    repeat' first
      | unfold cR47_keep
      | exact hs_w32 _
      | exact (hs_w32 _).1
      | exact hsB_o _
      | exact kA
      | exact rfl
      | exact Or.inr rfl
      | exact Or.inl rfl
      | exact h _ 
      | contradiction
      | refine kOn_of hA ?_
      | refine kOn_of hn ?_
      | refine And.intro ?_ ?_
      | omega
      | intro _
  · rw [hsCN_10] at h
    dsimp only at h
    refine ⟨fun e => absurd e (by decide), fun _ => ⟨fun e => absurd e (by decide), fun _ => ⟨fun e => absurd e (by decide), fun _ => ⟨fun e => absurd e (by decide), fun _ => ⟨fun e => absurd e (by decide), fun _ => ⟨fun e => absurd e (by decide), fun _ => ⟨fun e => absurd e (by decide), fun _ => ⟨fun e => absurd e (by decide), fun _ => ⟨fun e => absurd e (by decide), fun _ => ⟨fun e => absurd e (by decide), fun _ => ⟨fun _ => ?_, fun e => absurd rfl e⟩⟩⟩⟩⟩⟩⟩⟩⟩⟩⟩
    repeat' first
      | unfold cR47_isomorphic
      | exact hs_w32 _
      | exact (hs_w32 _).1
      | exact hsB_o _
      | exact kA
      | exact rfl
      | exact Or.inr rfl
      | exact Or.inl rfl
      | exact h _ 
      | contradiction
      | refine kOn_of hA ?_
      | refine kOn_of hn ?_
      | refine And.intro ?_ ?_
      | omega
      | intro _
  · rw [hsCN_11] at h
    dsimp only at h
    refine ⟨fun e => absurd e (by decide), fun _ => ⟨fun e => absurd e (by decide), fun _ => ⟨fun e => absurd e (by decide), fun _ => ⟨fun e => absurd e (by decide), fun _ => ⟨fun e => absurd e (by decide), fun _ => ⟨fun e => absurd e (by decide), fun _ => ⟨fun e => absurd e (by decide), fun _ => ⟨fun e => absurd e (by decide), fun _ => ⟨fun e => absurd e (by decide), fun _ => ⟨fun e => absurd e (by decide), fun _ => ⟨fun e => absurd e (by decide), fun _ => ⟨fun _ => ?_, fun e => absurd rfl e⟩⟩⟩⟩⟩⟩⟩⟩⟩⟩⟩⟩
    repeat' first
      | unfold cR47_ways
      | exact hs_w32 _
      | exact (hs_w32 _).1
      | exact hsB_o _
      | exact kA
      | exact rfl
      | exact Or.inr rfl
      | exact Or.inl rfl
      | exact h _ 
      | contradiction
      | refine kOn_of hA ?_
      | refine kOn_of hn ?_
      | refine And.intro ?_ ?_
      | omega
      | intro _
  · rw [hsCN_12] at h
    dsimp only at h
    refine ⟨fun e => absurd e (by decide), fun _ => ⟨fun e => absurd e (by decide), fun _ => ⟨fun e => absurd e (by decide), fun _ => ⟨fun e => absurd e (by decide), fun _ => ⟨fun e => absurd e (by decide), fun _ => ⟨fun e => absurd e (by decide), fun _ => ⟨fun e => absurd e (by decide), fun _ => ⟨fun e => absurd e (by decide), fun _ => ⟨fun e => absurd e (by decide), fun _ => ⟨fun e => absurd e (by decide), fun _ => ⟨fun e => absurd e (by decide), fun _ => ⟨fun e => absurd e (by decide), fun _ => ⟨fun _ => ?_, fun e => absurd rfl e⟩⟩⟩⟩⟩⟩⟩⟩⟩⟩⟩⟩⟩
    repeat' first
      | unfold cR47_equal
      | exact hs_w32 _
      | exact (hs_w32 _).1
      | exact hsB_o _
      | exact kA
      | exact rfl
      | exact Or.inr rfl
      | exact Or.inl rfl
      | exact h _ 
      | contradiction
      | refine kOn_of hA ?_
      | refine kOn_of hn ?_
      | refine And.intro ?_ ?_
      | omega
      | intro _
  · rw [hsCN_13] at h
    dsimp only at h
    refine ⟨fun e => absurd e (by decide), fun _ => ⟨fun e => absurd e (by decide), fun _ => ⟨fun e => absurd e (by decide), fun _ => ⟨fun e => absurd e (by decide), fun _ => ⟨fun e => absurd e (by decide), fun _ => ⟨fun e => absurd e (by decide), fun _ => ⟨fun e => absurd e (by decide), fun _ => ⟨fun e => absurd e (by decide), fun _ => ⟨fun e => absurd e (by decide), fun _ => ⟨fun e => absurd e (by decide), fun _ => ⟨fun e => absurd e (by decide), fun _ => ⟨fun e => absurd e (by decide), fun _ => ⟨fun e => absurd e (by decide), fun _ => ⟨fun _ => ?_, fun e => absurd rfl e⟩⟩⟩⟩⟩⟩⟩⟩⟩⟩⟩⟩⟩⟩
    repeat' first
      | unfold cR47_triples
      | exact hs_w32 _
      | exact (hs_w32 _).1
      | exact hsB_o _
      | exact kA
      | exact rfl
      | exact Or.inr rfl
      | exact Or.inl rfl
      | exact h _ 
      | contradiction
      | refine kOn_of hA ?_
      | refine kOn_of hn ?_
      | refine And.intro ?_ ?_
      | omega
      | intro _
  · rw [hsCN_14] at h
    dsimp only at h
    refine ⟨fun e => absurd e (by decide), fun _ => ⟨fun e => absurd e (by decide), fun _ => ⟨fun e => absurd e (by decide), fun _ => ⟨fun e => absurd e (by decide), fun _ => ⟨fun e => absurd e (by decide), fun _ => ⟨fun e => absurd e (by decide), fun _ => ⟨fun e => absurd e (by decide), fun _ => ⟨fun e => absurd e (by decide), fun _ => ⟨fun e => absurd e (by decide), fun _ => ⟨fun e => absurd e (by decide), fun _ => ⟨fun e => absurd e (by decide), fun _ => ⟨fun e => absurd e (by decide), fun _ => ⟨fun e => absurd e (by decide), fun _ => ⟨fun e => absurd e (by decide), fun _ => ?_⟩⟩⟩⟩⟩⟩⟩⟩⟩⟩⟩⟩⟩⟩
    repeat' first
      | unfold cR47_blanks
      | exact hs_w32 _
      | exact (hs_w32 _).1
      | exact hsB_o _
      | exact kA
      | exact rfl
      | exact Or.inr rfl
      | exact Or.inl rfl
      | exact h _ 
      | contradiction
      | refine kOn_of hA ?_
      | refine kOn_of hn ?_
      | refine And.intro ?_ ?_
      | omega
      | intro _
theorem SR_versionsCall {MC : Nat} {MS : Nat} {post : Int → Int → Int → Int → Int → vsS → Prop} {kd : Nat → Nat} {an : Nat → Nat} {al : Nat → Int → Int} {mX45_versions : Nat → Option Nat} {mX45_need : Nat → Option Nat} {R48_th : Int} {R48_u : Int} {R48_b : Int} {R48_d : Int} {R48_S : vsS} {ra : Nat → Nat} {x0 : Nat} {x1 : Int} {A : Nat} (hA : mX45_need x0 = some A) (kA : kd A = 5) (nA : an A = 8) (hn : mX45_versions x0 = some (ra 2)) (hM : 4000 ≤ MC ∧ 40000 ≤ MS) (h1 : 0 ≤ x1 ∧ x1 < 18) (hg : R48_u ≤ 199 ∧ R48_b ≤ 58 ∧ R48_d ≤ 60) (h : ∀ (R48_th' R48_u' R48_b' R48_d' : Int), (R48_u ≤ R48_u' ∧ R48_u' ≤ R48_u + 1) → (R48_b ≤ R48_b' ∧ R48_b' ≤ R48_b + 1) → (R48_d ≤ R48_d' ∧ R48_d' ≤ R48_d + 1) → (R48_th' = 0 ↔ (hsVT x1 (al A) R48_S).1 = 0) → post (hsVT x1 (al A) R48_S).2.1 R48_th' R48_u' R48_b' R48_d' (hsVT x1 (al A) R48_S).2.2) : wpSR_X45_versionsCall MC MS post kd an al mX45_versions mX45_need R48_th R48_u R48_b R48_d R48_S ra x0 x1 := by
  unfold wpSR_X45_versionsCall
  obtain rfl | rfl | rfl | rfl | rfl | rfl | rfl | rfl | rfl | rfl | rfl | rfl | rfl | rfl | rfl | rfl | rfl | rfl : x1 = 0 ∨ x1 = 1 ∨ x1 = 2 ∨ x1 = 3 ∨ x1 = 4 ∨ x1 = 5 ∨ x1 = 6 ∨ x1 = 7 ∨ x1 = 8 ∨ x1 = 9 ∨ x1 = 10 ∨ x1 = 11 ∨ x1 = 12 ∨ x1 = 13 ∨ x1 = 14 ∨ x1 = 15 ∨ x1 = 16 ∨ x1 = 17 := by omega
  · rw [hsVT_0] at h
    dsimp only at h
    refine ⟨fun _ => ?_, fun e => absurd rfl e⟩
    repeat' first
      | unfold cR48_begin
      | exact hs_w32 _
      | exact (hs_w32 _).1
      | exact hsB_o _
      | exact kA
      | exact rfl
      | exact Or.inr rfl
      | exact Or.inl rfl
      | exact h _ _ _ _ (by omega) (by omega) (by omega) Iff.rfl
      | exact h _ _ _ _ (by omega) (by omega) (by omega) (by omega)
      | exact h _ _ _ _ (by omega) (by omega) (by omega) hs_ih
      | exact h _ _ _ _ (by omega) (by omega) (by omega) hs_i0
      | contradiction
      | refine kOn_of hA ?_
      | refine kOn_of hn ?_
      | refine And.intro ?_ ?_
      | omega
      | intro _
  · rw [hsVT_1] at h
    dsimp only at h
    refine ⟨fun e => absurd e (by decide), fun _ => ⟨fun _ => ?_, fun e => absurd rfl e⟩⟩
    repeat' first
      | unfold cR48_look
      | exact hs_w32 _
      | exact (hs_w32 _).1
      | exact hsB_o _
      | exact kA
      | exact rfl
      | exact Or.inr rfl
      | exact Or.inl rfl
      | exact h _ _ _ _ (by omega) (by omega) (by omega) Iff.rfl
      | exact h _ _ _ _ (by omega) (by omega) (by omega) (by omega)
      | exact h _ _ _ _ (by omega) (by omega) (by omega) hs_ih
      | exact h _ _ _ _ (by omega) (by omega) (by omega) hs_i0
      | contradiction
      | refine kOn_of hA ?_
      | refine kOn_of hn ?_
      | refine And.intro ?_ ?_
      | omega
      | intro _
  · rw [hsVT_2] at h
    dsimp only at h
    by_cases f2 : al A 2 = 1
    · rw [hsB_p f2] at h
      refine ⟨fun e => absurd e (by decide), fun _ => ⟨fun e => absurd e (by decide), fun _ => ⟨fun _ => ?_, fun e => absurd rfl e⟩⟩⟩
      repeat' first
        | unfold cR48_put
        | exact hs_w32 _
        | exact (hs_w32 _).1
        | exact hsB_o _
        | exact kA
        | exact rfl
        | exact Or.inr rfl
        | exact Or.inl rfl
        | exact h _ _ _ _ (by omega) (by omega) (by omega) Iff.rfl
        | exact h _ _ _ _ (by omega) (by omega) (by omega) (by omega)
        | exact h _ _ _ _ (by omega) (by omega) (by omega) hs_ih
        | exact h _ _ _ _ (by omega) (by omega) (by omega) hs_i0
        | contradiction
        | refine kOn_of hA ?_
        | refine kOn_of hn ?_
        | refine And.intro ?_ ?_
        | omega
        | intro _
    · rw [hsB_n f2] at h
      refine ⟨fun e => absurd e (by decide), fun _ => ⟨fun e => absurd e (by decide), fun _ => ⟨fun _ => ?_, fun e => absurd rfl e⟩⟩⟩
      repeat' first
        | unfold cR48_put
        | exact hs_w32 _
        | exact (hs_w32 _).1
        | exact hsB_o _
        | exact kA
        | exact rfl
        | exact Or.inr rfl
        | exact Or.inl rfl
        | exact h _ _ _ _ (by omega) (by omega) (by omega) Iff.rfl
        | exact h _ _ _ _ (by omega) (by omega) (by omega) (by omega)
        | exact h _ _ _ _ (by omega) (by omega) (by omega) hs_ih
        | exact h _ _ _ _ (by omega) (by omega) (by omega) hs_i0
        | contradiction
        | refine kOn_of hA ?_
        | refine kOn_of hn ?_
        | refine And.intro ?_ ?_
        | omega
        | intro _
  · rw [hsVT_3] at h
    dsimp only at h
    refine ⟨fun e => absurd e (by decide), fun _ => ⟨fun e => absurd e (by decide), fun _ => ⟨fun e => absurd e (by decide), fun _ => ⟨fun _ => ?_, fun e => absurd rfl e⟩⟩⟩⟩
    repeat' first
      | unfold cR48_note
      | exact hs_w32 _
      | exact (hs_w32 _).1
      | exact hsB_o _
      | exact kA
      | exact rfl
      | exact Or.inr rfl
      | exact Or.inl rfl
      | exact h _ _ _ _ (by omega) (by omega) (by omega) Iff.rfl
      | exact h _ _ _ _ (by omega) (by omega) (by omega) (by omega)
      | exact h _ _ _ _ (by omega) (by omega) (by omega) hs_ih
      | exact h _ _ _ _ (by omega) (by omega) (by omega) hs_i0
      | contradiction
      | refine kOn_of hA ?_
      | refine kOn_of hn ?_
      | refine And.intro ?_ ?_
      | omega
      | intro _
  · rw [hsVT_4] at h
    dsimp only at h
    by_cases fbool : ((vsRead (w32 (al A 0)) (w32 (al A 1)) R48_S).2) = 0
    · rw [hsN0_p fbool] at h
      refine ⟨fun e => absurd e (by decide), fun _ => ⟨fun e => absurd e (by decide), fun _ => ⟨fun e => absurd e (by decide), fun _ => ⟨fun e => absurd e (by decide), fun _ => ⟨fun _ => ?_, fun e => absurd rfl e⟩⟩⟩⟩⟩
      repeat' first
        | unfold cR48_read
        | exact hs_w32 _
        | exact (hs_w32 _).1
        | exact hsB_o _
        | exact kA
        | exact rfl
        | exact Or.inr rfl
        | exact Or.inl rfl
        | exact h _ _ _ _ (by omega) (by omega) (by omega) Iff.rfl
        | exact h _ _ _ _ (by omega) (by omega) (by omega) (by omega)
        | exact h _ _ _ _ (by omega) (by omega) (by omega) hs_ih
        | exact h _ _ _ _ (by omega) (by omega) (by omega) hs_i0
        | contradiction
        | refine kOn_of hA ?_
        | refine kOn_of hn ?_
        | refine And.intro ?_ ?_
        | omega
        | intro _
    · rw [hsN0_n fbool] at h
      refine ⟨fun e => absurd e (by decide), fun _ => ⟨fun e => absurd e (by decide), fun _ => ⟨fun e => absurd e (by decide), fun _ => ⟨fun e => absurd e (by decide), fun _ => ⟨fun _ => ?_, fun e => absurd rfl e⟩⟩⟩⟩⟩
      repeat' first
        | unfold cR48_read
        | exact hs_w32 _
        | exact (hs_w32 _).1
        | exact hsB_o _
        | exact kA
        | exact rfl
        | exact Or.inr rfl
        | exact Or.inl rfl
        | exact h _ _ _ _ (by omega) (by omega) (by omega) Iff.rfl
        | exact h _ _ _ _ (by omega) (by omega) (by omega) (by omega)
        | exact h _ _ _ _ (by omega) (by omega) (by omega) hs_ih
        | exact h _ _ _ _ (by omega) (by omega) (by omega) hs_i0
        | contradiction
        | refine kOn_of hA ?_
        | refine kOn_of hn ?_
        | refine And.intro ?_ ?_
        | omega
        | intro _
  · rw [hsVT_5] at h
    dsimp only at h
    by_cases fbool : ((vsTold (w32 (al A 0)) (w32 (al A 1)) R48_S).2) = 0
    · rw [hsN0_p fbool] at h
      refine ⟨fun e => absurd e (by decide), fun _ => ⟨fun e => absurd e (by decide), fun _ => ⟨fun e => absurd e (by decide), fun _ => ⟨fun e => absurd e (by decide), fun _ => ⟨fun e => absurd e (by decide), fun _ => ⟨fun _ => ?_, fun e => absurd rfl e⟩⟩⟩⟩⟩⟩
      repeat' first
        | unfold cR48_told
        | exact hs_w32 _
        | exact (hs_w32 _).1
        | exact hsB_o _
        | exact kA
        | exact rfl
        | exact Or.inr rfl
        | exact Or.inl rfl
        | exact h _ _ _ _ (by omega) (by omega) (by omega) Iff.rfl
        | exact h _ _ _ _ (by omega) (by omega) (by omega) (by omega)
        | exact h _ _ _ _ (by omega) (by omega) (by omega) hs_ih
        | exact h _ _ _ _ (by omega) (by omega) (by omega) hs_i0
        | contradiction
        | refine kOn_of hA ?_
        | refine kOn_of hn ?_
        | refine And.intro ?_ ?_
        | omega
        | intro _
    · rw [hsN0_n fbool] at h
      refine ⟨fun e => absurd e (by decide), fun _ => ⟨fun e => absurd e (by decide), fun _ => ⟨fun e => absurd e (by decide), fun _ => ⟨fun e => absurd e (by decide), fun _ => ⟨fun e => absurd e (by decide), fun _ => ⟨fun _ => ?_, fun e => absurd rfl e⟩⟩⟩⟩⟩⟩
      repeat' first
        | unfold cR48_told
        | exact hs_w32 _
        | exact (hs_w32 _).1
        | exact hsB_o _
        | exact kA
        | exact rfl
        | exact Or.inr rfl
        | exact Or.inl rfl
        | exact h _ _ _ _ (by omega) (by omega) (by omega) Iff.rfl
        | exact h _ _ _ _ (by omega) (by omega) (by omega) (by omega)
        | exact h _ _ _ _ (by omega) (by omega) (by omega) hs_ih
        | exact h _ _ _ _ (by omega) (by omega) (by omega) hs_i0
        | contradiction
        | refine kOn_of hA ?_
        | refine kOn_of hn ?_
        | refine And.intro ?_ ?_
        | omega
        | intro _
  · rw [hsVT_6] at h
    dsimp only at h
    refine ⟨fun e => absurd e (by decide), fun _ => ⟨fun e => absurd e (by decide), fun _ => ⟨fun e => absurd e (by decide), fun _ => ⟨fun e => absurd e (by decide), fun _ => ⟨fun e => absurd e (by decide), fun _ => ⟨fun e => absurd e (by decide), fun _ => ⟨fun _ => ?_, fun e => absurd rfl e⟩⟩⟩⟩⟩⟩⟩
    repeat' first
      | unfold cR48_commit
      | exact hs_w32 _
      | exact (hs_w32 _).1
      | exact hsB_o _
      | exact kA
      | exact rfl
      | exact Or.inr rfl
      | exact Or.inl rfl
      | exact h _ _ _ _ (by omega) (by omega) (by omega) Iff.rfl
      | exact h _ _ _ _ (by omega) (by omega) (by omega) (by omega)
      | exact h _ _ _ _ (by omega) (by omega) (by omega) hs_ih
      | exact h _ _ _ _ (by omega) (by omega) (by omega) hs_i0
      | contradiction
      | refine kOn_of hA ?_
      | refine kOn_of hn ?_
      | refine And.intro ?_ ?_
      | omega
      | intro _
  · rw [hsVT_7] at h
    dsimp only at h
    refine ⟨fun e => absurd e (by decide), fun _ => ⟨fun e => absurd e (by decide), fun _ => ⟨fun e => absurd e (by decide), fun _ => ⟨fun e => absurd e (by decide), fun _ => ⟨fun e => absurd e (by decide), fun _ => ⟨fun e => absurd e (by decide), fun _ => ⟨fun e => absurd e (by decide), fun _ => ⟨fun _ => ?_, fun e => absurd rfl e⟩⟩⟩⟩⟩⟩⟩⟩
    repeat' first
      | unfold cR48_abort
      | exact hs_w32 _
      | exact (hs_w32 _).1
      | exact hsB_o _
      | exact kA
      | exact rfl
      | exact Or.inr rfl
      | exact Or.inl rfl
      | exact h _ _ _ _ (by omega) (by omega) (by omega) Iff.rfl
      | exact h _ _ _ _ (by omega) (by omega) (by omega) (by omega)
      | exact h _ _ _ _ (by omega) (by omega) (by omega) hs_ih
      | exact h _ _ _ _ (by omega) (by omega) (by omega) hs_i0
      | contradiction
      | refine kOn_of hA ?_
      | refine kOn_of hn ?_
      | refine And.intro ?_ ?_
      | omega
      | intro _
  · rw [hsVT_8] at h
    dsimp only at h
    refine ⟨fun e => absurd e (by decide), fun _ => ⟨fun e => absurd e (by decide), fun _ => ⟨fun e => absurd e (by decide), fun _ => ⟨fun e => absurd e (by decide), fun _ => ⟨fun e => absurd e (by decide), fun _ => ⟨fun e => absurd e (by decide), fun _ => ⟨fun e => absurd e (by decide), fun _ => ⟨fun e => absurd e (by decide), fun _ => ⟨fun _ => ?_, fun e => absurd rfl e⟩⟩⟩⟩⟩⟩⟩⟩⟩
    repeat' first
      | unfold cR48_pin
      | exact hs_w32 _
      | exact (hs_w32 _).1
      | exact hsB_o _
      | exact kA
      | exact rfl
      | exact Or.inr rfl
      | exact Or.inl rfl
      | exact h _ _ _ _ (by omega) (by omega) (by omega) Iff.rfl
      | exact h _ _ _ _ (by omega) (by omega) (by omega) (by omega)
      | exact h _ _ _ _ (by omega) (by omega) (by omega) hs_ih
      | exact h _ _ _ _ (by omega) (by omega) (by omega) hs_i0
      | contradiction
      | refine kOn_of hA ?_
      | refine kOn_of hn ?_
      | refine And.intro ?_ ?_
      | omega
      | intro _
  · rw [hsVT_9] at h
    dsimp only at h
    refine ⟨fun e => absurd e (by decide), fun _ => ⟨fun e => absurd e (by decide), fun _ => ⟨fun e => absurd e (by decide), fun _ => ⟨fun e => absurd e (by decide), fun _ => ⟨fun e => absurd e (by decide), fun _ => ⟨fun e => absurd e (by decide), fun _ => ⟨fun e => absurd e (by decide), fun _ => ⟨fun e => absurd e (by decide), fun _ => ⟨fun e => absurd e (by decide), fun _ => ⟨fun _ => ?_, fun e => absurd rfl e⟩⟩⟩⟩⟩⟩⟩⟩⟩⟩
    repeat' first
      | unfold cR48_unpin
      | exact hs_w32 _
      | exact (hs_w32 _).1
      | exact hsB_o _
      | exact kA
      | exact rfl
      | exact Or.inr rfl
      | exact Or.inl rfl
      | exact h _ _ _ _ (by omega) (by omega) (by omega) Iff.rfl
      | exact h _ _ _ _ (by omega) (by omega) (by omega) (by omega)
      | exact h _ _ _ _ (by omega) (by omega) (by omega) hs_ih
      | exact h _ _ _ _ (by omega) (by omega) (by omega) hs_i0
      | contradiction
      | refine kOn_of hA ?_
      | refine kOn_of hn ?_
      | refine And.intro ?_ ?_
      | omega
      | intro _
  · rw [hsVT_10] at h
    dsimp only at h
    refine ⟨fun e => absurd e (by decide), fun _ => ⟨fun e => absurd e (by decide), fun _ => ⟨fun e => absurd e (by decide), fun _ => ⟨fun e => absurd e (by decide), fun _ => ⟨fun e => absurd e (by decide), fun _ => ⟨fun e => absurd e (by decide), fun _ => ⟨fun e => absurd e (by decide), fun _ => ⟨fun e => absurd e (by decide), fun _ => ⟨fun e => absurd e (by decide), fun _ => ⟨fun e => absurd e (by decide), fun _ => ⟨fun _ => ?_, fun e => absurd rfl e⟩⟩⟩⟩⟩⟩⟩⟩⟩⟩⟩
    repeat' first
      | unfold cR48_free
      | exact hs_w32 _
      | exact (hs_w32 _).1
      | exact hsB_o _
      | exact kA
      | exact rfl
      | exact Or.inr rfl
      | exact Or.inl rfl
      | exact h _ _ _ _ (by omega) (by omega) (by omega) Iff.rfl
      | exact h _ _ _ _ (by omega) (by omega) (by omega) (by omega)
      | exact h _ _ _ _ (by omega) (by omega) (by omega) hs_ih
      | exact h _ _ _ _ (by omega) (by omega) (by omega) hs_i0
      | contradiction
      | refine kOn_of hA ?_
      | refine kOn_of hn ?_
      | refine And.intro ?_ ?_
      | omega
      | intro _
  · rw [hsVT_11] at h
    dsimp only at h
    refine ⟨fun e => absurd e (by decide), fun _ => ⟨fun e => absurd e (by decide), fun _ => ⟨fun e => absurd e (by decide), fun _ => ⟨fun e => absurd e (by decide), fun _ => ⟨fun e => absurd e (by decide), fun _ => ⟨fun e => absurd e (by decide), fun _ => ⟨fun e => absurd e (by decide), fun _ => ⟨fun e => absurd e (by decide), fun _ => ⟨fun e => absurd e (by decide), fun _ => ⟨fun e => absurd e (by decide), fun _ => ⟨fun e => absurd e (by decide), fun _ => ⟨fun _ => ?_, fun e => absurd rfl e⟩⟩⟩⟩⟩⟩⟩⟩⟩⟩⟩⟩
    repeat' first
      | unfold cR48_rows
      | exact hs_w32 _
      | exact (hs_w32 _).1
      | exact hsB_o _
      | exact kA
      | exact rfl
      | exact Or.inr rfl
      | exact Or.inl rfl
      | exact h _ _ _ _ (by omega) (by omega) (by omega) Iff.rfl
      | exact h _ _ _ _ (by omega) (by omega) (by omega) (by omega)
      | exact h _ _ _ _ (by omega) (by omega) (by omega) hs_ih
      | exact h _ _ _ _ (by omega) (by omega) (by omega) hs_i0
      | contradiction
      | refine kOn_of hA ?_
      | refine kOn_of hn ?_
      | refine And.intro ?_ ?_
      | omega
      | intro _
  · rw [hsVT_12] at h
    dsimp only at h
    refine ⟨fun e => absurd e (by decide), fun _ => ⟨fun e => absurd e (by decide), fun _ => ⟨fun e => absurd e (by decide), fun _ => ⟨fun e => absurd e (by decide), fun _ => ⟨fun e => absurd e (by decide), fun _ => ⟨fun e => absurd e (by decide), fun _ => ⟨fun e => absurd e (by decide), fun _ => ⟨fun e => absurd e (by decide), fun _ => ⟨fun e => absurd e (by decide), fun _ => ⟨fun e => absurd e (by decide), fun _ => ⟨fun e => absurd e (by decide), fun _ => ⟨fun e => absurd e (by decide), fun _ => ⟨fun _ => ?_, fun e => absurd rfl e⟩⟩⟩⟩⟩⟩⟩⟩⟩⟩⟩⟩⟩
    repeat' first
      | unfold cR48_latest
      | exact hs_w32 _
      | exact (hs_w32 _).1
      | exact hsB_o _
      | exact kA
      | exact rfl
      | exact Or.inr rfl
      | exact Or.inl rfl
      | exact h _ _ _ _ (by omega) (by omega) (by omega) Iff.rfl
      | exact h _ _ _ _ (by omega) (by omega) (by omega) (by omega)
      | exact h _ _ _ _ (by omega) (by omega) (by omega) hs_ih
      | exact h _ _ _ _ (by omega) (by omega) (by omega) hs_i0
      | contradiction
      | refine kOn_of hA ?_
      | refine kOn_of hn ?_
      | refine And.intro ?_ ?_
      | omega
      | intro _
  · rw [hsVT_13] at h
    dsimp only at h
    refine ⟨fun e => absurd e (by decide), fun _ => ⟨fun e => absurd e (by decide), fun _ => ⟨fun e => absurd e (by decide), fun _ => ⟨fun e => absurd e (by decide), fun _ => ⟨fun e => absurd e (by decide), fun _ => ⟨fun e => absurd e (by decide), fun _ => ⟨fun e => absurd e (by decide), fun _ => ⟨fun e => absurd e (by decide), fun _ => ⟨fun e => absurd e (by decide), fun _ => ⟨fun e => absurd e (by decide), fun _ => ⟨fun e => absurd e (by decide), fun _ => ⟨fun e => absurd e (by decide), fun _ => ⟨fun e => absurd e (by decide), fun _ => ⟨fun _ => ?_, fun e => absurd rfl e⟩⟩⟩⟩⟩⟩⟩⟩⟩⟩⟩⟩⟩⟩
    repeat' first
      | unfold cR48_least
      | exact hs_w32 _
      | exact (hs_w32 _).1
      | exact hsB_o _
      | exact kA
      | exact rfl
      | exact Or.inr rfl
      | exact Or.inl rfl
      | exact h _ _ _ _ (by omega) (by omega) (by omega) Iff.rfl
      | exact h _ _ _ _ (by omega) (by omega) (by omega) (by omega)
      | exact h _ _ _ _ (by omega) (by omega) (by omega) hs_ih
      | exact h _ _ _ _ (by omega) (by omega) (by omega) hs_i0
      | contradiction
      | refine kOn_of hA ?_
      | refine kOn_of hn ?_
      | refine And.intro ?_ ?_
      | omega
      | intro _
  · rw [hsVT_14] at h
    dsimp only at h
    refine ⟨fun e => absurd e (by decide), fun _ => ⟨fun e => absurd e (by decide), fun _ => ⟨fun e => absurd e (by decide), fun _ => ⟨fun e => absurd e (by decide), fun _ => ⟨fun e => absurd e (by decide), fun _ => ⟨fun e => absurd e (by decide), fun _ => ⟨fun e => absurd e (by decide), fun _ => ⟨fun e => absurd e (by decide), fun _ => ⟨fun e => absurd e (by decide), fun _ => ⟨fun e => absurd e (by decide), fun _ => ⟨fun e => absurd e (by decide), fun _ => ⟨fun e => absurd e (by decide), fun _ => ⟨fun e => absurd e (by decide), fun _ => ⟨fun e => absurd e (by decide), fun _ => ⟨fun _ => ?_, fun e => absurd rfl e⟩⟩⟩⟩⟩⟩⟩⟩⟩⟩⟩⟩⟩⟩⟩
    repeat' first
      | unfold cR48_state
      | exact hs_w32 _
      | exact (hs_w32 _).1
      | exact hsB_o _
      | exact kA
      | exact rfl
      | exact Or.inr rfl
      | exact Or.inl rfl
      | exact h _ _ _ _ (by omega) (by omega) (by omega) Iff.rfl
      | exact h _ _ _ _ (by omega) (by omega) (by omega) (by omega)
      | exact h _ _ _ _ (by omega) (by omega) (by omega) hs_ih
      | exact h _ _ _ _ (by omega) (by omega) (by omega) hs_i0
      | contradiction
      | refine kOn_of hA ?_
      | refine kOn_of hn ?_
      | refine And.intro ?_ ?_
      | omega
      | intro _
  · rw [hsVT_15] at h
    dsimp only at h
    refine ⟨fun e => absurd e (by decide), fun _ => ⟨fun e => absurd e (by decide), fun _ => ⟨fun e => absurd e (by decide), fun _ => ⟨fun e => absurd e (by decide), fun _ => ⟨fun e => absurd e (by decide), fun _ => ⟨fun e => absurd e (by decide), fun _ => ⟨fun e => absurd e (by decide), fun _ => ⟨fun e => absurd e (by decide), fun _ => ⟨fun e => absurd e (by decide), fun _ => ⟨fun e => absurd e (by decide), fun _ => ⟨fun e => absurd e (by decide), fun _ => ⟨fun e => absurd e (by decide), fun _ => ⟨fun e => absurd e (by decide), fun _ => ⟨fun e => absurd e (by decide), fun _ => ⟨fun e => absurd e (by decide), fun _ => ⟨fun _ => ?_, fun e => absurd rfl e⟩⟩⟩⟩⟩⟩⟩⟩⟩⟩⟩⟩⟩⟩⟩⟩
    repeat' first
      | unfold cR48_waits
      | exact hs_w32 _
      | exact (hs_w32 _).1
      | exact hsB_o _
      | exact kA
      | exact rfl
      | exact Or.inr rfl
      | exact Or.inl rfl
      | exact h _ _ _ _ (by omega) (by omega) (by omega) Iff.rfl
      | exact h _ _ _ _ (by omega) (by omega) (by omega) (by omega)
      | exact h _ _ _ _ (by omega) (by omega) (by omega) hs_ih
      | exact h _ _ _ _ (by omega) (by omega) (by omega) hs_i0
      | contradiction
      | refine kOn_of hA ?_
      | refine kOn_of hn ?_
      | refine And.intro ?_ ?_
      | omega
      | intro _
  · rw [hsVT_16] at h
    dsimp only at h
    refine ⟨fun e => absurd e (by decide), fun _ => ⟨fun e => absurd e (by decide), fun _ => ⟨fun e => absurd e (by decide), fun _ => ⟨fun e => absurd e (by decide), fun _ => ⟨fun e => absurd e (by decide), fun _ => ⟨fun e => absurd e (by decide), fun _ => ⟨fun e => absurd e (by decide), fun _ => ⟨fun e => absurd e (by decide), fun _ => ⟨fun e => absurd e (by decide), fun _ => ⟨fun e => absurd e (by decide), fun _ => ⟨fun e => absurd e (by decide), fun _ => ⟨fun e => absurd e (by decide), fun _ => ⟨fun e => absurd e (by decide), fun _ => ⟨fun e => absurd e (by decide), fun _ => ⟨fun e => absurd e (by decide), fun _ => ⟨fun e => absurd e (by decide), fun _ => ⟨fun _ => ?_, fun e => absurd rfl e⟩⟩⟩⟩⟩⟩⟩⟩⟩⟩⟩⟩⟩⟩⟩⟩⟩
    repeat' first
      | unfold cR48_ring
      | exact hs_w32 _
      | exact (hs_w32 _).1
      | exact hsB_o _
      | exact kA
      | exact rfl
      | exact Or.inr rfl
      | exact Or.inl rfl
      | exact h _ _ _ _ (by omega) (by omega) (by omega) Iff.rfl
      | exact h _ _ _ _ (by omega) (by omega) (by omega) (by omega)
      | exact h _ _ _ _ (by omega) (by omega) (by omega) hs_ih
      | exact h _ _ _ _ (by omega) (by omega) (by omega) hs_i0
      | contradiction
      | refine kOn_of hA ?_
      | refine kOn_of hn ?_
      | refine And.intro ?_ ?_
      | omega
      | intro _
  · rw [hsVT_17] at h
    dsimp only at h
    refine ⟨fun e => absurd e (by decide), fun _ => ⟨fun e => absurd e (by decide), fun _ => ⟨fun e => absurd e (by decide), fun _ => ⟨fun e => absurd e (by decide), fun _ => ⟨fun e => absurd e (by decide), fun _ => ⟨fun e => absurd e (by decide), fun _ => ⟨fun e => absurd e (by decide), fun _ => ⟨fun e => absurd e (by decide), fun _ => ⟨fun e => absurd e (by decide), fun _ => ⟨fun e => absurd e (by decide), fun _ => ⟨fun e => absurd e (by decide), fun _ => ⟨fun e => absurd e (by decide), fun _ => ⟨fun e => absurd e (by decide), fun _ => ⟨fun e => absurd e (by decide), fun _ => ⟨fun e => absurd e (by decide), fun _ => ⟨fun e => absurd e (by decide), fun _ => ⟨fun e => absurd e (by decide), fun _ => ?_⟩⟩⟩⟩⟩⟩⟩⟩⟩⟩⟩⟩⟩⟩⟩⟩⟩
    repeat' first
      | unfold cR48_conflicts
      | exact hs_w32 _
      | exact (hs_w32 _).1
      | exact hsB_o _
      | exact kA
      | exact rfl
      | exact Or.inr rfl
      | exact Or.inl rfl
      | exact h _ _ _ _ (by omega) (by omega) (by omega) Iff.rfl
      | exact h _ _ _ _ (by omega) (by omega) (by omega) (by omega)
      | exact h _ _ _ _ (by omega) (by omega) (by omega) hs_ih
      | exact h _ _ _ _ (by omega) (by omega) (by omega) hs_i0
      | contradiction
      | refine kOn_of hA ?_
      | refine kOn_of hn ?_
      | refine And.intro ?_ ?_
      | omega
      | intro _
theorem SR_valuesCall {MC : Nat} {MS : Nat} {post : Int → Int → dvS → Prop} {kd : Nat → Nat} {an : Nat → Nat} {al : Nat → Int → Int} {mX45_values : Nat → Option Nat} {mX45_need : Nat → Option Nat} {R49_th : Int} {R49_S : dvS} {ra : Nat → Nat} {x0 : Nat} {x1 : Int} {A : Nat} (hA : mX45_need x0 = some A) (kA : kd A = 5) (nA : an A = 8) (hn : mX45_values x0 = some (ra 3)) (hM : 4000 ≤ MC ∧ 40000 ≤ MS) (h1 : 0 ≤ x1 ∧ x1 < 10) (h : ∀ (R49_th' : Int), post (hsDV x1 (al A) R49_S).1 R49_th' (hsDV x1 (al A) R49_S).2) : wpSR_X45_valuesCall MC MS post kd an al mX45_values mX45_need R49_th R49_S ra x0 x1 := by
  unfold wpSR_X45_valuesCall
  obtain rfl | rfl | rfl | rfl | rfl | rfl | rfl | rfl | rfl | rfl : x1 = 0 ∨ x1 = 1 ∨ x1 = 2 ∨ x1 = 3 ∨ x1 = 4 ∨ x1 = 5 ∨ x1 = 6 ∨ x1 = 7 ∨ x1 = 8 ∨ x1 = 9 := by omega
  · rw [hsDV_0] at h
    dsimp only at h
    refine ⟨fun _ => ?_, fun e => absurd rfl e⟩
    repeat' first
      | unfold cR49_type
      | exact hs_w32 _
      | exact (hs_w32 _).1
      | exact hsB_o _
      | exact kA
      | exact rfl
      | exact Or.inr rfl
      | exact Or.inl rfl
      | exact h _ 
      | contradiction
      | refine kOn_of hA ?_
      | refine kOn_of hn ?_
      | refine And.intro ?_ ?_
      | omega
      | intro _
  · rw [hsDV_1] at h
    dsimp only at h
    refine ⟨fun e => absurd e (by decide), fun _ => ⟨fun _ => ?_, fun e => absurd rfl e⟩⟩
    repeat' first
      | unfold cR49_read
      | exact hs_w32 _
      | exact (hs_w32 _).1
      | exact hsB_o _
      | exact kA
      | exact rfl
      | exact Or.inr rfl
      | exact Or.inl rfl
      | exact h _ 
      | contradiction
      | refine kOn_of hA ?_
      | refine kOn_of hn ?_
      | refine And.intro ?_ ?_
      | omega
      | intro _
  · rw [hsDV_2] at h
    dsimp only at h
    refine ⟨fun e => absurd e (by decide), fun _ => ⟨fun e => absurd e (by decide), fun _ => ⟨fun _ => ?_, fun e => absurd rfl e⟩⟩⟩
    repeat' first
      | unfold cR49_values
      | exact hs_w32 _
      | exact (hs_w32 _).1
      | exact hsB_o _
      | exact kA
      | exact rfl
      | exact Or.inr rfl
      | exact Or.inl rfl
      | exact h _ 
      | contradiction
      | refine kOn_of hA ?_
      | refine kOn_of hn ?_
      | refine And.intro ?_ ?_
      | omega
      | intro _
  · rw [hsDV_3] at h
    dsimp only at h
    refine ⟨fun e => absurd e (by decide), fun _ => ⟨fun e => absurd e (by decide), fun _ => ⟨fun e => absurd e (by decide), fun _ => ⟨fun _ => ?_, fun e => absurd rfl e⟩⟩⟩⟩
    repeat' first
      | unfold cR49_kind
      | exact hs_w32 _
      | exact (hs_w32 _).1
      | exact hsB_o _
      | exact kA
      | exact rfl
      | exact Or.inr rfl
      | exact Or.inl rfl
      | exact h _ 
      | contradiction
      | refine kOn_of hA ?_
      | refine kOn_of hn ?_
      | refine And.intro ?_ ?_
      | omega
      | intro _
  · rw [hsDV_4] at h
    dsimp only at h
    refine ⟨fun e => absurd e (by decide), fun _ => ⟨fun e => absurd e (by decide), fun _ => ⟨fun e => absurd e (by decide), fun _ => ⟨fun e => absurd e (by decide), fun _ => ⟨fun _ => ?_, fun e => absurd rfl e⟩⟩⟩⟩⟩
    repeat' first
      | unfold cR49_compare
      | exact hs_w32 _
      | exact (hs_w32 _).1
      | exact hsB_o _
      | exact kA
      | exact rfl
      | exact Or.inr rfl
      | exact Or.inl rfl
      | exact h _ 
      | contradiction
      | refine kOn_of hA ?_
      | refine kOn_of hn ?_
      | refine And.intro ?_ ?_
      | omega
      | intro _
  · rw [hsDV_5] at h
    dsimp only at h
    refine ⟨fun e => absurd e (by decide), fun _ => ⟨fun e => absurd e (by decide), fun _ => ⟨fun e => absurd e (by decide), fun _ => ⟨fun e => absurd e (by decide), fun _ => ⟨fun e => absurd e (by decide), fun _ => ⟨fun _ => ?_, fun e => absurd rfl e⟩⟩⟩⟩⟩⟩
    repeat' first
      | unfold cR49_part
      | exact hs_w32 _
      | exact (hs_w32 _).1
      | exact hsB_o _
      | exact kA
      | exact rfl
      | exact Or.inr rfl
      | exact Or.inl rfl
      | exact h _ 
      | contradiction
      | refine kOn_of hA ?_
      | refine kOn_of hn ?_
      | refine And.intro ?_ ?_
      | omega
      | intro _
  · rw [hsDV_6] at h
    dsimp only at h
    refine ⟨fun e => absurd e (by decide), fun _ => ⟨fun e => absurd e (by decide), fun _ => ⟨fun e => absurd e (by decide), fun _ => ⟨fun e => absurd e (by decide), fun _ => ⟨fun e => absurd e (by decide), fun _ => ⟨fun e => absurd e (by decide), fun _ => ⟨fun _ => ?_, fun e => absurd rfl e⟩⟩⟩⟩⟩⟩⟩
    repeat' first
      | unfold cR49_byteOf
      | exact hs_w32 _
      | exact (hs_w32 _).1
      | exact hsB_o _
      | exact kA
      | exact rfl
      | exact Or.inr rfl
      | exact Or.inl rfl
      | exact h _ 
      | contradiction
      | refine kOn_of hA ?_
      | refine kOn_of hn ?_
      | refine And.intro ?_ ?_
      | omega
      | intro _
  · rw [hsDV_7] at h
    dsimp only at h
    refine ⟨fun e => absurd e (by decide), fun _ => ⟨fun e => absurd e (by decide), fun _ => ⟨fun e => absurd e (by decide), fun _ => ⟨fun e => absurd e (by decide), fun _ => ⟨fun e => absurd e (by decide), fun _ => ⟨fun e => absurd e (by decide), fun _ => ⟨fun e => absurd e (by decide), fun _ => ⟨fun _ => ?_, fun e => absurd rfl e⟩⟩⟩⟩⟩⟩⟩⟩
    repeat' first
      | unfold cR49_tell
      | exact hs_w32 _
      | exact (hs_w32 _).1
      | exact hsB_o _
      | exact kA
      | exact rfl
      | exact Or.inr rfl
      | exact Or.inl rfl
      | exact h _ 
      | contradiction
      | refine kOn_of hA ?_
      | refine kOn_of hn ?_
      | refine And.intro ?_ ?_
      | omega
      | intro _
  · rw [hsDV_8] at h
    dsimp only at h
    refine ⟨fun e => absurd e (by decide), fun _ => ⟨fun e => absurd e (by decide), fun _ => ⟨fun e => absurd e (by decide), fun _ => ⟨fun e => absurd e (by decide), fun _ => ⟨fun e => absurd e (by decide), fun _ => ⟨fun e => absurd e (by decide), fun _ => ⟨fun e => absurd e (by decide), fun _ => ⟨fun e => absurd e (by decide), fun _ => ⟨fun _ => ?_, fun e => absurd rfl e⟩⟩⟩⟩⟩⟩⟩⟩⟩
    repeat' first
      | unfold cR49_told
      | exact hs_w32 _
      | exact (hs_w32 _).1
      | exact hsB_o _
      | exact kA
      | exact rfl
      | exact Or.inr rfl
      | exact Or.inl rfl
      | exact h _ 
      | contradiction
      | refine kOn_of hA ?_
      | refine kOn_of hn ?_
      | refine And.intro ?_ ?_
      | omega
      | intro _
  · rw [hsDV_9] at h
    dsimp only at h
    refine ⟨fun e => absurd e (by decide), fun _ => ⟨fun e => absurd e (by decide), fun _ => ⟨fun e => absurd e (by decide), fun _ => ⟨fun e => absurd e (by decide), fun _ => ⟨fun e => absurd e (by decide), fun _ => ⟨fun e => absurd e (by decide), fun _ => ⟨fun e => absurd e (by decide), fun _ => ⟨fun e => absurd e (by decide), fun _ => ⟨fun e => absurd e (by decide), fun _ => ?_⟩⟩⟩⟩⟩⟩⟩⟩⟩
    repeat' first
      | unfold cR49_apply
      | exact hs_w32 _
      | exact (hs_w32 _).1
      | exact hsB_o _
      | exact kA
      | exact rfl
      | exact Or.inr rfl
      | exact Or.inl rfl
      | exact h _ 
      | contradiction
      | refine kOn_of hA ?_
      | refine kOn_of hn ?_
      | refine And.intro ?_ ?_
      | omega
      | intro _
theorem SR_proofsCall {MC : Nat} {MS : Nat} {post : Int → pqT → Prop} {kd : Nat → Nat} {an : Nat → Nat} {al : Nat → Int → Int} {mX45_proofs : Nat → Option Nat} {mX45_need : Nat → Option Nat} {R50_S : pqT} {ra : Nat → Nat} {x0 : Nat} {x1 : Int} {A : Nat} (hA : mX45_need x0 = some A) (kA : kd A = 5) (nA : an A = 8) (hn : mX45_proofs x0 = some (ra 4)) (hM : 4000 ≤ MC ∧ 40000 ≤ MS) (h1 : 0 ≤ x1 ∧ x1 < 14) (h : post (hsPC x1 (al A) R50_S).1  (hsPC x1 (al A) R50_S).2) : wpSR_X45_proofsCall MC MS post kd an al mX45_proofs mX45_need R50_S ra x0 x1 := by
  unfold wpSR_X45_proofsCall
  obtain rfl | rfl | rfl | rfl | rfl | rfl | rfl | rfl | rfl | rfl | rfl | rfl | rfl | rfl : x1 = 0 ∨ x1 = 1 ∨ x1 = 2 ∨ x1 = 3 ∨ x1 = 4 ∨ x1 = 5 ∨ x1 = 6 ∨ x1 = 7 ∨ x1 = 8 ∨ x1 = 9 ∨ x1 = 10 ∨ x1 = 11 ∨ x1 = 12 ∨ x1 = 13 := by omega
  · rw [hsPC_0] at h
    dsimp only at h
    refine ⟨fun _ => ?_, fun e => absurd rfl e⟩
    repeat' first
      | unfold cR50_axiom
      | exact hs_w32 _
      | exact (hs_w32 _).1
      | exact hsB_o _
      | exact kA
      | exact rfl
      | exact Or.inr rfl
      | exact Or.inl rfl
      | exact h  
      | contradiction
      | refine kOn_of hA ?_
      | refine kOn_of hn ?_
      | refine And.intro ?_ ?_
      | omega
      | intro _
  · rw [hsPC_1] at h
    dsimp only at h
    refine ⟨fun e => absurd e (by decide), fun _ => ⟨fun _ => ?_, fun e => absurd rfl e⟩⟩
    repeat' first
      | unfold cR50_triple
      | exact hs_w32 _
      | exact (hs_w32 _).1
      | exact hsB_o _
      | exact kA
      | exact rfl
      | exact Or.inr rfl
      | exact Or.inl rfl
      | exact h  
      | contradiction
      | refine kOn_of hA ?_
      | refine kOn_of hn ?_
      | refine And.intro ?_ ?_
      | omega
      | intro _
  · rw [hsPC_2] at h
    dsimp only at h
    refine ⟨fun e => absurd e (by decide), fun _ => ⟨fun e => absurd e (by decide), fun _ => ⟨fun _ => ?_, fun e => absurd rfl e⟩⟩⟩
    repeat' first
      | unfold cR50_row
      | exact hs_w32 _
      | exact (hs_w32 _).1
      | exact hsB_o _
      | exact kA
      | exact rfl
      | exact Or.inr rfl
      | exact Or.inl rfl
      | exact h  
      | contradiction
      | refine kOn_of hA ?_
      | refine kOn_of hn ?_
      | refine And.intro ?_ ?_
      | omega
      | intro _
  · rw [hsPC_3] at h
    dsimp only at h
    refine ⟨fun e => absurd e (by decide), fun _ => ⟨fun e => absurd e (by decide), fun _ => ⟨fun e => absurd e (by decide), fun _ => ⟨fun _ => ?_, fun e => absurd rfl e⟩⟩⟩⟩
    repeat' first
      | unfold cR50_premise
      | exact hs_w32 _
      | exact (hs_w32 _).1
      | exact hsB_o _
      | exact kA
      | exact rfl
      | exact Or.inr rfl
      | exact Or.inl rfl
      | exact h  
      | contradiction
      | refine kOn_of hA ?_
      | refine kOn_of hn ?_
      | refine And.intro ?_ ?_
      | omega
      | intro _
  · rw [hsPC_4] at h
    dsimp only at h
    refine ⟨fun e => absurd e (by decide), fun _ => ⟨fun e => absurd e (by decide), fun _ => ⟨fun e => absurd e (by decide), fun _ => ⟨fun e => absurd e (by decide), fun _ => ⟨fun _ => ?_, fun e => absurd rfl e⟩⟩⟩⟩⟩
    repeat' first
      | unfold cR50_check
      | exact hs_w32 _
      | exact (hs_w32 _).1
      | exact hsB_o _
      | exact kA
      | exact rfl
      | exact Or.inr rfl
      | exact Or.inl rfl
      | exact h  
      | contradiction
      | refine kOn_of hA ?_
      | refine kOn_of hn ?_
      | refine And.intro ?_ ?_
      | omega
      | intro _
  · rw [hsPC_5] at h
    dsimp only at h
    refine ⟨fun e => absurd e (by decide), fun _ => ⟨fun e => absurd e (by decide), fun _ => ⟨fun e => absurd e (by decide), fun _ => ⟨fun e => absurd e (by decide), fun _ => ⟨fun e => absurd e (by decide), fun _ => ⟨fun _ => ?_, fun e => absurd rfl e⟩⟩⟩⟩⟩⟩
    repeat' first
      | unfold cR50_broken
      | exact hs_w32 _
      | exact (hs_w32 _).1
      | exact hsB_o _
      | exact kA
      | exact rfl
      | exact Or.inr rfl
      | exact Or.inl rfl
      | exact h  
      | contradiction
      | refine kOn_of hA ?_
      | refine kOn_of hn ?_
      | refine And.intro ?_ ?_
      | omega
      | intro _
  · rw [hsPC_6] at h
    dsimp only at h
    refine ⟨fun e => absurd e (by decide), fun _ => ⟨fun e => absurd e (by decide), fun _ => ⟨fun e => absurd e (by decide), fun _ => ⟨fun e => absurd e (by decide), fun _ => ⟨fun e => absurd e (by decide), fun _ => ⟨fun e => absurd e (by decide), fun _ => ⟨fun _ => ?_, fun e => absurd rfl e⟩⟩⟩⟩⟩⟩⟩
    repeat' first
      | unfold cR50_rows
      | exact hs_w32 _
      | exact (hs_w32 _).1
      | exact hsB_o _
      | exact kA
      | exact rfl
      | exact Or.inr rfl
      | exact Or.inl rfl
      | exact h  
      | contradiction
      | refine kOn_of hA ?_
      | refine kOn_of hn ?_
      | refine And.intro ?_ ?_
      | omega
      | intro _
  · rw [hsPC_7] at h
    dsimp only at h
    refine ⟨fun e => absurd e (by decide), fun _ => ⟨fun e => absurd e (by decide), fun _ => ⟨fun e => absurd e (by decide), fun _ => ⟨fun e => absurd e (by decide), fun _ => ⟨fun e => absurd e (by decide), fun _ => ⟨fun e => absurd e (by decide), fun _ => ⟨fun e => absurd e (by decide), fun _ => ⟨fun _ => ?_, fun e => absurd rfl e⟩⟩⟩⟩⟩⟩⟩⟩
    repeat' first
      | unfold cR50_size
      | exact hs_w32 _
      | exact (hs_w32 _).1
      | exact hsB_o _
      | exact kA
      | exact rfl
      | exact Or.inr rfl
      | exact Or.inl rfl
      | exact h  
      | contradiction
      | refine kOn_of hA ?_
      | refine kOn_of hn ?_
      | refine And.intro ?_ ?_
      | omega
      | intro _
  · rw [hsPC_8] at h
    dsimp only at h
    refine ⟨fun e => absurd e (by decide), fun _ => ⟨fun e => absurd e (by decide), fun _ => ⟨fun e => absurd e (by decide), fun _ => ⟨fun e => absurd e (by decide), fun _ => ⟨fun e => absurd e (by decide), fun _ => ⟨fun e => absurd e (by decide), fun _ => ⟨fun e => absurd e (by decide), fun _ => ⟨fun e => absurd e (by decide), fun _ => ⟨fun _ => ?_, fun e => absurd rfl e⟩⟩⟩⟩⟩⟩⟩⟩⟩
    repeat' first
      | unfold cR50_drop
      | exact hs_w32 _
      | exact (hs_w32 _).1
      | exact hsB_o _
      | exact kA
      | exact rfl
      | exact Or.inr rfl
      | exact Or.inl rfl
      | exact h  
      | contradiction
      | refine kOn_of hA ?_
      | refine kOn_of hn ?_
      | refine And.intro ?_ ?_
      | omega
      | intro _
  · rw [hsPC_9] at h
    dsimp only at h
    refine ⟨fun e => absurd e (by decide), fun _ => ⟨fun e => absurd e (by decide), fun _ => ⟨fun e => absurd e (by decide), fun _ => ⟨fun e => absurd e (by decide), fun _ => ⟨fun e => absurd e (by decide), fun _ => ⟨fun e => absurd e (by decide), fun _ => ⟨fun e => absurd e (by decide), fun _ => ⟨fun e => absurd e (by decide), fun _ => ⟨fun e => absurd e (by decide), fun _ => ⟨fun _ => ?_, fun e => absurd rfl e⟩⟩⟩⟩⟩⟩⟩⟩⟩⟩
    repeat' first
      | unfold cR50_name
      | exact hs_w32 _
      | exact (hs_w32 _).1
      | exact hsB_o _
      | exact kA
      | exact rfl
      | exact Or.inr rfl
      | exact Or.inl rfl
      | exact h  
      | contradiction
      | refine kOn_of hA ?_
      | refine kOn_of hn ?_
      | refine And.intro ?_ ?_
      | omega
      | intro _
  · rw [hsPC_10] at h
    dsimp only at h
    refine ⟨fun e => absurd e (by decide), fun _ => ⟨fun e => absurd e (by decide), fun _ => ⟨fun e => absurd e (by decide), fun _ => ⟨fun e => absurd e (by decide), fun _ => ⟨fun e => absurd e (by decide), fun _ => ⟨fun e => absurd e (by decide), fun _ => ⟨fun e => absurd e (by decide), fun _ => ⟨fun e => absurd e (by decide), fun _ => ⟨fun e => absurd e (by decide), fun _ => ⟨fun e => absurd e (by decide), fun _ => ⟨fun _ => ?_, fun e => absurd rfl e⟩⟩⟩⟩⟩⟩⟩⟩⟩⟩⟩
    repeat' first
      | unfold cR50_states
      | exact hs_w32 _
      | exact (hs_w32 _).1
      | exact hsB_o _
      | exact kA
      | exact rfl
      | exact Or.inr rfl
      | exact Or.inl rfl
      | exact h  
      | contradiction
      | refine kOn_of hA ?_
      | refine kOn_of hn ?_
      | refine And.intro ?_ ?_
      | omega
      | intro _
  · rw [hsPC_11] at h
    dsimp only at h
    refine ⟨fun e => absurd e (by decide), fun _ => ⟨fun e => absurd e (by decide), fun _ => ⟨fun e => absurd e (by decide), fun _ => ⟨fun e => absurd e (by decide), fun _ => ⟨fun e => absurd e (by decide), fun _ => ⟨fun e => absurd e (by decide), fun _ => ⟨fun e => absurd e (by decide), fun _ => ⟨fun e => absurd e (by decide), fun _ => ⟨fun e => absurd e (by decide), fun _ => ⟨fun e => absurd e (by decide), fun _ => ⟨fun e => absurd e (by decide), fun _ => ⟨fun _ => ?_, fun e => absurd rfl e⟩⟩⟩⟩⟩⟩⟩⟩⟩⟩⟩⟩
    repeat' first
      | unfold cR50_sentence
      | exact hs_w32 _
      | exact (hs_w32 _).1
      | exact hsB_o _
      | exact kA
      | exact rfl
      | exact Or.inr rfl
      | exact Or.inl rfl
      | exact h  
      | contradiction
      | refine kOn_of hA ?_
      | refine kOn_of hn ?_
      | refine And.intro ?_ ?_
      | omega
      | intro _
  · rw [hsPC_12] at h
    dsimp only at h
    refine ⟨fun e => absurd e (by decide), fun _ => ⟨fun e => absurd e (by decide), fun _ => ⟨fun e => absurd e (by decide), fun _ => ⟨fun e => absurd e (by decide), fun _ => ⟨fun e => absurd e (by decide), fun _ => ⟨fun e => absurd e (by decide), fun _ => ⟨fun e => absurd e (by decide), fun _ => ⟨fun e => absurd e (by decide), fun _ => ⟨fun e => absurd e (by decide), fun _ => ⟨fun e => absurd e (by decide), fun _ => ⟨fun e => absurd e (by decide), fun _ => ⟨fun e => absurd e (by decide), fun _ => ⟨fun _ => ?_, fun e => absurd rfl e⟩⟩⟩⟩⟩⟩⟩⟩⟩⟩⟩⟩⟩
    repeat' first
      | unfold cR50_at
      | exact hs_w32 _
      | exact (hs_w32 _).1
      | exact hsB_o _
      | exact kA
      | exact rfl
      | exact Or.inr rfl
      | exact Or.inl rfl
      | exact h  
      | contradiction
      | refine kOn_of hA ?_
      | refine kOn_of hn ?_
      | refine And.intro ?_ ?_
      | omega
      | intro _
  · rw [hsPC_13] at h
    dsimp only at h
    by_cases fbool : ((pqConcludes (w32 (al A 0)) (w32 (al A 1)) R50_S)) = 0
    · rw [hsN0_p fbool] at h
      refine ⟨fun e => absurd e (by decide), fun _ => ⟨fun e => absurd e (by decide), fun _ => ⟨fun e => absurd e (by decide), fun _ => ⟨fun e => absurd e (by decide), fun _ => ⟨fun e => absurd e (by decide), fun _ => ⟨fun e => absurd e (by decide), fun _ => ⟨fun e => absurd e (by decide), fun _ => ⟨fun e => absurd e (by decide), fun _ => ⟨fun e => absurd e (by decide), fun _ => ⟨fun e => absurd e (by decide), fun _ => ⟨fun e => absurd e (by decide), fun _ => ⟨fun e => absurd e (by decide), fun _ => ⟨fun e => absurd e (by decide), fun _ => ?_⟩⟩⟩⟩⟩⟩⟩⟩⟩⟩⟩⟩⟩
      repeat' first
        | unfold cR50_concludes
        | exact hs_w32 _
        | exact (hs_w32 _).1
        | exact hsB_o _
        | exact kA
        | exact rfl
        | exact Or.inr rfl
        | exact Or.inl rfl
        | exact h  
        | contradiction
        | refine kOn_of hA ?_
        | refine kOn_of hn ?_
        | refine And.intro ?_ ?_
        | omega
        | intro _
    · rw [hsN0_n fbool] at h
      refine ⟨fun e => absurd e (by decide), fun _ => ⟨fun e => absurd e (by decide), fun _ => ⟨fun e => absurd e (by decide), fun _ => ⟨fun e => absurd e (by decide), fun _ => ⟨fun e => absurd e (by decide), fun _ => ⟨fun e => absurd e (by decide), fun _ => ⟨fun e => absurd e (by decide), fun _ => ⟨fun e => absurd e (by decide), fun _ => ⟨fun e => absurd e (by decide), fun _ => ⟨fun e => absurd e (by decide), fun _ => ⟨fun e => absurd e (by decide), fun _ => ⟨fun e => absurd e (by decide), fun _ => ⟨fun e => absurd e (by decide), fun _ => ?_⟩⟩⟩⟩⟩⟩⟩⟩⟩⟩⟩⟩⟩
      repeat' first
        | unfold cR50_concludes
        | exact hs_w32 _
        | exact (hs_w32 _).1
        | exact hsB_o _
        | exact kA
        | exact rfl
        | exact Or.inr rfl
        | exact Or.inl rfl
        | exact h  
        | contradiction
        | refine kOn_of hA ?_
        | refine kOn_of hn ?_
        | refine And.intro ?_ ?_
        | omega
        | intro _
theorem SR_rightsCall {MC : Nat} {MS : Nat} {post : Int → rdT → Prop} {kd : Nat → Nat} {an : Nat → Nat} {al : Nat → Int → Int} {mX45_rights : Nat → Option Nat} {mX45_need : Nat → Option Nat} {R51_S : rdT} {ra : Nat → Nat} {x0 : Nat} {x1 : Int} {A : Nat} (hA : mX45_need x0 = some A) (kA : kd A = 5) (nA : an A = 8) (hn : mX45_rights x0 = some (ra 5)) (hM : 4000 ≤ MC ∧ 40000 ≤ MS) (h1 : 0 ≤ x1 ∧ x1 < 16) (h : post (hsRD x1 (al A) R51_S).1  (hsRD x1 (al A) R51_S).2) : wpSR_X45_rightsCall MC MS post kd an al mX45_rights mX45_need R51_S ra x0 x1 := by
  unfold wpSR_X45_rightsCall
  obtain rfl | rfl | rfl | rfl | rfl | rfl | rfl | rfl | rfl | rfl | rfl | rfl | rfl | rfl | rfl | rfl : x1 = 0 ∨ x1 = 1 ∨ x1 = 2 ∨ x1 = 3 ∨ x1 = 4 ∨ x1 = 5 ∨ x1 = 6 ∨ x1 = 7 ∨ x1 = 8 ∨ x1 = 9 ∨ x1 = 10 ∨ x1 = 11 ∨ x1 = 12 ∨ x1 = 13 ∨ x1 = 14 ∨ x1 = 15 := by omega
  · rw [hsRD_0] at h
    dsimp only at h
    by_cases f2 : al A 2 = 1
    · rw [hsB_p f2] at h
      refine ⟨fun _ => ?_, fun e => absurd rfl e⟩
      repeat' first
        | unfold cR51_member
        | exact hs_w32 _
        | exact (hs_w32 _).1
        | exact hsB_o _
        | exact kA
        | exact rfl
        | exact Or.inr rfl
        | exact Or.inl rfl
        | exact h  
        | contradiction
        | refine kOn_of hA ?_
        | refine kOn_of hn ?_
        | refine And.intro ?_ ?_
        | omega
        | intro _
    · rw [hsB_n f2] at h
      refine ⟨fun _ => ?_, fun e => absurd rfl e⟩
      repeat' first
        | unfold cR51_member
        | exact hs_w32 _
        | exact (hs_w32 _).1
        | exact hsB_o _
        | exact kA
        | exact rfl
        | exact Or.inr rfl
        | exact Or.inl rfl
        | exact h  
        | contradiction
        | refine kOn_of hA ?_
        | refine kOn_of hn ?_
        | refine And.intro ?_ ?_
        | omega
        | intro _
  · rw [hsRD_1] at h
    dsimp only at h
    refine ⟨fun e => absurd e (by decide), fun _ => ⟨fun _ => ?_, fun e => absurd rfl e⟩⟩
    repeat' first
      | unfold cR51_condition
      | exact hs_w32 _
      | exact (hs_w32 _).1
      | exact hsB_o _
      | exact kA
      | exact rfl
      | exact Or.inr rfl
      | exact Or.inl rfl
      | exact h  
      | contradiction
      | refine kOn_of hA ?_
      | refine kOn_of hn ?_
      | refine And.intro ?_ ?_
      | omega
      | intro _
  · rw [hsRD_2] at h
    dsimp only at h
    by_cases f1 : al A 1 = 1
    · rw [hsB_p f1] at h
      refine ⟨fun e => absurd e (by decide), fun _ => ⟨fun e => absurd e (by decide), fun _ => ⟨fun _ => ?_, fun e => absurd rfl e⟩⟩⟩
      repeat' first
        | unfold cR51_rule
        | exact hs_w32 _
        | exact (hs_w32 _).1
        | exact hsB_o _
        | exact kA
        | exact rfl
        | exact Or.inr rfl
        | exact Or.inl rfl
        | exact h  
        | contradiction
        | refine kOn_of hA ?_
        | refine kOn_of hn ?_
        | refine And.intro ?_ ?_
        | omega
        | intro _
    · rw [hsB_n f1] at h
      refine ⟨fun e => absurd e (by decide), fun _ => ⟨fun e => absurd e (by decide), fun _ => ⟨fun _ => ?_, fun e => absurd rfl e⟩⟩⟩
      repeat' first
        | unfold cR51_rule
        | exact hs_w32 _
        | exact (hs_w32 _).1
        | exact hsB_o _
        | exact kA
        | exact rfl
        | exact Or.inr rfl
        | exact Or.inl rfl
        | exact h  
        | contradiction
        | refine kOn_of hA ?_
        | refine kOn_of hn ?_
        | refine And.intro ?_ ?_
        | omega
        | intro _
  · rw [hsRD_3] at h
    dsimp only at h
    refine ⟨fun e => absurd e (by decide), fun _ => ⟨fun e => absurd e (by decide), fun _ => ⟨fun e => absurd e (by decide), fun _ => ⟨fun _ => ?_, fun e => absurd rfl e⟩⟩⟩⟩
    repeat' first
      | unfold cR51_drop
      | exact hs_w32 _
      | exact (hs_w32 _).1
      | exact hsB_o _
      | exact kA
      | exact rfl
      | exact Or.inr rfl
      | exact Or.inl rfl
      | exact h  
      | contradiction
      | refine kOn_of hA ?_
      | refine kOn_of hn ?_
      | refine And.intro ?_ ?_
      | omega
      | intro _
  · rw [hsRD_4] at h
    dsimp only at h
    refine ⟨fun e => absurd e (by decide), fun _ => ⟨fun e => absurd e (by decide), fun _ => ⟨fun e => absurd e (by decide), fun _ => ⟨fun e => absurd e (by decide), fun _ => ⟨fun _ => ?_, fun e => absurd rfl e⟩⟩⟩⟩⟩
    repeat' first
      | unfold cR51_may
      | exact hs_w32 _
      | exact (hs_w32 _).1
      | exact hsB_o _
      | exact kA
      | exact rfl
      | exact Or.inr rfl
      | exact Or.inl rfl
      | exact h  
      | contradiction
      | refine kOn_of hA ?_
      | refine kOn_of hn ?_
      | refine And.intro ?_ ?_
      | omega
      | intro _
  · rw [hsRD_5] at h
    dsimp only at h
    refine ⟨fun e => absurd e (by decide), fun _ => ⟨fun e => absurd e (by decide), fun _ => ⟨fun e => absurd e (by decide), fun _ => ⟨fun e => absurd e (by decide), fun _ => ⟨fun e => absurd e (by decide), fun _ => ⟨fun _ => ?_, fun e => absurd rfl e⟩⟩⟩⟩⟩⟩
    repeat' first
      | unfold cR51_asks
      | exact hs_w32 _
      | exact (hs_w32 _).1
      | exact hsB_o _
      | exact kA
      | exact rfl
      | exact Or.inr rfl
      | exact Or.inl rfl
      | exact h  
      | contradiction
      | refine kOn_of hA ?_
      | refine kOn_of hn ?_
      | refine And.intro ?_ ?_
      | omega
      | intro _
  · rw [hsRD_6] at h
    dsimp only at h
    refine ⟨fun e => absurd e (by decide), fun _ => ⟨fun e => absurd e (by decide), fun _ => ⟨fun e => absurd e (by decide), fun _ => ⟨fun e => absurd e (by decide), fun _ => ⟨fun e => absurd e (by decide), fun _ => ⟨fun e => absurd e (by decide), fun _ => ⟨fun _ => ?_, fun e => absurd rfl e⟩⟩⟩⟩⟩⟩⟩
    repeat' first
      | unfold cR51_ask
      | exact hs_w32 _
      | exact (hs_w32 _).1
      | exact hsB_o _
      | exact kA
      | exact rfl
      | exact Or.inr rfl
      | exact Or.inl rfl
      | exact h  
      | contradiction
      | refine kOn_of hA ?_
      | refine kOn_of hn ?_
      | refine And.intro ?_ ?_
      | omega
      | intro _
  · rw [hsRD_7] at h
    dsimp only at h
    refine ⟨fun e => absurd e (by decide), fun _ => ⟨fun e => absurd e (by decide), fun _ => ⟨fun e => absurd e (by decide), fun _ => ⟨fun e => absurd e (by decide), fun _ => ⟨fun e => absurd e (by decide), fun _ => ⟨fun e => absurd e (by decide), fun _ => ⟨fun e => absurd e (by decide), fun _ => ⟨fun _ => ?_, fun e => absurd rfl e⟩⟩⟩⟩⟩⟩⟩⟩
    repeat' first
      | unfold cR51_within
      | exact hs_w32 _
      | exact (hs_w32 _).1
      | exact hsB_o _
      | exact kA
      | exact rfl
      | exact Or.inr rfl
      | exact Or.inl rfl
      | exact h  
      | contradiction
      | refine kOn_of hA ?_
      | refine kOn_of hn ?_
      | refine And.intro ?_ ?_
      | omega
      | intro _
  · rw [hsRD_8] at h
    dsimp only at h
    refine ⟨fun e => absurd e (by decide), fun _ => ⟨fun e => absurd e (by decide), fun _ => ⟨fun e => absurd e (by decide), fun _ => ⟨fun e => absurd e (by decide), fun _ => ⟨fun e => absurd e (by decide), fun _ => ⟨fun e => absurd e (by decide), fun _ => ⟨fun e => absurd e (by decide), fun _ => ⟨fun e => absurd e (by decide), fun _ => ⟨fun _ => ?_, fun e => absurd rfl e⟩⟩⟩⟩⟩⟩⟩⟩⟩
    repeat' first
      | unfold cR51_decides
      | exact hs_w32 _
      | exact (hs_w32 _).1
      | exact hsB_o _
      | exact kA
      | exact rfl
      | exact Or.inr rfl
      | exact Or.inl rfl
      | exact h  
      | contradiction
      | refine kOn_of hA ?_
      | refine kOn_of hn ?_
      | refine And.intro ?_ ?_
      | omega
      | intro _
  · rw [hsRD_9] at h
    dsimp only at h
    refine ⟨fun e => absurd e (by decide), fun _ => ⟨fun e => absurd e (by decide), fun _ => ⟨fun e => absurd e (by decide), fun _ => ⟨fun e => absurd e (by decide), fun _ => ⟨fun e => absurd e (by decide), fun _ => ⟨fun e => absurd e (by decide), fun _ => ⟨fun e => absurd e (by decide), fun _ => ⟨fun e => absurd e (by decide), fun _ => ⟨fun e => absurd e (by decide), fun _ => ⟨fun _ => ?_, fun e => absurd rfl e⟩⟩⟩⟩⟩⟩⟩⟩⟩⟩
    repeat' first
      | unfold cR51_sees
      | exact hs_w32 _
      | exact (hs_w32 _).1
      | exact hsB_o _
      | exact kA
      | exact rfl
      | exact Or.inr rfl
      | exact Or.inl rfl
      | exact h  
      | contradiction
      | refine kOn_of hA ?_
      | refine kOn_of hn ?_
      | refine And.intro ?_ ?_
      | omega
      | intro _
  · rw [hsRD_10] at h
    dsimp only at h
    refine ⟨fun e => absurd e (by decide), fun _ => ⟨fun e => absurd e (by decide), fun _ => ⟨fun e => absurd e (by decide), fun _ => ⟨fun e => absurd e (by decide), fun _ => ⟨fun e => absurd e (by decide), fun _ => ⟨fun e => absurd e (by decide), fun _ => ⟨fun e => absurd e (by decide), fun _ => ⟨fun e => absurd e (by decide), fun _ => ⟨fun e => absurd e (by decide), fun _ => ⟨fun e => absurd e (by decide), fun _ => ⟨fun _ => ?_, fun e => absurd rfl e⟩⟩⟩⟩⟩⟩⟩⟩⟩⟩⟩
    repeat' first
      | unfold cR51_matters
      | exact hs_w32 _
      | exact (hs_w32 _).1
      | exact hsB_o _
      | exact kA
      | exact rfl
      | exact Or.inr rfl
      | exact Or.inl rfl
      | exact h  
      | contradiction
      | refine kOn_of hA ?_
      | refine kOn_of hn ?_
      | refine And.intro ?_ ?_
      | omega
      | intro _
  · rw [hsRD_11] at h
    dsimp only at h
    by_cases f0 : al A 0 = 1
    · rw [hsB_p f0] at h
      refine ⟨fun e => absurd e (by decide), fun _ => ⟨fun e => absurd e (by decide), fun _ => ⟨fun e => absurd e (by decide), fun _ => ⟨fun e => absurd e (by decide), fun _ => ⟨fun e => absurd e (by decide), fun _ => ⟨fun e => absurd e (by decide), fun _ => ⟨fun e => absurd e (by decide), fun _ => ⟨fun e => absurd e (by decide), fun _ => ⟨fun e => absurd e (by decide), fun _ => ⟨fun e => absurd e (by decide), fun _ => ⟨fun e => absurd e (by decide), fun _ => ⟨fun _ => ?_, fun e => absurd rfl e⟩⟩⟩⟩⟩⟩⟩⟩⟩⟩⟩⟩
      repeat' first
        | unfold cR51_idle
        | exact hs_w32 _
        | exact (hs_w32 _).1
        | exact hsB_o _
        | exact kA
        | exact rfl
        | exact Or.inr rfl
        | exact Or.inl rfl
        | exact h  
        | contradiction
        | refine kOn_of hA ?_
        | refine kOn_of hn ?_
        | refine And.intro ?_ ?_
        | omega
        | intro _
    · rw [hsB_n f0] at h
      refine ⟨fun e => absurd e (by decide), fun _ => ⟨fun e => absurd e (by decide), fun _ => ⟨fun e => absurd e (by decide), fun _ => ⟨fun e => absurd e (by decide), fun _ => ⟨fun e => absurd e (by decide), fun _ => ⟨fun e => absurd e (by decide), fun _ => ⟨fun e => absurd e (by decide), fun _ => ⟨fun e => absurd e (by decide), fun _ => ⟨fun e => absurd e (by decide), fun _ => ⟨fun e => absurd e (by decide), fun _ => ⟨fun e => absurd e (by decide), fun _ => ⟨fun _ => ?_, fun e => absurd rfl e⟩⟩⟩⟩⟩⟩⟩⟩⟩⟩⟩⟩
      repeat' first
        | unfold cR51_idle
        | exact hs_w32 _
        | exact (hs_w32 _).1
        | exact hsB_o _
        | exact kA
        | exact rfl
        | exact Or.inr rfl
        | exact Or.inl rfl
        | exact h  
        | contradiction
        | refine kOn_of hA ?_
        | refine kOn_of hn ?_
        | refine And.intro ?_ ?_
        | omega
        | intro _
  · rw [hsRD_12] at h
    dsimp only at h
    refine ⟨fun e => absurd e (by decide), fun _ => ⟨fun e => absurd e (by decide), fun _ => ⟨fun e => absurd e (by decide), fun _ => ⟨fun e => absurd e (by decide), fun _ => ⟨fun e => absurd e (by decide), fun _ => ⟨fun e => absurd e (by decide), fun _ => ⟨fun e => absurd e (by decide), fun _ => ⟨fun e => absurd e (by decide), fun _ => ⟨fun e => absurd e (by decide), fun _ => ⟨fun e => absurd e (by decide), fun _ => ⟨fun e => absurd e (by decide), fun _ => ⟨fun e => absurd e (by decide), fun _ => ⟨fun _ => ?_, fun e => absurd rfl e⟩⟩⟩⟩⟩⟩⟩⟩⟩⟩⟩⟩⟩
    repeat' first
      | unfold cR51_apart
      | exact hs_w32 _
      | exact (hs_w32 _).1
      | exact hsB_o _
      | exact kA
      | exact rfl
      | exact Or.inr rfl
      | exact Or.inl rfl
      | exact h  
      | contradiction
      | refine kOn_of hA ?_
      | refine kOn_of hn ?_
      | refine And.intro ?_ ?_
      | omega
      | intro _
  · rw [hsRD_13] at h
    dsimp only at h
    refine ⟨fun e => absurd e (by decide), fun _ => ⟨fun e => absurd e (by decide), fun _ => ⟨fun e => absurd e (by decide), fun _ => ⟨fun e => absurd e (by decide), fun _ => ⟨fun e => absurd e (by decide), fun _ => ⟨fun e => absurd e (by decide), fun _ => ⟨fun e => absurd e (by decide), fun _ => ⟨fun e => absurd e (by decide), fun _ => ⟨fun e => absurd e (by decide), fun _ => ⟨fun e => absurd e (by decide), fun _ => ⟨fun e => absurd e (by decide), fun _ => ⟨fun e => absurd e (by decide), fun _ => ⟨fun e => absurd e (by decide), fun _ => ⟨fun _ => ?_, fun e => absurd rfl e⟩⟩⟩⟩⟩⟩⟩⟩⟩⟩⟩⟩⟩⟩
    repeat' first
      | unfold cR51_allowed
      | exact hs_w32 _
      | exact (hs_w32 _).1
      | exact hsB_o _
      | exact kA
      | exact rfl
      | exact Or.inr rfl
      | exact Or.inl rfl
      | exact h  
      | contradiction
      | refine kOn_of hA ?_
      | refine kOn_of hn ?_
      | refine And.intro ?_ ?_
      | omega
      | intro _
  · rw [hsRD_14] at h
    dsimp only at h
    refine ⟨fun e => absurd e (by decide), fun _ => ⟨fun e => absurd e (by decide), fun _ => ⟨fun e => absurd e (by decide), fun _ => ⟨fun e => absurd e (by decide), fun _ => ⟨fun e => absurd e (by decide), fun _ => ⟨fun e => absurd e (by decide), fun _ => ⟨fun e => absurd e (by decide), fun _ => ⟨fun e => absurd e (by decide), fun _ => ⟨fun e => absurd e (by decide), fun _ => ⟨fun e => absurd e (by decide), fun _ => ⟨fun e => absurd e (by decide), fun _ => ⟨fun e => absurd e (by decide), fun _ => ⟨fun e => absurd e (by decide), fun _ => ⟨fun e => absurd e (by decide), fun _ => ⟨fun _ => ?_, fun e => absurd rfl e⟩⟩⟩⟩⟩⟩⟩⟩⟩⟩⟩⟩⟩⟩⟩
    repeat' first
      | unfold cR51_conditions
      | exact hs_w32 _
      | exact (hs_w32 _).1
      | exact hsB_o _
      | exact kA
      | exact rfl
      | exact Or.inr rfl
      | exact Or.inl rfl
      | exact h  
      | contradiction
      | refine kOn_of hA ?_
      | refine kOn_of hn ?_
      | refine And.intro ?_ ?_
      | omega
      | intro _
  · rw [hsRD_15] at h
    dsimp only at h
    refine ⟨fun e => absurd e (by decide), fun _ => ⟨fun e => absurd e (by decide), fun _ => ⟨fun e => absurd e (by decide), fun _ => ⟨fun e => absurd e (by decide), fun _ => ⟨fun e => absurd e (by decide), fun _ => ⟨fun e => absurd e (by decide), fun _ => ⟨fun e => absurd e (by decide), fun _ => ⟨fun e => absurd e (by decide), fun _ => ⟨fun e => absurd e (by decide), fun _ => ⟨fun e => absurd e (by decide), fun _ => ⟨fun e => absurd e (by decide), fun _ => ⟨fun e => absurd e (by decide), fun _ => ⟨fun e => absurd e (by decide), fun _ => ⟨fun e => absurd e (by decide), fun _ => ⟨fun e => absurd e (by decide), fun _ => ?_⟩⟩⟩⟩⟩⟩⟩⟩⟩⟩⟩⟩⟩⟩⟩
    repeat' first
      | unfold cR51_rules
      | exact hs_w32 _
      | exact (hs_w32 _).1
      | exact hsB_o _
      | exact kA
      | exact rfl
      | exact Or.inr rfl
      | exact Or.inl rfl
      | exact h  
      | contradiction
      | refine kOn_of hA ?_
      | refine kOn_of hn ?_
      | refine And.intro ?_ ?_
      | omega
      | intro _
theorem SR_classesCall {MC : Nat} {MS : Nat} {post : Int → Int → Int → ctT → Prop} {kd : Nat → Nat} {an : Nat → Nat} {al : Nat → Int → Int} {mX45_classes : Nat → Option Nat} {mX45_need : Nat → Option Nat} {R52_th : Int} {R52_u : Int} {R52_S : ctT} {ra : Nat → Nat} {x0 : Nat} {x1 : Int} {A : Nat} (hA : mX45_need x0 = some A) (kA : kd A = 5) (nA : an A = 8) (hn : mX45_classes x0 = some (ra 6)) (hM : 4000 ≤ MC ∧ 40000 ≤ MS) (h1 : 0 ≤ x1 ∧ x1 < 17) (hg : R52_u ≤ 400000) (h : ∀ (R52_th' R52_u' : Int), (R52_u ≤ R52_u' ∧ R52_u' ≤ R52_u + 860) → post (hsCS x1 (al A) R52_S).1 R52_th' R52_u' (hsCS x1 (al A) R52_S).2) : wpSR_X45_classesCall MC MS post kd an al mX45_classes mX45_need R52_th R52_u R52_S ra x0 x1 := by
  unfold wpSR_X45_classesCall
  obtain rfl | rfl | rfl | rfl | rfl | rfl | rfl | rfl | rfl | rfl | rfl | rfl | rfl | rfl | rfl | rfl | rfl : x1 = 0 ∨ x1 = 1 ∨ x1 = 2 ∨ x1 = 3 ∨ x1 = 4 ∨ x1 = 5 ∨ x1 = 6 ∨ x1 = 7 ∨ x1 = 8 ∨ x1 = 9 ∨ x1 = 10 ∨ x1 = 11 ∨ x1 = 12 ∨ x1 = 13 ∨ x1 = 14 ∨ x1 = 15 ∨ x1 = 16 := by omega
  · rw [hsCS_0] at h
    dsimp only at h
    refine ⟨fun _ => ?_, fun e => absurd rfl e⟩
    repeat' first
      | unfold cR52_class0
      | exact hs_w32 _
      | exact (hs_w32 _).1
      | exact hsB_o _
      | exact kA
      | exact rfl
      | exact Or.inr rfl
      | exact Or.inl rfl
      | exact h _ _ (by omega)
      | contradiction
      | refine kOn_of hA ?_
      | refine kOn_of hn ?_
      | refine And.intro ?_ ?_
      | omega
      | intro _
  · rw [hsCS_1] at h
    dsimp only at h
    refine ⟨fun e => absurd e (by decide), fun _ => ⟨fun _ => ?_, fun e => absurd rfl e⟩⟩
    repeat' first
      | unfold cR52_thing
      | exact hs_w32 _
      | exact (hs_w32 _).1
      | exact hsB_o _
      | exact kA
      | exact rfl
      | exact Or.inr rfl
      | exact Or.inl rfl
      | exact h _ _ (by omega)
      | contradiction
      | refine kOn_of hA ?_
      | refine kOn_of hn ?_
      | refine And.intro ?_ ?_
      | omega
      | intro _
  · rw [hsCS_2] at h
    dsimp only at h
    refine ⟨fun e => absurd e (by decide), fun _ => ⟨fun e => absurd e (by decide), fun _ => ⟨fun _ => ?_, fun e => absurd rfl e⟩⟩⟩
    repeat' first
      | unfold cR52_axiom
      | exact hs_w32 _
      | exact (hs_w32 _).1
      | exact hsB_o _
      | exact kA
      | exact rfl
      | exact Or.inr rfl
      | exact Or.inl rfl
      | exact h _ _ (by omega)
      | contradiction
      | refine kOn_of hA ?_
      | refine kOn_of hn ?_
      | refine And.intro ?_ ?_
      | omega
      | intro _
  · rw [hsCS_3] at h
    dsimp only at h
    refine ⟨fun e => absurd e (by decide), fun _ => ⟨fun e => absurd e (by decide), fun _ => ⟨fun e => absurd e (by decide), fun _ => ⟨fun _ => ?_, fun e => absurd rfl e⟩⟩⟩⟩
    repeat' first
      | unfold cR52_remove
      | exact hs_w32 _
      | exact (hs_w32 _).1
      | exact hsB_o _
      | exact kA
      | exact rfl
      | exact Or.inr rfl
      | exact Or.inl rfl
      | exact h _ _ (by omega)
      | contradiction
      | refine kOn_of hA ?_
      | refine kOn_of hn ?_
      | refine And.intro ?_ ?_
      | omega
      | intro _
  · rw [hsCS_4] at h
    dsimp only at h
    refine ⟨fun e => absurd e (by decide), fun _ => ⟨fun e => absurd e (by decide), fun _ => ⟨fun e => absurd e (by decide), fun _ => ⟨fun e => absurd e (by decide), fun _ => ⟨fun _ => ?_, fun e => absurd rfl e⟩⟩⟩⟩⟩
    repeat' first
      | unfold cR52_fuel
      | exact hs_w32 _
      | exact (hs_w32 _).1
      | exact hsB_o _
      | exact kA
      | exact rfl
      | exact Or.inr rfl
      | exact Or.inl rfl
      | exact h _ _ (by omega)
      | contradiction
      | refine kOn_of hA ?_
      | refine kOn_of hn ?_
      | refine And.intro ?_ ?_
      | omega
      | intro _
  · rw [hsCS_5] at h
    dsimp only at h
    refine ⟨fun e => absurd e (by decide), fun _ => ⟨fun e => absurd e (by decide), fun _ => ⟨fun e => absurd e (by decide), fun _ => ⟨fun e => absurd e (by decide), fun _ => ⟨fun e => absurd e (by decide), fun _ => ⟨fun _ => ?_, fun e => absurd rfl e⟩⟩⟩⟩⟩⟩
    repeat' first
      | unfold cR52_known
      | exact hs_w32 _
      | exact (hs_w32 _).1
      | exact hsB_o _
      | exact kA
      | exact rfl
      | exact Or.inr rfl
      | exact Or.inl rfl
      | exact h _ _ (by omega)
      | contradiction
      | refine kOn_of hA ?_
      | refine kOn_of hn ?_
      | refine And.intro ?_ ?_
      | omega
      | intro _
  · rw [hsCS_6] at h
    dsimp only at h
    refine ⟨fun e => absurd e (by decide), fun _ => ⟨fun e => absurd e (by decide), fun _ => ⟨fun e => absurd e (by decide), fun _ => ⟨fun e => absurd e (by decide), fun _ => ⟨fun e => absurd e (by decide), fun _ => ⟨fun e => absurd e (by decide), fun _ => ⟨fun _ => ?_, fun e => absurd rfl e⟩⟩⟩⟩⟩⟩⟩
    repeat' first
      | unfold cR52_ask
      | exact hs_w32 _
      | exact (hs_w32 _).1
      | exact hsB_o _
      | exact kA
      | exact rfl
      | exact Or.inr rfl
      | exact Or.inl rfl
      | exact h _ _ (by omega)
      | contradiction
      | refine kOn_of hA ?_
      | refine kOn_of hn ?_
      | refine And.intro ?_ ?_
      | omega
      | intro _
  · rw [hsCS_7] at h
    dsimp only at h
    refine ⟨fun e => absurd e (by decide), fun _ => ⟨fun e => absurd e (by decide), fun _ => ⟨fun e => absurd e (by decide), fun _ => ⟨fun e => absurd e (by decide), fun _ => ⟨fun e => absurd e (by decide), fun _ => ⟨fun e => absurd e (by decide), fun _ => ⟨fun e => absurd e (by decide), fun _ => ⟨fun _ => ?_, fun e => absurd rfl e⟩⟩⟩⟩⟩⟩⟩⟩
    repeat' first
      | unfold cR52_run
      | exact hs_w32 _
      | exact (hs_w32 _).1
      | exact hsB_o _
      | exact kA
      | exact rfl
      | exact Or.inr rfl
      | exact Or.inl rfl
      | exact h _ _ (by omega)
      | contradiction
      | refine kOn_of hA ?_
      | refine kOn_of hn ?_
      | refine And.intro ?_ ?_
      | omega
      | intro _
  · rw [hsCS_8] at h
    dsimp only at h
    refine ⟨fun e => absurd e (by decide), fun _ => ⟨fun e => absurd e (by decide), fun _ => ⟨fun e => absurd e (by decide), fun _ => ⟨fun e => absurd e (by decide), fun _ => ⟨fun e => absurd e (by decide), fun _ => ⟨fun e => absurd e (by decide), fun _ => ⟨fun e => absurd e (by decide), fun _ => ⟨fun e => absurd e (by decide), fun _ => ⟨fun _ => ?_, fun e => absurd rfl e⟩⟩⟩⟩⟩⟩⟩⟩⟩
    repeat' first
      | unfold cR52_parent
      | exact hs_w32 _
      | exact (hs_w32 _).1
      | exact hsB_o _
      | exact kA
      | exact rfl
      | exact Or.inr rfl
      | exact Or.inl rfl
      | exact h _ _ (by omega)
      | contradiction
      | refine kOn_of hA ?_
      | refine kOn_of hn ?_
      | refine And.intro ?_ ?_
      | omega
      | intro _
  · rw [hsCS_9] at h
    dsimp only at h
    refine ⟨fun e => absurd e (by decide), fun _ => ⟨fun e => absurd e (by decide), fun _ => ⟨fun e => absurd e (by decide), fun _ => ⟨fun e => absurd e (by decide), fun _ => ⟨fun e => absurd e (by decide), fun _ => ⟨fun e => absurd e (by decide), fun _ => ⟨fun e => absurd e (by decide), fun _ => ⟨fun e => absurd e (by decide), fun _ => ⟨fun e => absurd e (by decide), fun _ => ⟨fun _ => ?_, fun e => absurd rfl e⟩⟩⟩⟩⟩⟩⟩⟩⟩⟩
    repeat' first
      | unfold cR52_child
      | exact hs_w32 _
      | exact (hs_w32 _).1
      | exact hsB_o _
      | exact kA
      | exact rfl
      | exact Or.inr rfl
      | exact Or.inl rfl
      | exact h _ _ (by omega)
      | contradiction
      | refine kOn_of hA ?_
      | refine kOn_of hn ?_
      | refine And.intro ?_ ?_
      | omega
      | intro _
  · rw [hsCS_10] at h
    dsimp only at h
    refine ⟨fun e => absurd e (by decide), fun _ => ⟨fun e => absurd e (by decide), fun _ => ⟨fun e => absurd e (by decide), fun _ => ⟨fun e => absurd e (by decide), fun _ => ⟨fun e => absurd e (by decide), fun _ => ⟨fun e => absurd e (by decide), fun _ => ⟨fun e => absurd e (by decide), fun _ => ⟨fun e => absurd e (by decide), fun _ => ⟨fun e => absurd e (by decide), fun _ => ⟨fun e => absurd e (by decide), fun _ => ⟨fun _ => ?_, fun e => absurd rfl e⟩⟩⟩⟩⟩⟩⟩⟩⟩⟩⟩
    repeat' first
      | unfold cR52_equal
      | exact hs_w32 _
      | exact (hs_w32 _).1
      | exact hsB_o _
      | exact kA
      | exact rfl
      | exact Or.inr rfl
      | exact Or.inl rfl
      | exact h _ _ (by omega)
      | contradiction
      | refine kOn_of hA ?_
      | refine kOn_of hn ?_
      | refine And.intro ?_ ?_
      | omega
      | intro _
  · rw [hsCS_11] at h
    dsimp only at h
    refine ⟨fun e => absurd e (by decide), fun _ => ⟨fun e => absurd e (by decide), fun _ => ⟨fun e => absurd e (by decide), fun _ => ⟨fun e => absurd e (by decide), fun _ => ⟨fun e => absurd e (by decide), fun _ => ⟨fun e => absurd e (by decide), fun _ => ⟨fun e => absurd e (by decide), fun _ => ⟨fun e => absurd e (by decide), fun _ => ⟨fun e => absurd e (by decide), fun _ => ⟨fun e => absurd e (by decide), fun _ => ⟨fun e => absurd e (by decide), fun _ => ⟨fun _ => ?_, fun e => absurd rfl e⟩⟩⟩⟩⟩⟩⟩⟩⟩⟩⟩⟩
    repeat' first
      | unfold cR52_empty
      | exact hs_w32 _
      | exact (hs_w32 _).1
      | exact hsB_o _
      | exact kA
      | exact rfl
      | exact Or.inr rfl
      | exact Or.inl rfl
      | exact h _ _ (by omega)
      | contradiction
      | refine kOn_of hA ?_
      | refine kOn_of hn ?_
      | refine And.intro ?_ ?_
      | omega
      | intro _
  · rw [hsCS_12] at h
    dsimp only at h
    refine ⟨fun e => absurd e (by decide), fun _ => ⟨fun e => absurd e (by decide), fun _ => ⟨fun e => absurd e (by decide), fun _ => ⟨fun e => absurd e (by decide), fun _ => ⟨fun e => absurd e (by decide), fun _ => ⟨fun e => absurd e (by decide), fun _ => ⟨fun e => absurd e (by decide), fun _ => ⟨fun e => absurd e (by decide), fun _ => ⟨fun e => absurd e (by decide), fun _ => ⟨fun e => absurd e (by decide), fun _ => ⟨fun e => absurd e (by decide), fun _ => ⟨fun e => absurd e (by decide), fun _ => ⟨fun _ => ?_, fun e => absurd rfl e⟩⟩⟩⟩⟩⟩⟩⟩⟩⟩⟩⟩⟩
    repeat' first
      | unfold cR52_open
      | exact hs_w32 _
      | exact (hs_w32 _).1
      | exact hsB_o _
      | exact kA
      | exact rfl
      | exact Or.inr rfl
      | exact Or.inl rfl
      | exact h _ _ (by omega)
      | contradiction
      | refine kOn_of hA ?_
      | refine kOn_of hn ?_
      | refine And.intro ?_ ?_
      | omega
      | intro _
  · rw [hsCS_13] at h
    dsimp only at h
    refine ⟨fun e => absurd e (by decide), fun _ => ⟨fun e => absurd e (by decide), fun _ => ⟨fun e => absurd e (by decide), fun _ => ⟨fun e => absurd e (by decide), fun _ => ⟨fun e => absurd e (by decide), fun _ => ⟨fun e => absurd e (by decide), fun _ => ⟨fun e => absurd e (by decide), fun _ => ⟨fun e => absurd e (by decide), fun _ => ⟨fun e => absurd e (by decide), fun _ => ⟨fun e => absurd e (by decide), fun _ => ⟨fun e => absurd e (by decide), fun _ => ⟨fun e => absurd e (by decide), fun _ => ⟨fun e => absurd e (by decide), fun _ => ⟨fun _ => ?_, fun e => absurd rfl e⟩⟩⟩⟩⟩⟩⟩⟩⟩⟩⟩⟩⟩⟩
    repeat' first
      | unfold cR52_put
      | exact hs_w32 _
      | exact (hs_w32 _).1
      | exact hsB_o _
      | exact kA
      | exact rfl
      | exact Or.inr rfl
      | exact Or.inl rfl
      | exact h _ _ (by omega)
      | contradiction
      | refine kOn_of hA ?_
      | refine kOn_of hn ?_
      | refine And.intro ?_ ?_
      | omega
      | intro _
  · rw [hsCS_14] at h
    dsimp only at h
    refine ⟨fun e => absurd e (by decide), fun _ => ⟨fun e => absurd e (by decide), fun _ => ⟨fun e => absurd e (by decide), fun _ => ⟨fun e => absurd e (by decide), fun _ => ⟨fun e => absurd e (by decide), fun _ => ⟨fun e => absurd e (by decide), fun _ => ⟨fun e => absurd e (by decide), fun _ => ⟨fun e => absurd e (by decide), fun _ => ⟨fun e => absurd e (by decide), fun _ => ⟨fun e => absurd e (by decide), fun _ => ⟨fun e => absurd e (by decide), fun _ => ⟨fun e => absurd e (by decide), fun _ => ⟨fun e => absurd e (by decide), fun _ => ⟨fun e => absurd e (by decide), fun _ => ⟨fun _ => ?_, fun e => absurd rfl e⟩⟩⟩⟩⟩⟩⟩⟩⟩⟩⟩⟩⟩⟩⟩
    repeat' first
      | unfold cR52_type
      | exact hs_w32 _
      | exact (hs_w32 _).1
      | exact hsB_o _
      | exact kA
      | exact rfl
      | exact Or.inr rfl
      | exact Or.inl rfl
      | exact h _ _ (by omega)
      | contradiction
      | refine kOn_of hA ?_
      | refine kOn_of hn ?_
      | refine And.intro ?_ ?_
      | omega
      | intro _
  · rw [hsCS_15] at h
    dsimp only at h
    refine ⟨fun e => absurd e (by decide), fun _ => ⟨fun e => absurd e (by decide), fun _ => ⟨fun e => absurd e (by decide), fun _ => ⟨fun e => absurd e (by decide), fun _ => ⟨fun e => absurd e (by decide), fun _ => ⟨fun e => absurd e (by decide), fun _ => ⟨fun e => absurd e (by decide), fun _ => ⟨fun e => absurd e (by decide), fun _ => ⟨fun e => absurd e (by decide), fun _ => ⟨fun e => absurd e (by decide), fun _ => ⟨fun e => absurd e (by decide), fun _ => ⟨fun e => absurd e (by decide), fun _ => ⟨fun e => absurd e (by decide), fun _ => ⟨fun e => absurd e (by decide), fun _ => ⟨fun e => absurd e (by decide), fun _ => ⟨fun _ => ?_, fun e => absurd rfl e⟩⟩⟩⟩⟩⟩⟩⟩⟩⟩⟩⟩⟩⟩⟩⟩
    repeat' first
      | unfold cR52_trace
      | exact hs_w32 _
      | exact (hs_w32 _).1
      | exact hsB_o _
      | exact kA
      | exact rfl
      | exact Or.inr rfl
      | exact Or.inl rfl
      | exact h _ _ (by omega)
      | contradiction
      | refine kOn_of hA ?_
      | refine kOn_of hn ?_
      | refine And.intro ?_ ?_
      | omega
      | intro _
  · rw [hsCS_16] at h
    dsimp only at h
    refine ⟨fun e => absurd e (by decide), fun _ => ⟨fun e => absurd e (by decide), fun _ => ⟨fun e => absurd e (by decide), fun _ => ⟨fun e => absurd e (by decide), fun _ => ⟨fun e => absurd e (by decide), fun _ => ⟨fun e => absurd e (by decide), fun _ => ⟨fun e => absurd e (by decide), fun _ => ⟨fun e => absurd e (by decide), fun _ => ⟨fun e => absurd e (by decide), fun _ => ⟨fun e => absurd e (by decide), fun _ => ⟨fun e => absurd e (by decide), fun _ => ⟨fun e => absurd e (by decide), fun _ => ⟨fun e => absurd e (by decide), fun _ => ⟨fun e => absurd e (by decide), fun _ => ⟨fun e => absurd e (by decide), fun _ => ⟨fun e => absurd e (by decide), fun _ => ?_⟩⟩⟩⟩⟩⟩⟩⟩⟩⟩⟩⟩⟩⟩⟩⟩
    repeat' first
      | unfold cR52_count
      | exact hs_w32 _
      | exact (hs_w32 _).1
      | exact hsB_o _
      | exact kA
      | exact rfl
      | exact Or.inr rfl
      | exact Or.inl rfl
      | exact h _ _ (by omega)
      | contradiction
      | refine kOn_of hA ?_
      | refine kOn_of hn ?_
      | refine And.intro ?_ ?_
      | omega
      | intro _
theorem SR_facetsCall {MC : Nat} {MS : Nat} {post : Int → FcS → Prop} {kd : Nat → Nat} {an : Nat → Nat} {al : Nat → Int → Int} {mX45_facets : Nat → Option Nat} {mX45_need : Nat → Option Nat} {R53_S : FcS} {ra : Nat → Nat} {x0 : Nat} {x1 : Int} {A : Nat} (hA : mX45_need x0 = some A) (kA : kd A = 5) (nA : an A = 8) (hn : mX45_facets x0 = some (ra 7)) (hM : 4000 ≤ MC ∧ 40000 ≤ MS) (h1 : 0 ≤ x1 ∧ x1 < 12) (h : post (hsFC x1 (al A) R53_S).1  (hsFC x1 (al A) R53_S).2) : wpSR_X45_facetsCall MC MS post kd an al mX45_facets mX45_need R53_S ra x0 x1 := by
  unfold wpSR_X45_facetsCall
  obtain rfl | rfl | rfl | rfl | rfl | rfl | rfl | rfl | rfl | rfl | rfl | rfl : x1 = 0 ∨ x1 = 1 ∨ x1 = 2 ∨ x1 = 3 ∨ x1 = 4 ∨ x1 = 5 ∨ x1 = 6 ∨ x1 = 7 ∨ x1 = 8 ∨ x1 = 9 ∨ x1 = 10 ∨ x1 = 11 := by omega
  · rw [hsFC_0] at h
    dsimp only at h
    refine ⟨fun _ => ?_, fun e => absurd rfl e⟩
    repeat' first
      | unfold cR53_row
      | exact hs_w32 _
      | exact (hs_w32 _).1
      | exact hsB_o _
      | exact kA
      | exact rfl
      | exact Or.inr rfl
      | exact Or.inl rfl
      | exact h  
      | contradiction
      | refine kOn_of hA ?_
      | refine kOn_of hn ?_
      | refine And.intro ?_ ?_
      | omega
      | intro _
  · rw [hsFC_1] at h
    dsimp only at h
    refine ⟨fun e => absurd e (by decide), fun _ => ⟨fun _ => ?_, fun e => absurd rfl e⟩⟩
    repeat' first
      | unfold cR53_drop
      | exact hs_w32 _
      | exact (hs_w32 _).1
      | exact hsB_o _
      | exact kA
      | exact rfl
      | exact Or.inr rfl
      | exact Or.inl rfl
      | exact h  
      | contradiction
      | refine kOn_of hA ?_
      | refine kOn_of hn ?_
      | refine And.intro ?_ ?_
      | omega
      | intro _
  · rw [hsFC_2] at h
    dsimp only at h
    refine ⟨fun e => absurd e (by decide), fun _ => ⟨fun e => absurd e (by decide), fun _ => ⟨fun _ => ?_, fun e => absurd rfl e⟩⟩⟩
    repeat' first
      | unfold cR53_above
      | exact hs_w32 _
      | exact (hs_w32 _).1
      | exact hsB_o _
      | exact kA
      | exact rfl
      | exact Or.inr rfl
      | exact Or.inl rfl
      | exact h  
      | contradiction
      | refine kOn_of hA ?_
      | refine kOn_of hn ?_
      | refine And.intro ?_ ?_
      | omega
      | intro _
  · rw [hsFC_3] at h
    dsimp only at h
    by_cases f2 : al A 2 = 1
    · rw [hsB_p f2] at h
      refine ⟨fun e => absurd e (by decide), fun _ => ⟨fun e => absurd e (by decide), fun _ => ⟨fun e => absurd e (by decide), fun _ => ⟨fun _ => ?_, fun e => absurd rfl e⟩⟩⟩⟩
      repeat' first
        | unfold cR53_choose
        | exact hs_w32 _
        | exact (hs_w32 _).1
        | exact hsB_o _
        | exact kA
        | exact rfl
        | exact Or.inr rfl
        | exact Or.inl rfl
        | exact h  
        | contradiction
        | refine kOn_of hA ?_
        | refine kOn_of hn ?_
        | refine And.intro ?_ ?_
        | omega
        | intro _
    · rw [hsB_n f2] at h
      refine ⟨fun e => absurd e (by decide), fun _ => ⟨fun e => absurd e (by decide), fun _ => ⟨fun e => absurd e (by decide), fun _ => ⟨fun _ => ?_, fun e => absurd rfl e⟩⟩⟩⟩
      repeat' first
        | unfold cR53_choose
        | exact hs_w32 _
        | exact (hs_w32 _).1
        | exact hsB_o _
        | exact kA
        | exact rfl
        | exact Or.inr rfl
        | exact Or.inl rfl
        | exact h  
        | contradiction
        | refine kOn_of hA ?_
        | refine kOn_of hn ?_
        | refine And.intro ?_ ?_
        | omega
        | intro _
  · rw [hsFC_4] at h
    dsimp only at h
    refine ⟨fun e => absurd e (by decide), fun _ => ⟨fun e => absurd e (by decide), fun _ => ⟨fun e => absurd e (by decide), fun _ => ⟨fun e => absurd e (by decide), fun _ => ⟨fun _ => ?_, fun e => absurd rfl e⟩⟩⟩⟩⟩
    repeat' first
      | unfold cR53_kept
      | exact hs_w32 _
      | exact (hs_w32 _).1
      | exact hsB_o _
      | exact kA
      | exact rfl
      | exact Or.inr rfl
      | exact Or.inl rfl
      | exact h  
      | contradiction
      | refine kOn_of hA ?_
      | refine kOn_of hn ?_
      | refine And.intro ?_ ?_
      | omega
      | intro _
  · rw [hsFC_5] at h
    dsimp only at h
    refine ⟨fun e => absurd e (by decide), fun _ => ⟨fun e => absurd e (by decide), fun _ => ⟨fun e => absurd e (by decide), fun _ => ⟨fun e => absurd e (by decide), fun _ => ⟨fun e => absurd e (by decide), fun _ => ⟨fun _ => ?_, fun e => absurd rfl e⟩⟩⟩⟩⟩⟩
    repeat' first
      | unfold cR53_isKept
      | exact hs_w32 _
      | exact (hs_w32 _).1
      | exact hsB_o _
      | exact kA
      | exact rfl
      | exact Or.inr rfl
      | exact Or.inl rfl
      | exact h  
      | contradiction
      | refine kOn_of hA ?_
      | refine kOn_of hn ?_
      | refine And.intro ?_ ?_
      | omega
      | intro _
  · rw [hsFC_6] at h
    dsimp only at h
    refine ⟨fun e => absurd e (by decide), fun _ => ⟨fun e => absurd e (by decide), fun _ => ⟨fun e => absurd e (by decide), fun _ => ⟨fun e => absurd e (by decide), fun _ => ⟨fun e => absurd e (by decide), fun _ => ⟨fun e => absurd e (by decide), fun _ => ⟨fun _ => ?_, fun e => absurd rfl e⟩⟩⟩⟩⟩⟩⟩
    repeat' first
      | unfold cR53_facet
      | exact hs_w32 _
      | exact (hs_w32 _).1
      | exact hsB_o _
      | exact kA
      | exact rfl
      | exact Or.inr rfl
      | exact Or.inl rfl
      | exact h  
      | contradiction
      | refine kOn_of hA ?_
      | refine kOn_of hn ?_
      | refine And.intro ?_ ?_
      | omega
      | intro _
  · rw [hsFC_7] at h
    dsimp only at h
    refine ⟨fun e => absurd e (by decide), fun _ => ⟨fun e => absurd e (by decide), fun _ => ⟨fun e => absurd e (by decide), fun _ => ⟨fun e => absurd e (by decide), fun _ => ⟨fun e => absurd e (by decide), fun _ => ⟨fun e => absurd e (by decide), fun _ => ⟨fun e => absurd e (by decide), fun _ => ⟨fun _ => ?_, fun e => absurd rfl e⟩⟩⟩⟩⟩⟩⟩⟩
    repeat' first
      | unfold cR53_top
      | exact hs_w32 _
      | exact (hs_w32 _).1
      | exact hsB_o _
      | exact kA
      | exact rfl
      | exact Or.inr rfl
      | exact Or.inl rfl
      | exact h  
      | contradiction
      | refine kOn_of hA ?_
      | refine kOn_of hn ?_
      | refine And.intro ?_ ?_
      | omega
      | intro _
  · rw [hsFC_8] at h
    dsimp only at h
    refine ⟨fun e => absurd e (by decide), fun _ => ⟨fun e => absurd e (by decide), fun _ => ⟨fun e => absurd e (by decide), fun _ => ⟨fun e => absurd e (by decide), fun _ => ⟨fun e => absurd e (by decide), fun _ => ⟨fun e => absurd e (by decide), fun _ => ⟨fun e => absurd e (by decide), fun _ => ⟨fun e => absurd e (by decide), fun _ => ⟨fun _ => ?_, fun e => absurd rfl e⟩⟩⟩⟩⟩⟩⟩⟩⟩
    repeat' first
      | unfold cR53_range
      | exact hs_w32 _
      | exact (hs_w32 _).1
      | exact hsB_o _
      | exact kA
      | exact rfl
      | exact Or.inr rfl
      | exact Or.inl rfl
      | exact h  
      | contradiction
      | refine kOn_of hA ?_
      | refine kOn_of hn ?_
      | refine And.intro ?_ ?_
      | omega
      | intro _
  · rw [hsFC_9] at h
    dsimp only at h
    refine ⟨fun e => absurd e (by decide), fun _ => ⟨fun e => absurd e (by decide), fun _ => ⟨fun e => absurd e (by decide), fun _ => ⟨fun e => absurd e (by decide), fun _ => ⟨fun e => absurd e (by decide), fun _ => ⟨fun e => absurd e (by decide), fun _ => ⟨fun e => absurd e (by decide), fun _ => ⟨fun e => absurd e (by decide), fun _ => ⟨fun e => absurd e (by decide), fun _ => ⟨fun _ => ?_, fun e => absurd rfl e⟩⟩⟩⟩⟩⟩⟩⟩⟩⟩
    repeat' first
      | unfold cR53_sum
      | exact hs_w32 _
      | exact (hs_w32 _).1
      | exact hsB_o _
      | exact kA
      | exact rfl
      | exact Or.inr rfl
      | exact Or.inl rfl
      | exact h  
      | contradiction
      | refine kOn_of hA ?_
      | refine kOn_of hn ?_
      | refine And.intro ?_ ?_
      | omega
      | intro _
  · rw [hsFC_10] at h
    dsimp only at h
    refine ⟨fun e => absurd e (by decide), fun _ => ⟨fun e => absurd e (by decide), fun _ => ⟨fun e => absurd e (by decide), fun _ => ⟨fun e => absurd e (by decide), fun _ => ⟨fun e => absurd e (by decide), fun _ => ⟨fun e => absurd e (by decide), fun _ => ⟨fun e => absurd e (by decide), fun _ => ⟨fun e => absurd e (by decide), fun _ => ⟨fun e => absurd e (by decide), fun _ => ⟨fun e => absurd e (by decide), fun _ => ⟨fun _ => ?_, fun e => absurd rfl e⟩⟩⟩⟩⟩⟩⟩⟩⟩⟩⟩
    repeat' first
      | unfold cR53_changed
      | exact hs_w32 _
      | exact (hs_w32 _).1
      | exact hsB_o _
      | exact kA
      | exact rfl
      | exact Or.inr rfl
      | exact Or.inl rfl
      | exact h  
      | contradiction
      | refine kOn_of hA ?_
      | refine kOn_of hn ?_
      | refine And.intro ?_ ?_
      | omega
      | intro _
  · rw [hsFC_11] at h
    dsimp only at h
    refine ⟨fun e => absurd e (by decide), fun _ => ⟨fun e => absurd e (by decide), fun _ => ⟨fun e => absurd e (by decide), fun _ => ⟨fun e => absurd e (by decide), fun _ => ⟨fun e => absurd e (by decide), fun _ => ⟨fun e => absurd e (by decide), fun _ => ⟨fun e => absurd e (by decide), fun _ => ⟨fun e => absurd e (by decide), fun _ => ⟨fun e => absurd e (by decide), fun _ => ⟨fun e => absurd e (by decide), fun _ => ⟨fun e => absurd e (by decide), fun _ => ?_⟩⟩⟩⟩⟩⟩⟩⟩⟩⟩⟩
    repeat' first
      | unfold cR53_rows
      | exact hs_w32 _
      | exact (hs_w32 _).1
      | exact hsB_o _
      | exact kA
      | exact rfl
      | exact Or.inr rfl
      | exact Or.inl rfl
      | exact h  
      | contradiction
      | refine kOn_of hA ?_
      | refine kOn_of hn ?_
      | refine And.intro ?_ ?_
      | omega
      | intro _
theorem SR_tablesCall {MC : Nat} {MS : Nat} {post : Int → Int → vrS → Prop} {kd : Nat → Nat} {an : Nat → Nat} {al : Nat → Int → Int} {mX45_tables : Nat → Option Nat} {mX45_need : Nat → Option Nat} {R54_th : Int} {R54_S : vrS} {ra : Nat → Nat} {x0 : Nat} {x1 : Int} {A : Nat} (hA : mX45_need x0 = some A) (kA : kd A = 5) (nA : an A = 8) (hn : mX45_tables x0 = some (ra 8)) (hM : 4000 ≤ MC ∧ 40000 ≤ MS) (h1 : 0 ≤ x1 ∧ x1 < 14) (h : ∀ (R54_th' : Int), (R54_th' = 0 ↔ (hsVR x1 (al A) R54_S).1 = 0) → post (hsVR x1 (al A) R54_S).2.1 R54_th' (hsVR x1 (al A) R54_S).2.2) : wpSR_X45_tablesCall MC MS post kd an al mX45_tables mX45_need R54_th R54_S ra x0 x1 := by
  unfold wpSR_X45_tablesCall
  obtain rfl | rfl | rfl | rfl | rfl | rfl | rfl | rfl | rfl | rfl | rfl | rfl | rfl | rfl : x1 = 0 ∨ x1 = 1 ∨ x1 = 2 ∨ x1 = 3 ∨ x1 = 4 ∨ x1 = 5 ∨ x1 = 6 ∨ x1 = 7 ∨ x1 = 8 ∨ x1 = 9 ∨ x1 = 10 ∨ x1 = 11 ∨ x1 = 12 ∨ x1 = 13 := by omega
  · rw [hsVR_0] at h
    dsimp only at h
    by_cases f2 : al A 2 = 1
    · rw [hsB_p f2] at h
      refine ⟨fun _ => ?_, fun e => absurd rfl e⟩
      repeat' first
        | unfold cR54_key
        | exact hs_w32 _
        | exact (hs_w32 _).1
        | exact hsB_o _
        | exact kA
        | exact rfl
        | exact Or.inr rfl
        | exact Or.inl rfl
        | exact h _  Iff.rfl
        | exact h _  (by omega)
        | exact h _  hs_ih
        | exact h _  hs_i0
        | contradiction
        | refine kOn_of hA ?_
        | refine kOn_of hn ?_
        | refine And.intro ?_ ?_
        | omega
        | intro _
    · rw [hsB_n f2] at h
      refine ⟨fun _ => ?_, fun e => absurd rfl e⟩
      repeat' first
        | unfold cR54_key
        | exact hs_w32 _
        | exact (hs_w32 _).1
        | exact hsB_o _
        | exact kA
        | exact rfl
        | exact Or.inr rfl
        | exact Or.inl rfl
        | exact h _  Iff.rfl
        | exact h _  (by omega)
        | exact h _  hs_ih
        | exact h _  hs_i0
        | contradiction
        | refine kOn_of hA ?_
        | refine kOn_of hn ?_
        | refine And.intro ?_ ?_
        | omega
        | intro _
  · rw [hsVR_1] at h
    dsimp only at h
    refine ⟨fun e => absurd e (by decide), fun _ => ⟨fun _ => ?_, fun e => absurd rfl e⟩⟩
    repeat' first
      | unfold cR54_row
      | exact hs_w32 _
      | exact (hs_w32 _).1
      | exact hsB_o _
      | exact kA
      | exact rfl
      | exact Or.inr rfl
      | exact Or.inl rfl
      | exact h _  Iff.rfl
      | exact h _  (by omega)
      | exact h _  hs_ih
      | exact h _  hs_i0
      | contradiction
      | refine kOn_of hA ?_
      | refine kOn_of hn ?_
      | refine And.intro ?_ ?_
      | omega
      | intro _
  · rw [hsVR_2] at h
    dsimp only at h
    refine ⟨fun e => absurd e (by decide), fun _ => ⟨fun e => absurd e (by decide), fun _ => ⟨fun _ => ?_, fun e => absurd rfl e⟩⟩⟩
    repeat' first
      | unfold cR54_drop
      | exact hs_w32 _
      | exact (hs_w32 _).1
      | exact hsB_o _
      | exact kA
      | exact rfl
      | exact Or.inr rfl
      | exact Or.inl rfl
      | exact h _  Iff.rfl
      | exact h _  (by omega)
      | exact h _  hs_ih
      | exact h _  hs_i0
      | contradiction
      | refine kOn_of hA ?_
      | refine kOn_of hn ?_
      | refine And.intro ?_ ?_
      | omega
      | intro _
  · rw [hsVR_3] at h
    dsimp only at h
    refine ⟨fun e => absurd e (by decide), fun _ => ⟨fun e => absurd e (by decide), fun _ => ⟨fun e => absurd e (by decide), fun _ => ⟨fun _ => ?_, fun e => absurd rfl e⟩⟩⟩⟩
    repeat' first
      | unfold cR54_mapping
      | exact hs_w32 _
      | exact (hs_w32 _).1
      | exact hsB_o _
      | exact kA
      | exact rfl
      | exact Or.inr rfl
      | exact Or.inl rfl
      | exact h _  Iff.rfl
      | exact h _  (by omega)
      | exact h _  hs_ih
      | exact h _  hs_i0
      | contradiction
      | refine kOn_of hA ?_
      | refine kOn_of hn ?_
      | refine And.intro ?_ ?_
      | omega
      | intro _
  · rw [hsVR_4] at h
    dsimp only at h
    refine ⟨fun e => absurd e (by decide), fun _ => ⟨fun e => absurd e (by decide), fun _ => ⟨fun e => absurd e (by decide), fun _ => ⟨fun e => absurd e (by decide), fun _ => ⟨fun _ => ?_, fun e => absurd rfl e⟩⟩⟩⟩⟩
    repeat' first
      | unfold cR54_triples
      | exact hs_w32 _
      | exact (hs_w32 _).1
      | exact hsB_o _
      | exact kA
      | exact rfl
      | exact Or.inr rfl
      | exact Or.inl rfl
      | exact h _  Iff.rfl
      | exact h _  (by omega)
      | exact h _  hs_ih
      | exact h _  hs_i0
      | contradiction
      | refine kOn_of hA ?_
      | refine kOn_of hn ?_
      | refine And.intro ?_ ?_
      | omega
      | intro _
  · rw [hsVR_5] at h
    dsimp only at h
    refine ⟨fun e => absurd e (by decide), fun _ => ⟨fun e => absurd e (by decide), fun _ => ⟨fun e => absurd e (by decide), fun _ => ⟨fun e => absurd e (by decide), fun _ => ⟨fun e => absurd e (by decide), fun _ => ⟨fun _ => ?_, fun e => absurd rfl e⟩⟩⟩⟩⟩⟩
    repeat' first
      | unfold cR54_atom
      | exact hs_w32 _
      | exact (hs_w32 _).1
      | exact hsB_o _
      | exact kA
      | exact rfl
      | exact Or.inr rfl
      | exact Or.inl rfl
      | exact h _  Iff.rfl
      | exact h _  (by omega)
      | exact h _  hs_ih
      | exact h _  hs_i0
      | contradiction
      | refine kOn_of hA ?_
      | refine kOn_of hn ?_
      | refine And.intro ?_ ?_
      | omega
      | intro _
  · rw [hsVR_6] at h
    dsimp only at h
    refine ⟨fun e => absurd e (by decide), fun _ => ⟨fun e => absurd e (by decide), fun _ => ⟨fun e => absurd e (by decide), fun _ => ⟨fun e => absurd e (by decide), fun _ => ⟨fun e => absurd e (by decide), fun _ => ⟨fun e => absurd e (by decide), fun _ => ⟨fun _ => ?_, fun e => absurd rfl e⟩⟩⟩⟩⟩⟩⟩
    repeat' first
      | unfold cR54_span
      | exact hs_w32 _
      | exact (hs_w32 _).1
      | exact hsB_o _
      | exact kA
      | exact rfl
      | exact Or.inr rfl
      | exact Or.inl rfl
      | exact h _  Iff.rfl
      | exact h _  (by omega)
      | exact h _  hs_ih
      | exact h _  hs_i0
      | contradiction
      | refine kOn_of hA ?_
      | refine kOn_of hn ?_
      | refine And.intro ?_ ?_
      | omega
      | intro _
  · rw [hsVR_7] at h
    dsimp only at h
    refine ⟨fun e => absurd e (by decide), fun _ => ⟨fun e => absurd e (by decide), fun _ => ⟨fun e => absurd e (by decide), fun _ => ⟨fun e => absurd e (by decide), fun _ => ⟨fun e => absurd e (by decide), fun _ => ⟨fun e => absurd e (by decide), fun _ => ⟨fun e => absurd e (by decide), fun _ => ⟨fun _ => ?_, fun e => absurd rfl e⟩⟩⟩⟩⟩⟩⟩⟩
    repeat' first
      | unfold cR54_clear
      | exact hs_w32 _
      | exact (hs_w32 _).1
      | exact hsB_o _
      | exact kA
      | exact rfl
      | exact Or.inr rfl
      | exact Or.inl rfl
      | exact h _  Iff.rfl
      | exact h _  (by omega)
      | exact h _  hs_ih
      | exact h _  hs_i0
      | contradiction
      | refine kOn_of hA ?_
      | refine kOn_of hn ?_
      | refine And.intro ?_ ?_
      | omega
      | intro _
  · rw [hsVR_8] at h
    dsimp only at h
    refine ⟨fun e => absurd e (by decide), fun _ => ⟨fun e => absurd e (by decide), fun _ => ⟨fun e => absurd e (by decide), fun _ => ⟨fun e => absurd e (by decide), fun _ => ⟨fun e => absurd e (by decide), fun _ => ⟨fun e => absurd e (by decide), fun _ => ⟨fun e => absurd e (by decide), fun _ => ⟨fun e => absurd e (by decide), fun _ => ⟨fun _ => ?_, fun e => absurd rfl e⟩⟩⟩⟩⟩⟩⟩⟩⟩
    repeat' first
      | unfold cR54_unions
      | exact hs_w32 _
      | exact (hs_w32 _).1
      | exact hsB_o _
      | exact kA
      | exact rfl
      | exact Or.inr rfl
      | exact Or.inl rfl
      | exact h _  Iff.rfl
      | exact h _  (by omega)
      | exact h _  hs_ih
      | exact h _  hs_i0
      | contradiction
      | refine kOn_of hA ?_
      | refine kOn_of hn ?_
      | refine And.intro ?_ ?_
      | omega
      | intro _
  · rw [hsVR_9] at h
    dsimp only at h
    refine ⟨fun e => absurd e (by decide), fun _ => ⟨fun e => absurd e (by decide), fun _ => ⟨fun e => absurd e (by decide), fun _ => ⟨fun e => absurd e (by decide), fun _ => ⟨fun e => absurd e (by decide), fun _ => ⟨fun e => absurd e (by decide), fun _ => ⟨fun e => absurd e (by decide), fun _ => ⟨fun e => absurd e (by decide), fun _ => ⟨fun e => absurd e (by decide), fun _ => ⟨fun _ => ?_, fun e => absurd rfl e⟩⟩⟩⟩⟩⟩⟩⟩⟩⟩
    repeat' first
      | unfold cR54_union
      | exact hs_w32 _
      | exact (hs_w32 _).1
      | exact hsB_o _
      | exact kA
      | exact rfl
      | exact Or.inr rfl
      | exact Or.inl rfl
      | exact h _  Iff.rfl
      | exact h _  (by omega)
      | exact h _  hs_ih
      | exact h _  hs_i0
      | contradiction
      | refine kOn_of hA ?_
      | refine kOn_of hn ?_
      | refine And.intro ?_ ?_
      | omega
      | intro _
  · rw [hsVR_10] at h
    dsimp only at h
    refine ⟨fun e => absurd e (by decide), fun _ => ⟨fun e => absurd e (by decide), fun _ => ⟨fun e => absurd e (by decide), fun _ => ⟨fun e => absurd e (by decide), fun _ => ⟨fun e => absurd e (by decide), fun _ => ⟨fun e => absurd e (by decide), fun _ => ⟨fun e => absurd e (by decide), fun _ => ⟨fun e => absurd e (by decide), fun _ => ⟨fun e => absurd e (by decide), fun _ => ⟨fun e => absurd e (by decide), fun _ => ⟨fun _ => ?_, fun e => absurd rfl e⟩⟩⟩⟩⟩⟩⟩⟩⟩⟩⟩
    repeat' first
      | unfold cR54_estimate
      | exact hs_w32 _
      | exact (hs_w32 _).1
      | exact hsB_o _
      | exact kA
      | exact rfl
      | exact Or.inr rfl
      | exact Or.inl rfl
      | exact h _  Iff.rfl
      | exact h _  (by omega)
      | exact h _  hs_ih
      | exact h _  hs_i0
      | contradiction
      | refine kOn_of hA ?_
      | refine kOn_of hn ?_
      | refine And.intro ?_ ?_
      | omega
      | intro _
  · rw [hsVR_11] at h
    dsimp only at h
    refine ⟨fun e => absurd e (by decide), fun _ => ⟨fun e => absurd e (by decide), fun _ => ⟨fun e => absurd e (by decide), fun _ => ⟨fun e => absurd e (by decide), fun _ => ⟨fun e => absurd e (by decide), fun _ => ⟨fun e => absurd e (by decide), fun _ => ⟨fun e => absurd e (by decide), fun _ => ⟨fun e => absurd e (by decide), fun _ => ⟨fun e => absurd e (by decide), fun _ => ⟨fun e => absurd e (by decide), fun _ => ⟨fun e => absurd e (by decide), fun _ => ⟨fun _ => ?_, fun e => absurd rfl e⟩⟩⟩⟩⟩⟩⟩⟩⟩⟩⟩⟩
    repeat' first
      | unfold cR54_run
      | exact hs_w32 _
      | exact (hs_w32 _).1
      | exact hsB_o _
      | exact kA
      | exact rfl
      | exact Or.inr rfl
      | exact Or.inl rfl
      | exact h _  Iff.rfl
      | exact h _  (by omega)
      | exact h _  hs_ih
      | exact h _  hs_i0
      | contradiction
      | refine kOn_of hA ?_
      | refine kOn_of hn ?_
      | refine And.intro ?_ ?_
      | omega
      | intro _
  · rw [hsVR_12] at h
    dsimp only at h
    refine ⟨fun e => absurd e (by decide), fun _ => ⟨fun e => absurd e (by decide), fun _ => ⟨fun e => absurd e (by decide), fun _ => ⟨fun e => absurd e (by decide), fun _ => ⟨fun e => absurd e (by decide), fun _ => ⟨fun e => absurd e (by decide), fun _ => ⟨fun e => absurd e (by decide), fun _ => ⟨fun e => absurd e (by decide), fun _ => ⟨fun e => absurd e (by decide), fun _ => ⟨fun e => absurd e (by decide), fun _ => ⟨fun e => absurd e (by decide), fun _ => ⟨fun e => absurd e (by decide), fun _ => ⟨fun _ => ?_, fun e => absurd rfl e⟩⟩⟩⟩⟩⟩⟩⟩⟩⟩⟩⟩⟩
    repeat' first
      | unfold cR54_value
      | exact hs_w32 _
      | exact (hs_w32 _).1
      | exact hsB_o _
      | exact kA
      | exact rfl
      | exact Or.inr rfl
      | exact Or.inl rfl
      | exact h _  Iff.rfl
      | exact h _  (by omega)
      | exact h _  hs_ih
      | exact h _  hs_i0
      | contradiction
      | refine kOn_of hA ?_
      | refine kOn_of hn ?_
      | refine And.intro ?_ ?_
      | omega
      | intro _
  · rw [hsVR_13] at h
    dsimp only at h
    refine ⟨fun e => absurd e (by decide), fun _ => ⟨fun e => absurd e (by decide), fun _ => ⟨fun e => absurd e (by decide), fun _ => ⟨fun e => absurd e (by decide), fun _ => ⟨fun e => absurd e (by decide), fun _ => ⟨fun e => absurd e (by decide), fun _ => ⟨fun e => absurd e (by decide), fun _ => ⟨fun e => absurd e (by decide), fun _ => ⟨fun e => absurd e (by decide), fun _ => ⟨fun e => absurd e (by decide), fun _ => ⟨fun e => absurd e (by decide), fun _ => ⟨fun e => absurd e (by decide), fun _ => ⟨fun e => absurd e (by decide), fun _ => ?_⟩⟩⟩⟩⟩⟩⟩⟩⟩⟩⟩⟩⟩
    repeat' first
      | unfold cR54_found
      | exact hs_w32 _
      | exact (hs_w32 _).1
      | exact hsB_o _
      | exact kA
      | exact rfl
      | exact Or.inr rfl
      | exact Or.inl rfl
      | exact h _  Iff.rfl
      | exact h _  (by omega)
      | exact h _  hs_ih
      | exact h _  hs_i0
      | contradiction
      | refine kOn_of hA ?_
      | refine kOn_of hn ?_
      | refine And.intro ?_ ?_
      | omega
      | intro _
theorem SR_rulesCall {MC : Nat} {MS : Nat} {post : Int → reT → Prop} {kd : Nat → Nat} {an : Nat → Nat} {al : Nat → Int → Int} {mX45_rules : Nat → Option Nat} {mX45_need : Nat → Option Nat} {R55_S : reT} {ra : Nat → Nat} {x0 : Nat} {x1 : Int} {A : Nat} (hA : mX45_need x0 = some A) (kA : kd A = 5) (nA : an A = 8) (hn : mX45_rules x0 = some (ra 9)) (hM : 4000 ≤ MC ∧ 40000 ≤ MS) (h1 : 0 ≤ x1 ∧ x1 < 15) (h : post (hsRE x1 (al A) R55_S).1  (hsRE x1 (al A) R55_S).2) : wpSR_X45_rulesCall MC MS post kd an al mX45_rules mX45_need R55_S ra x0 x1 := by
  unfold wpSR_X45_rulesCall
  obtain rfl | rfl | rfl | rfl | rfl | rfl | rfl | rfl | rfl | rfl | rfl | rfl | rfl | rfl | rfl : x1 = 0 ∨ x1 = 1 ∨ x1 = 2 ∨ x1 = 3 ∨ x1 = 4 ∨ x1 = 5 ∨ x1 = 6 ∨ x1 = 7 ∨ x1 = 8 ∨ x1 = 9 ∨ x1 = 10 ∨ x1 = 11 ∨ x1 = 12 ∨ x1 = 13 ∨ x1 = 14 := by omega
  · rw [hsRE_0] at h
    dsimp only at h
    refine ⟨fun _ => ?_, fun e => absurd rfl e⟩
    repeat' first
      | unfold cR55_fact
      | exact hs_w32 _
      | exact (hs_w32 _).1
      | exact hsB_o _
      | exact kA
      | exact rfl
      | exact Or.inr rfl
      | exact Or.inl rfl
      | exact h  
      | contradiction
      | refine kOn_of hA ?_
      | refine kOn_of hn ?_
      | refine And.intro ?_ ?_
      | omega
      | intro _
  · rw [hsRE_1] at h
    dsimp only at h
    refine ⟨fun e => absurd e (by decide), fun _ => ⟨fun _ => ?_, fun e => absurd rfl e⟩⟩
    repeat' first
      | unfold cR55_remove
      | exact hs_w32 _
      | exact (hs_w32 _).1
      | exact hsB_o _
      | exact kA
      | exact rfl
      | exact Or.inr rfl
      | exact Or.inl rfl
      | exact h  
      | contradiction
      | refine kOn_of hA ?_
      | refine kOn_of hn ?_
      | refine And.intro ?_ ?_
      | omega
      | intro _
  · rw [hsRE_2] at h
    dsimp only at h
    refine ⟨fun e => absurd e (by decide), fun _ => ⟨fun e => absurd e (by decide), fun _ => ⟨fun _ => ?_, fun e => absurd rfl e⟩⟩⟩
    repeat' first
      | unfold cR55_rule
      | exact hs_w32 _
      | exact (hs_w32 _).1
      | exact hsB_o _
      | exact kA
      | exact rfl
      | exact Or.inr rfl
      | exact Or.inl rfl
      | exact h  
      | contradiction
      | refine kOn_of hA ?_
      | refine kOn_of hn ?_
      | refine And.intro ?_ ?_
      | omega
      | intro _
  · rw [hsRE_3] at h
    dsimp only at h
    by_cases f4 : al A 4 = 1
    · rw [hsB_p f4] at h
      refine ⟨fun e => absurd e (by decide), fun _ => ⟨fun e => absurd e (by decide), fun _ => ⟨fun e => absurd e (by decide), fun _ => ⟨fun _ => ?_, fun e => absurd rfl e⟩⟩⟩⟩
      repeat' first
        | unfold cR55_body
        | exact hs_w32 _
        | exact (hs_w32 _).1
        | exact hsB_o _
        | exact kA
        | exact rfl
        | exact Or.inr rfl
        | exact Or.inl rfl
        | exact h  
        | contradiction
        | refine kOn_of hA ?_
        | refine kOn_of hn ?_
        | refine And.intro ?_ ?_
        | omega
        | intro _
    · rw [hsB_n f4] at h
      refine ⟨fun e => absurd e (by decide), fun _ => ⟨fun e => absurd e (by decide), fun _ => ⟨fun e => absurd e (by decide), fun _ => ⟨fun _ => ?_, fun e => absurd rfl e⟩⟩⟩⟩
      repeat' first
        | unfold cR55_body
        | exact hs_w32 _
        | exact (hs_w32 _).1
        | exact hsB_o _
        | exact kA
        | exact rfl
        | exact Or.inr rfl
        | exact Or.inl rfl
        | exact h  
        | contradiction
        | refine kOn_of hA ?_
        | refine kOn_of hn ?_
        | refine And.intro ?_ ?_
        | omega
        | intro _
  · rw [hsRE_4] at h
    dsimp only at h
    refine ⟨fun e => absurd e (by decide), fun _ => ⟨fun e => absurd e (by decide), fun _ => ⟨fun e => absurd e (by decide), fun _ => ⟨fun e => absurd e (by decide), fun _ => ⟨fun _ => ?_, fun e => absurd rfl e⟩⟩⟩⟩⟩
    repeat' first
      | unfold cR55_filter
      | exact hs_w32 _
      | exact (hs_w32 _).1
      | exact hsB_o _
      | exact kA
      | exact rfl
      | exact Or.inr rfl
      | exact Or.inl rfl
      | exact h  
      | contradiction
      | refine kOn_of hA ?_
      | refine kOn_of hn ?_
      | refine And.intro ?_ ?_
      | omega
      | intro _
  · rw [hsRE_5] at h
    dsimp only at h
    refine ⟨fun e => absurd e (by decide), fun _ => ⟨fun e => absurd e (by decide), fun _ => ⟨fun e => absurd e (by decide), fun _ => ⟨fun e => absurd e (by decide), fun _ => ⟨fun e => absurd e (by decide), fun _ => ⟨fun _ => ?_, fun e => absurd rfl e⟩⟩⟩⟩⟩⟩
    repeat' first
      | unfold cR55_aggregate
      | exact hs_w32 _
      | exact (hs_w32 _).1
      | exact hsB_o _
      | exact kA
      | exact rfl
      | exact Or.inr rfl
      | exact Or.inl rfl
      | exact h  
      | contradiction
      | refine kOn_of hA ?_
      | refine kOn_of hn ?_
      | refine And.intro ?_ ?_
      | omega
      | intro _
  · rw [hsRE_6] at h
    dsimp only at h
    refine ⟨fun e => absurd e (by decide), fun _ => ⟨fun e => absurd e (by decide), fun _ => ⟨fun e => absurd e (by decide), fun _ => ⟨fun e => absurd e (by decide), fun _ => ⟨fun e => absurd e (by decide), fun _ => ⟨fun e => absurd e (by decide), fun _ => ⟨fun _ => ?_, fun e => absurd rfl e⟩⟩⟩⟩⟩⟩⟩
    repeat' first
      | unfold cR55_drop
      | exact hs_w32 _
      | exact (hs_w32 _).1
      | exact hsB_o _
      | exact kA
      | exact rfl
      | exact Or.inr rfl
      | exact Or.inl rfl
      | exact h  
      | contradiction
      | refine kOn_of hA ?_
      | refine kOn_of hn ?_
      | refine And.intro ?_ ?_
      | omega
      | intro _
  · rw [hsRE_7] at h
    dsimp only at h
    refine ⟨fun e => absurd e (by decide), fun _ => ⟨fun e => absurd e (by decide), fun _ => ⟨fun e => absurd e (by decide), fun _ => ⟨fun e => absurd e (by decide), fun _ => ⟨fun e => absurd e (by decide), fun _ => ⟨fun e => absurd e (by decide), fun _ => ⟨fun e => absurd e (by decide), fun _ => ⟨fun _ => ?_, fun e => absurd rfl e⟩⟩⟩⟩⟩⟩⟩⟩
    repeat' first
      | unfold cR55_safe
      | exact hs_w32 _
      | exact (hs_w32 _).1
      | exact hsB_o _
      | exact kA
      | exact rfl
      | exact Or.inr rfl
      | exact Or.inl rfl
      | exact h  
      | contradiction
      | refine kOn_of hA ?_
      | refine kOn_of hn ?_
      | refine And.intro ?_ ?_
      | omega
      | intro _
  · rw [hsRE_8] at h
    dsimp only at h
    refine ⟨fun e => absurd e (by decide), fun _ => ⟨fun e => absurd e (by decide), fun _ => ⟨fun e => absurd e (by decide), fun _ => ⟨fun e => absurd e (by decide), fun _ => ⟨fun e => absurd e (by decide), fun _ => ⟨fun e => absurd e (by decide), fun _ => ⟨fun e => absurd e (by decide), fun _ => ⟨fun e => absurd e (by decide), fun _ => ⟨fun _ => ?_, fun e => absurd rfl e⟩⟩⟩⟩⟩⟩⟩⟩⟩
    repeat' first
      | unfold cR55_run
      | exact hs_w32 _
      | exact (hs_w32 _).1
      | exact hsB_o _
      | exact kA
      | exact rfl
      | exact Or.inr rfl
      | exact Or.inl rfl
      | exact h  
      | contradiction
      | refine kOn_of hA ?_
      | refine kOn_of hn ?_
      | refine And.intro ?_ ?_
      | omega
      | intro _
  · rw [hsRE_9] at h
    dsimp only at h
    refine ⟨fun e => absurd e (by decide), fun _ => ⟨fun e => absurd e (by decide), fun _ => ⟨fun e => absurd e (by decide), fun _ => ⟨fun e => absurd e (by decide), fun _ => ⟨fun e => absurd e (by decide), fun _ => ⟨fun e => absurd e (by decide), fun _ => ⟨fun e => absurd e (by decide), fun _ => ⟨fun e => absurd e (by decide), fun _ => ⟨fun e => absurd e (by decide), fun _ => ⟨fun _ => ?_, fun e => absurd rfl e⟩⟩⟩⟩⟩⟩⟩⟩⟩⟩
    repeat' first
      | unfold cR55_stratum
      | exact hs_w32 _
      | exact (hs_w32 _).1
      | exact hsB_o _
      | exact kA
      | exact rfl
      | exact Or.inr rfl
      | exact Or.inl rfl
      | exact h  
      | contradiction
      | refine kOn_of hA ?_
      | refine kOn_of hn ?_
      | refine And.intro ?_ ?_
      | omega
      | intro _
  · rw [hsRE_10] at h
    dsimp only at h
    refine ⟨fun e => absurd e (by decide), fun _ => ⟨fun e => absurd e (by decide), fun _ => ⟨fun e => absurd e (by decide), fun _ => ⟨fun e => absurd e (by decide), fun _ => ⟨fun e => absurd e (by decide), fun _ => ⟨fun e => absurd e (by decide), fun _ => ⟨fun e => absurd e (by decide), fun _ => ⟨fun e => absurd e (by decide), fun _ => ⟨fun e => absurd e (by decide), fun _ => ⟨fun e => absurd e (by decide), fun _ => ⟨fun _ => ?_, fun e => absurd rfl e⟩⟩⟩⟩⟩⟩⟩⟩⟩⟩⟩
    repeat' first
      | unfold cR55_holds
      | exact hs_w32 _
      | exact (hs_w32 _).1
      | exact hsB_o _
      | exact kA
      | exact rfl
      | exact Or.inr rfl
      | exact Or.inl rfl
      | exact h  
      | contradiction
      | refine kOn_of hA ?_
      | refine kOn_of hn ?_
      | refine And.intro ?_ ?_
      | omega
      | intro _
  · rw [hsRE_11] at h
    dsimp only at h
    refine ⟨fun e => absurd e (by decide), fun _ => ⟨fun e => absurd e (by decide), fun _ => ⟨fun e => absurd e (by decide), fun _ => ⟨fun e => absurd e (by decide), fun _ => ⟨fun e => absurd e (by decide), fun _ => ⟨fun e => absurd e (by decide), fun _ => ⟨fun e => absurd e (by decide), fun _ => ⟨fun e => absurd e (by decide), fun _ => ⟨fun e => absurd e (by decide), fun _ => ⟨fun e => absurd e (by decide), fun _ => ⟨fun e => absurd e (by decide), fun _ => ⟨fun _ => ?_, fun e => absurd rfl e⟩⟩⟩⟩⟩⟩⟩⟩⟩⟩⟩⟩
    repeat' first
      | unfold cR55_round
      | exact hs_w32 _
      | exact (hs_w32 _).1
      | exact hsB_o _
      | exact kA
      | exact rfl
      | exact Or.inr rfl
      | exact Or.inl rfl
      | exact h  
      | contradiction
      | refine kOn_of hA ?_
      | refine kOn_of hn ?_
      | refine And.intro ?_ ?_
      | omega
      | intro _
  · rw [hsRE_12] at h
    dsimp only at h
    refine ⟨fun e => absurd e (by decide), fun _ => ⟨fun e => absurd e (by decide), fun _ => ⟨fun e => absurd e (by decide), fun _ => ⟨fun e => absurd e (by decide), fun _ => ⟨fun e => absurd e (by decide), fun _ => ⟨fun e => absurd e (by decide), fun _ => ⟨fun e => absurd e (by decide), fun _ => ⟨fun e => absurd e (by decide), fun _ => ⟨fun e => absurd e (by decide), fun _ => ⟨fun e => absurd e (by decide), fun _ => ⟨fun e => absurd e (by decide), fun _ => ⟨fun e => absurd e (by decide), fun _ => ⟨fun _ => ?_, fun e => absurd rfl e⟩⟩⟩⟩⟩⟩⟩⟩⟩⟩⟩⟩⟩
    repeat' first
      | unfold cR55_counts
      | exact hs_w32 _
      | exact (hs_w32 _).1
      | exact hsB_o _
      | exact kA
      | exact rfl
      | exact Or.inr rfl
      | exact Or.inl rfl
      | exact h  
      | contradiction
      | refine kOn_of hA ?_
      | refine kOn_of hn ?_
      | refine And.intro ?_ ?_
      | omega
      | intro _
  · rw [hsRE_13] at h
    dsimp only at h
    refine ⟨fun e => absurd e (by decide), fun _ => ⟨fun e => absurd e (by decide), fun _ => ⟨fun e => absurd e (by decide), fun _ => ⟨fun e => absurd e (by decide), fun _ => ⟨fun e => absurd e (by decide), fun _ => ⟨fun e => absurd e (by decide), fun _ => ⟨fun e => absurd e (by decide), fun _ => ⟨fun e => absurd e (by decide), fun _ => ⟨fun e => absurd e (by decide), fun _ => ⟨fun e => absurd e (by decide), fun _ => ⟨fun e => absurd e (by decide), fun _ => ⟨fun e => absurd e (by decide), fun _ => ⟨fun e => absurd e (by decide), fun _ => ⟨fun _ => ?_, fun e => absurd rfl e⟩⟩⟩⟩⟩⟩⟩⟩⟩⟩⟩⟩⟩⟩
    repeat' first
      | unfold cR55_row
      | exact hs_w32 _
      | exact (hs_w32 _).1
      | exact hsB_o _
      | exact kA
      | exact rfl
      | exact Or.inr rfl
      | exact Or.inl rfl
      | exact h  
      | contradiction
      | refine kOn_of hA ?_
      | refine kOn_of hn ?_
      | refine And.intro ?_ ?_
      | omega
      | intro _
  · rw [hsRE_14] at h
    dsimp only at h
    refine ⟨fun e => absurd e (by decide), fun _ => ⟨fun e => absurd e (by decide), fun _ => ⟨fun e => absurd e (by decide), fun _ => ⟨fun e => absurd e (by decide), fun _ => ⟨fun e => absurd e (by decide), fun _ => ⟨fun e => absurd e (by decide), fun _ => ⟨fun e => absurd e (by decide), fun _ => ⟨fun e => absurd e (by decide), fun _ => ⟨fun e => absurd e (by decide), fun _ => ⟨fun e => absurd e (by decide), fun _ => ⟨fun e => absurd e (by decide), fun _ => ⟨fun e => absurd e (by decide), fun _ => ⟨fun e => absurd e (by decide), fun _ => ⟨fun e => absurd e (by decide), fun _ => ?_⟩⟩⟩⟩⟩⟩⟩⟩⟩⟩⟩⟩⟩⟩
    repeat' first
      | unfold cR55_size
      | exact hs_w32 _
      | exact (hs_w32 _).1
      | exact hsB_o _
      | exact kA
      | exact rfl
      | exact Or.inr rfl
      | exact Or.inl rfl
      | exact h  
      | contradiction
      | refine kOn_of hA ?_
      | refine kOn_of hn ?_
      | refine And.intro ?_ ?_
      | omega
      | intro _
theorem SR_rewriteCall {MC : Nat} {MS : Nat} {post : Int → qrT → Prop} {kd : Nat → Nat} {an : Nat → Nat} {al : Nat → Int → Int} {mX45_rewrite : Nat → Option Nat} {mX45_need : Nat → Option Nat} {R56_S : qrT} {ra : Nat → Nat} {x0 : Nat} {x1 : Int} {A : Nat} (hA : mX45_need x0 = some A) (kA : kd A = 5) (nA : an A = 8) (hn : mX45_rewrite x0 = some (ra 10)) (hM : 4000 ≤ MC ∧ 40000 ≤ MS) (h1 : 0 ≤ x1 ∧ x1 < 13) (h : post (hsQR x1 (al A) R56_S).1  (hsQR x1 (al A) R56_S).2) : wpSR_X45_rewriteCall MC MS post kd an al mX45_rewrite mX45_need R56_S ra x0 x1 := by
  unfold wpSR_X45_rewriteCall
  obtain rfl | rfl | rfl | rfl | rfl | rfl | rfl | rfl | rfl | rfl | rfl | rfl | rfl : x1 = 0 ∨ x1 = 1 ∨ x1 = 2 ∨ x1 = 3 ∨ x1 = 4 ∨ x1 = 5 ∨ x1 = 6 ∨ x1 = 7 ∨ x1 = 8 ∨ x1 = 9 ∨ x1 = 10 ∨ x1 = 11 ∨ x1 = 12 := by omega
  · rw [hsQR_0] at h
    dsimp only at h
    refine ⟨fun _ => ?_, fun e => absurd rfl e⟩
    repeat' first
      | unfold cR56_axiom
      | exact hs_w32 _
      | exact (hs_w32 _).1
      | exact hsB_o _
      | exact kA
      | exact rfl
      | exact Or.inr rfl
      | exact Or.inl rfl
      | exact h  
      | contradiction
      | refine kOn_of hA ?_
      | refine kOn_of hn ?_
      | refine And.intro ?_ ?_
      | omega
      | intro _
  · rw [hsQR_1] at h
    dsimp only at h
    by_cases f0 : al A 0 = 1
    · rw [hsB_p f0] at h
      refine ⟨fun e => absurd e (by decide), fun _ => ⟨fun _ => ?_, fun e => absurd rfl e⟩⟩
      repeat' first
        | unfold cR56_fact
        | exact hs_w32 _
        | exact (hs_w32 _).1
        | exact hsB_o _
        | exact kA
        | exact rfl
        | exact Or.inr rfl
        | exact Or.inl rfl
        | exact h  
        | contradiction
        | refine kOn_of hA ?_
        | refine kOn_of hn ?_
        | refine And.intro ?_ ?_
        | omega
        | intro _
    · rw [hsB_n f0] at h
      refine ⟨fun e => absurd e (by decide), fun _ => ⟨fun _ => ?_, fun e => absurd rfl e⟩⟩
      repeat' first
        | unfold cR56_fact
        | exact hs_w32 _
        | exact (hs_w32 _).1
        | exact hsB_o _
        | exact kA
        | exact rfl
        | exact Or.inr rfl
        | exact Or.inl rfl
        | exact h  
        | contradiction
        | refine kOn_of hA ?_
        | refine kOn_of hn ?_
        | refine And.intro ?_ ?_
        | omega
        | intro _
  · rw [hsQR_2] at h
    dsimp only at h
    by_cases f0 : al A 0 = 1
    · rw [hsB_p f0] at h
      refine ⟨fun e => absurd e (by decide), fun _ => ⟨fun e => absurd e (by decide), fun _ => ⟨fun _ => ?_, fun e => absurd rfl e⟩⟩⟩
      repeat' first
        | unfold cR56_forget
        | exact hs_w32 _
        | exact (hs_w32 _).1
        | exact hsB_o _
        | exact kA
        | exact rfl
        | exact Or.inr rfl
        | exact Or.inl rfl
        | exact h  
        | contradiction
        | refine kOn_of hA ?_
        | refine kOn_of hn ?_
        | refine And.intro ?_ ?_
        | omega
        | intro _
    · rw [hsB_n f0] at h
      refine ⟨fun e => absurd e (by decide), fun _ => ⟨fun e => absurd e (by decide), fun _ => ⟨fun _ => ?_, fun e => absurd rfl e⟩⟩⟩
      repeat' first
        | unfold cR56_forget
        | exact hs_w32 _
        | exact (hs_w32 _).1
        | exact hsB_o _
        | exact kA
        | exact rfl
        | exact Or.inr rfl
        | exact Or.inl rfl
        | exact h  
        | contradiction
        | refine kOn_of hA ?_
        | refine kOn_of hn ?_
        | refine And.intro ?_ ?_
        | omega
        | intro _
  · rw [hsQR_3] at h
    dsimp only at h
    refine ⟨fun e => absurd e (by decide), fun _ => ⟨fun e => absurd e (by decide), fun _ => ⟨fun e => absurd e (by decide), fun _ => ⟨fun _ => ?_, fun e => absurd rfl e⟩⟩⟩⟩
    repeat' first
      | unfold cR56_question
      | exact hs_w32 _
      | exact (hs_w32 _).1
      | exact hsB_o _
      | exact kA
      | exact rfl
      | exact Or.inr rfl
      | exact Or.inl rfl
      | exact h  
      | contradiction
      | refine kOn_of hA ?_
      | refine kOn_of hn ?_
      | refine And.intro ?_ ?_
      | omega
      | intro _
  · rw [hsQR_4] at h
    dsimp only at h
    by_cases f1 : al A 1 = 1
    · rw [hsB_p f1] at h
      refine ⟨fun e => absurd e (by decide), fun _ => ⟨fun e => absurd e (by decide), fun _ => ⟨fun e => absurd e (by decide), fun _ => ⟨fun e => absurd e (by decide), fun _ => ⟨fun _ => ?_, fun e => absurd rfl e⟩⟩⟩⟩⟩
      repeat' first
        | unfold cR56_atom
        | exact hs_w32 _
        | exact (hs_w32 _).1
        | exact hsB_o _
        | exact kA
        | exact rfl
        | exact Or.inr rfl
        | exact Or.inl rfl
        | exact h  
        | contradiction
        | refine kOn_of hA ?_
        | refine kOn_of hn ?_
        | refine And.intro ?_ ?_
        | omega
        | intro _
    · rw [hsB_n f1] at h
      refine ⟨fun e => absurd e (by decide), fun _ => ⟨fun e => absurd e (by decide), fun _ => ⟨fun e => absurd e (by decide), fun _ => ⟨fun e => absurd e (by decide), fun _ => ⟨fun _ => ?_, fun e => absurd rfl e⟩⟩⟩⟩⟩
      repeat' first
        | unfold cR56_atom
        | exact hs_w32 _
        | exact (hs_w32 _).1
        | exact hsB_o _
        | exact kA
        | exact rfl
        | exact Or.inr rfl
        | exact Or.inl rfl
        | exact h  
        | contradiction
        | refine kOn_of hA ?_
        | refine kOn_of hn ?_
        | refine And.intro ?_ ?_
        | omega
        | intro _
  · rw [hsQR_5] at h
    dsimp only at h
    refine ⟨fun e => absurd e (by decide), fun _ => ⟨fun e => absurd e (by decide), fun _ => ⟨fun e => absurd e (by decide), fun _ => ⟨fun e => absurd e (by decide), fun _ => ⟨fun e => absurd e (by decide), fun _ => ⟨fun _ => ?_, fun e => absurd rfl e⟩⟩⟩⟩⟩⟩
    repeat' first
      | unfold cR56_forms
      | exact hs_w32 _
      | exact (hs_w32 _).1
      | exact hsB_o _
      | exact kA
      | exact rfl
      | exact Or.inr rfl
      | exact Or.inl rfl
      | exact h  
      | contradiction
      | refine kOn_of hA ?_
      | refine kOn_of hn ?_
      | refine And.intro ?_ ?_
      | omega
      | intro _
  · rw [hsQR_6] at h
    dsimp only at h
    refine ⟨fun e => absurd e (by decide), fun _ => ⟨fun e => absurd e (by decide), fun _ => ⟨fun e => absurd e (by decide), fun _ => ⟨fun e => absurd e (by decide), fun _ => ⟨fun e => absurd e (by decide), fun _ => ⟨fun e => absurd e (by decide), fun _ => ⟨fun _ => ?_, fun e => absurd rfl e⟩⟩⟩⟩⟩⟩⟩
    repeat' first
      | unfold cR56_form
      | exact hs_w32 _
      | exact (hs_w32 _).1
      | exact hsB_o _
      | exact kA
      | exact rfl
      | exact Or.inr rfl
      | exact Or.inl rfl
      | exact h  
      | contradiction
      | refine kOn_of hA ?_
      | refine kOn_of hn ?_
      | refine And.intro ?_ ?_
      | omega
      | intro _
  · rw [hsQR_7] at h
    dsimp only at h
    refine ⟨fun e => absurd e (by decide), fun _ => ⟨fun e => absurd e (by decide), fun _ => ⟨fun e => absurd e (by decide), fun _ => ⟨fun e => absurd e (by decide), fun _ => ⟨fun e => absurd e (by decide), fun _ => ⟨fun e => absurd e (by decide), fun _ => ⟨fun e => absurd e (by decide), fun _ => ⟨fun _ => ?_, fun e => absurd rfl e⟩⟩⟩⟩⟩⟩⟩⟩
    repeat' first
      | unfold cR56_run
      | exact hs_w32 _
      | exact (hs_w32 _).1
      | exact hsB_o _
      | exact kA
      | exact rfl
      | exact Or.inr rfl
      | exact Or.inl rfl
      | exact h  
      | contradiction
      | refine kOn_of hA ?_
      | refine kOn_of hn ?_
      | refine And.intro ?_ ?_
      | omega
      | intro _
  · rw [hsQR_8] at h
    dsimp only at h
    refine ⟨fun e => absurd e (by decide), fun _ => ⟨fun e => absurd e (by decide), fun _ => ⟨fun e => absurd e (by decide), fun _ => ⟨fun e => absurd e (by decide), fun _ => ⟨fun e => absurd e (by decide), fun _ => ⟨fun e => absurd e (by decide), fun _ => ⟨fun e => absurd e (by decide), fun _ => ⟨fun e => absurd e (by decide), fun _ => ⟨fun _ => ?_, fun e => absurd rfl e⟩⟩⟩⟩⟩⟩⟩⟩⟩
    repeat' first
      | unfold cR56_answer
      | exact hs_w32 _
      | exact (hs_w32 _).1
      | exact hsB_o _
      | exact kA
      | exact rfl
      | exact Or.inr rfl
      | exact Or.inl rfl
      | exact h  
      | contradiction
      | refine kOn_of hA ?_
      | refine kOn_of hn ?_
      | refine And.intro ?_ ?_
      | omega
      | intro _
  · rw [hsQR_9] at h
    dsimp only at h
    refine ⟨fun e => absurd e (by decide), fun _ => ⟨fun e => absurd e (by decide), fun _ => ⟨fun e => absurd e (by decide), fun _ => ⟨fun e => absurd e (by decide), fun _ => ⟨fun e => absurd e (by decide), fun _ => ⟨fun e => absurd e (by decide), fun _ => ⟨fun e => absurd e (by decide), fun _ => ⟨fun e => absurd e (by decide), fun _ => ⟨fun e => absurd e (by decide), fun _ => ⟨fun _ => ?_, fun e => absurd rfl e⟩⟩⟩⟩⟩⟩⟩⟩⟩⟩
    repeat' first
      | unfold cR56_why
      | exact hs_w32 _
      | exact (hs_w32 _).1
      | exact hsB_o _
      | exact kA
      | exact rfl
      | exact Or.inr rfl
      | exact Or.inl rfl
      | exact h  
      | contradiction
      | refine kOn_of hA ?_
      | refine kOn_of hn ?_
      | refine And.intro ?_ ?_
      | omega
      | intro _
  · rw [hsQR_10] at h
    dsimp only at h
    refine ⟨fun e => absurd e (by decide), fun _ => ⟨fun e => absurd e (by decide), fun _ => ⟨fun e => absurd e (by decide), fun _ => ⟨fun e => absurd e (by decide), fun _ => ⟨fun e => absurd e (by decide), fun _ => ⟨fun e => absurd e (by decide), fun _ => ⟨fun e => absurd e (by decide), fun _ => ⟨fun e => absurd e (by decide), fun _ => ⟨fun e => absurd e (by decide), fun _ => ⟨fun e => absurd e (by decide), fun _ => ⟨fun _ => ?_, fun e => absurd rfl e⟩⟩⟩⟩⟩⟩⟩⟩⟩⟩⟩
    repeat' first
      | unfold cR56_broken
      | exact hs_w32 _
      | exact (hs_w32 _).1
      | exact hsB_o _
      | exact kA
      | exact rfl
      | exact Or.inr rfl
      | exact Or.inl rfl
      | exact h  
      | contradiction
      | refine kOn_of hA ?_
      | refine kOn_of hn ?_
      | refine And.intro ?_ ?_
      | omega
      | intro _
  · rw [hsQR_11] at h
    dsimp only at h
    refine ⟨fun e => absurd e (by decide), fun _ => ⟨fun e => absurd e (by decide), fun _ => ⟨fun e => absurd e (by decide), fun _ => ⟨fun e => absurd e (by decide), fun _ => ⟨fun e => absurd e (by decide), fun _ => ⟨fun e => absurd e (by decide), fun _ => ⟨fun e => absurd e (by decide), fun _ => ⟨fun e => absurd e (by decide), fun _ => ⟨fun e => absurd e (by decide), fun _ => ⟨fun e => absurd e (by decide), fun _ => ⟨fun e => absurd e (by decide), fun _ => ⟨fun _ => ?_, fun e => absurd rfl e⟩⟩⟩⟩⟩⟩⟩⟩⟩⟩⟩⟩
    repeat' first
      | unfold cR56_count
      | exact hs_w32 _
      | exact (hs_w32 _).1
      | exact hsB_o _
      | exact kA
      | exact rfl
      | exact Or.inr rfl
      | exact Or.inl rfl
      | exact h  
      | contradiction
      | refine kOn_of hA ?_
      | refine kOn_of hn ?_
      | refine And.intro ?_ ?_
      | omega
      | intro _
  · rw [hsQR_12] at h
    dsimp only at h
    refine ⟨fun e => absurd e (by decide), fun _ => ⟨fun e => absurd e (by decide), fun _ => ⟨fun e => absurd e (by decide), fun _ => ⟨fun e => absurd e (by decide), fun _ => ⟨fun e => absurd e (by decide), fun _ => ⟨fun e => absurd e (by decide), fun _ => ⟨fun e => absurd e (by decide), fun _ => ⟨fun e => absurd e (by decide), fun _ => ⟨fun e => absurd e (by decide), fun _ => ⟨fun e => absurd e (by decide), fun _ => ⟨fun e => absurd e (by decide), fun _ => ⟨fun e => absurd e (by decide), fun _ => ?_⟩⟩⟩⟩⟩⟩⟩⟩⟩⟩⟩⟩
    repeat' first
      | unfold cR56_clear
      | exact hs_w32 _
      | exact (hs_w32 _).1
      | exact hsB_o _
      | exact kA
      | exact rfl
      | exact Or.inr rfl
      | exact Or.inl rfl
      | exact h  
      | contradiction
      | refine kOn_of hA ?_
      | refine kOn_of hn ?_
      | refine And.intro ?_ ?_
      | omega
      | intro _
theorem SR_diskCall {MC : Nat} {MS : Nat} {post : Int → Int → Int → KS → Prop} {kd : Nat → Nat} {an : Nat → Nat} {al : Nat → Int → Int} {mX45_disk : Nat → Option Nat} {mX45_need : Nat → Option Nat} {R57_th : Int} {R57_T : Int} {R57_S : KS} {ra : Nat → Nat} {x0 : Nat} {x1 : Int} {A : Nat} (hA : mX45_need x0 = some A) (kA : kd A = 5) (nA : an A = 8) (hn : mX45_disk x0 = some (ra 11)) (hM : 4000 ≤ MC ∧ 40000 ≤ MS) (h1 : 0 ≤ x1 ∧ x1 < 11) (hg : 0 ≤ R57_T ∧ R57_T ≤ 200) (h : ∀ (R57_th' R57_T' : Int), (R57_T ≤ R57_T' ∧ R57_T' ≤ R57_T + 1) → post (hsKD x1 (al A) R57_S).1 R57_th' R57_T' (hsKD x1 (al A) R57_S).2) : wpSR_X45_diskCall MC MS post kd an al mX45_disk mX45_need R57_th R57_T R57_S ra x0 x1 := by
  unfold wpSR_X45_diskCall
  obtain rfl | rfl | rfl | rfl | rfl | rfl | rfl | rfl | rfl | rfl | rfl : x1 = 0 ∨ x1 = 1 ∨ x1 = 2 ∨ x1 = 3 ∨ x1 = 4 ∨ x1 = 5 ∨ x1 = 6 ∨ x1 = 7 ∨ x1 = 8 ∨ x1 = 9 ∨ x1 = 10 := by omega
  · rw [hsKD_0] at h
    dsimp only at h
    refine ⟨fun _ => ?_, fun e => absurd rfl e⟩
    repeat' first
      | unfold cR57_page
      | exact hs_w32 _
      | exact (hs_w32 _).1
      | exact hsB_o _
      | exact kA
      | exact rfl
      | exact Or.inr rfl
      | exact Or.inl rfl
      | exact h _ _ (by omega)
      | contradiction
      | refine kOn_of hA ?_
      | refine kOn_of hn ?_
      | refine And.intro ?_ ?_
      | omega
      | intro _
  · rw [hsKD_1] at h
    dsimp only at h
    refine ⟨fun e => absurd e (by decide), fun _ => ⟨fun _ => ?_, fun e => absurd rfl e⟩⟩
    repeat' first
      | unfold cR57_commit
      | exact hs_w32 _
      | exact (hs_w32 _).1
      | exact hsB_o _
      | exact kA
      | exact rfl
      | exact Or.inr rfl
      | exact Or.inl rfl
      | exact h _ _ (by omega)
      | contradiction
      | refine kOn_of hA ?_
      | refine kOn_of hn ?_
      | refine And.intro ?_ ?_
      | omega
      | intro _
  · rw [hsKD_2] at h
    dsimp only at h
    refine ⟨fun e => absurd e (by decide), fun _ => ⟨fun e => absurd e (by decide), fun _ => ⟨fun _ => ?_, fun e => absurd rfl e⟩⟩⟩
    repeat' first
      | unfold cR57_sync
      | exact hs_w32 _
      | exact (hs_w32 _).1
      | exact hsB_o _
      | exact kA
      | exact rfl
      | exact Or.inr rfl
      | exact Or.inl rfl
      | exact h _ _ (by omega)
      | contradiction
      | refine kOn_of hA ?_
      | refine kOn_of hn ?_
      | refine And.intro ?_ ?_
      | omega
      | intro _
  · rw [hsKD_3] at h
    dsimp only at h
    refine ⟨fun e => absurd e (by decide), fun _ => ⟨fun e => absurd e (by decide), fun _ => ⟨fun e => absurd e (by decide), fun _ => ⟨fun _ => ?_, fun e => absurd rfl e⟩⟩⟩⟩
    repeat' first
      | unfold cR57_cut
      | exact hs_w32 _
      | exact (hs_w32 _).1
      | exact hsB_o _
      | exact kA
      | exact rfl
      | exact Or.inr rfl
      | exact Or.inl rfl
      | exact h _ _ (by omega)
      | contradiction
      | refine kOn_of hA ?_
      | refine kOn_of hn ?_
      | refine And.intro ?_ ?_
      | omega
      | intro _
  · rw [hsKD_4] at h
    dsimp only at h
    refine ⟨fun e => absurd e (by decide), fun _ => ⟨fun e => absurd e (by decide), fun _ => ⟨fun e => absurd e (by decide), fun _ => ⟨fun e => absurd e (by decide), fun _ => ⟨fun _ => ?_, fun e => absurd rfl e⟩⟩⟩⟩⟩
    repeat' first
      | unfold cR57_start
      | exact hs_w32 _
      | exact (hs_w32 _).1
      | exact hsB_o _
      | exact kA
      | exact rfl
      | exact Or.inr rfl
      | exact Or.inl rfl
      | exact h _ _ (by omega)
      | contradiction
      | refine kOn_of hA ?_
      | refine kOn_of hn ?_
      | refine And.intro ?_ ?_
      | omega
      | intro _
  · rw [hsKD_5] at h
    dsimp only at h
    refine ⟨fun e => absurd e (by decide), fun _ => ⟨fun e => absurd e (by decide), fun _ => ⟨fun e => absurd e (by decide), fun _ => ⟨fun e => absurd e (by decide), fun _ => ⟨fun e => absurd e (by decide), fun _ => ⟨fun _ => ?_, fun e => absurd rfl e⟩⟩⟩⟩⟩⟩
    repeat' first
      | unfold cR57_poke
      | exact hs_w32 _
      | exact (hs_w32 _).1
      | exact hsB_o _
      | exact kA
      | exact rfl
      | exact Or.inr rfl
      | exact Or.inl rfl
      | exact h _ _ (by omega)
      | contradiction
      | refine kOn_of hA ?_
      | refine kOn_of hn ?_
      | refine And.intro ?_ ?_
      | omega
      | intro _
  · rw [hsKD_6] at h
    dsimp only at h
    refine ⟨fun e => absurd e (by decide), fun _ => ⟨fun e => absurd e (by decide), fun _ => ⟨fun e => absurd e (by decide), fun _ => ⟨fun e => absurd e (by decide), fun _ => ⟨fun e => absurd e (by decide), fun _ => ⟨fun e => absurd e (by decide), fun _ => ⟨fun _ => ?_, fun e => absurd rfl e⟩⟩⟩⟩⟩⟩⟩
    repeat' first
      | unfold cR57_wrong
      | exact hs_w32 _
      | exact (hs_w32 _).1
      | exact hsB_o _
      | exact kA
      | exact rfl
      | exact Or.inr rfl
      | exact Or.inl rfl
      | exact h _ _ (by omega)
      | contradiction
      | refine kOn_of hA ?_
      | refine kOn_of hn ?_
      | refine And.intro ?_ ?_
      | omega
      | intro _
  · rw [hsKD_7] at h
    dsimp only at h
    refine ⟨fun e => absurd e (by decide), fun _ => ⟨fun e => absurd e (by decide), fun _ => ⟨fun e => absurd e (by decide), fun _ => ⟨fun e => absurd e (by decide), fun _ => ⟨fun e => absurd e (by decide), fun _ => ⟨fun e => absurd e (by decide), fun _ => ⟨fun e => absurd e (by decide), fun _ => ⟨fun _ => ?_, fun e => absurd rfl e⟩⟩⟩⟩⟩⟩⟩⟩
    repeat' first
      | unfold cR57_backup
      | exact hs_w32 _
      | exact (hs_w32 _).1
      | exact hsB_o _
      | exact kA
      | exact rfl
      | exact Or.inr rfl
      | exact Or.inl rfl
      | exact h _ _ (by omega)
      | contradiction
      | refine kOn_of hA ?_
      | refine kOn_of hn ?_
      | refine And.intro ?_ ?_
      | omega
      | intro _
  · rw [hsKD_8] at h
    dsimp only at h
    refine ⟨fun e => absurd e (by decide), fun _ => ⟨fun e => absurd e (by decide), fun _ => ⟨fun e => absurd e (by decide), fun _ => ⟨fun e => absurd e (by decide), fun _ => ⟨fun e => absurd e (by decide), fun _ => ⟨fun e => absurd e (by decide), fun _ => ⟨fun e => absurd e (by decide), fun _ => ⟨fun e => absurd e (by decide), fun _ => ⟨fun _ => ?_, fun e => absurd rfl e⟩⟩⟩⟩⟩⟩⟩⟩⟩
    repeat' first
      | unfold cR57_drop
      | exact hs_w32 _
      | exact (hs_w32 _).1
      | exact hsB_o _
      | exact kA
      | exact rfl
      | exact Or.inr rfl
      | exact Or.inl rfl
      | exact h _ _ (by omega)
      | contradiction
      | refine kOn_of hA ?_
      | refine kOn_of hn ?_
      | refine And.intro ?_ ?_
      | omega
      | intro _
  · rw [hsKD_9] at h
    dsimp only at h
    refine ⟨fun e => absurd e (by decide), fun _ => ⟨fun e => absurd e (by decide), fun _ => ⟨fun e => absurd e (by decide), fun _ => ⟨fun e => absurd e (by decide), fun _ => ⟨fun e => absurd e (by decide), fun _ => ⟨fun e => absurd e (by decide), fun _ => ⟨fun e => absurd e (by decide), fun _ => ⟨fun e => absurd e (by decide), fun _ => ⟨fun e => absurd e (by decide), fun _ => ⟨fun _ => ?_, fun e => absurd rfl e⟩⟩⟩⟩⟩⟩⟩⟩⟩⟩
    repeat' first
      | unfold cR57_derived
      | exact hs_w32 _
      | exact (hs_w32 _).1
      | exact hsB_o _
      | exact kA
      | exact rfl
      | exact Or.inr rfl
      | exact Or.inl rfl
      | exact h _ _ (by omega)
      | contradiction
      | refine kOn_of hA ?_
      | refine kOn_of hn ?_
      | refine And.intro ?_ ?_
      | omega
      | intro _
  · rw [hsKD_10] at h
    dsimp only at h
    by_cases f0 : al A 0 = 1
    · rw [hsB_p f0] at h
      by_cases fbool : ((kqFull 1 R57_S).1) = 0
      · rw [hsN0_p fbool] at h
        refine ⟨fun e => absurd e (by decide), fun _ => ⟨fun e => absurd e (by decide), fun _ => ⟨fun e => absurd e (by decide), fun _ => ⟨fun e => absurd e (by decide), fun _ => ⟨fun e => absurd e (by decide), fun _ => ⟨fun e => absurd e (by decide), fun _ => ⟨fun e => absurd e (by decide), fun _ => ⟨fun e => absurd e (by decide), fun _ => ⟨fun e => absurd e (by decide), fun _ => ⟨fun e => absurd e (by decide), fun _ => ?_⟩⟩⟩⟩⟩⟩⟩⟩⟩⟩
        repeat' first
          | unfold cR57_full
          | exact hs_w32 _
          | exact (hs_w32 _).1
          | exact hsB_o _
          | exact kA
          | exact rfl
          | exact Or.inr rfl
          | exact Or.inl rfl
          | exact h _ _ (by omega)
          | contradiction
          | refine kOn_of hA ?_
          | refine kOn_of hn ?_
          | refine And.intro ?_ ?_
          | omega
          | intro _
      · rw [hsN0_n fbool] at h
        refine ⟨fun e => absurd e (by decide), fun _ => ⟨fun e => absurd e (by decide), fun _ => ⟨fun e => absurd e (by decide), fun _ => ⟨fun e => absurd e (by decide), fun _ => ⟨fun e => absurd e (by decide), fun _ => ⟨fun e => absurd e (by decide), fun _ => ⟨fun e => absurd e (by decide), fun _ => ⟨fun e => absurd e (by decide), fun _ => ⟨fun e => absurd e (by decide), fun _ => ⟨fun e => absurd e (by decide), fun _ => ?_⟩⟩⟩⟩⟩⟩⟩⟩⟩⟩
        repeat' first
          | unfold cR57_full
          | exact hs_w32 _
          | exact (hs_w32 _).1
          | exact hsB_o _
          | exact kA
          | exact rfl
          | exact Or.inr rfl
          | exact Or.inl rfl
          | exact h _ _ (by omega)
          | contradiction
          | refine kOn_of hA ?_
          | refine kOn_of hn ?_
          | refine And.intro ?_ ?_
          | omega
          | intro _
    · rw [hsB_n f0] at h
      by_cases fbool : ((kqFull 0 R57_S).1) = 0
      · rw [hsN0_p fbool] at h
        refine ⟨fun e => absurd e (by decide), fun _ => ⟨fun e => absurd e (by decide), fun _ => ⟨fun e => absurd e (by decide), fun _ => ⟨fun e => absurd e (by decide), fun _ => ⟨fun e => absurd e (by decide), fun _ => ⟨fun e => absurd e (by decide), fun _ => ⟨fun e => absurd e (by decide), fun _ => ⟨fun e => absurd e (by decide), fun _ => ⟨fun e => absurd e (by decide), fun _ => ⟨fun e => absurd e (by decide), fun _ => ?_⟩⟩⟩⟩⟩⟩⟩⟩⟩⟩
        repeat' first
          | unfold cR57_full
          | exact hs_w32 _
          | exact (hs_w32 _).1
          | exact hsB_o _
          | exact kA
          | exact rfl
          | exact Or.inr rfl
          | exact Or.inl rfl
          | exact h _ _ (by omega)
          | contradiction
          | refine kOn_of hA ?_
          | refine kOn_of hn ?_
          | refine And.intro ?_ ?_
          | omega
          | intro _
      · rw [hsN0_n fbool] at h
        refine ⟨fun e => absurd e (by decide), fun _ => ⟨fun e => absurd e (by decide), fun _ => ⟨fun e => absurd e (by decide), fun _ => ⟨fun e => absurd e (by decide), fun _ => ⟨fun e => absurd e (by decide), fun _ => ⟨fun e => absurd e (by decide), fun _ => ⟨fun e => absurd e (by decide), fun _ => ⟨fun e => absurd e (by decide), fun _ => ⟨fun e => absurd e (by decide), fun _ => ⟨fun e => absurd e (by decide), fun _ => ?_⟩⟩⟩⟩⟩⟩⟩⟩⟩⟩
        repeat' first
          | unfold cR57_full
          | exact hs_w32 _
          | exact (hs_w32 _).1
          | exact hsB_o _
          | exact kA
          | exact rfl
          | exact Or.inr rfl
          | exact Or.inl rfl
          | exact h _ _ (by omega)
          | contradiction
          | refine kOn_of hA ?_
          | refine kOn_of hn ?_
          | refine And.intro ?_ ?_
          | omega
          | intro _
