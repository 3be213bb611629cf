/-! HS2: a line's call to a room, component's side (printed by tools/hsc.py) -/
set_option maxRecDepth 100000
set_option maxHeartbeats 4000000
theorem SHnum {K : Int → Prop} {kd an : Nat → Nat} {al : Nat → Int → Int} {M : Nat → Option Nat} {x0 A : Nat} {j : Int} (hA : M x0 = some A) (kA : kd A = 7) (nA : an A = 8) (hj : 0 ≤ j ∧ j < 8) (h : K (w32 (al A j))) : wpSH_X0_num K kd an al M x0 j :=
  kOn_of hA ⟨kA, ⟨hj.1, by rw [nA]; exact hj.2⟩, h⟩
theorem SHflag {K : Int → Prop} {kd an : Nat → Nat} {al : Nat → Int → Int} {M : Nat → Option Nat} {x0 A : Nat} {j : Int} (hA : M x0 = some A) (kA : kd A = 7) (nA : an A = 8) (hj : 0 ≤ j ∧ j < 8) (h : K (hsB (al A j))) : wpSH_X0_flag K kd an al M x0 j :=
  kOn_of hA ⟨kA, ⟨hj.1, by rw [nA]; exact hj.2⟩, fun e => by rw [hsB_p e] at h; exact h, fun e => by rw [hsB_n e] at h; exact h⟩
theorem SHtold {K : Int → Prop} {x : Int} (h : K (hsN0 x)) : wpSH_X0_told K x := ⟨fun e => by rw [hsN0_p e] at h; exact h, fun e => by rw [hsN0_n e] at h; exact h⟩
theorem SH_namesCall {MC : Nat} {MS : Nat} {post : Int → cnT → Prop} {kd : Nat → Nat} {an : Nat → Nat} {al : Nat → Int → Int} {mX0_names : Nat → Option Nat} {mX0_args : Nat → Option Nat} {CN_S : cnT} {ra : Nat → Nat} {x0 : Nat} {x1 : Int} {A : Nat} (hA : mX0_args x0 = some A) (kA : kd A = 7) (nA : an A = 8) (hn : mX0_names x0 = some (ra 1)) (hM : 4000 ≤ MC ∧ 40000 ≤ MS) (h1 : 0 ≤ x1 ∧ x1 < 15) (h : (¬ (hsCN x1 (al A) CN_S).1 = -9223372036854775808) → post (hsCN x1 (al A) CN_S).1  (hsCN x1 (al A) CN_S).2) : wpSH_X0_namesCall MC MS post kd an al mX0_names mX0_args CN_S ra x0 x1 := by
  unfold wpSH_X0_namesCall
  obtain rfl | rfl | rfl | rfl | rfl | rfl | rfl | rfl | rfl | rfl | rfl | rfl | rfl | rfl | rfl : x1 = 0 ∨ x1 = 1 ∨ x1 = 2 ∨ x1 = 3 ∨ x1 = 4 ∨ x1 = 5 ∨ x1 = 6 ∨ x1 = 7 ∨ x1 = 8 ∨ x1 = 9 ∨ x1 = 10 ∨ x1 = 11 ∨ x1 = 12 ∨ x1 = 13 ∨ x1 = 14 := by omega
  · rw [hsCN_0] at h
    dsimp only at h
    refine ⟨fun _ => ?_, fun e => absurd rfl e⟩
    repeat' first
      | unfold cCN_blank
      | exact hs_w32 _
      | exact (hs_w32 _).1
      | exact hsB_o _
      | exact kA
      | exact rfl
      | exact Or.inr rfl
      | exact Or.inl rfl
      | exact h   (by omega)
      | exact h   (hsN0_z _)
      | contradiction
      | refine SHnum hA kA nA (by omega) ?_
      | refine SHflag hA kA nA (by omega) ?_
      | refine SHtold ?_
      | refine kOn_of hA ?_
      | refine kOn_of hn ?_
      | refine ⟨4000, 40000, ?_⟩
      | refine And.intro ?_ ?_
      | omega
      | intro _
  · rw [hsCN_1] at h
    dsimp only at h
    refine ⟨fun e => absurd e (by decide), fun _ => ⟨fun _ => ?_, fun e => absurd rfl e⟩⟩
    repeat' first
      | unfold cCN_triple
      | exact hs_w32 _
      | exact (hs_w32 _).1
      | exact hsB_o _
      | exact kA
      | exact rfl
      | exact Or.inr rfl
      | exact Or.inl rfl
      | exact h   (by omega)
      | exact h   (hsN0_z _)
      | contradiction
      | refine SHnum hA kA nA (by omega) ?_
      | refine SHflag hA kA nA (by omega) ?_
      | refine SHtold ?_
      | refine kOn_of hA ?_
      | refine kOn_of hn ?_
      | refine ⟨4000, 40000, ?_⟩
      | refine And.intro ?_ ?_
      | omega
      | intro _
  · rw [hsCN_2] at h
    dsimp only at h
    refine ⟨fun e => absurd e (by decide), fun _ => ⟨fun e => absurd e (by decide), fun _ => ⟨fun _ => ?_, fun e => absurd rfl e⟩⟩⟩
    repeat' first
      | unfold cCN_drop
      | exact hs_w32 _
      | exact (hs_w32 _).1
      | exact hsB_o _
      | exact kA
      | exact rfl
      | exact Or.inr rfl
      | exact Or.inl rfl
      | exact h   (by omega)
      | exact h   (hsN0_z _)
      | contradiction
      | refine SHnum hA kA nA (by omega) ?_
      | refine SHflag hA kA nA (by omega) ?_
      | refine SHtold ?_
      | refine kOn_of hA ?_
      | refine kOn_of hn ?_
      | refine ⟨4000, 40000, ?_⟩
      | refine And.intro ?_ ?_
      | omega
      | intro _
  · rw [hsCN_3] at h
    dsimp only at h
    refine ⟨fun e => absurd e (by decide), fun _ => ⟨fun e => absurd e (by decide), fun _ => ⟨fun e => absurd e (by decide), fun _ => ⟨fun _ => ?_, fun e => absurd rfl e⟩⟩⟩⟩
    repeat' first
      | unfold cCN_name
      | exact hs_w32 _
      | exact (hs_w32 _).1
      | exact hsB_o _
      | exact kA
      | exact rfl
      | exact Or.inr rfl
      | exact Or.inl rfl
      | exact h   (by omega)
      | exact h   (hsN0_z _)
      | contradiction
      | refine SHnum hA kA nA (by omega) ?_
      | refine SHflag hA kA nA (by omega) ?_
      | refine SHtold ?_
      | refine kOn_of hA ?_
      | refine kOn_of hn ?_
      | refine ⟨4000, 40000, ?_⟩
      | refine And.intro ?_ ?_
      | omega
      | intro _
  · rw [hsCN_4] at h
    dsimp only at h
    refine ⟨fun e => absurd e (by decide), fun _ => ⟨fun e => absurd e (by decide), fun _ => ⟨fun e => absurd e (by decide), fun _ => ⟨fun e => absurd e (by decide), fun _ => ⟨fun _ => ?_, fun e => absurd rfl e⟩⟩⟩⟩⟩
    repeat' first
      | unfold cCN_named
      | exact hs_w32 _
      | exact (hs_w32 _).1
      | exact hsB_o _
      | exact kA
      | exact rfl
      | exact Or.inr rfl
      | exact Or.inl rfl
      | exact h   (by omega)
      | exact h   (hsN0_z _)
      | contradiction
      | refine SHnum hA kA nA (by omega) ?_
      | refine SHflag hA kA nA (by omega) ?_
      | refine SHtold ?_
      | refine kOn_of hA ?_
      | refine kOn_of hn ?_
      | refine ⟨4000, 40000, ?_⟩
      | refine And.intro ?_ ?_
      | omega
      | intro _
  · rw [hsCN_5] at h
    dsimp only at h
    refine ⟨fun e => absurd e (by decide), fun _ => ⟨fun e => absurd e (by decide), fun _ => ⟨fun e => absurd e (by decide), fun _ => ⟨fun e => absurd e (by decide), fun _ => ⟨fun e => absurd e (by decide), fun _ => ⟨fun _ => ?_, fun e => absurd rfl e⟩⟩⟩⟩⟩⟩
    repeat' first
      | unfold cCN_form
      | exact hs_w32 _
      | exact (hs_w32 _).1
      | exact hsB_o _
      | exact kA
      | exact rfl
      | exact Or.inr rfl
      | exact Or.inl rfl
      | exact h   (by omega)
      | exact h   (hsN0_z _)
      | contradiction
      | refine SHnum hA kA nA (by omega) ?_
      | refine SHflag hA kA nA (by omega) ?_
      | refine SHtold ?_
      | refine kOn_of hA ?_
      | refine kOn_of hn ?_
      | refine ⟨4000, 40000, ?_⟩
      | refine And.intro ?_ ?_
      | omega
      | intro _
  · rw [hsCN_6] at h
    dsimp only at h
    refine ⟨fun e => absurd e (by decide), fun _ => ⟨fun e => absurd e (by decide), fun _ => ⟨fun e => absurd e (by decide), fun _ => ⟨fun e => absurd e (by decide), fun _ => ⟨fun e => absurd e (by decide), fun _ => ⟨fun e => absurd e (by decide), fun _ => ⟨fun _ => ?_, fun e => absurd rfl e⟩⟩⟩⟩⟩⟩⟩
    repeat' first
      | unfold cCN_hash
      | exact hs_w32 _
      | exact (hs_w32 _).1
      | exact hsB_o _
      | exact kA
      | exact rfl
      | exact Or.inr rfl
      | exact Or.inl rfl
      | exact h   (by omega)
      | exact h   (hsN0_z _)
      | contradiction
      | refine SHnum hA kA nA (by omega) ?_
      | refine SHflag hA kA nA (by omega) ?_
      | refine SHtold ?_
      | refine kOn_of hA ?_
      | refine kOn_of hn ?_
      | refine ⟨4000, 40000, ?_⟩
      | refine And.intro ?_ ?_
      | omega
      | intro _
  · rw [hsCN_7] at h
    dsimp only at h
    refine ⟨fun e => absurd e (by decide), fun _ => ⟨fun e => absurd e (by decide), fun _ => ⟨fun e => absurd e (by decide), fun _ => ⟨fun e => absurd e (by decide), fun _ => ⟨fun e => absurd e (by decide), fun _ => ⟨fun e => absurd e (by decide), fun _ => ⟨fun e => absurd e (by decide), fun _ => ⟨fun _ => ?_, fun e => absurd rfl e⟩⟩⟩⟩⟩⟩⟩⟩
    repeat' first
      | unfold cCN_rounds
      | exact hs_w32 _
      | exact (hs_w32 _).1
      | exact hsB_o _
      | exact kA
      | exact rfl
      | exact Or.inr rfl
      | exact Or.inl rfl
      | exact h   (by omega)
      | exact h   (hsN0_z _)
      | contradiction
      | refine SHnum hA kA nA (by omega) ?_
      | refine SHflag hA kA nA (by omega) ?_
      | refine SHtold ?_
      | refine kOn_of hA ?_
      | refine kOn_of hn ?_
      | refine ⟨4000, 40000, ?_⟩
      | refine And.intro ?_ ?_
      | omega
      | intro _
  · rw [hsCN_8] at h
    dsimp only at h
    refine ⟨fun e => absurd e (by decide), fun _ => ⟨fun e => absurd e (by decide), fun _ => ⟨fun e => absurd e (by decide), fun _ => ⟨fun e => absurd e (by decide), fun _ => ⟨fun e => absurd e (by decide), fun _ => ⟨fun e => absurd e (by decide), fun _ => ⟨fun e => absurd e (by decide), fun _ => ⟨fun e => absurd e (by decide), fun _ => ⟨fun _ => ?_, fun e => absurd rfl e⟩⟩⟩⟩⟩⟩⟩⟩⟩
    repeat' first
      | unfold cCN_first
      | exact hs_w32 _
      | exact (hs_w32 _).1
      | exact hsB_o _
      | exact kA
      | exact rfl
      | exact Or.inr rfl
      | exact Or.inl rfl
      | exact h   (by omega)
      | exact h   (hsN0_z _)
      | contradiction
      | refine SHnum hA kA nA (by omega) ?_
      | refine SHflag hA kA nA (by omega) ?_
      | refine SHtold ?_
      | refine kOn_of hA ?_
      | refine kOn_of hn ?_
      | refine ⟨4000, 40000, ?_⟩
      | refine And.intro ?_ ?_
      | omega
      | intro _
  · rw [hsCN_9] at h
    dsimp only at h
    refine ⟨fun e => absurd e (by decide), fun _ => ⟨fun e => absurd e (by decide), fun _ => ⟨fun e => absurd e (by decide), fun _ => ⟨fun e => absurd e (by decide), fun _ => ⟨fun e => absurd e (by decide), fun _ => ⟨fun e => absurd e (by decide), fun _ => ⟨fun e => absurd e (by decide), fun _ => ⟨fun e => absurd e (by decide), fun _ => ⟨fun e => absurd e (by decide), fun _ => ⟨fun _ => ?_, fun e => absurd rfl e⟩⟩⟩⟩⟩⟩⟩⟩⟩⟩
    repeat' first
      | unfold cCN_keep
      | exact hs_w32 _
      | exact (hs_w32 _).1
      | exact hsB_o _
      | exact kA
      | exact rfl
      | exact Or.inr rfl
      | exact Or.inl rfl
      | exact h   (by omega)
      | exact h   (hsN0_z _)
      | contradiction
      | refine SHnum hA kA nA (by omega) ?_
      | refine SHflag hA kA nA (by omega) ?_
      | refine SHtold ?_
      | refine kOn_of hA ?_
      | refine kOn_of hn ?_
      | refine ⟨4000, 40000, ?_⟩
      | refine And.intro ?_ ?_
      | omega
      | intro _
  · rw [hsCN_10] at h
    dsimp only at h
    refine ⟨fun e => absurd e (by decide), fun _ => ⟨fun e => absurd e (by decide), fun _ => ⟨fun e => absurd e (by decide), fun _ => ⟨fun e => absurd e (by decide), fun _ => ⟨fun e => absurd e (by decide), fun _ => ⟨fun e => absurd e (by decide), fun _ => ⟨fun e => absurd e (by decide), fun _ => ⟨fun e => absurd e (by decide), fun _ => ⟨fun e => absurd e (by decide), fun _ => ⟨fun e => absurd e (by decide), fun _ => ⟨fun _ => ?_, fun e => absurd rfl e⟩⟩⟩⟩⟩⟩⟩⟩⟩⟩⟩
    repeat' first
      | unfold cCN_isomorphic
      | exact hs_w32 _
      | exact (hs_w32 _).1
      | exact hsB_o _
      | exact kA
      | exact rfl
      | exact Or.inr rfl
      | exact Or.inl rfl
      | exact h   (by omega)
      | exact h   (hsN0_z _)
      | contradiction
      | refine SHnum hA kA nA (by omega) ?_
      | refine SHflag hA kA nA (by omega) ?_
      | refine SHtold ?_
      | refine kOn_of hA ?_
      | refine kOn_of hn ?_
      | refine ⟨4000, 40000, ?_⟩
      | refine And.intro ?_ ?_
      | omega
      | intro _
  · rw [hsCN_11] at h
    dsimp only at h
    refine ⟨fun e => absurd e (by decide), fun _ => ⟨fun e => absurd e (by decide), fun _ => ⟨fun e => absurd e (by decide), fun _ => ⟨fun e => absurd e (by decide), fun _ => ⟨fun e => absurd e (by decide), fun _ => ⟨fun e => absurd e (by decide), fun _ => ⟨fun e => absurd e (by decide), fun _ => ⟨fun e => absurd e (by decide), fun _ => ⟨fun e => absurd e (by decide), fun _ => ⟨fun e => absurd e (by decide), fun _ => ⟨fun e => absurd e (by decide), fun _ => ⟨fun _ => ?_, fun e => absurd rfl e⟩⟩⟩⟩⟩⟩⟩⟩⟩⟩⟩⟩
    repeat' first
      | unfold cCN_ways
      | exact hs_w32 _
      | exact (hs_w32 _).1
      | exact hsB_o _
      | exact kA
      | exact rfl
      | exact Or.inr rfl
      | exact Or.inl rfl
      | exact h   (by omega)
      | exact h   (hsN0_z _)
      | contradiction
      | refine SHnum hA kA nA (by omega) ?_
      | refine SHflag hA kA nA (by omega) ?_
      | refine SHtold ?_
      | refine kOn_of hA ?_
      | refine kOn_of hn ?_
      | refine ⟨4000, 40000, ?_⟩
      | refine And.intro ?_ ?_
      | omega
      | intro _
  · rw [hsCN_12] at h
    dsimp only at h
    refine ⟨fun e => absurd e (by decide), fun _ => ⟨fun e => absurd e (by decide), fun _ => ⟨fun e => absurd e (by decide), fun _ => ⟨fun e => absurd e (by decide), fun _ => ⟨fun e => absurd e (by decide), fun _ => ⟨fun e => absurd e (by decide), fun _ => ⟨fun e => absurd e (by decide), fun _ => ⟨fun e => absurd e (by decide), fun _ => ⟨fun e => absurd e (by decide), fun _ => ⟨fun e => absurd e (by decide), fun _ => ⟨fun e => absurd e (by decide), fun _ => ⟨fun e => absurd e (by decide), fun _ => ⟨fun _ => ?_, fun e => absurd rfl e⟩⟩⟩⟩⟩⟩⟩⟩⟩⟩⟩⟩⟩
    repeat' first
      | unfold cCN_equal
      | exact hs_w32 _
      | exact (hs_w32 _).1
      | exact hsB_o _
      | exact kA
      | exact rfl
      | exact Or.inr rfl
      | exact Or.inl rfl
      | exact h   (by omega)
      | exact h   (hsN0_z _)
      | contradiction
      | refine SHnum hA kA nA (by omega) ?_
      | refine SHflag hA kA nA (by omega) ?_
      | refine SHtold ?_
      | refine kOn_of hA ?_
      | refine kOn_of hn ?_
      | refine ⟨4000, 40000, ?_⟩
      | refine And.intro ?_ ?_
      | omega
      | intro _
  · rw [hsCN_13] at h
    dsimp only at h
    refine ⟨fun e => absurd e (by decide), fun _ => ⟨fun e => absurd e (by decide), fun _ => ⟨fun e => absurd e (by decide), fun _ => ⟨fun e => absurd e (by decide), fun _ => ⟨fun e => absurd e (by decide), fun _ => ⟨fun e => absurd e (by decide), fun _ => ⟨fun e => absurd e (by decide), fun _ => ⟨fun e => absurd e (by decide), fun _ => ⟨fun e => absurd e (by decide), fun _ => ⟨fun e => absurd e (by decide), fun _ => ⟨fun e => absurd e (by decide), fun _ => ⟨fun e => absurd e (by decide), fun _ => ⟨fun e => absurd e (by decide), fun _ => ⟨fun _ => ?_, fun e => absurd rfl e⟩⟩⟩⟩⟩⟩⟩⟩⟩⟩⟩⟩⟩⟩
    repeat' first
      | unfold cCN_triples
      | exact hs_w32 _
      | exact (hs_w32 _).1
      | exact hsB_o _
      | exact kA
      | exact rfl
      | exact Or.inr rfl
      | exact Or.inl rfl
      | exact h   (by omega)
      | exact h   (hsN0_z _)
      | contradiction
      | refine SHnum hA kA nA (by omega) ?_
      | refine SHflag hA kA nA (by omega) ?_
      | refine SHtold ?_
      | refine kOn_of hA ?_
      | refine kOn_of hn ?_
      | refine ⟨4000, 40000, ?_⟩
      | refine And.intro ?_ ?_
      | omega
      | intro _
  · rw [hsCN_14] at h
    dsimp only at h
    refine ⟨fun e => absurd e (by decide), fun _ => ⟨fun e => absurd e (by decide), fun _ => ⟨fun e => absurd e (by decide), fun _ => ⟨fun e => absurd e (by decide), fun _ => ⟨fun e => absurd e (by decide), fun _ => ⟨fun e => absurd e (by decide), fun _ => ⟨fun e => absurd e (by decide), fun _ => ⟨fun e => absurd e (by decide), fun _ => ⟨fun e => absurd e (by decide), fun _ => ⟨fun e => absurd e (by decide), fun _ => ⟨fun e => absurd e (by decide), fun _ => ⟨fun e => absurd e (by decide), fun _ => ⟨fun e => absurd e (by decide), fun _ => ⟨fun e => absurd e (by decide), fun _ => ⟨fun _ => ?_, fun e => absurd rfl e⟩⟩⟩⟩⟩⟩⟩⟩⟩⟩⟩⟩⟩⟩⟩
    repeat' first
      | unfold cCN_blanks
      | exact hs_w32 _
      | exact (hs_w32 _).1
      | exact hsB_o _
      | exact kA
      | exact rfl
      | exact Or.inr rfl
      | exact Or.inl rfl
      | exact h   (by omega)
      | exact h   (hsN0_z _)
      | contradiction
      | refine SHnum hA kA nA (by omega) ?_
      | refine SHflag hA kA nA (by omega) ?_
      | refine SHtold ?_
      | refine kOn_of hA ?_
      | refine kOn_of hn ?_
      | refine ⟨4000, 40000, ?_⟩
      | refine And.intro ?_ ?_
      | omega
      | intro _
theorem SH_versionsCall {MC : Nat} {MS : Nat} {post : Int → Int → Int → Int → vsS → Prop} {px : Nat → Int → Int → Int → vsS → Prop} {kd : Nat → Nat} {an : Nat → Nat} {al : Nat → Int → Int} {mX0_versions : Nat → Option Nat} {mX0_args : Nat → Option Nat} {VT_u : Int} {VT_b : Int} {VT_d : Int} {VT_S : vsS} {ra : Nat → Nat} {x0 : Nat} {x1 : Int} {A : Nat} (hA : mX0_args x0 = some A) (kA : kd A = 7) (nA : an A = 8) (hn : mX0_versions x0 = some (ra 2)) (hM : 4000 ≤ MC ∧ 40000 ≤ MS) (h1 : 0 ≤ x1 ∧ x1 < 18) (hg : VT_u ≤ 199 ∧ VT_b ≤ 58 ∧ VT_d ≤ 60) (h : (hsVT x1 (al A) VT_S).1 = 0 → ∀ (VT_u' VT_b' VT_d' : Int), (VT_u ≤ VT_u' ∧ VT_u' ≤ VT_u + 1) → (VT_b ≤ VT_b' ∧ VT_b' ≤ VT_b + 1) → (VT_d ≤ VT_d' ∧ VT_d' ≤ VT_d + 1) → (¬ (hsVT x1 (al A) VT_S).2.1 = -9223372036854775808) → post (hsVT x1 (al A) VT_S).2.1 VT_u' VT_b' VT_d' (hsVT x1 (al A) VT_S).2.2) (hx : ¬ (hsVT x1 (al A) VT_S).1 = 0 → ∀ (VT_u' VT_b' VT_d' : Int), (VT_u ≤ VT_u' ∧ VT_u' ≤ VT_u + 1) → (VT_b ≤ VT_b' ∧ VT_b' ≤ VT_b + 1) → (VT_d ≤ VT_d' ∧ VT_d' ≤ VT_d + 1) → px (hsVT x1 (al A) VT_S).1 VT_u' VT_b' VT_d' (hsVT x1 (al A) VT_S).2.2) : wpSH_X0_versionsCall MC MS post px kd an al mX0_versions mX0_args VT_u VT_b VT_d VT_S ra x0 x1 := by
  unfold wpSH_X0_versionsCall
  obtain rfl | rfl | rfl | rfl | rfl | rfl | rfl | rfl | rfl | rfl | rfl | rfl | rfl | rfl | rfl | rfl | rfl | rfl : x1 = 0 ∨ x1 = 1 ∨ x1 = 2 ∨ x1 = 3 ∨ x1 = 4 ∨ x1 = 5 ∨ x1 = 6 ∨ x1 = 7 ∨ x1 = 8 ∨ x1 = 9 ∨ x1 = 10 ∨ x1 = 11 ∨ x1 = 12 ∨ x1 = 13 ∨ x1 = 14 ∨ x1 = 15 ∨ x1 = 16 ∨ x1 = 17 := by omega
  · rw [hsVT_0] at h hx
    dsimp only at h hx
    refine ⟨fun _ => ?_, fun e => absurd rfl e⟩
    repeat' first
      | unfold cVT_begin
      | exact hs_w32 _
      | exact (hs_w32 _).1
      | exact hsB_o _
      | exact kA
      | exact rfl
      | exact Or.inr rfl
      | exact Or.inl rfl
      | exact h rfl _ _ _ (by omega) (by omega) (by omega) (by omega)
      | exact h rfl _ _ _ (by omega) (by omega) (by omega) (hsN0_z _)
      | exact h (by assumption) _ _ _ (by omega) (by omega) (by omega) (by omega)
      | exact h (by assumption) _ _ _ (by omega) (by omega) (by omega) (hsN0_z _)
      | exact hx (by assumption) _ _ _ (by omega) (by omega) (by omega)
      | contradiction
      | refine SHnum hA kA nA (by omega) ?_
      | refine SHflag hA kA nA (by omega) ?_
      | refine SHtold ?_
      | refine kOn_of hA ?_
      | refine kOn_of hn ?_
      | refine ⟨4000, 40000, ?_⟩
      | refine And.intro ?_ ?_
      | omega
      | intro _
  · rw [hsVT_1] at h hx
    dsimp only at h hx
    refine ⟨fun e => absurd e (by decide), fun _ => ⟨fun _ => ?_, fun e => absurd rfl e⟩⟩
    repeat' first
      | unfold cVT_look
      | exact hs_w32 _
      | exact (hs_w32 _).1
      | exact hsB_o _
      | exact kA
      | exact rfl
      | exact Or.inr rfl
      | exact Or.inl rfl
      | exact h rfl _ _ _ (by omega) (by omega) (by omega) (by omega)
      | exact h rfl _ _ _ (by omega) (by omega) (by omega) (hsN0_z _)
      | exact h (by assumption) _ _ _ (by omega) (by omega) (by omega) (by omega)
      | exact h (by assumption) _ _ _ (by omega) (by omega) (by omega) (hsN0_z _)
      | exact hx (by assumption) _ _ _ (by omega) (by omega) (by omega)
      | contradiction
      | refine SHnum hA kA nA (by omega) ?_
      | refine SHflag hA kA nA (by omega) ?_
      | refine SHtold ?_
      | refine kOn_of hA ?_
      | refine kOn_of hn ?_
      | refine ⟨4000, 40000, ?_⟩
      | refine And.intro ?_ ?_
      | omega
      | intro _
  · rw [hsVT_2] at h hx
    dsimp only at h hx
    refine ⟨fun e => absurd e (by decide), fun _ => ⟨fun e => absurd e (by decide), fun _ => ⟨fun _ => ?_, fun e => absurd rfl e⟩⟩⟩
    repeat' first
      | unfold cVT_put
      | exact hs_w32 _
      | exact (hs_w32 _).1
      | exact hsB_o _
      | exact kA
      | exact rfl
      | exact Or.inr rfl
      | exact Or.inl rfl
      | exact h rfl _ _ _ (by omega) (by omega) (by omega) (by omega)
      | exact h rfl _ _ _ (by omega) (by omega) (by omega) (hsN0_z _)
      | exact h (by assumption) _ _ _ (by omega) (by omega) (by omega) (by omega)
      | exact h (by assumption) _ _ _ (by omega) (by omega) (by omega) (hsN0_z _)
      | exact hx (by assumption) _ _ _ (by omega) (by omega) (by omega)
      | contradiction
      | refine SHnum hA kA nA (by omega) ?_
      | refine SHflag hA kA nA (by omega) ?_
      | refine SHtold ?_
      | refine kOn_of hA ?_
      | refine kOn_of hn ?_
      | refine ⟨4000, 40000, ?_⟩
      | refine And.intro ?_ ?_
      | omega
      | intro _
  · rw [hsVT_3] at h hx
    dsimp only at h hx
    refine ⟨fun e => absurd e (by decide), fun _ => ⟨fun e => absurd e (by decide), fun _ => ⟨fun e => absurd e (by decide), fun _ => ⟨fun _ => ?_, fun e => absurd rfl e⟩⟩⟩⟩
    repeat' first
      | unfold cVT_note
      | exact hs_w32 _
      | exact (hs_w32 _).1
      | exact hsB_o _
      | exact kA
      | exact rfl
      | exact Or.inr rfl
      | exact Or.inl rfl
      | exact h rfl _ _ _ (by omega) (by omega) (by omega) (by omega)
      | exact h rfl _ _ _ (by omega) (by omega) (by omega) (hsN0_z _)
      | exact h (by assumption) _ _ _ (by omega) (by omega) (by omega) (by omega)
      | exact h (by assumption) _ _ _ (by omega) (by omega) (by omega) (hsN0_z _)
      | exact hx (by assumption) _ _ _ (by omega) (by omega) (by omega)
      | contradiction
      | refine SHnum hA kA nA (by omega) ?_
      | refine SHflag hA kA nA (by omega) ?_
      | refine SHtold ?_
      | refine kOn_of hA ?_
      | refine kOn_of hn ?_
      | refine ⟨4000, 40000, ?_⟩
      | refine And.intro ?_ ?_
      | omega
      | intro _
  · rw [hsVT_4] at h hx
    dsimp only at h hx
    refine ⟨fun e => absurd e (by decide), fun _ => ⟨fun e => absurd e (by decide), fun _ => ⟨fun e => absurd e (by decide), fun _ => ⟨fun e => absurd e (by decide), fun _ => ⟨fun _ => ?_, fun e => absurd rfl e⟩⟩⟩⟩⟩
    repeat' first
      | unfold cVT_read
      | exact hs_w32 _
      | exact (hs_w32 _).1
      | exact hsB_o _
      | exact kA
      | exact rfl
      | exact Or.inr rfl
      | exact Or.inl rfl
      | exact h rfl _ _ _ (by omega) (by omega) (by omega) (by omega)
      | exact h rfl _ _ _ (by omega) (by omega) (by omega) (hsN0_z _)
      | exact h (by assumption) _ _ _ (by omega) (by omega) (by omega) (by omega)
      | exact h (by assumption) _ _ _ (by omega) (by omega) (by omega) (hsN0_z _)
      | exact hx (by assumption) _ _ _ (by omega) (by omega) (by omega)
      | contradiction
      | refine SHnum hA kA nA (by omega) ?_
      | refine SHflag hA kA nA (by omega) ?_
      | refine SHtold ?_
      | refine kOn_of hA ?_
      | refine kOn_of hn ?_
      | refine ⟨4000, 40000, ?_⟩
      | refine And.intro ?_ ?_
      | omega
      | intro _
  · rw [hsVT_5] at h hx
    dsimp only at h hx
    refine ⟨fun e => absurd e (by decide), fun _ => ⟨fun e => absurd e (by decide), fun _ => ⟨fun e => absurd e (by decide), fun _ => ⟨fun e => absurd e (by decide), fun _ => ⟨fun e => absurd e (by decide), fun _ => ⟨fun _ => ?_, fun e => absurd rfl e⟩⟩⟩⟩⟩⟩
    repeat' first
      | unfold cVT_told
      | exact hs_w32 _
      | exact (hs_w32 _).1
      | exact hsB_o _
      | exact kA
      | exact rfl
      | exact Or.inr rfl
      | exact Or.inl rfl
      | exact h rfl _ _ _ (by omega) (by omega) (by omega) (by omega)
      | exact h rfl _ _ _ (by omega) (by omega) (by omega) (hsN0_z _)
      | exact h (by assumption) _ _ _ (by omega) (by omega) (by omega) (by omega)
      | exact h (by assumption) _ _ _ (by omega) (by omega) (by omega) (hsN0_z _)
      | exact hx (by assumption) _ _ _ (by omega) (by omega) (by omega)
      | contradiction
      | refine SHnum hA kA nA (by omega) ?_
      | refine SHflag hA kA nA (by omega) ?_
      | refine SHtold ?_
      | refine kOn_of hA ?_
      | refine kOn_of hn ?_
      | refine ⟨4000, 40000, ?_⟩
      | refine And.intro ?_ ?_
      | omega
      | intro _
  · rw [hsVT_6] at h hx
    dsimp only at h hx
    refine ⟨fun e => absurd e (by decide), fun _ => ⟨fun e => absurd e (by decide), fun _ => ⟨fun e => absurd e (by decide), fun _ => ⟨fun e => absurd e (by decide), fun _ => ⟨fun e => absurd e (by decide), fun _ => ⟨fun e => absurd e (by decide), fun _ => ⟨fun _ => ?_, fun e => absurd rfl e⟩⟩⟩⟩⟩⟩⟩
    repeat' first
      | unfold cVT_commit
      | exact hs_w32 _
      | exact (hs_w32 _).1
      | exact hsB_o _
      | exact kA
      | exact rfl
      | exact Or.inr rfl
      | exact Or.inl rfl
      | exact h rfl _ _ _ (by omega) (by omega) (by omega) (by omega)
      | exact h rfl _ _ _ (by omega) (by omega) (by omega) (hsN0_z _)
      | exact h (by assumption) _ _ _ (by omega) (by omega) (by omega) (by omega)
      | exact h (by assumption) _ _ _ (by omega) (by omega) (by omega) (hsN0_z _)
      | exact hx (by assumption) _ _ _ (by omega) (by omega) (by omega)
      | contradiction
      | refine SHnum hA kA nA (by omega) ?_
      | refine SHflag hA kA nA (by omega) ?_
      | refine SHtold ?_
      | refine kOn_of hA ?_
      | refine kOn_of hn ?_
      | refine ⟨4000, 40000, ?_⟩
      | refine And.intro ?_ ?_
      | omega
      | intro _
  · rw [hsVT_7] at h hx
    dsimp only at h hx
    refine ⟨fun e => absurd e (by decide), fun _ => ⟨fun e => absurd e (by decide), fun _ => ⟨fun e => absurd e (by decide), fun _ => ⟨fun e => absurd e (by decide), fun _ => ⟨fun e => absurd e (by decide), fun _ => ⟨fun e => absurd e (by decide), fun _ => ⟨fun e => absurd e (by decide), fun _ => ⟨fun _ => ?_, fun e => absurd rfl e⟩⟩⟩⟩⟩⟩⟩⟩
    repeat' first
      | unfold cVT_abort
      | exact hs_w32 _
      | exact (hs_w32 _).1
      | exact hsB_o _
      | exact kA
      | exact rfl
      | exact Or.inr rfl
      | exact Or.inl rfl
      | exact h rfl _ _ _ (by omega) (by omega) (by omega) (by omega)
      | exact h rfl _ _ _ (by omega) (by omega) (by omega) (hsN0_z _)
      | exact h (by assumption) _ _ _ (by omega) (by omega) (by omega) (by omega)
      | exact h (by assumption) _ _ _ (by omega) (by omega) (by omega) (hsN0_z _)
      | exact hx (by assumption) _ _ _ (by omega) (by omega) (by omega)
      | contradiction
      | refine SHnum hA kA nA (by omega) ?_
      | refine SHflag hA kA nA (by omega) ?_
      | refine SHtold ?_
      | refine kOn_of hA ?_
      | refine kOn_of hn ?_
      | refine ⟨4000, 40000, ?_⟩
      | refine And.intro ?_ ?_
      | omega
      | intro _
  · rw [hsVT_8] at h hx
    dsimp only at h hx
    refine ⟨fun e => absurd e (by decide), fun _ => ⟨fun e => absurd e (by decide), fun _ => ⟨fun e => absurd e (by decide), fun _ => ⟨fun e => absurd e (by decide), fun _ => ⟨fun e => absurd e (by decide), fun _ => ⟨fun e => absurd e (by decide), fun _ => ⟨fun e => absurd e (by decide), fun _ => ⟨fun e => absurd e (by decide), fun _ => ⟨fun _ => ?_, fun e => absurd rfl e⟩⟩⟩⟩⟩⟩⟩⟩⟩
    repeat' first
      | unfold cVT_pin
      | exact hs_w32 _
      | exact (hs_w32 _).1
      | exact hsB_o _
      | exact kA
      | exact rfl
      | exact Or.inr rfl
      | exact Or.inl rfl
      | exact h rfl _ _ _ (by omega) (by omega) (by omega) (by omega)
      | exact h rfl _ _ _ (by omega) (by omega) (by omega) (hsN0_z _)
      | exact h (by assumption) _ _ _ (by omega) (by omega) (by omega) (by omega)
      | exact h (by assumption) _ _ _ (by omega) (by omega) (by omega) (hsN0_z _)
      | exact hx (by assumption) _ _ _ (by omega) (by omega) (by omega)
      | contradiction
      | refine SHnum hA kA nA (by omega) ?_
      | refine SHflag hA kA nA (by omega) ?_
      | refine SHtold ?_
      | refine kOn_of hA ?_
      | refine kOn_of hn ?_
      | refine ⟨4000, 40000, ?_⟩
      | refine And.intro ?_ ?_
      | omega
      | intro _
  · rw [hsVT_9] at h hx
    dsimp only at h hx
    refine ⟨fun e => absurd e (by decide), fun _ => ⟨fun e => absurd e (by decide), fun _ => ⟨fun e => absurd e (by decide), fun _ => ⟨fun e => absurd e (by decide), fun _ => ⟨fun e => absurd e (by decide), fun _ => ⟨fun e => absurd e (by decide), fun _ => ⟨fun e => absurd e (by decide), fun _ => ⟨fun e => absurd e (by decide), fun _ => ⟨fun e => absurd e (by decide), fun _ => ⟨fun _ => ?_, fun e => absurd rfl e⟩⟩⟩⟩⟩⟩⟩⟩⟩⟩
    repeat' first
      | unfold cVT_unpin
      | exact hs_w32 _
      | exact (hs_w32 _).1
      | exact hsB_o _
      | exact kA
      | exact rfl
      | exact Or.inr rfl
      | exact Or.inl rfl
      | exact h rfl _ _ _ (by omega) (by omega) (by omega) (by omega)
      | exact h rfl _ _ _ (by omega) (by omega) (by omega) (hsN0_z _)
      | exact h (by assumption) _ _ _ (by omega) (by omega) (by omega) (by omega)
      | exact h (by assumption) _ _ _ (by omega) (by omega) (by omega) (hsN0_z _)
      | exact hx (by assumption) _ _ _ (by omega) (by omega) (by omega)
      | contradiction
      | refine SHnum hA kA nA (by omega) ?_
      | refine SHflag hA kA nA (by omega) ?_
      | refine SHtold ?_
      | refine kOn_of hA ?_
      | refine kOn_of hn ?_
      | refine ⟨4000, 40000, ?_⟩
      | refine And.intro ?_ ?_
      | omega
      | intro _
  · rw [hsVT_10] at h hx
    dsimp only at h hx
    refine ⟨fun e => absurd e (by decide), fun _ => ⟨fun e => absurd e (by decide), fun _ => ⟨fun e => absurd e (by decide), fun _ => ⟨fun e => absurd e (by decide), fun _ => ⟨fun e => absurd e (by decide), fun _ => ⟨fun e => absurd e (by decide), fun _ => ⟨fun e => absurd e (by decide), fun _ => ⟨fun e => absurd e (by decide), fun _ => ⟨fun e => absurd e (by decide), fun _ => ⟨fun e => absurd e (by decide), fun _ => ⟨fun _ => ?_, fun e => absurd rfl e⟩⟩⟩⟩⟩⟩⟩⟩⟩⟩⟩
    repeat' first
      | unfold cVT_free
      | exact hs_w32 _
      | exact (hs_w32 _).1
      | exact hsB_o _
      | exact kA
      | exact rfl
      | exact Or.inr rfl
      | exact Or.inl rfl
      | exact h rfl _ _ _ (by omega) (by omega) (by omega) (by omega)
      | exact h rfl _ _ _ (by omega) (by omega) (by omega) (hsN0_z _)
      | exact h (by assumption) _ _ _ (by omega) (by omega) (by omega) (by omega)
      | exact h (by assumption) _ _ _ (by omega) (by omega) (by omega) (hsN0_z _)
      | exact hx (by assumption) _ _ _ (by omega) (by omega) (by omega)
      | contradiction
      | refine SHnum hA kA nA (by omega) ?_
      | refine SHflag hA kA nA (by omega) ?_
      | refine SHtold ?_
      | refine kOn_of hA ?_
      | refine kOn_of hn ?_
      | refine ⟨4000, 40000, ?_⟩
      | refine And.intro ?_ ?_
      | omega
      | intro _
  · rw [hsVT_11] at h hx
    dsimp only at h hx
    refine ⟨fun e => absurd e (by decide), fun _ => ⟨fun e => absurd e (by decide), fun _ => ⟨fun e => absurd e (by decide), fun _ => ⟨fun e => absurd e (by decide), fun _ => ⟨fun e => absurd e (by decide), fun _ => ⟨fun e => absurd e (by decide), fun _ => ⟨fun e => absurd e (by decide), fun _ => ⟨fun e => absurd e (by decide), fun _ => ⟨fun e => absurd e (by decide), fun _ => ⟨fun e => absurd e (by decide), fun _ => ⟨fun e => absurd e (by decide), fun _ => ⟨fun _ => ?_, fun e => absurd rfl e⟩⟩⟩⟩⟩⟩⟩⟩⟩⟩⟩⟩
    repeat' first
      | unfold cVT_rows
      | exact hs_w32 _
      | exact (hs_w32 _).1
      | exact hsB_o _
      | exact kA
      | exact rfl
      | exact Or.inr rfl
      | exact Or.inl rfl
      | exact h rfl _ _ _ (by omega) (by omega) (by omega) (by omega)
      | exact h rfl _ _ _ (by omega) (by omega) (by omega) (hsN0_z _)
      | exact h (by assumption) _ _ _ (by omega) (by omega) (by omega) (by omega)
      | exact h (by assumption) _ _ _ (by omega) (by omega) (by omega) (hsN0_z _)
      | exact hx (by assumption) _ _ _ (by omega) (by omega) (by omega)
      | contradiction
      | refine SHnum hA kA nA (by omega) ?_
      | refine SHflag hA kA nA (by omega) ?_
      | refine SHtold ?_
      | refine kOn_of hA ?_
      | refine kOn_of hn ?_
      | refine ⟨4000, 40000, ?_⟩
      | refine And.intro ?_ ?_
      | omega
      | intro _
  · rw [hsVT_12] at h hx
    dsimp only at h hx
    refine ⟨fun e => absurd e (by decide), fun _ => ⟨fun e => absurd e (by decide), fun _ => ⟨fun e => absurd e (by decide), fun _ => ⟨fun e => absurd e (by decide), fun _ => ⟨fun e => absurd e (by decide), fun _ => ⟨fun e => absurd e (by decide), fun _ => ⟨fun e => absurd e (by decide), fun _ => ⟨fun e => absurd e (by decide), fun _ => ⟨fun e => absurd e (by decide), fun _ => ⟨fun e => absurd e (by decide), fun _ => ⟨fun e => absurd e (by decide), fun _ => ⟨fun e => absurd e (by decide), fun _ => ⟨fun _ => ?_, fun e => absurd rfl e⟩⟩⟩⟩⟩⟩⟩⟩⟩⟩⟩⟩⟩
    repeat' first
      | unfold cVT_latest
      | exact hs_w32 _
      | exact (hs_w32 _).1
      | exact hsB_o _
      | exact kA
      | exact rfl
      | exact Or.inr rfl
      | exact Or.inl rfl
      | exact h rfl _ _ _ (by omega) (by omega) (by omega) (by omega)
      | exact h rfl _ _ _ (by omega) (by omega) (by omega) (hsN0_z _)
      | exact h (by assumption) _ _ _ (by omega) (by omega) (by omega) (by omega)
      | exact h (by assumption) _ _ _ (by omega) (by omega) (by omega) (hsN0_z _)
      | exact hx (by assumption) _ _ _ (by omega) (by omega) (by omega)
      | contradiction
      | refine SHnum hA kA nA (by omega) ?_
      | refine SHflag hA kA nA (by omega) ?_
      | refine SHtold ?_
      | refine kOn_of hA ?_
      | refine kOn_of hn ?_
      | refine ⟨4000, 40000, ?_⟩
      | refine And.intro ?_ ?_
      | omega
      | intro _
  · rw [hsVT_13] at h hx
    dsimp only at h hx
    refine ⟨fun e => absurd e (by decide), fun _ => ⟨fun e => absurd e (by decide), fun _ => ⟨fun e => absurd e (by decide), fun _ => ⟨fun e => absurd e (by decide), fun _ => ⟨fun e => absurd e (by decide), fun _ => ⟨fun e => absurd e (by decide), fun _ => ⟨fun e => absurd e (by decide), fun _ => ⟨fun e => absurd e (by decide), fun _ => ⟨fun e => absurd e (by decide), fun _ => ⟨fun e => absurd e (by decide), fun _ => ⟨fun e => absurd e (by decide), fun _ => ⟨fun e => absurd e (by decide), fun _ => ⟨fun e => absurd e (by decide), fun _ => ⟨fun _ => ?_, fun e => absurd rfl e⟩⟩⟩⟩⟩⟩⟩⟩⟩⟩⟩⟩⟩⟩
    repeat' first
      | unfold cVT_least
      | exact hs_w32 _
      | exact (hs_w32 _).1
      | exact hsB_o _
      | exact kA
      | exact rfl
      | exact Or.inr rfl
      | exact Or.inl rfl
      | exact h rfl _ _ _ (by omega) (by omega) (by omega) (by omega)
      | exact h rfl _ _ _ (by omega) (by omega) (by omega) (hsN0_z _)
      | exact h (by assumption) _ _ _ (by omega) (by omega) (by omega) (by omega)
      | exact h (by assumption) _ _ _ (by omega) (by omega) (by omega) (hsN0_z _)
      | exact hx (by assumption) _ _ _ (by omega) (by omega) (by omega)
      | contradiction
      | refine SHnum hA kA nA (by omega) ?_
      | refine SHflag hA kA nA (by omega) ?_
      | refine SHtold ?_
      | refine kOn_of hA ?_
      | refine kOn_of hn ?_
      | refine ⟨4000, 40000, ?_⟩
      | refine And.intro ?_ ?_
      | omega
      | intro _
  · rw [hsVT_14] at h hx
    dsimp only at h hx
    refine ⟨fun e => absurd e (by decide), fun _ => ⟨fun e => absurd e (by decide), fun _ => ⟨fun e => absurd e (by decide), fun _ => ⟨fun e => absurd e (by decide), fun _ => ⟨fun e => absurd e (by decide), fun _ => ⟨fun e => absurd e (by decide), fun _ => ⟨fun e => absurd e (by decide), fun _ => ⟨fun e => absurd e (by decide), fun _ => ⟨fun e => absurd e (by decide), fun _ => ⟨fun e => absurd e (by decide), fun _ => ⟨fun e => absurd e (by decide), fun _ => ⟨fun e => absurd e (by decide), fun _ => ⟨fun e => absurd e (by decide), fun _ => ⟨fun e => absurd e (by decide), fun _ => ⟨fun _ => ?_, fun e => absurd rfl e⟩⟩⟩⟩⟩⟩⟩⟩⟩⟩⟩⟩⟩⟩⟩
    repeat' first
      | unfold cVT_state
      | exact hs_w32 _
      | exact (hs_w32 _).1
      | exact hsB_o _
      | exact kA
      | exact rfl
      | exact Or.inr rfl
      | exact Or.inl rfl
      | exact h rfl _ _ _ (by omega) (by omega) (by omega) (by omega)
      | exact h rfl _ _ _ (by omega) (by omega) (by omega) (hsN0_z _)
      | exact h (by assumption) _ _ _ (by omega) (by omega) (by omega) (by omega)
      | exact h (by assumption) _ _ _ (by omega) (by omega) (by omega) (hsN0_z _)
      | exact hx (by assumption) _ _ _ (by omega) (by omega) (by omega)
      | contradiction
      | refine SHnum hA kA nA (by omega) ?_
      | refine SHflag hA kA nA (by omega) ?_
      | refine SHtold ?_
      | refine kOn_of hA ?_
      | refine kOn_of hn ?_
      | refine ⟨4000, 40000, ?_⟩
      | refine And.intro ?_ ?_
      | omega
      | intro _
  · rw [hsVT_15] at h hx
    dsimp only at h hx
    refine ⟨fun e => absurd e (by decide), fun _ => ⟨fun e => absurd e (by decide), fun _ => ⟨fun e => absurd e (by decide), fun _ => ⟨fun e => absurd e (by decide), fun _ => ⟨fun e => absurd e (by decide), fun _ => ⟨fun e => absurd e (by decide), fun _ => ⟨fun e => absurd e (by decide), fun _ => ⟨fun e => absurd e (by decide), fun _ => ⟨fun e => absurd e (by decide), fun _ => ⟨fun e => absurd e (by decide), fun _ => ⟨fun e => absurd e (by decide), fun _ => ⟨fun e => absurd e (by decide), fun _ => ⟨fun e => absurd e (by decide), fun _ => ⟨fun e => absurd e (by decide), fun _ => ⟨fun e => absurd e (by decide), fun _ => ⟨fun _ => ?_, fun e => absurd rfl e⟩⟩⟩⟩⟩⟩⟩⟩⟩⟩⟩⟩⟩⟩⟩⟩
    repeat' first
      | unfold cVT_waits
      | exact hs_w32 _
      | exact (hs_w32 _).1
      | exact hsB_o _
      | exact kA
      | exact rfl
      | exact Or.inr rfl
      | exact Or.inl rfl
      | exact h rfl _ _ _ (by omega) (by omega) (by omega) (by omega)
      | exact h rfl _ _ _ (by omega) (by omega) (by omega) (hsN0_z _)
      | exact h (by assumption) _ _ _ (by omega) (by omega) (by omega) (by omega)
      | exact h (by assumption) _ _ _ (by omega) (by omega) (by omega) (hsN0_z _)
      | exact hx (by assumption) _ _ _ (by omega) (by omega) (by omega)
      | contradiction
      | refine SHnum hA kA nA (by omega) ?_
      | refine SHflag hA kA nA (by omega) ?_
      | refine SHtold ?_
      | refine kOn_of hA ?_
      | refine kOn_of hn ?_
      | refine ⟨4000, 40000, ?_⟩
      | refine And.intro ?_ ?_
      | omega
      | intro _
  · rw [hsVT_16] at h hx
    dsimp only at h hx
    refine ⟨fun e => absurd e (by decide), fun _ => ⟨fun e => absurd e (by decide), fun _ => ⟨fun e => absurd e (by decide), fun _ => ⟨fun e => absurd e (by decide), fun _ => ⟨fun e => absurd e (by decide), fun _ => ⟨fun e => absurd e (by decide), fun _ => ⟨fun e => absurd e (by decide), fun _ => ⟨fun e => absurd e (by decide), fun _ => ⟨fun e => absurd e (by decide), fun _ => ⟨fun e => absurd e (by decide), fun _ => ⟨fun e => absurd e (by decide), fun _ => ⟨fun e => absurd e (by decide), fun _ => ⟨fun e => absurd e (by decide), fun _ => ⟨fun e => absurd e (by decide), fun _ => ⟨fun e => absurd e (by decide), fun _ => ⟨fun e => absurd e (by decide), fun _ => ⟨fun _ => ?_, fun e => absurd rfl e⟩⟩⟩⟩⟩⟩⟩⟩⟩⟩⟩⟩⟩⟩⟩⟩⟩
    repeat' first
      | unfold cVT_ring
      | exact hs_w32 _
      | exact (hs_w32 _).1
      | exact hsB_o _
      | exact kA
      | exact rfl
      | exact Or.inr rfl
      | exact Or.inl rfl
      | exact h rfl _ _ _ (by omega) (by omega) (by omega) (by omega)
      | exact h rfl _ _ _ (by omega) (by omega) (by omega) (hsN0_z _)
      | exact h (by assumption) _ _ _ (by omega) (by omega) (by omega) (by omega)
      | exact h (by assumption) _ _ _ (by omega) (by omega) (by omega) (hsN0_z _)
      | exact hx (by assumption) _ _ _ (by omega) (by omega) (by omega)
      | contradiction
      | refine SHnum hA kA nA (by omega) ?_
      | refine SHflag hA kA nA (by omega) ?_
      | refine SHtold ?_
      | refine kOn_of hA ?_
      | refine kOn_of hn ?_
      | refine ⟨4000, 40000, ?_⟩
      | refine And.intro ?_ ?_
      | omega
      | intro _
  · rw [hsVT_17] at h hx
    dsimp only at h hx
    refine ⟨fun e => absurd e (by decide), fun _ => ⟨fun e => absurd e (by decide), fun _ => ⟨fun e => absurd e (by decide), fun _ => ⟨fun e => absurd e (by decide), fun _ => ⟨fun e => absurd e (by decide), fun _ => ⟨fun e => absurd e (by decide), fun _ => ⟨fun e => absurd e (by decide), fun _ => ⟨fun e => absurd e (by decide), fun _ => ⟨fun e => absurd e (by decide), fun _ => ⟨fun e => absurd e (by decide), fun _ => ⟨fun e => absurd e (by decide), fun _ => ⟨fun e => absurd e (by decide), fun _ => ⟨fun e => absurd e (by decide), fun _ => ⟨fun e => absurd e (by decide), fun _ => ⟨fun e => absurd e (by decide), fun _ => ⟨fun e => absurd e (by decide), fun _ => ⟨fun e => absurd e (by decide), fun _ => ⟨fun _ => ?_, fun e => absurd rfl e⟩⟩⟩⟩⟩⟩⟩⟩⟩⟩⟩⟩⟩⟩⟩⟩⟩⟩
    repeat' first
      | unfold cVT_conflicts
      | exact hs_w32 _
      | exact (hs_w32 _).1
      | exact hsB_o _
      | exact kA
      | exact rfl
      | exact Or.inr rfl
      | exact Or.inl rfl
      | exact h rfl _ _ _ (by omega) (by omega) (by omega) (by omega)
      | exact h rfl _ _ _ (by omega) (by omega) (by omega) (hsN0_z _)
      | exact h (by assumption) _ _ _ (by omega) (by omega) (by omega) (by omega)
      | exact h (by assumption) _ _ _ (by omega) (by omega) (by omega) (hsN0_z _)
      | exact hx (by assumption) _ _ _ (by omega) (by omega) (by omega)
      | contradiction
      | refine SHnum hA kA nA (by omega) ?_
      | refine SHflag hA kA nA (by omega) ?_
      | refine SHtold ?_
      | refine kOn_of hA ?_
      | refine kOn_of hn ?_
      | refine ⟨4000, 40000, ?_⟩
      | refine And.intro ?_ ?_
      | omega
      | intro _
theorem SH_valuesCall {MC : Nat} {MS : Nat} {post : Int → dvS → Prop} {kd : Nat → Nat} {an : Nat → Nat} {al : Nat → Int → Int} {mX0_values : Nat → Option Nat} {mX0_args : Nat → Option Nat} {DV_S : dvS} {ra : Nat → Nat} {x0 : Nat} {x1 : Int} {A : Nat} (hA : mX0_args x0 = some A) (kA : kd A = 7) (nA : an A = 8) (hn : mX0_values x0 = some (ra 3)) (hM : 4000 ≤ MC ∧ 40000 ≤ MS) (h1 : 0 ≤ x1 ∧ x1 < 10) (h : (¬ (hsDV x1 (al A) DV_S).1 = -9223372036854775808) → post (hsDV x1 (al A) DV_S).1  (hsDV x1 (al A) DV_S).2) : wpSH_X0_valuesCall MC MS post kd an al mX0_values mX0_args DV_S ra x0 x1 := by
  unfold wpSH_X0_valuesCall
  obtain rfl | rfl | rfl | rfl | rfl | rfl | rfl | rfl | rfl | rfl : x1 = 0 ∨ x1 = 1 ∨ x1 = 2 ∨ x1 = 3 ∨ x1 = 4 ∨ x1 = 5 ∨ x1 = 6 ∨ x1 = 7 ∨ x1 = 8 ∨ x1 = 9 := by omega
  · rw [hsDV_0] at h
    dsimp only at h
    refine ⟨fun _ => ?_, fun e => absurd rfl e⟩
    repeat' first
      | unfold cDV_type
      | exact hs_w32 _
      | exact (hs_w32 _).1
      | exact hsB_o _
      | exact kA
      | exact rfl
      | exact Or.inr rfl
      | exact Or.inl rfl
      | exact h   (by omega)
      | exact h   (hsN0_z _)
      | contradiction
      | refine SHnum hA kA nA (by omega) ?_
      | refine SHflag hA kA nA (by omega) ?_
      | refine SHtold ?_
      | refine kOn_of hA ?_
      | refine kOn_of hn ?_
      | refine ⟨4000, 40000, ?_⟩
      | refine And.intro ?_ ?_
      | omega
      | intro _
  · rw [hsDV_1] at h
    dsimp only at h
    refine ⟨fun e => absurd e (by decide), fun _ => ⟨fun _ => ?_, fun e => absurd rfl e⟩⟩
    repeat' first
      | unfold cDV_read
      | exact hs_w32 _
      | exact (hs_w32 _).1
      | exact hsB_o _
      | exact kA
      | exact rfl
      | exact Or.inr rfl
      | exact Or.inl rfl
      | exact h   (by omega)
      | exact h   (hsN0_z _)
      | contradiction
      | refine SHnum hA kA nA (by omega) ?_
      | refine SHflag hA kA nA (by omega) ?_
      | refine SHtold ?_
      | refine kOn_of hA ?_
      | refine kOn_of hn ?_
      | refine ⟨4000, 40000, ?_⟩
      | refine And.intro ?_ ?_
      | omega
      | intro _
  · rw [hsDV_2] at h
    dsimp only at h
    refine ⟨fun e => absurd e (by decide), fun _ => ⟨fun e => absurd e (by decide), fun _ => ⟨fun _ => ?_, fun e => absurd rfl e⟩⟩⟩
    repeat' first
      | unfold cDV_values
      | exact hs_w32 _
      | exact (hs_w32 _).1
      | exact hsB_o _
      | exact kA
      | exact rfl
      | exact Or.inr rfl
      | exact Or.inl rfl
      | exact h   (by omega)
      | exact h   (hsN0_z _)
      | contradiction
      | refine SHnum hA kA nA (by omega) ?_
      | refine SHflag hA kA nA (by omega) ?_
      | refine SHtold ?_
      | refine kOn_of hA ?_
      | refine kOn_of hn ?_
      | refine ⟨4000, 40000, ?_⟩
      | refine And.intro ?_ ?_
      | omega
      | intro _
  · rw [hsDV_3] at h
    dsimp only at h
    refine ⟨fun e => absurd e (by decide), fun _ => ⟨fun e => absurd e (by decide), fun _ => ⟨fun e => absurd e (by decide), fun _ => ⟨fun _ => ?_, fun e => absurd rfl e⟩⟩⟩⟩
    repeat' first
      | unfold cDV_kind
      | exact hs_w32 _
      | exact (hs_w32 _).1
      | exact hsB_o _
      | exact kA
      | exact rfl
      | exact Or.inr rfl
      | exact Or.inl rfl
      | exact h   (by omega)
      | exact h   (hsN0_z _)
      | contradiction
      | refine SHnum hA kA nA (by omega) ?_
      | refine SHflag hA kA nA (by omega) ?_
      | refine SHtold ?_
      | refine kOn_of hA ?_
      | refine kOn_of hn ?_
      | refine ⟨4000, 40000, ?_⟩
      | refine And.intro ?_ ?_
      | omega
      | intro _
  · rw [hsDV_4] at h
    dsimp only at h
    refine ⟨fun e => absurd e (by decide), fun _ => ⟨fun e => absurd e (by decide), fun _ => ⟨fun e => absurd e (by decide), fun _ => ⟨fun e => absurd e (by decide), fun _ => ⟨fun _ => ?_, fun e => absurd rfl e⟩⟩⟩⟩⟩
    repeat' first
      | unfold cDV_compare
      | exact hs_w32 _
      | exact (hs_w32 _).1
      | exact hsB_o _
      | exact kA
      | exact rfl
      | exact Or.inr rfl
      | exact Or.inl rfl
      | exact h   (by omega)
      | exact h   (hsN0_z _)
      | contradiction
      | refine SHnum hA kA nA (by omega) ?_
      | refine SHflag hA kA nA (by omega) ?_
      | refine SHtold ?_
      | refine kOn_of hA ?_
      | refine kOn_of hn ?_
      | refine ⟨4000, 40000, ?_⟩
      | refine And.intro ?_ ?_
      | omega
      | intro _
  · rw [hsDV_5] at h
    dsimp only at h
    refine ⟨fun e => absurd e (by decide), fun _ => ⟨fun e => absurd e (by decide), fun _ => ⟨fun e => absurd e (by decide), fun _ => ⟨fun e => absurd e (by decide), fun _ => ⟨fun e => absurd e (by decide), fun _ => ⟨fun _ => ?_, fun e => absurd rfl e⟩⟩⟩⟩⟩⟩
    repeat' first
      | unfold cDV_part
      | exact hs_w32 _
      | exact (hs_w32 _).1
      | exact hsB_o _
      | exact kA
      | exact rfl
      | exact Or.inr rfl
      | exact Or.inl rfl
      | exact h   (by omega)
      | exact h   (hsN0_z _)
      | exact h   (hsD_part (by assumption))
      | contradiction
      | refine SHnum hA kA nA (by omega) ?_
      | refine SHflag hA kA nA (by omega) ?_
      | refine SHtold ?_
      | refine kOn_of hA ?_
      | refine kOn_of hn ?_
      | refine ⟨4000, 40000, ?_⟩
      | refine And.intro ?_ ?_
      | omega
      | intro _
  · rw [hsDV_6] at h
    dsimp only at h
    refine ⟨fun e => absurd e (by decide), fun _ => ⟨fun e => absurd e (by decide), fun _ => ⟨fun e => absurd e (by decide), fun _ => ⟨fun e => absurd e (by decide), fun _ => ⟨fun e => absurd e (by decide), fun _ => ⟨fun e => absurd e (by decide), fun _ => ⟨fun _ => ?_, fun e => absurd rfl e⟩⟩⟩⟩⟩⟩⟩
    repeat' first
      | unfold cDV_byteOf
      | exact hs_w32 _
      | exact (hs_w32 _).1
      | exact hsB_o _
      | exact kA
      | exact rfl
      | exact Or.inr rfl
      | exact Or.inl rfl
      | exact h   (by omega)
      | exact h   (hsN0_z _)
      | contradiction
      | refine SHnum hA kA nA (by omega) ?_
      | refine SHflag hA kA nA (by omega) ?_
      | refine SHtold ?_
      | refine kOn_of hA ?_
      | refine kOn_of hn ?_
      | refine ⟨4000, 40000, ?_⟩
      | refine And.intro ?_ ?_
      | omega
      | intro _
  · rw [hsDV_7] at h
    dsimp only at h
    refine ⟨fun e => absurd e (by decide), fun _ => ⟨fun e => absurd e (by decide), fun _ => ⟨fun e => absurd e (by decide), fun _ => ⟨fun e => absurd e (by decide), fun _ => ⟨fun e => absurd e (by decide), fun _ => ⟨fun e => absurd e (by decide), fun _ => ⟨fun e => absurd e (by decide), fun _ => ⟨fun _ => ?_, fun e => absurd rfl e⟩⟩⟩⟩⟩⟩⟩⟩
    repeat' first
      | unfold cDV_tell
      | exact hs_w32 _
      | exact (hs_w32 _).1
      | exact hsB_o _
      | exact kA
      | exact rfl
      | exact Or.inr rfl
      | exact Or.inl rfl
      | exact h   (by omega)
      | exact h   (hsN0_z _)
      | contradiction
      | refine SHnum hA kA nA (by omega) ?_
      | refine SHflag hA kA nA (by omega) ?_
      | refine SHtold ?_
      | refine kOn_of hA ?_
      | refine kOn_of hn ?_
      | refine ⟨4000, 40000, ?_⟩
      | refine And.intro ?_ ?_
      | omega
      | intro _
  · rw [hsDV_8] at h
    dsimp only at h
    refine ⟨fun e => absurd e (by decide), fun _ => ⟨fun e => absurd e (by decide), fun _ => ⟨fun e => absurd e (by decide), fun _ => ⟨fun e => absurd e (by decide), fun _ => ⟨fun e => absurd e (by decide), fun _ => ⟨fun e => absurd e (by decide), fun _ => ⟨fun e => absurd e (by decide), fun _ => ⟨fun e => absurd e (by decide), fun _ => ⟨fun _ => ?_, fun e => absurd rfl e⟩⟩⟩⟩⟩⟩⟩⟩⟩
    repeat' first
      | unfold cDV_told
      | exact hs_w32 _
      | exact (hs_w32 _).1
      | exact hsB_o _
      | exact kA
      | exact rfl
      | exact Or.inr rfl
      | exact Or.inl rfl
      | exact h   (by omega)
      | exact h   (hsN0_z _)
      | contradiction
      | refine SHnum hA kA nA (by omega) ?_
      | refine SHflag hA kA nA (by omega) ?_
      | refine SHtold ?_
      | refine kOn_of hA ?_
      | refine kOn_of hn ?_
      | refine ⟨4000, 40000, ?_⟩
      | refine And.intro ?_ ?_
      | omega
      | intro _
  · rw [hsDV_9] at h
    dsimp only at h
    refine ⟨fun e => absurd e (by decide), fun _ => ⟨fun e => absurd e (by decide), fun _ => ⟨fun e => absurd e (by decide), fun _ => ⟨fun e => absurd e (by decide), fun _ => ⟨fun e => absurd e (by decide), fun _ => ⟨fun e => absurd e (by decide), fun _ => ⟨fun e => absurd e (by decide), fun _ => ⟨fun e => absurd e (by decide), fun _ => ⟨fun e => absurd e (by decide), fun _ => ⟨fun _ => ?_, fun e => absurd rfl e⟩⟩⟩⟩⟩⟩⟩⟩⟩⟩
    repeat' first
      | unfold cDV_apply
      | exact hs_w32 _
      | exact (hs_w32 _).1
      | exact hsB_o _
      | exact kA
      | exact rfl
      | exact Or.inr rfl
      | exact Or.inl rfl
      | exact h   (by omega)
      | exact h   (hsN0_z _)
      | contradiction
      | refine SHnum hA kA nA (by omega) ?_
      | refine SHflag hA kA nA (by omega) ?_
      | refine SHtold ?_
      | refine kOn_of hA ?_
      | refine kOn_of hn ?_
      | refine ⟨4000, 40000, ?_⟩
      | refine And.intro ?_ ?_
      | omega
      | intro _
theorem SH_proofsCall {MC : Nat} {MS : Nat} {post : Int → pqT → Prop} {kd : Nat → Nat} {an : Nat → Nat} {al : Nat → Int → Int} {mX0_proofs : Nat → Option Nat} {mX0_args : Nat → Option Nat} {PC_S : pqT} {ra : Nat → Nat} {x0 : Nat} {x1 : Int} {A : Nat} (hA : mX0_args x0 = some A) (kA : kd A = 7) (nA : an A = 8) (hn : mX0_proofs x0 = some (ra 4)) (hM : 4000 ≤ MC ∧ 40000 ≤ MS) (h1 : 0 ≤ x1 ∧ x1 < 14) (h : (¬ (hsPC x1 (al A) PC_S).1 = -9223372036854775808) → post (hsPC x1 (al A) PC_S).1  (hsPC x1 (al A) PC_S).2) : wpSH_X0_proofsCall MC MS post kd an al mX0_proofs mX0_args PC_S ra x0 x1 := by
  unfold wpSH_X0_proofsCall
  obtain rfl | rfl | rfl | rfl | rfl | rfl | rfl | rfl | rfl | rfl | rfl | rfl | rfl | rfl : x1 = 0 ∨ x1 = 1 ∨ x1 = 2 ∨ x1 = 3 ∨ x1 = 4 ∨ x1 = 5 ∨ x1 = 6 ∨ x1 = 7 ∨ x1 = 8 ∨ x1 = 9 ∨ x1 = 10 ∨ x1 = 11 ∨ x1 = 12 ∨ x1 = 13 := by omega
  · rw [hsPC_0] at h
    dsimp only at h
    refine ⟨fun _ => ?_, fun e => absurd rfl e⟩
    repeat' first
      | unfold cPC_axiom
      | exact hs_w32 _
      | exact (hs_w32 _).1
      | exact hsB_o _
      | exact kA
      | exact rfl
      | exact Or.inr rfl
      | exact Or.inl rfl
      | exact h   (by omega)
      | exact h   (hsN0_z _)
      | contradiction
      | refine SHnum hA kA nA (by omega) ?_
      | refine SHflag hA kA nA (by omega) ?_
      | refine SHtold ?_
      | refine kOn_of hA ?_
      | refine kOn_of hn ?_
      | refine ⟨4000, 40000, ?_⟩
      | refine And.intro ?_ ?_
      | omega
      | intro _
  · rw [hsPC_1] at h
    dsimp only at h
    refine ⟨fun e => absurd e (by decide), fun _ => ⟨fun _ => ?_, fun e => absurd rfl e⟩⟩
    repeat' first
      | unfold cPC_triple
      | exact hs_w32 _
      | exact (hs_w32 _).1
      | exact hsB_o _
      | exact kA
      | exact rfl
      | exact Or.inr rfl
      | exact Or.inl rfl
      | exact h   (by omega)
      | exact h   (hsN0_z _)
      | contradiction
      | refine SHnum hA kA nA (by omega) ?_
      | refine SHflag hA kA nA (by omega) ?_
      | refine SHtold ?_
      | refine kOn_of hA ?_
      | refine kOn_of hn ?_
      | refine ⟨4000, 40000, ?_⟩
      | refine And.intro ?_ ?_
      | omega
      | intro _
  · rw [hsPC_2] at h
    dsimp only at h
    refine ⟨fun e => absurd e (by decide), fun _ => ⟨fun e => absurd e (by decide), fun _ => ⟨fun _ => ?_, fun e => absurd rfl e⟩⟩⟩
    repeat' first
      | unfold cPC_row
      | exact hs_w32 _
      | exact (hs_w32 _).1
      | exact hsB_o _
      | exact kA
      | exact rfl
      | exact Or.inr rfl
      | exact Or.inl rfl
      | exact h   (by omega)
      | exact h   (hsN0_z _)
      | contradiction
      | refine SHnum hA kA nA (by omega) ?_
      | refine SHflag hA kA nA (by omega) ?_
      | refine SHtold ?_
      | refine kOn_of hA ?_
      | refine kOn_of hn ?_
      | refine ⟨4000, 40000, ?_⟩
      | refine And.intro ?_ ?_
      | omega
      | intro _
  · rw [hsPC_3] at h
    dsimp only at h
    refine ⟨fun e => absurd e (by decide), fun _ => ⟨fun e => absurd e (by decide), fun _ => ⟨fun e => absurd e (by decide), fun _ => ⟨fun _ => ?_, fun e => absurd rfl e⟩⟩⟩⟩
    repeat' first
      | unfold cPC_premise
      | exact hs_w32 _
      | exact (hs_w32 _).1
      | exact hsB_o _
      | exact kA
      | exact rfl
      | exact Or.inr rfl
      | exact Or.inl rfl
      | exact h   (by omega)
      | exact h   (hsN0_z _)
      | contradiction
      | refine SHnum hA kA nA (by omega) ?_
      | refine SHflag hA kA nA (by omega) ?_
      | refine SHtold ?_
      | refine kOn_of hA ?_
      | refine kOn_of hn ?_
      | refine ⟨4000, 40000, ?_⟩
      | refine And.intro ?_ ?_
      | omega
      | intro _
  · rw [hsPC_4] at h
    dsimp only at h
    refine ⟨fun e => absurd e (by decide), fun _ => ⟨fun e => absurd e (by decide), fun _ => ⟨fun e => absurd e (by decide), fun _ => ⟨fun e => absurd e (by decide), fun _ => ⟨fun _ => ?_, fun e => absurd rfl e⟩⟩⟩⟩⟩
    repeat' first
      | unfold cPC_check
      | exact hs_w32 _
      | exact (hs_w32 _).1
      | exact hsB_o _
      | exact kA
      | exact rfl
      | exact Or.inr rfl
      | exact Or.inl rfl
      | exact h   (by omega)
      | exact h   (hsN0_z _)
      | contradiction
      | refine SHnum hA kA nA (by omega) ?_
      | refine SHflag hA kA nA (by omega) ?_
      | refine SHtold ?_
      | refine kOn_of hA ?_
      | refine kOn_of hn ?_
      | refine ⟨4000, 40000, ?_⟩
      | refine And.intro ?_ ?_
      | omega
      | intro _
  · rw [hsPC_5] at h
    dsimp only at h
    refine ⟨fun e => absurd e (by decide), fun _ => ⟨fun e => absurd e (by decide), fun _ => ⟨fun e => absurd e (by decide), fun _ => ⟨fun e => absurd e (by decide), fun _ => ⟨fun e => absurd e (by decide), fun _ => ⟨fun _ => ?_, fun e => absurd rfl e⟩⟩⟩⟩⟩⟩
    repeat' first
      | unfold cPC_broken
      | exact hs_w32 _
      | exact (hs_w32 _).1
      | exact hsB_o _
      | exact kA
      | exact rfl
      | exact Or.inr rfl
      | exact Or.inl rfl
      | exact h   (by omega)
      | exact h   (hsN0_z _)
      | contradiction
      | refine SHnum hA kA nA (by omega) ?_
      | refine SHflag hA kA nA (by omega) ?_
      | refine SHtold ?_
      | refine kOn_of hA ?_
      | refine kOn_of hn ?_
      | refine ⟨4000, 40000, ?_⟩
      | refine And.intro ?_ ?_
      | omega
      | intro _
  · rw [hsPC_6] at h
    dsimp only at h
    refine ⟨fun e => absurd e (by decide), fun _ => ⟨fun e => absurd e (by decide), fun _ => ⟨fun e => absurd e (by decide), fun _ => ⟨fun e => absurd e (by decide), fun _ => ⟨fun e => absurd e (by decide), fun _ => ⟨fun e => absurd e (by decide), fun _ => ⟨fun _ => ?_, fun e => absurd rfl e⟩⟩⟩⟩⟩⟩⟩
    repeat' first
      | unfold cPC_rows
      | exact hs_w32 _
      | exact (hs_w32 _).1
      | exact hsB_o _
      | exact kA
      | exact rfl
      | exact Or.inr rfl
      | exact Or.inl rfl
      | exact h   (by omega)
      | exact h   (hsN0_z _)
      | contradiction
      | refine SHnum hA kA nA (by omega) ?_
      | refine SHflag hA kA nA (by omega) ?_
      | refine SHtold ?_
      | refine kOn_of hA ?_
      | refine kOn_of hn ?_
      | refine ⟨4000, 40000, ?_⟩
      | refine And.intro ?_ ?_
      | omega
      | intro _
  · rw [hsPC_7] at h
    dsimp only at h
    refine ⟨fun e => absurd e (by decide), fun _ => ⟨fun e => absurd e (by decide), fun _ => ⟨fun e => absurd e (by decide), fun _ => ⟨fun e => absurd e (by decide), fun _ => ⟨fun e => absurd e (by decide), fun _ => ⟨fun e => absurd e (by decide), fun _ => ⟨fun e => absurd e (by decide), fun _ => ⟨fun _ => ?_, fun e => absurd rfl e⟩⟩⟩⟩⟩⟩⟩⟩
    repeat' first
      | unfold cPC_size
      | exact hs_w32 _
      | exact (hs_w32 _).1
      | exact hsB_o _
      | exact kA
      | exact rfl
      | exact Or.inr rfl
      | exact Or.inl rfl
      | exact h   (by omega)
      | exact h   (hsN0_z _)
      | contradiction
      | refine SHnum hA kA nA (by omega) ?_
      | refine SHflag hA kA nA (by omega) ?_
      | refine SHtold ?_
      | refine kOn_of hA ?_
      | refine kOn_of hn ?_
      | refine ⟨4000, 40000, ?_⟩
      | refine And.intro ?_ ?_
      | omega
      | intro _
  · rw [hsPC_8] at h
    dsimp only at h
    refine ⟨fun e => absurd e (by decide), fun _ => ⟨fun e => absurd e (by decide), fun _ => ⟨fun e => absurd e (by decide), fun _ => ⟨fun e => absurd e (by decide), fun _ => ⟨fun e => absurd e (by decide), fun _ => ⟨fun e => absurd e (by decide), fun _ => ⟨fun e => absurd e (by decide), fun _ => ⟨fun e => absurd e (by decide), fun _ => ⟨fun _ => ?_, fun e => absurd rfl e⟩⟩⟩⟩⟩⟩⟩⟩⟩
    repeat' first
      | unfold cPC_drop
      | exact hs_w32 _
      | exact (hs_w32 _).1
      | exact hsB_o _
      | exact kA
      | exact rfl
      | exact Or.inr rfl
      | exact Or.inl rfl
      | exact h   (by omega)
      | exact h   (hsN0_z _)
      | contradiction
      | refine SHnum hA kA nA (by omega) ?_
      | refine SHflag hA kA nA (by omega) ?_
      | refine SHtold ?_
      | refine kOn_of hA ?_
      | refine kOn_of hn ?_
      | refine ⟨4000, 40000, ?_⟩
      | refine And.intro ?_ ?_
      | omega
      | intro _
  · rw [hsPC_9] at h
    dsimp only at h
    refine ⟨fun e => absurd e (by decide), fun _ => ⟨fun e => absurd e (by decide), fun _ => ⟨fun e => absurd e (by decide), fun _ => ⟨fun e => absurd e (by decide), fun _ => ⟨fun e => absurd e (by decide), fun _ => ⟨fun e => absurd e (by decide), fun _ => ⟨fun e => absurd e (by decide), fun _ => ⟨fun e => absurd e (by decide), fun _ => ⟨fun e => absurd e (by decide), fun _ => ⟨fun _ => ?_, fun e => absurd rfl e⟩⟩⟩⟩⟩⟩⟩⟩⟩⟩
    repeat' first
      | unfold cPC_name
      | exact hs_w32 _
      | exact (hs_w32 _).1
      | exact hsB_o _
      | exact kA
      | exact rfl
      | exact Or.inr rfl
      | exact Or.inl rfl
      | exact h   (by omega)
      | exact h   (hsN0_z _)
      | contradiction
      | refine SHnum hA kA nA (by omega) ?_
      | refine SHflag hA kA nA (by omega) ?_
      | refine SHtold ?_
      | refine kOn_of hA ?_
      | refine kOn_of hn ?_
      | refine ⟨4000, 40000, ?_⟩
      | refine And.intro ?_ ?_
      | omega
      | intro _
  · rw [hsPC_10] at h
    dsimp only at h
    refine ⟨fun e => absurd e (by decide), fun _ => ⟨fun e => absurd e (by decide), fun _ => ⟨fun e => absurd e (by decide), fun _ => ⟨fun e => absurd e (by decide), fun _ => ⟨fun e => absurd e (by decide), fun _ => ⟨fun e => absurd e (by decide), fun _ => ⟨fun e => absurd e (by decide), fun _ => ⟨fun e => absurd e (by decide), fun _ => ⟨fun e => absurd e (by decide), fun _ => ⟨fun e => absurd e (by decide), fun _ => ⟨fun _ => ?_, fun e => absurd rfl e⟩⟩⟩⟩⟩⟩⟩⟩⟩⟩⟩
    repeat' first
      | unfold cPC_states
      | exact hs_w32 _
      | exact (hs_w32 _).1
      | exact hsB_o _
      | exact kA
      | exact rfl
      | exact Or.inr rfl
      | exact Or.inl rfl
      | exact h   (by omega)
      | exact h   (hsN0_z _)
      | contradiction
      | refine SHnum hA kA nA (by omega) ?_
      | refine SHflag hA kA nA (by omega) ?_
      | refine SHtold ?_
      | refine kOn_of hA ?_
      | refine kOn_of hn ?_
      | refine ⟨4000, 40000, ?_⟩
      | refine And.intro ?_ ?_
      | omega
      | intro _
  · rw [hsPC_11] at h
    dsimp only at h
    refine ⟨fun e => absurd e (by decide), fun _ => ⟨fun e => absurd e (by decide), fun _ => ⟨fun e => absurd e (by decide), fun _ => ⟨fun e => absurd e (by decide), fun _ => ⟨fun e => absurd e (by decide), fun _ => ⟨fun e => absurd e (by decide), fun _ => ⟨fun e => absurd e (by decide), fun _ => ⟨fun e => absurd e (by decide), fun _ => ⟨fun e => absurd e (by decide), fun _ => ⟨fun e => absurd e (by decide), fun _ => ⟨fun e => absurd e (by decide), fun _ => ⟨fun _ => ?_, fun e => absurd rfl e⟩⟩⟩⟩⟩⟩⟩⟩⟩⟩⟩⟩
    repeat' first
      | unfold cPC_sentence
      | exact hs_w32 _
      | exact (hs_w32 _).1
      | exact hsB_o _
      | exact kA
      | exact rfl
      | exact Or.inr rfl
      | exact Or.inl rfl
      | exact h   (by omega)
      | exact h   (hsN0_z _)
      | contradiction
      | refine SHnum hA kA nA (by omega) ?_
      | refine SHflag hA kA nA (by omega) ?_
      | refine SHtold ?_
      | refine kOn_of hA ?_
      | refine kOn_of hn ?_
      | refine ⟨4000, 40000, ?_⟩
      | refine And.intro ?_ ?_
      | omega
      | intro _
  · rw [hsPC_12] at h
    dsimp only at h
    refine ⟨fun e => absurd e (by decide), fun _ => ⟨fun e => absurd e (by decide), fun _ => ⟨fun e => absurd e (by decide), fun _ => ⟨fun e => absurd e (by decide), fun _ => ⟨fun e => absurd e (by decide), fun _ => ⟨fun e => absurd e (by decide), fun _ => ⟨fun e => absurd e (by decide), fun _ => ⟨fun e => absurd e (by decide), fun _ => ⟨fun e => absurd e (by decide), fun _ => ⟨fun e => absurd e (by decide), fun _ => ⟨fun e => absurd e (by decide), fun _ => ⟨fun e => absurd e (by decide), fun _ => ⟨fun _ => ?_, fun e => absurd rfl e⟩⟩⟩⟩⟩⟩⟩⟩⟩⟩⟩⟩⟩
    repeat' first
      | unfold cPC_at
      | exact hs_w32 _
      | exact (hs_w32 _).1
      | exact hsB_o _
      | exact kA
      | exact rfl
      | exact Or.inr rfl
      | exact Or.inl rfl
      | exact h   (by omega)
      | exact h   (hsN0_z _)
      | contradiction
      | refine SHnum hA kA nA (by omega) ?_
      | refine SHflag hA kA nA (by omega) ?_
      | refine SHtold ?_
      | refine kOn_of hA ?_
      | refine kOn_of hn ?_
      | refine ⟨4000, 40000, ?_⟩
      | refine And.intro ?_ ?_
      | omega
      | intro _
  · rw [hsPC_13] at h
    dsimp only at h
    refine ⟨fun e => absurd e (by decide), fun _ => ⟨fun e => absurd e (by decide), fun _ => ⟨fun e => absurd e (by decide), fun _ => ⟨fun e => absurd e (by decide), fun _ => ⟨fun e => absurd e (by decide), fun _ => ⟨fun e => absurd e (by decide), fun _ => ⟨fun e => absurd e (by decide), fun _ => ⟨fun e => absurd e (by decide), fun _ => ⟨fun e => absurd e (by decide), fun _ => ⟨fun e => absurd e (by decide), fun _ => ⟨fun e => absurd e (by decide), fun _ => ⟨fun e => absurd e (by decide), fun _ => ⟨fun e => absurd e (by decide), fun _ => ⟨fun _ => ?_, fun e => absurd rfl e⟩⟩⟩⟩⟩⟩⟩⟩⟩⟩⟩⟩⟩⟩
    repeat' first
      | unfold cPC_concludes
      | exact hs_w32 _
      | exact (hs_w32 _).1
      | exact hsB_o _
      | exact kA
      | exact rfl
      | exact Or.inr rfl
      | exact Or.inl rfl
      | exact h   (by omega)
      | exact h   (hsN0_z _)
      | contradiction
      | refine SHnum hA kA nA (by omega) ?_
      | refine SHflag hA kA nA (by omega) ?_
      | refine SHtold ?_
      | refine kOn_of hA ?_
      | refine kOn_of hn ?_
      | refine ⟨4000, 40000, ?_⟩
      | refine And.intro ?_ ?_
      | omega
      | intro _
theorem SH_rightsCall {MC : Nat} {MS : Nat} {post : Int → Int → rdT → Prop} {kd : Nat → Nat} {an : Nat → Nat} {al : Nat → Int → Int} {mX0_rights : Nat → Option Nat} {mX0_args : Nat → Option Nat} {RD_T : Int} {RD_S : rdT} {ra : Nat → Nat} {x0 : Nat} {x1 : Int} {A : Nat} (hA : mX0_args x0 = some A) (kA : kd A = 7) (nA : an A = 8) (hn : mX0_rights x0 = some (ra 5)) (hM : 4000 ≤ MC ∧ 40000 ≤ MS) (h1 : 0 ≤ x1 ∧ x1 < 16) (hg : RD_T ≤ 90000) (h : ∀ (RD_T' : Int), (RD_T ≤ RD_T' ∧ RD_T' ≤ RD_T + 1) → (¬ (hsRD x1 (al A) RD_S).1 = -9223372036854775808) → post (hsRD x1 (al A) RD_S).1 RD_T' (hsRD x1 (al A) RD_S).2) : wpSH_X0_rightsCall MC MS post kd an al mX0_rights mX0_args RD_T RD_S ra x0 x1 := by
  unfold wpSH_X0_rightsCall
  obtain rfl | rfl | rfl | rfl | rfl | rfl | rfl | rfl | rfl | rfl | rfl | rfl | rfl | rfl | rfl | rfl : x1 = 0 ∨ x1 = 1 ∨ x1 = 2 ∨ x1 = 3 ∨ x1 = 4 ∨ x1 = 5 ∨ x1 = 6 ∨ x1 = 7 ∨ x1 = 8 ∨ x1 = 9 ∨ x1 = 10 ∨ x1 = 11 ∨ x1 = 12 ∨ x1 = 13 ∨ x1 = 14 ∨ x1 = 15 := by omega
  · rw [hsRD_0] at h
    dsimp only at h
    refine ⟨fun _ => ?_, fun e => absurd rfl e⟩
    repeat' first
      | unfold cRD_member
      | exact hs_w32 _
      | exact (hs_w32 _).1
      | exact hsB_o _
      | exact kA
      | exact rfl
      | exact Or.inr rfl
      | exact Or.inl rfl
      | exact h _ (by omega) (by omega)
      | exact h _ (by omega) (hsN0_z _)
      | contradiction
      | refine SHnum hA kA nA (by omega) ?_
      | refine SHflag hA kA nA (by omega) ?_
      | refine SHtold ?_
      | refine kOn_of hA ?_
      | refine kOn_of hn ?_
      | refine ⟨4000, 40000, ?_⟩
      | refine And.intro ?_ ?_
      | omega
      | intro _
  · rw [hsRD_1] at h
    dsimp only at h
    refine ⟨fun e => absurd e (by decide), fun _ => ⟨fun _ => ?_, fun e => absurd rfl e⟩⟩
    repeat' first
      | unfold cRD_condition
      | exact hs_w32 _
      | exact (hs_w32 _).1
      | exact hsB_o _
      | exact kA
      | exact rfl
      | exact Or.inr rfl
      | exact Or.inl rfl
      | exact h _ (by omega) (by omega)
      | exact h _ (by omega) (hsN0_z _)
      | contradiction
      | refine SHnum hA kA nA (by omega) ?_
      | refine SHflag hA kA nA (by omega) ?_
      | refine SHtold ?_
      | refine kOn_of hA ?_
      | refine kOn_of hn ?_
      | refine ⟨4000, 40000, ?_⟩
      | refine And.intro ?_ ?_
      | omega
      | intro _
  · rw [hsRD_2] at h
    dsimp only at h
    refine ⟨fun e => absurd e (by decide), fun _ => ⟨fun e => absurd e (by decide), fun _ => ⟨fun _ => ?_, fun e => absurd rfl e⟩⟩⟩
    repeat' first
      | unfold cRD_rule
      | exact hs_w32 _
      | exact (hs_w32 _).1
      | exact hsB_o _
      | exact kA
      | exact rfl
      | exact Or.inr rfl
      | exact Or.inl rfl
      | exact h _ (by omega) (by omega)
      | exact h _ (by omega) (hsN0_z _)
      | contradiction
      | refine SHnum hA kA nA (by omega) ?_
      | refine SHflag hA kA nA (by omega) ?_
      | refine SHtold ?_
      | refine kOn_of hA ?_
      | refine kOn_of hn ?_
      | refine ⟨4000, 40000, ?_⟩
      | refine And.intro ?_ ?_
      | omega
      | intro _
  · rw [hsRD_3] at h
    dsimp only at h
    refine ⟨fun e => absurd e (by decide), fun _ => ⟨fun e => absurd e (by decide), fun _ => ⟨fun e => absurd e (by decide), fun _ => ⟨fun _ => ?_, fun e => absurd rfl e⟩⟩⟩⟩
    repeat' first
      | unfold cRD_drop
      | exact hs_w32 _
      | exact (hs_w32 _).1
      | exact hsB_o _
      | exact kA
      | exact rfl
      | exact Or.inr rfl
      | exact Or.inl rfl
      | exact h _ (by omega) (by omega)
      | exact h _ (by omega) (hsN0_z _)
      | contradiction
      | refine SHnum hA kA nA (by omega) ?_
      | refine SHflag hA kA nA (by omega) ?_
      | refine SHtold ?_
      | refine kOn_of hA ?_
      | refine kOn_of hn ?_
      | refine ⟨4000, 40000, ?_⟩
      | refine And.intro ?_ ?_
      | omega
      | intro _
  · rw [hsRD_4] at h
    dsimp only at h
    refine ⟨fun e => absurd e (by decide), fun _ => ⟨fun e => absurd e (by decide), fun _ => ⟨fun e => absurd e (by decide), fun _ => ⟨fun e => absurd e (by decide), fun _ => ⟨fun _ => ?_, fun e => absurd rfl e⟩⟩⟩⟩⟩
    repeat' first
      | unfold cRD_may
      | exact hs_w32 _
      | exact (hs_w32 _).1
      | exact hsB_o _
      | exact kA
      | exact rfl
      | exact Or.inr rfl
      | exact Or.inl rfl
      | exact h _ (by omega) (by omega)
      | exact h _ (by omega) (hsN0_z _)
      | contradiction
      | refine SHnum hA kA nA (by omega) ?_
      | refine SHflag hA kA nA (by omega) ?_
      | refine SHtold ?_
      | refine kOn_of hA ?_
      | refine kOn_of hn ?_
      | refine ⟨4000, 40000, ?_⟩
      | refine And.intro ?_ ?_
      | omega
      | intro _
  · rw [hsRD_5] at h
    dsimp only at h
    refine ⟨fun e => absurd e (by decide), fun _ => ⟨fun e => absurd e (by decide), fun _ => ⟨fun e => absurd e (by decide), fun _ => ⟨fun e => absurd e (by decide), fun _ => ⟨fun e => absurd e (by decide), fun _ => ⟨fun _ => ?_, fun e => absurd rfl e⟩⟩⟩⟩⟩⟩
    repeat' first
      | unfold cRD_asks
      | exact hs_w32 _
      | exact (hs_w32 _).1
      | exact hsB_o _
      | exact kA
      | exact rfl
      | exact Or.inr rfl
      | exact Or.inl rfl
      | exact h _ (by omega) (by omega)
      | exact h _ (by omega) (hsN0_z _)
      | contradiction
      | refine SHnum hA kA nA (by omega) ?_
      | refine SHflag hA kA nA (by omega) ?_
      | refine SHtold ?_
      | refine kOn_of hA ?_
      | refine kOn_of hn ?_
      | refine ⟨4000, 40000, ?_⟩
      | refine And.intro ?_ ?_
      | omega
      | intro _
  · rw [hsRD_6] at h
    dsimp only at h
    refine ⟨fun e => absurd e (by decide), fun _ => ⟨fun e => absurd e (by decide), fun _ => ⟨fun e => absurd e (by decide), fun _ => ⟨fun e => absurd e (by decide), fun _ => ⟨fun e => absurd e (by decide), fun _ => ⟨fun e => absurd e (by decide), fun _ => ⟨fun _ => ?_, fun e => absurd rfl e⟩⟩⟩⟩⟩⟩⟩
    repeat' first
      | unfold cRD_ask
      | exact hs_w32 _
      | exact (hs_w32 _).1
      | exact hsB_o _
      | exact kA
      | exact rfl
      | exact Or.inr rfl
      | exact Or.inl rfl
      | exact h _ (by omega) (by omega)
      | exact h _ (by omega) (hsN0_z _)
      | contradiction
      | refine SHnum hA kA nA (by omega) ?_
      | refine SHflag hA kA nA (by omega) ?_
      | refine SHtold ?_
      | refine kOn_of hA ?_
      | refine kOn_of hn ?_
      | refine ⟨4000, 40000, ?_⟩
      | refine And.intro ?_ ?_
      | omega
      | intro _
  · rw [hsRD_7] at h
    dsimp only at h
    refine ⟨fun e => absurd e (by decide), fun _ => ⟨fun e => absurd e (by decide), fun _ => ⟨fun e => absurd e (by decide), fun _ => ⟨fun e => absurd e (by decide), fun _ => ⟨fun e => absurd e (by decide), fun _ => ⟨fun e => absurd e (by decide), fun _ => ⟨fun e => absurd e (by decide), fun _ => ⟨fun _ => ?_, fun e => absurd rfl e⟩⟩⟩⟩⟩⟩⟩⟩
    repeat' first
      | unfold cRD_within
      | exact hs_w32 _
      | exact (hs_w32 _).1
      | exact hsB_o _
      | exact kA
      | exact rfl
      | exact Or.inr rfl
      | exact Or.inl rfl
      | exact h _ (by omega) (by omega)
      | exact h _ (by omega) (hsN0_z _)
      | contradiction
      | refine SHnum hA kA nA (by omega) ?_
      | refine SHflag hA kA nA (by omega) ?_
      | refine SHtold ?_
      | refine kOn_of hA ?_
      | refine kOn_of hn ?_
      | refine ⟨4000, 40000, ?_⟩
      | refine And.intro ?_ ?_
      | omega
      | intro _
  · rw [hsRD_8] at h
    dsimp only at h
    refine ⟨fun e => absurd e (by decide), fun _ => ⟨fun e => absurd e (by decide), fun _ => ⟨fun e => absurd e (by decide), fun _ => ⟨fun e => absurd e (by decide), fun _ => ⟨fun e => absurd e (by decide), fun _ => ⟨fun e => absurd e (by decide), fun _ => ⟨fun e => absurd e (by decide), fun _ => ⟨fun e => absurd e (by decide), fun _ => ⟨fun _ => ?_, fun e => absurd rfl e⟩⟩⟩⟩⟩⟩⟩⟩⟩
    repeat' first
      | unfold cRD_decides
      | exact hs_w32 _
      | exact (hs_w32 _).1
      | exact hsB_o _
      | exact kA
      | exact rfl
      | exact Or.inr rfl
      | exact Or.inl rfl
      | exact h _ (by omega) (by omega)
      | exact h _ (by omega) (hsN0_z _)
      | contradiction
      | refine SHnum hA kA nA (by omega) ?_
      | refine SHflag hA kA nA (by omega) ?_
      | refine SHtold ?_
      | refine kOn_of hA ?_
      | refine kOn_of hn ?_
      | refine ⟨4000, 40000, ?_⟩
      | refine And.intro ?_ ?_
      | omega
      | intro _
  · rw [hsRD_9] at h
    dsimp only at h
    refine ⟨fun e => absurd e (by decide), fun _ => ⟨fun e => absurd e (by decide), fun _ => ⟨fun e => absurd e (by decide), fun _ => ⟨fun e => absurd e (by decide), fun _ => ⟨fun e => absurd e (by decide), fun _ => ⟨fun e => absurd e (by decide), fun _ => ⟨fun e => absurd e (by decide), fun _ => ⟨fun e => absurd e (by decide), fun _ => ⟨fun e => absurd e (by decide), fun _ => ⟨fun _ => ?_, fun e => absurd rfl e⟩⟩⟩⟩⟩⟩⟩⟩⟩⟩
    repeat' first
      | unfold cRD_sees
      | exact hs_w32 _
      | exact (hs_w32 _).1
      | exact hsB_o _
      | exact kA
      | exact rfl
      | exact Or.inr rfl
      | exact Or.inl rfl
      | exact h _ (by omega) (by omega)
      | exact h _ (by omega) (hsN0_z _)
      | contradiction
      | refine SHnum hA kA nA (by omega) ?_
      | refine SHflag hA kA nA (by omega) ?_
      | refine SHtold ?_
      | refine kOn_of hA ?_
      | refine kOn_of hn ?_
      | refine ⟨4000, 40000, ?_⟩
      | refine And.intro ?_ ?_
      | omega
      | intro _
  · rw [hsRD_10] at h
    dsimp only at h
    refine ⟨fun e => absurd e (by decide), fun _ => ⟨fun e => absurd e (by decide), fun _ => ⟨fun e => absurd e (by decide), fun _ => ⟨fun e => absurd e (by decide), fun _ => ⟨fun e => absurd e (by decide), fun _ => ⟨fun e => absurd e (by decide), fun _ => ⟨fun e => absurd e (by decide), fun _ => ⟨fun e => absurd e (by decide), fun _ => ⟨fun e => absurd e (by decide), fun _ => ⟨fun e => absurd e (by decide), fun _ => ⟨fun _ => ?_, fun e => absurd rfl e⟩⟩⟩⟩⟩⟩⟩⟩⟩⟩⟩
    repeat' first
      | unfold cRD_matters
      | exact hs_w32 _
      | exact (hs_w32 _).1
      | exact hsB_o _
      | exact kA
      | exact rfl
      | exact Or.inr rfl
      | exact Or.inl rfl
      | exact h _ (by omega) (by omega)
      | exact h _ (by omega) (hsN0_z _)
      | contradiction
      | refine SHnum hA kA nA (by omega) ?_
      | refine SHflag hA kA nA (by omega) ?_
      | refine SHtold ?_
      | refine kOn_of hA ?_
      | refine kOn_of hn ?_
      | refine ⟨4000, 40000, ?_⟩
      | refine And.intro ?_ ?_
      | omega
      | intro _
  · rw [hsRD_11] at h
    dsimp only at h
    refine ⟨fun e => absurd e (by decide), fun _ => ⟨fun e => absurd e (by decide), fun _ => ⟨fun e => absurd e (by decide), fun _ => ⟨fun e => absurd e (by decide), fun _ => ⟨fun e => absurd e (by decide), fun _ => ⟨fun e => absurd e (by decide), fun _ => ⟨fun e => absurd e (by decide), fun _ => ⟨fun e => absurd e (by decide), fun _ => ⟨fun e => absurd e (by decide), fun _ => ⟨fun e => absurd e (by decide), fun _ => ⟨fun e => absurd e (by decide), fun _ => ⟨fun _ => ?_, fun e => absurd rfl e⟩⟩⟩⟩⟩⟩⟩⟩⟩⟩⟩⟩
    repeat' first
      | unfold cRD_idle
      | exact hs_w32 _
      | exact (hs_w32 _).1
      | exact hsB_o _
      | exact kA
      | exact rfl
      | exact Or.inr rfl
      | exact Or.inl rfl
      | exact h _ (by omega) (by omega)
      | exact h _ (by omega) (hsN0_z _)
      | contradiction
      | refine SHnum hA kA nA (by omega) ?_
      | refine SHflag hA kA nA (by omega) ?_
      | refine SHtold ?_
      | refine kOn_of hA ?_
      | refine kOn_of hn ?_
      | refine ⟨4000, 40000, ?_⟩
      | refine And.intro ?_ ?_
      | omega
      | intro _
  · rw [hsRD_12] at h
    dsimp only at h
    refine ⟨fun e => absurd e (by decide), fun _ => ⟨fun e => absurd e (by decide), fun _ => ⟨fun e => absurd e (by decide), fun _ => ⟨fun e => absurd e (by decide), fun _ => ⟨fun e => absurd e (by decide), fun _ => ⟨fun e => absurd e (by decide), fun _ => ⟨fun e => absurd e (by decide), fun _ => ⟨fun e => absurd e (by decide), fun _ => ⟨fun e => absurd e (by decide), fun _ => ⟨fun e => absurd e (by decide), fun _ => ⟨fun e => absurd e (by decide), fun _ => ⟨fun e => absurd e (by decide), fun _ => ⟨fun _ => ?_, fun e => absurd rfl e⟩⟩⟩⟩⟩⟩⟩⟩⟩⟩⟩⟩⟩
    repeat' first
      | unfold cRD_apart
      | exact hs_w32 _
      | exact (hs_w32 _).1
      | exact hsB_o _
      | exact kA
      | exact rfl
      | exact Or.inr rfl
      | exact Or.inl rfl
      | exact h _ (by omega) (by omega)
      | exact h _ (by omega) (hsN0_z _)
      | contradiction
      | refine SHnum hA kA nA (by omega) ?_
      | refine SHflag hA kA nA (by omega) ?_
      | refine SHtold ?_
      | refine kOn_of hA ?_
      | refine kOn_of hn ?_
      | refine ⟨4000, 40000, ?_⟩
      | refine And.intro ?_ ?_
      | omega
      | intro _
  · rw [hsRD_13] at h
    dsimp only at h
    refine ⟨fun e => absurd e (by decide), fun _ => ⟨fun e => absurd e (by decide), fun _ => ⟨fun e => absurd e (by decide), fun _ => ⟨fun e => absurd e (by decide), fun _ => ⟨fun e => absurd e (by decide), fun _ => ⟨fun e => absurd e (by decide), fun _ => ⟨fun e => absurd e (by decide), fun _ => ⟨fun e => absurd e (by decide), fun _ => ⟨fun e => absurd e (by decide), fun _ => ⟨fun e => absurd e (by decide), fun _ => ⟨fun e => absurd e (by decide), fun _ => ⟨fun e => absurd e (by decide), fun _ => ⟨fun e => absurd e (by decide), fun _ => ⟨fun _ => ?_, fun e => absurd rfl e⟩⟩⟩⟩⟩⟩⟩⟩⟩⟩⟩⟩⟩⟩
    repeat' first
      | unfold cRD_allowed
      | exact hs_w32 _
      | exact (hs_w32 _).1
      | exact hsB_o _
      | exact kA
      | exact rfl
      | exact Or.inr rfl
      | exact Or.inl rfl
      | exact h _ (by omega) (by omega)
      | exact h _ (by omega) (hsN0_z _)
      | contradiction
      | refine SHnum hA kA nA (by omega) ?_
      | refine SHflag hA kA nA (by omega) ?_
      | refine SHtold ?_
      | refine kOn_of hA ?_
      | refine kOn_of hn ?_
      | refine ⟨4000, 40000, ?_⟩
      | refine And.intro ?_ ?_
      | omega
      | intro _
  · rw [hsRD_14] at h
    dsimp only at h
    refine ⟨fun e => absurd e (by decide), fun _ => ⟨fun e => absurd e (by decide), fun _ => ⟨fun e => absurd e (by decide), fun _ => ⟨fun e => absurd e (by decide), fun _ => ⟨fun e => absurd e (by decide), fun _ => ⟨fun e => absurd e (by decide), fun _ => ⟨fun e => absurd e (by decide), fun _ => ⟨fun e => absurd e (by decide), fun _ => ⟨fun e => absurd e (by decide), fun _ => ⟨fun e => absurd e (by decide), fun _ => ⟨fun e => absurd e (by decide), fun _ => ⟨fun e => absurd e (by decide), fun _ => ⟨fun e => absurd e (by decide), fun _ => ⟨fun e => absurd e (by decide), fun _ => ⟨fun _ => ?_, fun e => absurd rfl e⟩⟩⟩⟩⟩⟩⟩⟩⟩⟩⟩⟩⟩⟩⟩
    repeat' first
      | unfold cRD_conditions
      | exact hs_w32 _
      | exact (hs_w32 _).1
      | exact hsB_o _
      | exact kA
      | exact rfl
      | exact Or.inr rfl
      | exact Or.inl rfl
      | exact h _ (by omega) (by omega)
      | exact h _ (by omega) (hsN0_z _)
      | contradiction
      | refine SHnum hA kA nA (by omega) ?_
      | refine SHflag hA kA nA (by omega) ?_
      | refine SHtold ?_
      | refine kOn_of hA ?_
      | refine kOn_of hn ?_
      | refine ⟨4000, 40000, ?_⟩
      | refine And.intro ?_ ?_
      | omega
      | intro _
  · rw [hsRD_15] at h
    dsimp only at h
    refine ⟨fun e => absurd e (by decide), fun _ => ⟨fun e => absurd e (by decide), fun _ => ⟨fun e => absurd e (by decide), fun _ => ⟨fun e => absurd e (by decide), fun _ => ⟨fun e => absurd e (by decide), fun _ => ⟨fun e => absurd e (by decide), fun _ => ⟨fun e => absurd e (by decide), fun _ => ⟨fun e => absurd e (by decide), fun _ => ⟨fun e => absurd e (by decide), fun _ => ⟨fun e => absurd e (by decide), fun _ => ⟨fun e => absurd e (by decide), fun _ => ⟨fun e => absurd e (by decide), fun _ => ⟨fun e => absurd e (by decide), fun _ => ⟨fun e => absurd e (by decide), fun _ => ⟨fun e => absurd e (by decide), fun _ => ⟨fun _ => ?_, fun e => absurd rfl e⟩⟩⟩⟩⟩⟩⟩⟩⟩⟩⟩⟩⟩⟩⟩⟩
    repeat' first
      | unfold cRD_rules
      | exact hs_w32 _
      | exact (hs_w32 _).1
      | exact hsB_o _
      | exact kA
      | exact rfl
      | exact Or.inr rfl
      | exact Or.inl rfl
      | exact h _ (by omega) (by omega)
      | exact h _ (by omega) (hsN0_z _)
      | contradiction
      | refine SHnum hA kA nA (by omega) ?_
      | refine SHflag hA kA nA (by omega) ?_
      | refine SHtold ?_
      | refine kOn_of hA ?_
      | refine kOn_of hn ?_
      | refine ⟨4000, 40000, ?_⟩
      | refine And.intro ?_ ?_
      | omega
      | intro _
theorem SH_classesCall {MC : Nat} {MS : Nat} {post : Int → Int → ctT → Prop} {kd : Nat → Nat} {an : Nat → Nat} {al : Nat → Int → Int} {mX0_classes : Nat → Option Nat} {mX0_args : Nat → Option Nat} {CS_u : Int} {CS_S : ctT} {ra : Nat → Nat} {x0 : Nat} {x1 : Int} {A : Nat} (hA : mX0_args x0 = some A) (kA : kd A = 7) (nA : an A = 8) (hn : mX0_classes x0 = some (ra 6)) (hM : 4000 ≤ MC ∧ 40000 ≤ MS) (h1 : 0 ≤ x1 ∧ x1 < 17) (hg : CS_u ≤ 400000) (h : ∀ (CS_u' : Int), (CS_u ≤ CS_u' ∧ CS_u' ≤ CS_u + 860) → (¬ (hsCS x1 (al A) CS_S).1 = -9223372036854775808) → post (hsCS x1 (al A) CS_S).1 CS_u' (hsCS x1 (al A) CS_S).2) : wpSH_X0_classesCall MC MS post kd an al mX0_classes mX0_args CS_u CS_S ra x0 x1 := by
  unfold wpSH_X0_classesCall
  obtain rfl | rfl | rfl | rfl | rfl | rfl | rfl | rfl | rfl | rfl | rfl | rfl | rfl | rfl | rfl | rfl | rfl : x1 = 0 ∨ x1 = 1 ∨ x1 = 2 ∨ x1 = 3 ∨ x1 = 4 ∨ x1 = 5 ∨ x1 = 6 ∨ x1 = 7 ∨ x1 = 8 ∨ x1 = 9 ∨ x1 = 10 ∨ x1 = 11 ∨ x1 = 12 ∨ x1 = 13 ∨ x1 = 14 ∨ x1 = 15 ∨ x1 = 16 := by omega
  · rw [hsCS_0] at h
    dsimp only at h
    refine ⟨fun _ => ?_, fun e => absurd rfl e⟩
    repeat' first
      | unfold cCS_class0
      | exact hs_w32 _
      | exact (hs_w32 _).1
      | exact hsB_o _
      | exact kA
      | exact rfl
      | exact Or.inr rfl
      | exact Or.inl rfl
      | exact h _ (by omega) (by omega)
      | exact h _ (by omega) (hsN0_z _)
      | contradiction
      | refine SHnum hA kA nA (by omega) ?_
      | refine SHflag hA kA nA (by omega) ?_
      | refine SHtold ?_
      | refine kOn_of hA ?_
      | refine kOn_of hn ?_
      | refine ⟨4000, 40000, ?_⟩
      | refine And.intro ?_ ?_
      | omega
      | intro _
  · rw [hsCS_1] at h
    dsimp only at h
    refine ⟨fun e => absurd e (by decide), fun _ => ⟨fun _ => ?_, fun e => absurd rfl e⟩⟩
    repeat' first
      | unfold cCS_thing
      | exact hs_w32 _
      | exact (hs_w32 _).1
      | exact hsB_o _
      | exact kA
      | exact rfl
      | exact Or.inr rfl
      | exact Or.inl rfl
      | exact h _ (by omega) (by omega)
      | exact h _ (by omega) (hsN0_z _)
      | contradiction
      | refine SHnum hA kA nA (by omega) ?_
      | refine SHflag hA kA nA (by omega) ?_
      | refine SHtold ?_
      | refine kOn_of hA ?_
      | refine kOn_of hn ?_
      | refine ⟨4000, 40000, ?_⟩
      | refine And.intro ?_ ?_
      | omega
      | intro _
  · rw [hsCS_2] at h
    dsimp only at h
    refine ⟨fun e => absurd e (by decide), fun _ => ⟨fun e => absurd e (by decide), fun _ => ⟨fun _ => ?_, fun e => absurd rfl e⟩⟩⟩
    repeat' first
      | unfold cCS_axiom
      | exact hs_w32 _
      | exact (hs_w32 _).1
      | exact hsB_o _
      | exact kA
      | exact rfl
      | exact Or.inr rfl
      | exact Or.inl rfl
      | exact h _ (by omega) (by omega)
      | exact h _ (by omega) (hsN0_z _)
      | contradiction
      | refine SHnum hA kA nA (by omega) ?_
      | refine SHflag hA kA nA (by omega) ?_
      | refine SHtold ?_
      | refine kOn_of hA ?_
      | refine kOn_of hn ?_
      | refine ⟨4000, 40000, ?_⟩
      | refine And.intro ?_ ?_
      | omega
      | intro _
  · rw [hsCS_3] at h
    dsimp only at h
    refine ⟨fun e => absurd e (by decide), fun _ => ⟨fun e => absurd e (by decide), fun _ => ⟨fun e => absurd e (by decide), fun _ => ⟨fun _ => ?_, fun e => absurd rfl e⟩⟩⟩⟩
    repeat' first
      | unfold cCS_remove
      | exact hs_w32 _
      | exact (hs_w32 _).1
      | exact hsB_o _
      | exact kA
      | exact rfl
      | exact Or.inr rfl
      | exact Or.inl rfl
      | exact h _ (by omega) (by omega)
      | exact h _ (by omega) (hsN0_z _)
      | contradiction
      | refine SHnum hA kA nA (by omega) ?_
      | refine SHflag hA kA nA (by omega) ?_
      | refine SHtold ?_
      | refine kOn_of hA ?_
      | refine kOn_of hn ?_
      | refine ⟨4000, 40000, ?_⟩
      | refine And.intro ?_ ?_
      | omega
      | intro _
  · rw [hsCS_4] at h
    dsimp only at h
    refine ⟨fun e => absurd e (by decide), fun _ => ⟨fun e => absurd e (by decide), fun _ => ⟨fun e => absurd e (by decide), fun _ => ⟨fun e => absurd e (by decide), fun _ => ⟨fun _ => ?_, fun e => absurd rfl e⟩⟩⟩⟩⟩
    repeat' first
      | unfold cCS_fuel
      | exact hs_w32 _
      | exact (hs_w32 _).1
      | exact hsB_o _
      | exact kA
      | exact rfl
      | exact Or.inr rfl
      | exact Or.inl rfl
      | exact h _ (by omega) (by omega)
      | exact h _ (by omega) (hsN0_z _)
      | contradiction
      | refine SHnum hA kA nA (by omega) ?_
      | refine SHflag hA kA nA (by omega) ?_
      | refine SHtold ?_
      | refine kOn_of hA ?_
      | refine kOn_of hn ?_
      | refine ⟨4000, 40000, ?_⟩
      | refine And.intro ?_ ?_
      | omega
      | intro _
  · rw [hsCS_5] at h
    dsimp only at h
    refine ⟨fun e => absurd e (by decide), fun _ => ⟨fun e => absurd e (by decide), fun _ => ⟨fun e => absurd e (by decide), fun _ => ⟨fun e => absurd e (by decide), fun _ => ⟨fun e => absurd e (by decide), fun _ => ⟨fun _ => ?_, fun e => absurd rfl e⟩⟩⟩⟩⟩⟩
    repeat' first
      | unfold cCS_known
      | exact hs_w32 _
      | exact (hs_w32 _).1
      | exact hsB_o _
      | exact kA
      | exact rfl
      | exact Or.inr rfl
      | exact Or.inl rfl
      | exact h _ (by omega) (by omega)
      | exact h _ (by omega) (hsN0_z _)
      | contradiction
      | refine SHnum hA kA nA (by omega) ?_
      | refine SHflag hA kA nA (by omega) ?_
      | refine SHtold ?_
      | refine kOn_of hA ?_
      | refine kOn_of hn ?_
      | refine ⟨4000, 40000, ?_⟩
      | refine And.intro ?_ ?_
      | omega
      | intro _
  · rw [hsCS_6] at h
    dsimp only at h
    refine ⟨fun e => absurd e (by decide), fun _ => ⟨fun e => absurd e (by decide), fun _ => ⟨fun e => absurd e (by decide), fun _ => ⟨fun e => absurd e (by decide), fun _ => ⟨fun e => absurd e (by decide), fun _ => ⟨fun e => absurd e (by decide), fun _ => ⟨fun _ => ?_, fun e => absurd rfl e⟩⟩⟩⟩⟩⟩⟩
    repeat' first
      | unfold cCS_ask
      | exact hs_w32 _
      | exact (hs_w32 _).1
      | exact hsB_o _
      | exact kA
      | exact rfl
      | exact Or.inr rfl
      | exact Or.inl rfl
      | exact h _ (by omega) (by omega)
      | exact h _ (by omega) (hsN0_z _)
      | contradiction
      | refine SHnum hA kA nA (by omega) ?_
      | refine SHflag hA kA nA (by omega) ?_
      | refine SHtold ?_
      | refine kOn_of hA ?_
      | refine kOn_of hn ?_
      | refine ⟨4000, 40000, ?_⟩
      | refine And.intro ?_ ?_
      | omega
      | intro _
  · rw [hsCS_7] at h
    dsimp only at h
    refine ⟨fun e => absurd e (by decide), fun _ => ⟨fun e => absurd e (by decide), fun _ => ⟨fun e => absurd e (by decide), fun _ => ⟨fun e => absurd e (by decide), fun _ => ⟨fun e => absurd e (by decide), fun _ => ⟨fun e => absurd e (by decide), fun _ => ⟨fun e => absurd e (by decide), fun _ => ⟨fun _ => ?_, fun e => absurd rfl e⟩⟩⟩⟩⟩⟩⟩⟩
    repeat' first
      | unfold cCS_run
      | exact hs_w32 _
      | exact (hs_w32 _).1
      | exact hsB_o _
      | exact kA
      | exact rfl
      | exact Or.inr rfl
      | exact Or.inl rfl
      | exact h _ (by omega) (by omega)
      | exact h _ (by omega) (hsN0_z _)
      | contradiction
      | refine SHnum hA kA nA (by omega) ?_
      | refine SHflag hA kA nA (by omega) ?_
      | refine SHtold ?_
      | refine kOn_of hA ?_
      | refine kOn_of hn ?_
      | refine ⟨4000, 40000, ?_⟩
      | refine And.intro ?_ ?_
      | omega
      | intro _
  · rw [hsCS_8] at h
    dsimp only at h
    refine ⟨fun e => absurd e (by decide), fun _ => ⟨fun e => absurd e (by decide), fun _ => ⟨fun e => absurd e (by decide), fun _ => ⟨fun e => absurd e (by decide), fun _ => ⟨fun e => absurd e (by decide), fun _ => ⟨fun e => absurd e (by decide), fun _ => ⟨fun e => absurd e (by decide), fun _ => ⟨fun e => absurd e (by decide), fun _ => ⟨fun _ => ?_, fun e => absurd rfl e⟩⟩⟩⟩⟩⟩⟩⟩⟩
    repeat' first
      | unfold cCS_parent
      | exact hs_w32 _
      | exact (hs_w32 _).1
      | exact hsB_o _
      | exact kA
      | exact rfl
      | exact Or.inr rfl
      | exact Or.inl rfl
      | exact h _ (by omega) (by omega)
      | exact h _ (by omega) (hsN0_z _)
      | contradiction
      | refine SHnum hA kA nA (by omega) ?_
      | refine SHflag hA kA nA (by omega) ?_
      | refine SHtold ?_
      | refine kOn_of hA ?_
      | refine kOn_of hn ?_
      | refine ⟨4000, 40000, ?_⟩
      | refine And.intro ?_ ?_
      | omega
      | intro _
  · rw [hsCS_9] at h
    dsimp only at h
    refine ⟨fun e => absurd e (by decide), fun _ => ⟨fun e => absurd e (by decide), fun _ => ⟨fun e => absurd e (by decide), fun _ => ⟨fun e => absurd e (by decide), fun _ => ⟨fun e => absurd e (by decide), fun _ => ⟨fun e => absurd e (by decide), fun _ => ⟨fun e => absurd e (by decide), fun _ => ⟨fun e => absurd e (by decide), fun _ => ⟨fun e => absurd e (by decide), fun _ => ⟨fun _ => ?_, fun e => absurd rfl e⟩⟩⟩⟩⟩⟩⟩⟩⟩⟩
    repeat' first
      | unfold cCS_child
      | exact hs_w32 _
      | exact (hs_w32 _).1
      | exact hsB_o _
      | exact kA
      | exact rfl
      | exact Or.inr rfl
      | exact Or.inl rfl
      | exact h _ (by omega) (by omega)
      | exact h _ (by omega) (hsN0_z _)
      | contradiction
      | refine SHnum hA kA nA (by omega) ?_
      | refine SHflag hA kA nA (by omega) ?_
      | refine SHtold ?_
      | refine kOn_of hA ?_
      | refine kOn_of hn ?_
      | refine ⟨4000, 40000, ?_⟩
      | refine And.intro ?_ ?_
      | omega
      | intro _
  · rw [hsCS_10] at h
    dsimp only at h
    refine ⟨fun e => absurd e (by decide), fun _ => ⟨fun e => absurd e (by decide), fun _ => ⟨fun e => absurd e (by decide), fun _ => ⟨fun e => absurd e (by decide), fun _ => ⟨fun e => absurd e (by decide), fun _ => ⟨fun e => absurd e (by decide), fun _ => ⟨fun e => absurd e (by decide), fun _ => ⟨fun e => absurd e (by decide), fun _ => ⟨fun e => absurd e (by decide), fun _ => ⟨fun e => absurd e (by decide), fun _ => ⟨fun _ => ?_, fun e => absurd rfl e⟩⟩⟩⟩⟩⟩⟩⟩⟩⟩⟩
    repeat' first
      | unfold cCS_equal
      | exact hs_w32 _
      | exact (hs_w32 _).1
      | exact hsB_o _
      | exact kA
      | exact rfl
      | exact Or.inr rfl
      | exact Or.inl rfl
      | exact h _ (by omega) (by omega)
      | exact h _ (by omega) (hsN0_z _)
      | contradiction
      | refine SHnum hA kA nA (by omega) ?_
      | refine SHflag hA kA nA (by omega) ?_
      | refine SHtold ?_
      | refine kOn_of hA ?_
      | refine kOn_of hn ?_
      | refine ⟨4000, 40000, ?_⟩
      | refine And.intro ?_ ?_
      | omega
      | intro _
  · rw [hsCS_11] at h
    dsimp only at h
    refine ⟨fun e => absurd e (by decide), fun _ => ⟨fun e => absurd e (by decide), fun _ => ⟨fun e => absurd e (by decide), fun _ => ⟨fun e => absurd e (by decide), fun _ => ⟨fun e => absurd e (by decide), fun _ => ⟨fun e => absurd e (by decide), fun _ => ⟨fun e => absurd e (by decide), fun _ => ⟨fun e => absurd e (by decide), fun _ => ⟨fun e => absurd e (by decide), fun _ => ⟨fun e => absurd e (by decide), fun _ => ⟨fun e => absurd e (by decide), fun _ => ⟨fun _ => ?_, fun e => absurd rfl e⟩⟩⟩⟩⟩⟩⟩⟩⟩⟩⟩⟩
    repeat' first
      | unfold cCS_empty
      | exact hs_w32 _
      | exact (hs_w32 _).1
      | exact hsB_o _
      | exact kA
      | exact rfl
      | exact Or.inr rfl
      | exact Or.inl rfl
      | exact h _ (by omega) (by omega)
      | exact h _ (by omega) (hsN0_z _)
      | contradiction
      | refine SHnum hA kA nA (by omega) ?_
      | refine SHflag hA kA nA (by omega) ?_
      | refine SHtold ?_
      | refine kOn_of hA ?_
      | refine kOn_of hn ?_
      | refine ⟨4000, 40000, ?_⟩
      | refine And.intro ?_ ?_
      | omega
      | intro _
  · rw [hsCS_12] at h
    dsimp only at h
    refine ⟨fun e => absurd e (by decide), fun _ => ⟨fun e => absurd e (by decide), fun _ => ⟨fun e => absurd e (by decide), fun _ => ⟨fun e => absurd e (by decide), fun _ => ⟨fun e => absurd e (by decide), fun _ => ⟨fun e => absurd e (by decide), fun _ => ⟨fun e => absurd e (by decide), fun _ => ⟨fun e => absurd e (by decide), fun _ => ⟨fun e => absurd e (by decide), fun _ => ⟨fun e => absurd e (by decide), fun _ => ⟨fun e => absurd e (by decide), fun _ => ⟨fun e => absurd e (by decide), fun _ => ⟨fun _ => ?_, fun e => absurd rfl e⟩⟩⟩⟩⟩⟩⟩⟩⟩⟩⟩⟩⟩
    repeat' first
      | unfold cCS_open
      | exact hs_w32 _
      | exact (hs_w32 _).1
      | exact hsB_o _
      | exact kA
      | exact rfl
      | exact Or.inr rfl
      | exact Or.inl rfl
      | exact h _ (by omega) (by omega)
      | exact h _ (by omega) (hsN0_z _)
      | contradiction
      | refine SHnum hA kA nA (by omega) ?_
      | refine SHflag hA kA nA (by omega) ?_
      | refine SHtold ?_
      | refine kOn_of hA ?_
      | refine kOn_of hn ?_
      | refine ⟨4000, 40000, ?_⟩
      | refine And.intro ?_ ?_
      | omega
      | intro _
  · rw [hsCS_13] at h
    dsimp only at h
    refine ⟨fun e => absurd e (by decide), fun _ => ⟨fun e => absurd e (by decide), fun _ => ⟨fun e => absurd e (by decide), fun _ => ⟨fun e => absurd e (by decide), fun _ => ⟨fun e => absurd e (by decide), fun _ => ⟨fun e => absurd e (by decide), fun _ => ⟨fun e => absurd e (by decide), fun _ => ⟨fun e => absurd e (by decide), fun _ => ⟨fun e => absurd e (by decide), fun _ => ⟨fun e => absurd e (by decide), fun _ => ⟨fun e => absurd e (by decide), fun _ => ⟨fun e => absurd e (by decide), fun _ => ⟨fun e => absurd e (by decide), fun _ => ⟨fun _ => ?_, fun e => absurd rfl e⟩⟩⟩⟩⟩⟩⟩⟩⟩⟩⟩⟩⟩⟩
    repeat' first
      | unfold cCS_put
      | exact hs_w32 _
      | exact (hs_w32 _).1
      | exact hsB_o _
      | exact kA
      | exact rfl
      | exact Or.inr rfl
      | exact Or.inl rfl
      | exact h _ (by omega) (by omega)
      | exact h _ (by omega) (hsN0_z _)
      | contradiction
      | refine SHnum hA kA nA (by omega) ?_
      | refine SHflag hA kA nA (by omega) ?_
      | refine SHtold ?_
      | refine kOn_of hA ?_
      | refine kOn_of hn ?_
      | refine ⟨4000, 40000, ?_⟩
      | refine And.intro ?_ ?_
      | omega
      | intro _
  · rw [hsCS_14] at h
    dsimp only at h
    refine ⟨fun e => absurd e (by decide), fun _ => ⟨fun e => absurd e (by decide), fun _ => ⟨fun e => absurd e (by decide), fun _ => ⟨fun e => absurd e (by decide), fun _ => ⟨fun e => absurd e (by decide), fun _ => ⟨fun e => absurd e (by decide), fun _ => ⟨fun e => absurd e (by decide), fun _ => ⟨fun e => absurd e (by decide), fun _ => ⟨fun e => absurd e (by decide), fun _ => ⟨fun e => absurd e (by decide), fun _ => ⟨fun e => absurd e (by decide), fun _ => ⟨fun e => absurd e (by decide), fun _ => ⟨fun e => absurd e (by decide), fun _ => ⟨fun e => absurd e (by decide), fun _ => ⟨fun _ => ?_, fun e => absurd rfl e⟩⟩⟩⟩⟩⟩⟩⟩⟩⟩⟩⟩⟩⟩⟩
    repeat' first
      | unfold cCS_type
      | exact hs_w32 _
      | exact (hs_w32 _).1
      | exact hsB_o _
      | exact kA
      | exact rfl
      | exact Or.inr rfl
      | exact Or.inl rfl
      | exact h _ (by omega) (by omega)
      | exact h _ (by omega) (hsN0_z _)
      | contradiction
      | refine SHnum hA kA nA (by omega) ?_
      | refine SHflag hA kA nA (by omega) ?_
      | refine SHtold ?_
      | refine kOn_of hA ?_
      | refine kOn_of hn ?_
      | refine ⟨4000, 40000, ?_⟩
      | refine And.intro ?_ ?_
      | omega
      | intro _
  · rw [hsCS_15] at h
    dsimp only at h
    refine ⟨fun e => absurd e (by decide), fun _ => ⟨fun e => absurd e (by decide), fun _ => ⟨fun e => absurd e (by decide), fun _ => ⟨fun e => absurd e (by decide), fun _ => ⟨fun e => absurd e (by decide), fun _ => ⟨fun e => absurd e (by decide), fun _ => ⟨fun e => absurd e (by decide), fun _ => ⟨fun e => absurd e (by decide), fun _ => ⟨fun e => absurd e (by decide), fun _ => ⟨fun e => absurd e (by decide), fun _ => ⟨fun e => absurd e (by decide), fun _ => ⟨fun e => absurd e (by decide), fun _ => ⟨fun e => absurd e (by decide), fun _ => ⟨fun e => absurd e (by decide), fun _ => ⟨fun e => absurd e (by decide), fun _ => ⟨fun _ => ?_, fun e => absurd rfl e⟩⟩⟩⟩⟩⟩⟩⟩⟩⟩⟩⟩⟩⟩⟩⟩
    repeat' first
      | unfold cCS_trace
      | exact hs_w32 _
      | exact (hs_w32 _).1
      | exact hsB_o _
      | exact kA
      | exact rfl
      | exact Or.inr rfl
      | exact Or.inl rfl
      | exact h _ (by omega) (by omega)
      | exact h _ (by omega) (hsN0_z _)
      | contradiction
      | refine SHnum hA kA nA (by omega) ?_
      | refine SHflag hA kA nA (by omega) ?_
      | refine SHtold ?_
      | refine kOn_of hA ?_
      | refine kOn_of hn ?_
      | refine ⟨4000, 40000, ?_⟩
      | refine And.intro ?_ ?_
      | omega
      | intro _
  · rw [hsCS_16] at h
    dsimp only at h
    refine ⟨fun e => absurd e (by decide), fun _ => ⟨fun e => absurd e (by decide), fun _ => ⟨fun e => absurd e (by decide), fun _ => ⟨fun e => absurd e (by decide), fun _ => ⟨fun e => absurd e (by decide), fun _ => ⟨fun e => absurd e (by decide), fun _ => ⟨fun e => absurd e (by decide), fun _ => ⟨fun e => absurd e (by decide), fun _ => ⟨fun e => absurd e (by decide), fun _ => ⟨fun e => absurd e (by decide), fun _ => ⟨fun e => absurd e (by decide), fun _ => ⟨fun e => absurd e (by decide), fun _ => ⟨fun e => absurd e (by decide), fun _ => ⟨fun e => absurd e (by decide), fun _ => ⟨fun e => absurd e (by decide), fun _ => ⟨fun e => absurd e (by decide), fun _ => ⟨fun _ => ?_, fun e => absurd rfl e⟩⟩⟩⟩⟩⟩⟩⟩⟩⟩⟩⟩⟩⟩⟩⟩⟩
    repeat' first
      | unfold cCS_count
      | exact hs_w32 _
      | exact (hs_w32 _).1
      | exact hsB_o _
      | exact kA
      | exact rfl
      | exact Or.inr rfl
      | exact Or.inl rfl
      | exact h _ (by omega) (by omega)
      | exact h _ (by omega) (hsN0_z _)
      | contradiction
      | refine SHnum hA kA nA (by omega) ?_
      | refine SHflag hA kA nA (by omega) ?_
      | refine SHtold ?_
      | refine kOn_of hA ?_
      | refine kOn_of hn ?_
      | refine ⟨4000, 40000, ?_⟩
      | refine And.intro ?_ ?_
      | omega
      | intro _
theorem SH_facetsCall {MC : Nat} {MS : Nat} {post : Int → FcS → Prop} {kd : Nat → Nat} {an : Nat → Nat} {al : Nat → Int → Int} {mX0_facets : Nat → Option Nat} {mX0_args : Nat → Option Nat} {FC_S : FcS} {ra : Nat → Nat} {x0 : Nat} {x1 : Int} {A : Nat} (hA : mX0_args x0 = some A) (kA : kd A = 7) (nA : an A = 8) (hn : mX0_facets x0 = some (ra 7)) (hM : 4000 ≤ MC ∧ 40000 ≤ MS) (h1 : 0 ≤ x1 ∧ x1 < 12) (h : (¬ (hsFC x1 (al A) FC_S).1 = -9223372036854775808) → post (hsFC x1 (al A) FC_S).1  (hsFC x1 (al A) FC_S).2) : wpSH_X0_facetsCall MC MS post kd an al mX0_facets mX0_args FC_S ra x0 x1 := by
  unfold wpSH_X0_facetsCall
  obtain rfl | rfl | rfl | rfl | rfl | rfl | rfl | rfl | rfl | rfl | rfl | rfl : x1 = 0 ∨ x1 = 1 ∨ x1 = 2 ∨ x1 = 3 ∨ x1 = 4 ∨ x1 = 5 ∨ x1 = 6 ∨ x1 = 7 ∨ x1 = 8 ∨ x1 = 9 ∨ x1 = 10 ∨ x1 = 11 := by omega
  · rw [hsFC_0] at h
    dsimp only at h
    refine ⟨fun _ => ?_, fun e => absurd rfl e⟩
    repeat' first
      | unfold cFC_row
      | exact hs_w32 _
      | exact (hs_w32 _).1
      | exact hsB_o _
      | exact kA
      | exact rfl
      | exact Or.inr rfl
      | exact Or.inl rfl
      | exact h   (by omega)
      | exact h   (hsN0_z _)
      | contradiction
      | refine SHnum hA kA nA (by omega) ?_
      | refine SHflag hA kA nA (by omega) ?_
      | refine SHtold ?_
      | refine kOn_of hA ?_
      | refine kOn_of hn ?_
      | refine ⟨4000, 40000, ?_⟩
      | refine And.intro ?_ ?_
      | omega
      | intro _
  · rw [hsFC_1] at h
    dsimp only at h
    refine ⟨fun e => absurd e (by decide), fun _ => ⟨fun _ => ?_, fun e => absurd rfl e⟩⟩
    repeat' first
      | unfold cFC_drop
      | exact hs_w32 _
      | exact (hs_w32 _).1
      | exact hsB_o _
      | exact kA
      | exact rfl
      | exact Or.inr rfl
      | exact Or.inl rfl
      | exact h   (by omega)
      | exact h   (hsN0_z _)
      | contradiction
      | refine SHnum hA kA nA (by omega) ?_
      | refine SHflag hA kA nA (by omega) ?_
      | refine SHtold ?_
      | refine kOn_of hA ?_
      | refine kOn_of hn ?_
      | refine ⟨4000, 40000, ?_⟩
      | refine And.intro ?_ ?_
      | omega
      | intro _
  · rw [hsFC_2] at h
    dsimp only at h
    refine ⟨fun e => absurd e (by decide), fun _ => ⟨fun e => absurd e (by decide), fun _ => ⟨fun _ => ?_, fun e => absurd rfl e⟩⟩⟩
    repeat' first
      | unfold cFC_above
      | exact hs_w32 _
      | exact (hs_w32 _).1
      | exact hsB_o _
      | exact kA
      | exact rfl
      | exact Or.inr rfl
      | exact Or.inl rfl
      | exact h   (by omega)
      | exact h   (hsN0_z _)
      | contradiction
      | refine SHnum hA kA nA (by omega) ?_
      | refine SHflag hA kA nA (by omega) ?_
      | refine SHtold ?_
      | refine kOn_of hA ?_
      | refine kOn_of hn ?_
      | refine ⟨4000, 40000, ?_⟩
      | refine And.intro ?_ ?_
      | omega
      | intro _
  · rw [hsFC_3] at h
    dsimp only at h
    refine ⟨fun e => absurd e (by decide), fun _ => ⟨fun e => absurd e (by decide), fun _ => ⟨fun e => absurd e (by decide), fun _ => ⟨fun _ => ?_, fun e => absurd rfl e⟩⟩⟩⟩
    repeat' first
      | unfold cFC_choose
      | exact hs_w32 _
      | exact (hs_w32 _).1
      | exact hsB_o _
      | exact kA
      | exact rfl
      | exact Or.inr rfl
      | exact Or.inl rfl
      | exact h   (by omega)
      | exact h   (hsN0_z _)
      | contradiction
      | refine SHnum hA kA nA (by omega) ?_
      | refine SHflag hA kA nA (by omega) ?_
      | refine SHtold ?_
      | refine kOn_of hA ?_
      | refine kOn_of hn ?_
      | refine ⟨4000, 40000, ?_⟩
      | refine And.intro ?_ ?_
      | omega
      | intro _
  · rw [hsFC_4] at h
    dsimp only at h
    refine ⟨fun e => absurd e (by decide), fun _ => ⟨fun e => absurd e (by decide), fun _ => ⟨fun e => absurd e (by decide), fun _ => ⟨fun e => absurd e (by decide), fun _ => ⟨fun _ => ?_, fun e => absurd rfl e⟩⟩⟩⟩⟩
    repeat' first
      | unfold cFC_kept
      | exact hs_w32 _
      | exact (hs_w32 _).1
      | exact hsB_o _
      | exact kA
      | exact rfl
      | exact Or.inr rfl
      | exact Or.inl rfl
      | exact h   (by omega)
      | exact h   (hsN0_z _)
      | contradiction
      | refine SHnum hA kA nA (by omega) ?_
      | refine SHflag hA kA nA (by omega) ?_
      | refine SHtold ?_
      | refine kOn_of hA ?_
      | refine kOn_of hn ?_
      | refine ⟨4000, 40000, ?_⟩
      | refine And.intro ?_ ?_
      | omega
      | intro _
  · rw [hsFC_5] at h
    dsimp only at h
    refine ⟨fun e => absurd e (by decide), fun _ => ⟨fun e => absurd e (by decide), fun _ => ⟨fun e => absurd e (by decide), fun _ => ⟨fun e => absurd e (by decide), fun _ => ⟨fun e => absurd e (by decide), fun _ => ⟨fun _ => ?_, fun e => absurd rfl e⟩⟩⟩⟩⟩⟩
    repeat' first
      | unfold cFC_isKept
      | exact hs_w32 _
      | exact (hs_w32 _).1
      | exact hsB_o _
      | exact kA
      | exact rfl
      | exact Or.inr rfl
      | exact Or.inl rfl
      | exact h   (by omega)
      | exact h   (hsN0_z _)
      | contradiction
      | refine SHnum hA kA nA (by omega) ?_
      | refine SHflag hA kA nA (by omega) ?_
      | refine SHtold ?_
      | refine kOn_of hA ?_
      | refine kOn_of hn ?_
      | refine ⟨4000, 40000, ?_⟩
      | refine And.intro ?_ ?_
      | omega
      | intro _
  · rw [hsFC_6] at h
    dsimp only at h
    refine ⟨fun e => absurd e (by decide), fun _ => ⟨fun e => absurd e (by decide), fun _ => ⟨fun e => absurd e (by decide), fun _ => ⟨fun e => absurd e (by decide), fun _ => ⟨fun e => absurd e (by decide), fun _ => ⟨fun e => absurd e (by decide), fun _ => ⟨fun _ => ?_, fun e => absurd rfl e⟩⟩⟩⟩⟩⟩⟩
    repeat' first
      | unfold cFC_facet
      | exact hs_w32 _
      | exact (hs_w32 _).1
      | exact hsB_o _
      | exact kA
      | exact rfl
      | exact Or.inr rfl
      | exact Or.inl rfl
      | exact h   (by omega)
      | exact h   (hsN0_z _)
      | contradiction
      | refine SHnum hA kA nA (by omega) ?_
      | refine SHflag hA kA nA (by omega) ?_
      | refine SHtold ?_
      | refine kOn_of hA ?_
      | refine kOn_of hn ?_
      | refine ⟨4000, 40000, ?_⟩
      | refine And.intro ?_ ?_
      | omega
      | intro _
  · rw [hsFC_7] at h
    dsimp only at h
    refine ⟨fun e => absurd e (by decide), fun _ => ⟨fun e => absurd e (by decide), fun _ => ⟨fun e => absurd e (by decide), fun _ => ⟨fun e => absurd e (by decide), fun _ => ⟨fun e => absurd e (by decide), fun _ => ⟨fun e => absurd e (by decide), fun _ => ⟨fun e => absurd e (by decide), fun _ => ⟨fun _ => ?_, fun e => absurd rfl e⟩⟩⟩⟩⟩⟩⟩⟩
    repeat' first
      | unfold cFC_top
      | exact hs_w32 _
      | exact (hs_w32 _).1
      | exact hsB_o _
      | exact kA
      | exact rfl
      | exact Or.inr rfl
      | exact Or.inl rfl
      | exact h   (by omega)
      | exact h   (hsN0_z _)
      | contradiction
      | refine SHnum hA kA nA (by omega) ?_
      | refine SHflag hA kA nA (by omega) ?_
      | refine SHtold ?_
      | refine kOn_of hA ?_
      | refine kOn_of hn ?_
      | refine ⟨4000, 40000, ?_⟩
      | refine And.intro ?_ ?_
      | omega
      | intro _
  · rw [hsFC_8] at h
    dsimp only at h
    refine ⟨fun e => absurd e (by decide), fun _ => ⟨fun e => absurd e (by decide), fun _ => ⟨fun e => absurd e (by decide), fun _ => ⟨fun e => absurd e (by decide), fun _ => ⟨fun e => absurd e (by decide), fun _ => ⟨fun e => absurd e (by decide), fun _ => ⟨fun e => absurd e (by decide), fun _ => ⟨fun e => absurd e (by decide), fun _ => ⟨fun _ => ?_, fun e => absurd rfl e⟩⟩⟩⟩⟩⟩⟩⟩⟩
    repeat' first
      | unfold cFC_range
      | exact hs_w32 _
      | exact (hs_w32 _).1
      | exact hsB_o _
      | exact kA
      | exact rfl
      | exact Or.inr rfl
      | exact Or.inl rfl
      | exact h   (by omega)
      | exact h   (hsN0_z _)
      | contradiction
      | refine SHnum hA kA nA (by omega) ?_
      | refine SHflag hA kA nA (by omega) ?_
      | refine SHtold ?_
      | refine kOn_of hA ?_
      | refine kOn_of hn ?_
      | refine ⟨4000, 40000, ?_⟩
      | refine And.intro ?_ ?_
      | omega
      | intro _
  · rw [hsFC_9] at h
    dsimp only at h
    refine ⟨fun e => absurd e (by decide), fun _ => ⟨fun e => absurd e (by decide), fun _ => ⟨fun e => absurd e (by decide), fun _ => ⟨fun e => absurd e (by decide), fun _ => ⟨fun e => absurd e (by decide), fun _ => ⟨fun e => absurd e (by decide), fun _ => ⟨fun e => absurd e (by decide), fun _ => ⟨fun e => absurd e (by decide), fun _ => ⟨fun e => absurd e (by decide), fun _ => ⟨fun _ => ?_, fun e => absurd rfl e⟩⟩⟩⟩⟩⟩⟩⟩⟩⟩
    repeat' first
      | unfold cFC_sum
      | exact hs_w32 _
      | exact (hs_w32 _).1
      | exact hsB_o _
      | exact kA
      | exact rfl
      | exact Or.inr rfl
      | exact Or.inl rfl
      | exact h   (by omega)
      | exact h   (hsN0_z _)
      | contradiction
      | refine SHnum hA kA nA (by omega) ?_
      | refine SHflag hA kA nA (by omega) ?_
      | refine SHtold ?_
      | refine kOn_of hA ?_
      | refine kOn_of hn ?_
      | refine ⟨4000, 40000, ?_⟩
      | refine And.intro ?_ ?_
      | omega
      | intro _
  · rw [hsFC_10] at h
    dsimp only at h
    refine ⟨fun e => absurd e (by decide), fun _ => ⟨fun e => absurd e (by decide), fun _ => ⟨fun e => absurd e (by decide), fun _ => ⟨fun e => absurd e (by decide), fun _ => ⟨fun e => absurd e (by decide), fun _ => ⟨fun e => absurd e (by decide), fun _ => ⟨fun e => absurd e (by decide), fun _ => ⟨fun e => absurd e (by decide), fun _ => ⟨fun e => absurd e (by decide), fun _ => ⟨fun e => absurd e (by decide), fun _ => ⟨fun _ => ?_, fun e => absurd rfl e⟩⟩⟩⟩⟩⟩⟩⟩⟩⟩⟩
    repeat' first
      | unfold cFC_changed
      | exact hs_w32 _
      | exact (hs_w32 _).1
      | exact hsB_o _
      | exact kA
      | exact rfl
      | exact Or.inr rfl
      | exact Or.inl rfl
      | exact h   (by omega)
      | exact h   (hsN0_z _)
      | contradiction
      | refine SHnum hA kA nA (by omega) ?_
      | refine SHflag hA kA nA (by omega) ?_
      | refine SHtold ?_
      | refine kOn_of hA ?_
      | refine kOn_of hn ?_
      | refine ⟨4000, 40000, ?_⟩
      | refine And.intro ?_ ?_
      | omega
      | intro _
  · rw [hsFC_11] at h
    dsimp only at h
    refine ⟨fun e => absurd e (by decide), fun _ => ⟨fun e => absurd e (by decide), fun _ => ⟨fun e => absurd e (by decide), fun _ => ⟨fun e => absurd e (by decide), fun _ => ⟨fun e => absurd e (by decide), fun _ => ⟨fun e => absurd e (by decide), fun _ => ⟨fun e => absurd e (by decide), fun _ => ⟨fun e => absurd e (by decide), fun _ => ⟨fun e => absurd e (by decide), fun _ => ⟨fun e => absurd e (by decide), fun _ => ⟨fun e => absurd e (by decide), fun _ => ⟨fun _ => ?_, fun e => absurd rfl e⟩⟩⟩⟩⟩⟩⟩⟩⟩⟩⟩⟩
    repeat' first
      | unfold cFC_rows
      | exact hs_w32 _
      | exact (hs_w32 _).1
      | exact hsB_o _
      | exact kA
      | exact rfl
      | exact Or.inr rfl
      | exact Or.inl rfl
      | exact h   (by omega)
      | exact h   (hsN0_z _)
      | contradiction
      | refine SHnum hA kA nA (by omega) ?_
      | refine SHflag hA kA nA (by omega) ?_
      | refine SHtold ?_
      | refine kOn_of hA ?_
      | refine kOn_of hn ?_
      | refine ⟨4000, 40000, ?_⟩
      | refine And.intro ?_ ?_
      | omega
      | intro _
theorem SH_tablesCall {MC : Nat} {MS : Nat} {post : Int → vrS → Prop} {px : Nat → vrS → Prop} {kd : Nat → Nat} {an : Nat → Nat} {al : Nat → Int → Int} {mX0_tables : Nat → Option Nat} {mX0_args : Nat → Option Nat} {VR_S : vrS} {ra : Nat → Nat} {x0 : Nat} {x1 : Int} {A : Nat} (hA : mX0_args x0 = some A) (kA : kd A = 7) (nA : an A = 8) (hn : mX0_tables x0 = some (ra 8)) (hM : 4000 ≤ MC ∧ 40000 ≤ MS) (h1 : 0 ≤ x1 ∧ x1 < 14) (h : (hsVR x1 (al A) VR_S).1 = 0 → (¬ (hsVR x1 (al A) VR_S).2.1 = -9223372036854775808) → post (hsVR x1 (al A) VR_S).2.1  (hsVR x1 (al A) VR_S).2.2) (hx : ¬ (hsVR x1 (al A) VR_S).1 = 0 → px (hsVR x1 (al A) VR_S).1  (hsVR x1 (al A) VR_S).2.2) : wpSH_X0_tablesCall MC MS post px kd an al mX0_tables mX0_args VR_S ra x0 x1 := by
  unfold wpSH_X0_tablesCall
  obtain rfl | rfl | rfl | rfl | rfl | rfl | rfl | rfl | rfl | rfl | rfl | rfl | rfl | rfl : x1 = 0 ∨ x1 = 1 ∨ x1 = 2 ∨ x1 = 3 ∨ x1 = 4 ∨ x1 = 5 ∨ x1 = 6 ∨ x1 = 7 ∨ x1 = 8 ∨ x1 = 9 ∨ x1 = 10 ∨ x1 = 11 ∨ x1 = 12 ∨ x1 = 13 := by omega
  · rw [hsVR_0] at h hx
    dsimp only at h hx
    refine ⟨fun _ => ?_, fun e => absurd rfl e⟩
    repeat' first
      | unfold cVR_key
      | exact hs_w32 _
      | exact (hs_w32 _).1
      | exact hsB_o _
      | exact kA
      | exact rfl
      | exact Or.inr rfl
      | exact Or.inl rfl
      | exact h rfl   (by omega)
      | exact h rfl   (hsN0_z _)
      | exact h (by assumption)   (by omega)
      | exact h (by assumption)   (hsN0_z _)
      | exact hx (by assumption)  
      | contradiction
      | refine SHnum hA kA nA (by omega) ?_
      | refine SHflag hA kA nA (by omega) ?_
      | refine SHtold ?_
      | refine kOn_of hA ?_
      | refine kOn_of hn ?_
      | refine ⟨4000, 40000, ?_⟩
      | refine And.intro ?_ ?_
      | omega
      | intro _
  · rw [hsVR_1] at h hx
    dsimp only at h hx
    refine ⟨fun e => absurd e (by decide), fun _ => ⟨fun _ => ?_, fun e => absurd rfl e⟩⟩
    repeat' first
      | unfold cVR_row
      | exact hs_w32 _
      | exact (hs_w32 _).1
      | exact hsB_o _
      | exact kA
      | exact rfl
      | exact Or.inr rfl
      | exact Or.inl rfl
      | exact h rfl   (by omega)
      | exact h rfl   (hsN0_z _)
      | exact h (by assumption)   (by omega)
      | exact h (by assumption)   (hsN0_z _)
      | exact hx (by assumption)  
      | contradiction
      | refine SHnum hA kA nA (by omega) ?_
      | refine SHflag hA kA nA (by omega) ?_
      | refine SHtold ?_
      | refine kOn_of hA ?_
      | refine kOn_of hn ?_
      | refine ⟨4000, 40000, ?_⟩
      | refine And.intro ?_ ?_
      | omega
      | intro _
  · rw [hsVR_2] at h hx
    dsimp only at h hx
    refine ⟨fun e => absurd e (by decide), fun _ => ⟨fun e => absurd e (by decide), fun _ => ⟨fun _ => ?_, fun e => absurd rfl e⟩⟩⟩
    repeat' first
      | unfold cVR_drop
      | exact hs_w32 _
      | exact (hs_w32 _).1
      | exact hsB_o _
      | exact kA
      | exact rfl
      | exact Or.inr rfl
      | exact Or.inl rfl
      | exact h rfl   (by omega)
      | exact h rfl   (hsN0_z _)
      | exact h (by assumption)   (by omega)
      | exact h (by assumption)   (hsN0_z _)
      | exact hx (by assumption)  
      | contradiction
      | refine SHnum hA kA nA (by omega) ?_
      | refine SHflag hA kA nA (by omega) ?_
      | refine SHtold ?_
      | refine kOn_of hA ?_
      | refine kOn_of hn ?_
      | refine ⟨4000, 40000, ?_⟩
      | refine And.intro ?_ ?_
      | omega
      | intro _
  · rw [hsVR_3] at h hx
    dsimp only at h hx
    refine ⟨fun e => absurd e (by decide), fun _ => ⟨fun e => absurd e (by decide), fun _ => ⟨fun e => absurd e (by decide), fun _ => ⟨fun _ => ?_, fun e => absurd rfl e⟩⟩⟩⟩
    repeat' first
      | unfold cVR_mapping
      | exact hs_w32 _
      | exact (hs_w32 _).1
      | exact hsB_o _
      | exact kA
      | exact rfl
      | exact Or.inr rfl
      | exact Or.inl rfl
      | exact h rfl   (by omega)
      | exact h rfl   (hsN0_z _)
      | exact h (by assumption)   (by omega)
      | exact h (by assumption)   (hsN0_z _)
      | exact hx (by assumption)  
      | contradiction
      | refine SHnum hA kA nA (by omega) ?_
      | refine SHflag hA kA nA (by omega) ?_
      | refine SHtold ?_
      | refine kOn_of hA ?_
      | refine kOn_of hn ?_
      | refine ⟨4000, 40000, ?_⟩
      | refine And.intro ?_ ?_
      | omega
      | intro _
  · rw [hsVR_4] at h hx
    dsimp only at h hx
    refine ⟨fun e => absurd e (by decide), fun _ => ⟨fun e => absurd e (by decide), fun _ => ⟨fun e => absurd e (by decide), fun _ => ⟨fun e => absurd e (by decide), fun _ => ⟨fun _ => ?_, fun e => absurd rfl e⟩⟩⟩⟩⟩
    repeat' first
      | unfold cVR_triples
      | exact hs_w32 _
      | exact (hs_w32 _).1
      | exact hsB_o _
      | exact kA
      | exact rfl
      | exact Or.inr rfl
      | exact Or.inl rfl
      | exact h rfl   (by omega)
      | exact h rfl   (hsN0_z _)
      | exact h (by assumption)   (by omega)
      | exact h (by assumption)   (hsN0_z _)
      | exact hx (by assumption)  
      | contradiction
      | refine SHnum hA kA nA (by omega) ?_
      | refine SHflag hA kA nA (by omega) ?_
      | refine SHtold ?_
      | refine kOn_of hA ?_
      | refine kOn_of hn ?_
      | refine ⟨4000, 40000, ?_⟩
      | refine And.intro ?_ ?_
      | omega
      | intro _
  · rw [hsVR_5] at h hx
    dsimp only at h hx
    refine ⟨fun e => absurd e (by decide), fun _ => ⟨fun e => absurd e (by decide), fun _ => ⟨fun e => absurd e (by decide), fun _ => ⟨fun e => absurd e (by decide), fun _ => ⟨fun e => absurd e (by decide), fun _ => ⟨fun _ => ?_, fun e => absurd rfl e⟩⟩⟩⟩⟩⟩
    repeat' first
      | unfold cVR_atom
      | exact hs_w32 _
      | exact (hs_w32 _).1
      | exact hsB_o _
      | exact kA
      | exact rfl
      | exact Or.inr rfl
      | exact Or.inl rfl
      | exact h rfl   (by omega)
      | exact h rfl   (hsN0_z _)
      | exact h (by assumption)   (by omega)
      | exact h (by assumption)   (hsN0_z _)
      | exact hx (by assumption)  
      | contradiction
      | refine SHnum hA kA nA (by omega) ?_
      | refine SHflag hA kA nA (by omega) ?_
      | refine SHtold ?_
      | refine kOn_of hA ?_
      | refine kOn_of hn ?_
      | refine ⟨4000, 40000, ?_⟩
      | refine And.intro ?_ ?_
      | omega
      | intro _
  · rw [hsVR_6] at h hx
    dsimp only at h hx
    refine ⟨fun e => absurd e (by decide), fun _ => ⟨fun e => absurd e (by decide), fun _ => ⟨fun e => absurd e (by decide), fun _ => ⟨fun e => absurd e (by decide), fun _ => ⟨fun e => absurd e (by decide), fun _ => ⟨fun e => absurd e (by decide), fun _ => ⟨fun _ => ?_, fun e => absurd rfl e⟩⟩⟩⟩⟩⟩⟩
    repeat' first
      | unfold cVR_span
      | exact hs_w32 _
      | exact (hs_w32 _).1
      | exact hsB_o _
      | exact kA
      | exact rfl
      | exact Or.inr rfl
      | exact Or.inl rfl
      | exact h rfl   (by omega)
      | exact h rfl   (hsN0_z _)
      | exact h (by assumption)   (by omega)
      | exact h (by assumption)   (hsN0_z _)
      | exact hx (by assumption)  
      | contradiction
      | refine SHnum hA kA nA (by omega) ?_
      | refine SHflag hA kA nA (by omega) ?_
      | refine SHtold ?_
      | refine kOn_of hA ?_
      | refine kOn_of hn ?_
      | refine ⟨4000, 40000, ?_⟩
      | refine And.intro ?_ ?_
      | omega
      | intro _
  · rw [hsVR_7] at h hx
    dsimp only at h hx
    refine ⟨fun e => absurd e (by decide), fun _ => ⟨fun e => absurd e (by decide), fun _ => ⟨fun e => absurd e (by decide), fun _ => ⟨fun e => absurd e (by decide), fun _ => ⟨fun e => absurd e (by decide), fun _ => ⟨fun e => absurd e (by decide), fun _ => ⟨fun e => absurd e (by decide), fun _ => ⟨fun _ => ?_, fun e => absurd rfl e⟩⟩⟩⟩⟩⟩⟩⟩
    repeat' first
      | unfold cVR_clear
      | exact hs_w32 _
      | exact (hs_w32 _).1
      | exact hsB_o _
      | exact kA
      | exact rfl
      | exact Or.inr rfl
      | exact Or.inl rfl
      | exact h rfl   (by omega)
      | exact h rfl   (hsN0_z _)
      | exact h (by assumption)   (by omega)
      | exact h (by assumption)   (hsN0_z _)
      | exact hx (by assumption)  
      | contradiction
      | refine SHnum hA kA nA (by omega) ?_
      | refine SHflag hA kA nA (by omega) ?_
      | refine SHtold ?_
      | refine kOn_of hA ?_
      | refine kOn_of hn ?_
      | refine ⟨4000, 40000, ?_⟩
      | refine And.intro ?_ ?_
      | omega
      | intro _
  · rw [hsVR_8] at h hx
    dsimp only at h hx
    refine ⟨fun e => absurd e (by decide), fun _ => ⟨fun e => absurd e (by decide), fun _ => ⟨fun e => absurd e (by decide), fun _ => ⟨fun e => absurd e (by decide), fun _ => ⟨fun e => absurd e (by decide), fun _ => ⟨fun e => absurd e (by decide), fun _ => ⟨fun e => absurd e (by decide), fun _ => ⟨fun e => absurd e (by decide), fun _ => ⟨fun _ => ?_, fun e => absurd rfl e⟩⟩⟩⟩⟩⟩⟩⟩⟩
    repeat' first
      | unfold cVR_unions
      | exact hs_w32 _
      | exact (hs_w32 _).1
      | exact hsB_o _
      | exact kA
      | exact rfl
      | exact Or.inr rfl
      | exact Or.inl rfl
      | exact h rfl   (by omega)
      | exact h rfl   (hsN0_z _)
      | exact h (by assumption)   (by omega)
      | exact h (by assumption)   (hsN0_z _)
      | exact hx (by assumption)  
      | contradiction
      | refine SHnum hA kA nA (by omega) ?_
      | refine SHflag hA kA nA (by omega) ?_
      | refine SHtold ?_
      | refine kOn_of hA ?_
      | refine kOn_of hn ?_
      | refine ⟨4000, 40000, ?_⟩
      | refine And.intro ?_ ?_
      | omega
      | intro _
  · rw [hsVR_9] at h hx
    dsimp only at h hx
    refine ⟨fun e => absurd e (by decide), fun _ => ⟨fun e => absurd e (by decide), fun _ => ⟨fun e => absurd e (by decide), fun _ => ⟨fun e => absurd e (by decide), fun _ => ⟨fun e => absurd e (by decide), fun _ => ⟨fun e => absurd e (by decide), fun _ => ⟨fun e => absurd e (by decide), fun _ => ⟨fun e => absurd e (by decide), fun _ => ⟨fun e => absurd e (by decide), fun _ => ⟨fun _ => ?_, fun e => absurd rfl e⟩⟩⟩⟩⟩⟩⟩⟩⟩⟩
    repeat' first
      | unfold cVR_union
      | exact hs_w32 _
      | exact (hs_w32 _).1
      | exact hsB_o _
      | exact kA
      | exact rfl
      | exact Or.inr rfl
      | exact Or.inl rfl
      | exact h rfl   (by omega)
      | exact h rfl   (hsN0_z _)
      | exact h (by assumption)   (by omega)
      | exact h (by assumption)   (hsN0_z _)
      | exact hx (by assumption)  
      | contradiction
      | refine SHnum hA kA nA (by omega) ?_
      | refine SHflag hA kA nA (by omega) ?_
      | refine SHtold ?_
      | refine kOn_of hA ?_
      | refine kOn_of hn ?_
      | refine ⟨4000, 40000, ?_⟩
      | refine And.intro ?_ ?_
      | omega
      | intro _
  · rw [hsVR_10] at h hx
    dsimp only at h hx
    refine ⟨fun e => absurd e (by decide), fun _ => ⟨fun e => absurd e (by decide), fun _ => ⟨fun e => absurd e (by decide), fun _ => ⟨fun e => absurd e (by decide), fun _ => ⟨fun e => absurd e (by decide), fun _ => ⟨fun e => absurd e (by decide), fun _ => ⟨fun e => absurd e (by decide), fun _ => ⟨fun e => absurd e (by decide), fun _ => ⟨fun e => absurd e (by decide), fun _ => ⟨fun e => absurd e (by decide), fun _ => ⟨fun _ => ?_, fun e => absurd rfl e⟩⟩⟩⟩⟩⟩⟩⟩⟩⟩⟩
    repeat' first
      | unfold cVR_estimate
      | exact hs_w32 _
      | exact (hs_w32 _).1
      | exact hsB_o _
      | exact kA
      | exact rfl
      | exact Or.inr rfl
      | exact Or.inl rfl
      | exact h rfl   (by omega)
      | exact h rfl   (hsN0_z _)
      | exact h (by assumption)   (by omega)
      | exact h (by assumption)   (hsN0_z _)
      | exact hx (by assumption)  
      | contradiction
      | refine SHnum hA kA nA (by omega) ?_
      | refine SHflag hA kA nA (by omega) ?_
      | refine SHtold ?_
      | refine kOn_of hA ?_
      | refine kOn_of hn ?_
      | refine ⟨4000, 40000, ?_⟩
      | refine And.intro ?_ ?_
      | omega
      | intro _
  · rw [hsVR_11] at h hx
    dsimp only at h hx
    refine ⟨fun e => absurd e (by decide), fun _ => ⟨fun e => absurd e (by decide), fun _ => ⟨fun e => absurd e (by decide), fun _ => ⟨fun e => absurd e (by decide), fun _ => ⟨fun e => absurd e (by decide), fun _ => ⟨fun e => absurd e (by decide), fun _ => ⟨fun e => absurd e (by decide), fun _ => ⟨fun e => absurd e (by decide), fun _ => ⟨fun e => absurd e (by decide), fun _ => ⟨fun e => absurd e (by decide), fun _ => ⟨fun e => absurd e (by decide), fun _ => ⟨fun _ => ?_, fun e => absurd rfl e⟩⟩⟩⟩⟩⟩⟩⟩⟩⟩⟩⟩
    repeat' first
      | unfold cVR_run
      | exact hs_w32 _
      | exact (hs_w32 _).1
      | exact hsB_o _
      | exact kA
      | exact rfl
      | exact Or.inr rfl
      | exact Or.inl rfl
      | exact h rfl   (by omega)
      | exact h rfl   (hsN0_z _)
      | exact h (by assumption)   (by omega)
      | exact h (by assumption)   (hsN0_z _)
      | exact hx (by assumption)  
      | contradiction
      | refine SHnum hA kA nA (by omega) ?_
      | refine SHflag hA kA nA (by omega) ?_
      | refine SHtold ?_
      | refine kOn_of hA ?_
      | refine kOn_of hn ?_
      | refine ⟨4000, 40000, ?_⟩
      | refine And.intro ?_ ?_
      | omega
      | intro _
  · rw [hsVR_12] at h hx
    dsimp only at h hx
    refine ⟨fun e => absurd e (by decide), fun _ => ⟨fun e => absurd e (by decide), fun _ => ⟨fun e => absurd e (by decide), fun _ => ⟨fun e => absurd e (by decide), fun _ => ⟨fun e => absurd e (by decide), fun _ => ⟨fun e => absurd e (by decide), fun _ => ⟨fun e => absurd e (by decide), fun _ => ⟨fun e => absurd e (by decide), fun _ => ⟨fun e => absurd e (by decide), fun _ => ⟨fun e => absurd e (by decide), fun _ => ⟨fun e => absurd e (by decide), fun _ => ⟨fun e => absurd e (by decide), fun _ => ⟨fun _ => ?_, fun e => absurd rfl e⟩⟩⟩⟩⟩⟩⟩⟩⟩⟩⟩⟩⟩
    repeat' first
      | unfold cVR_value
      | exact hs_w32 _
      | exact (hs_w32 _).1
      | exact hsB_o _
      | exact kA
      | exact rfl
      | exact Or.inr rfl
      | exact Or.inl rfl
      | exact h rfl   (by omega)
      | exact h rfl   (hsN0_z _)
      | exact h (by assumption)   (by omega)
      | exact h (by assumption)   (hsN0_z _)
      | exact hx (by assumption)  
      | contradiction
      | refine SHnum hA kA nA (by omega) ?_
      | refine SHflag hA kA nA (by omega) ?_
      | refine SHtold ?_
      | refine kOn_of hA ?_
      | refine kOn_of hn ?_
      | refine ⟨4000, 40000, ?_⟩
      | refine And.intro ?_ ?_
      | omega
      | intro _
  · rw [hsVR_13] at h hx
    dsimp only at h hx
    refine ⟨fun e => absurd e (by decide), fun _ => ⟨fun e => absurd e (by decide), fun _ => ⟨fun e => absurd e (by decide), fun _ => ⟨fun e => absurd e (by decide), fun _ => ⟨fun e => absurd e (by decide), fun _ => ⟨fun e => absurd e (by decide), fun _ => ⟨fun e => absurd e (by decide), fun _ => ⟨fun e => absurd e (by decide), fun _ => ⟨fun e => absurd e (by decide), fun _ => ⟨fun e => absurd e (by decide), fun _ => ⟨fun e => absurd e (by decide), fun _ => ⟨fun e => absurd e (by decide), fun _ => ⟨fun e => absurd e (by decide), fun _ => ⟨fun _ => ?_, fun e => absurd rfl e⟩⟩⟩⟩⟩⟩⟩⟩⟩⟩⟩⟩⟩⟩
    repeat' first
      | unfold cVR_found
      | exact hs_w32 _
      | exact (hs_w32 _).1
      | exact hsB_o _
      | exact kA
      | exact rfl
      | exact Or.inr rfl
      | exact Or.inl rfl
      | exact h rfl   (by omega)
      | exact h rfl   (hsN0_z _)
      | exact h (by assumption)   (by omega)
      | exact h (by assumption)   (hsN0_z _)
      | exact hx (by assumption)  
      | contradiction
      | refine SHnum hA kA nA (by omega) ?_
      | refine SHflag hA kA nA (by omega) ?_
      | refine SHtold ?_
      | refine kOn_of hA ?_
      | refine kOn_of hn ?_
      | refine ⟨4000, 40000, ?_⟩
      | refine And.intro ?_ ?_
      | omega
      | intro _
theorem SH_rulesCall {MC : Nat} {MS : Nat} {post : Int → Int → Int → Int → reT → Prop} {kd : Nat → Nat} {an : Nat → Nat} {al : Nat → Int → Int} {mX0_rules : Nat → Option Nat} {mX0_args : Nat → Option Nat} {RE_l0 : Int} {RE_mb : Int} {RE_kz : Int} {RE_S : reT} {ra : Nat → Nat} {x0 : Nat} {x1 : Int} {A : Nat} (hA : mX0_args x0 = some A) (kA : kd A = 7) (nA : an A = 8) (hn : mX0_rules x0 = some (ra 9)) (hM : 4000 ≤ MC ∧ 40000 ≤ MS) (h1 : 0 ≤ x1 ∧ x1 < 15) (hg : 1 ≤ RE_l0 ∧ RE_l0 ≤ 510 ∧ RE_mb < 80000) (h : ∀ (RE_l0' RE_mb' RE_kz' : Int), (RE_l0 ≤ RE_l0' ∧ RE_l0' ≤ 510) → (RE_mb ≤ RE_mb' ∧ RE_mb' ≤ RE_mb + 1) → (¬ (hsRE x1 (al A) RE_S).1 = -9223372036854775808) → post (hsRE x1 (al A) RE_S).1 RE_l0' RE_mb' RE_kz' (hsRE x1 (al A) RE_S).2) : wpSH_X0_rulesCall MC MS post kd an al mX0_rules mX0_args RE_l0 RE_mb RE_kz RE_S ra x0 x1 := by
  unfold wpSH_X0_rulesCall
  obtain rfl | rfl | rfl | rfl | rfl | rfl | rfl | rfl | rfl | rfl | rfl | rfl | rfl | rfl | rfl : x1 = 0 ∨ x1 = 1 ∨ x1 = 2 ∨ x1 = 3 ∨ x1 = 4 ∨ x1 = 5 ∨ x1 = 6 ∨ x1 = 7 ∨ x1 = 8 ∨ x1 = 9 ∨ x1 = 10 ∨ x1 = 11 ∨ x1 = 12 ∨ x1 = 13 ∨ x1 = 14 := by omega
  · rw [hsRE_0] at h
    dsimp only at h
    have hU := rqUp_b (x := w32 (al A 0)) (a := w32 (al A 1)) (b := w32 (al A 2)) ⟨hg.1, hg.2.1⟩ RE_S
    refine ⟨fun _ => ?_, fun e => absurd rfl e⟩
    repeat' first
      | unfold cRE_fact
      | exact hs_w32 _
      | exact (hs_w32 _).1
      | exact hsB_o _
      | exact kA
      | exact rfl
      | exact Or.inr rfl
      | exact Or.inl rfl
      | exact h _ _ _ (by omega) (by omega) (by omega)
      | exact h _ _ _ (by omega) (by omega) (hsN0_z _)
      | contradiction
      | refine SHnum hA kA nA (by omega) ?_
      | refine SHflag hA kA nA (by omega) ?_
      | refine SHtold ?_
      | refine kOn_of hA ?_
      | refine kOn_of hn ?_
      | refine ⟨4000, 40000, ?_⟩
      | refine And.intro ?_ ?_
      | omega
      | intro _
  · rw [hsRE_1] at h
    dsimp only at h
    refine ⟨fun e => absurd e (by decide), fun _ => ⟨fun _ => ?_, fun e => absurd rfl e⟩⟩
    repeat' first
      | unfold cRE_remove
      | exact hs_w32 _
      | exact (hs_w32 _).1
      | exact hsB_o _
      | exact kA
      | exact rfl
      | exact Or.inr rfl
      | exact Or.inl rfl
      | exact h _ _ _ (by omega) (by omega) (by omega)
      | exact h _ _ _ (by omega) (by omega) (hsN0_z _)
      | contradiction
      | refine SHnum hA kA nA (by omega) ?_
      | refine SHflag hA kA nA (by omega) ?_
      | refine SHtold ?_
      | refine kOn_of hA ?_
      | refine kOn_of hn ?_
      | refine ⟨4000, 40000, ?_⟩
      | refine And.intro ?_ ?_
      | omega
      | intro _
  · rw [hsRE_2] at h
    dsimp only at h
    refine ⟨fun e => absurd e (by decide), fun _ => ⟨fun e => absurd e (by decide), fun _ => ⟨fun _ => ?_, fun e => absurd rfl e⟩⟩⟩
    repeat' first
      | unfold cRE_rule
      | exact hs_w32 _
      | exact (hs_w32 _).1
      | exact hsB_o _
      | exact kA
      | exact rfl
      | exact Or.inr rfl
      | exact Or.inl rfl
      | exact h _ _ _ (by omega) (by omega) (by omega)
      | exact h _ _ _ (by omega) (by omega) (hsN0_z _)
      | contradiction
      | refine SHnum hA kA nA (by omega) ?_
      | refine SHflag hA kA nA (by omega) ?_
      | refine SHtold ?_
      | refine kOn_of hA ?_
      | refine kOn_of hn ?_
      | refine ⟨4000, 40000, ?_⟩
      | refine And.intro ?_ ?_
      | omega
      | intro _
  · rw [hsRE_3] at h
    dsimp only at h
    refine ⟨fun e => absurd e (by decide), fun _ => ⟨fun e => absurd e (by decide), fun _ => ⟨fun e => absurd e (by decide), fun _ => ⟨fun _ => ?_, fun e => absurd rfl e⟩⟩⟩⟩
    repeat' first
      | unfold cRE_body
      | exact hs_w32 _
      | exact (hs_w32 _).1
      | exact hsB_o _
      | exact kA
      | exact rfl
      | exact Or.inr rfl
      | exact Or.inl rfl
      | exact h _ _ _ (by omega) (by omega) (by omega)
      | exact h _ _ _ (by omega) (by omega) (hsN0_z _)
      | contradiction
      | refine SHnum hA kA nA (by omega) ?_
      | refine SHflag hA kA nA (by omega) ?_
      | refine SHtold ?_
      | refine kOn_of hA ?_
      | refine kOn_of hn ?_
      | refine ⟨4000, 40000, ?_⟩
      | refine And.intro ?_ ?_
      | omega
      | intro _
  · rw [hsRE_4] at h
    dsimp only at h
    refine ⟨fun e => absurd e (by decide), fun _ => ⟨fun e => absurd e (by decide), fun _ => ⟨fun e => absurd e (by decide), fun _ => ⟨fun e => absurd e (by decide), fun _ => ⟨fun _ => ?_, fun e => absurd rfl e⟩⟩⟩⟩⟩
    repeat' first
      | unfold cRE_filter
      | exact hs_w32 _
      | exact (hs_w32 _).1
      | exact hsB_o _
      | exact kA
      | exact rfl
      | exact Or.inr rfl
      | exact Or.inl rfl
      | exact h _ _ _ (by omega) (by omega) (by omega)
      | exact h _ _ _ (by omega) (by omega) (hsN0_z _)
      | contradiction
      | refine SHnum hA kA nA (by omega) ?_
      | refine SHflag hA kA nA (by omega) ?_
      | refine SHtold ?_
      | refine kOn_of hA ?_
      | refine kOn_of hn ?_
      | refine ⟨4000, 40000, ?_⟩
      | refine And.intro ?_ ?_
      | omega
      | intro _
  · rw [hsRE_5] at h
    dsimp only at h
    refine ⟨fun e => absurd e (by decide), fun _ => ⟨fun e => absurd e (by decide), fun _ => ⟨fun e => absurd e (by decide), fun _ => ⟨fun e => absurd e (by decide), fun _ => ⟨fun e => absurd e (by decide), fun _ => ⟨fun _ => ?_, fun e => absurd rfl e⟩⟩⟩⟩⟩⟩
    repeat' first
      | unfold cRE_aggregate
      | exact hs_w32 _
      | exact (hs_w32 _).1
      | exact hsB_o _
      | exact kA
      | exact rfl
      | exact Or.inr rfl
      | exact Or.inl rfl
      | exact h _ _ _ (by omega) (by omega) (by omega)
      | exact h _ _ _ (by omega) (by omega) (hsN0_z _)
      | contradiction
      | refine SHnum hA kA nA (by omega) ?_
      | refine SHflag hA kA nA (by omega) ?_
      | refine SHtold ?_
      | refine kOn_of hA ?_
      | refine kOn_of hn ?_
      | refine ⟨4000, 40000, ?_⟩
      | refine And.intro ?_ ?_
      | omega
      | intro _
  · rw [hsRE_6] at h
    dsimp only at h
    refine ⟨fun e => absurd e (by decide), fun _ => ⟨fun e => absurd e (by decide), fun _ => ⟨fun e => absurd e (by decide), fun _ => ⟨fun e => absurd e (by decide), fun _ => ⟨fun e => absurd e (by decide), fun _ => ⟨fun e => absurd e (by decide), fun _ => ⟨fun _ => ?_, fun e => absurd rfl e⟩⟩⟩⟩⟩⟩⟩
    repeat' first
      | unfold cRE_drop
      | exact hs_w32 _
      | exact (hs_w32 _).1
      | exact hsB_o _
      | exact kA
      | exact rfl
      | exact Or.inr rfl
      | exact Or.inl rfl
      | exact h _ _ _ (by omega) (by omega) (by omega)
      | exact h _ _ _ (by omega) (by omega) (hsN0_z _)
      | contradiction
      | refine SHnum hA kA nA (by omega) ?_
      | refine SHflag hA kA nA (by omega) ?_
      | refine SHtold ?_
      | refine kOn_of hA ?_
      | refine kOn_of hn ?_
      | refine ⟨4000, 40000, ?_⟩
      | refine And.intro ?_ ?_
      | omega
      | intro _
  · rw [hsRE_7] at h
    dsimp only at h
    refine ⟨fun e => absurd e (by decide), fun _ => ⟨fun e => absurd e (by decide), fun _ => ⟨fun e => absurd e (by decide), fun _ => ⟨fun e => absurd e (by decide), fun _ => ⟨fun e => absurd e (by decide), fun _ => ⟨fun e => absurd e (by decide), fun _ => ⟨fun e => absurd e (by decide), fun _ => ⟨fun _ => ?_, fun e => absurd rfl e⟩⟩⟩⟩⟩⟩⟩⟩
    repeat' first
      | unfold cRE_safe
      | exact hs_w32 _
      | exact (hs_w32 _).1
      | exact hsB_o _
      | exact kA
      | exact rfl
      | exact Or.inr rfl
      | exact Or.inl rfl
      | exact h _ _ _ (by omega) (by omega) (by omega)
      | exact h _ _ _ (by omega) (by omega) (hsN0_z _)
      | contradiction
      | refine SHnum hA kA nA (by omega) ?_
      | refine SHflag hA kA nA (by omega) ?_
      | refine SHtold ?_
      | refine kOn_of hA ?_
      | refine kOn_of hn ?_
      | refine ⟨4000, 40000, ?_⟩
      | refine And.intro ?_ ?_
      | omega
      | intro _
  · rw [hsRE_8] at h
    dsimp only at h
    refine ⟨fun e => absurd e (by decide), fun _ => ⟨fun e => absurd e (by decide), fun _ => ⟨fun e => absurd e (by decide), fun _ => ⟨fun e => absurd e (by decide), fun _ => ⟨fun e => absurd e (by decide), fun _ => ⟨fun e => absurd e (by decide), fun _ => ⟨fun e => absurd e (by decide), fun _ => ⟨fun e => absurd e (by decide), fun _ => ⟨fun _ => ?_, fun e => absurd rfl e⟩⟩⟩⟩⟩⟩⟩⟩⟩
    repeat' first
      | unfold cRE_run
      | exact hs_w32 _
      | exact (hs_w32 _).1
      | exact hsB_o _
      | exact kA
      | exact rfl
      | exact Or.inr rfl
      | exact Or.inl rfl
      | exact h _ _ _ (by omega) (by omega) (by omega)
      | exact h _ _ _ (by omega) (by omega) (hsN0_z _)
      | contradiction
      | refine SHnum hA kA nA (by omega) ?_
      | refine SHflag hA kA nA (by omega) ?_
      | refine SHtold ?_
      | refine kOn_of hA ?_
      | refine kOn_of hn ?_
      | refine ⟨4000, 40000, ?_⟩
      | refine And.intro ?_ ?_
      | omega
      | intro _
  · rw [hsRE_9] at h
    dsimp only at h
    refine ⟨fun e => absurd e (by decide), fun _ => ⟨fun e => absurd e (by decide), fun _ => ⟨fun e => absurd e (by decide), fun _ => ⟨fun e => absurd e (by decide), fun _ => ⟨fun e => absurd e (by decide), fun _ => ⟨fun e => absurd e (by decide), fun _ => ⟨fun e => absurd e (by decide), fun _ => ⟨fun e => absurd e (by decide), fun _ => ⟨fun e => absurd e (by decide), fun _ => ⟨fun _ => ?_, fun e => absurd rfl e⟩⟩⟩⟩⟩⟩⟩⟩⟩⟩
    repeat' first
      | unfold cRE_stratum
      | exact hs_w32 _
      | exact (hs_w32 _).1
      | exact hsB_o _
      | exact kA
      | exact rfl
      | exact Or.inr rfl
      | exact Or.inl rfl
      | exact h _ _ _ (by omega) (by omega) (by omega)
      | exact h _ _ _ (by omega) (by omega) (hsN0_z _)
      | contradiction
      | refine SHnum hA kA nA (by omega) ?_
      | refine SHflag hA kA nA (by omega) ?_
      | refine SHtold ?_
      | refine kOn_of hA ?_
      | refine kOn_of hn ?_
      | refine ⟨4000, 40000, ?_⟩
      | refine And.intro ?_ ?_
      | omega
      | intro _
  · rw [hsRE_10] at h
    dsimp only at h
    refine ⟨fun e => absurd e (by decide), fun _ => ⟨fun e => absurd e (by decide), fun _ => ⟨fun e => absurd e (by decide), fun _ => ⟨fun e => absurd e (by decide), fun _ => ⟨fun e => absurd e (by decide), fun _ => ⟨fun e => absurd e (by decide), fun _ => ⟨fun e => absurd e (by decide), fun _ => ⟨fun e => absurd e (by decide), fun _ => ⟨fun e => absurd e (by decide), fun _ => ⟨fun e => absurd e (by decide), fun _ => ⟨fun _ => ?_, fun e => absurd rfl e⟩⟩⟩⟩⟩⟩⟩⟩⟩⟩⟩
    repeat' first
      | unfold cRE_holds
      | exact hs_w32 _
      | exact (hs_w32 _).1
      | exact hsB_o _
      | exact kA
      | exact rfl
      | exact Or.inr rfl
      | exact Or.inl rfl
      | exact h _ _ _ (by omega) (by omega) (by omega)
      | exact h _ _ _ (by omega) (by omega) (hsN0_z _)
      | contradiction
      | refine SHnum hA kA nA (by omega) ?_
      | refine SHflag hA kA nA (by omega) ?_
      | refine SHtold ?_
      | refine kOn_of hA ?_
      | refine kOn_of hn ?_
      | refine ⟨4000, 40000, ?_⟩
      | refine And.intro ?_ ?_
      | omega
      | intro _
  · rw [hsRE_11] at h
    dsimp only at h
    refine ⟨fun e => absurd e (by decide), fun _ => ⟨fun e => absurd e (by decide), fun _ => ⟨fun e => absurd e (by decide), fun _ => ⟨fun e => absurd e (by decide), fun _ => ⟨fun e => absurd e (by decide), fun _ => ⟨fun e => absurd e (by decide), fun _ => ⟨fun e => absurd e (by decide), fun _ => ⟨fun e => absurd e (by decide), fun _ => ⟨fun e => absurd e (by decide), fun _ => ⟨fun e => absurd e (by decide), fun _ => ⟨fun e => absurd e (by decide), fun _ => ⟨fun _ => ?_, fun e => absurd rfl e⟩⟩⟩⟩⟩⟩⟩⟩⟩⟩⟩⟩
    repeat' first
      | unfold cRE_round
      | exact hs_w32 _
      | exact (hs_w32 _).1
      | exact hsB_o _
      | exact kA
      | exact rfl
      | exact Or.inr rfl
      | exact Or.inl rfl
      | exact h _ _ _ (by omega) (by omega) (by omega)
      | exact h _ _ _ (by omega) (by omega) (hsN0_z _)
      | contradiction
      | refine SHnum hA kA nA (by omega) ?_
      | refine SHflag hA kA nA (by omega) ?_
      | refine SHtold ?_
      | refine kOn_of hA ?_
      | refine kOn_of hn ?_
      | refine ⟨4000, 40000, ?_⟩
      | refine And.intro ?_ ?_
      | omega
      | intro _
  · rw [hsRE_12] at h
    dsimp only at h
    refine ⟨fun e => absurd e (by decide), fun _ => ⟨fun e => absurd e (by decide), fun _ => ⟨fun e => absurd e (by decide), fun _ => ⟨fun e => absurd e (by decide), fun _ => ⟨fun e => absurd e (by decide), fun _ => ⟨fun e => absurd e (by decide), fun _ => ⟨fun e => absurd e (by decide), fun _ => ⟨fun e => absurd e (by decide), fun _ => ⟨fun e => absurd e (by decide), fun _ => ⟨fun e => absurd e (by decide), fun _ => ⟨fun e => absurd e (by decide), fun _ => ⟨fun e => absurd e (by decide), fun _ => ⟨fun _ => ?_, fun e => absurd rfl e⟩⟩⟩⟩⟩⟩⟩⟩⟩⟩⟩⟩⟩
    repeat' first
      | unfold cRE_counts
      | exact hs_w32 _
      | exact (hs_w32 _).1
      | exact hsB_o _
      | exact kA
      | exact rfl
      | exact Or.inr rfl
      | exact Or.inl rfl
      | exact h _ _ _ (by omega) (by omega) (by omega)
      | exact h _ _ _ (by omega) (by omega) (hsN0_z _)
      | contradiction
      | refine SHnum hA kA nA (by omega) ?_
      | refine SHflag hA kA nA (by omega) ?_
      | refine SHtold ?_
      | refine kOn_of hA ?_
      | refine kOn_of hn ?_
      | refine ⟨4000, 40000, ?_⟩
      | refine And.intro ?_ ?_
      | omega
      | intro _
  · rw [hsRE_13] at h
    dsimp only at h
    refine ⟨fun e => absurd e (by decide), fun _ => ⟨fun e => absurd e (by decide), fun _ => ⟨fun e => absurd e (by decide), fun _ => ⟨fun e => absurd e (by decide), fun _ => ⟨fun e => absurd e (by decide), fun _ => ⟨fun e => absurd e (by decide), fun _ => ⟨fun e => absurd e (by decide), fun _ => ⟨fun e => absurd e (by decide), fun _ => ⟨fun e => absurd e (by decide), fun _ => ⟨fun e => absurd e (by decide), fun _ => ⟨fun e => absurd e (by decide), fun _ => ⟨fun e => absurd e (by decide), fun _ => ⟨fun e => absurd e (by decide), fun _ => ⟨fun _ => ?_, fun e => absurd rfl e⟩⟩⟩⟩⟩⟩⟩⟩⟩⟩⟩⟩⟩⟩
    repeat' first
      | unfold cRE_row
      | exact hs_w32 _
      | exact (hs_w32 _).1
      | exact hsB_o _
      | exact kA
      | exact rfl
      | exact Or.inr rfl
      | exact Or.inl rfl
      | exact h _ _ _ (by omega) (by omega) (by omega)
      | exact h _ _ _ (by omega) (by omega) (hsN0_z _)
      | contradiction
      | refine SHnum hA kA nA (by omega) ?_
      | refine SHflag hA kA nA (by omega) ?_
      | refine SHtold ?_
      | refine kOn_of hA ?_
      | refine kOn_of hn ?_
      | refine ⟨4000, 40000, ?_⟩
      | refine And.intro ?_ ?_
      | omega
      | intro _
  · rw [hsRE_14] at h
    dsimp only at h
    refine ⟨fun e => absurd e (by decide), fun _ => ⟨fun e => absurd e (by decide), fun _ => ⟨fun e => absurd e (by decide), fun _ => ⟨fun e => absurd e (by decide), fun _ => ⟨fun e => absurd e (by decide), fun _ => ⟨fun e => absurd e (by decide), fun _ => ⟨fun e => absurd e (by decide), fun _ => ⟨fun e => absurd e (by decide), fun _ => ⟨fun e => absurd e (by decide), fun _ => ⟨fun e => absurd e (by decide), fun _ => ⟨fun e => absurd e (by decide), fun _ => ⟨fun e => absurd e (by decide), fun _ => ⟨fun e => absurd e (by decide), fun _ => ⟨fun e => absurd e (by decide), fun _ => ⟨fun _ => ?_, fun e => absurd rfl e⟩⟩⟩⟩⟩⟩⟩⟩⟩⟩⟩⟩⟩⟩⟩
    repeat' first
      | unfold cRE_size
      | exact hs_w32 _
      | exact (hs_w32 _).1
      | exact hsB_o _
      | exact kA
      | exact rfl
      | exact Or.inr rfl
      | exact Or.inl rfl
      | exact h _ _ _ (by omega) (by omega) (by omega)
      | exact h _ _ _ (by omega) (by omega) (hsN0_z _)
      | contradiction
      | refine SHnum hA kA nA (by omega) ?_
      | refine SHflag hA kA nA (by omega) ?_
      | refine SHtold ?_
      | refine kOn_of hA ?_
      | refine kOn_of hn ?_
      | refine ⟨4000, 40000, ?_⟩
      | refine And.intro ?_ ?_
      | omega
      | intro _
theorem SH_rewriteCall {MC : Nat} {MS : Nat} {post : Int → qrT → Prop} {kd : Nat → Nat} {an : Nat → Nat} {al : Nat → Int → Int} {mX0_rewrite : Nat → Option Nat} {mX0_args : Nat → Option Nat} {QR_S : qrT} {ra : Nat → Nat} {x0 : Nat} {x1 : Int} {A : Nat} (hA : mX0_args x0 = some A) (kA : kd A = 7) (nA : an A = 8) (hn : mX0_rewrite x0 = some (ra 10)) (hM : 4000 ≤ MC ∧ 40000 ≤ MS) (h1 : 0 ≤ x1 ∧ x1 < 13) (h : (¬ (hsQR x1 (al A) QR_S).1 = -9223372036854775808) → post (hsQR x1 (al A) QR_S).1  (hsQR x1 (al A) QR_S).2) : wpSH_X0_rewriteCall MC MS post kd an al mX0_rewrite mX0_args QR_S ra x0 x1 := by
  unfold wpSH_X0_rewriteCall
  obtain rfl | rfl | rfl | rfl | rfl | rfl | rfl | rfl | rfl | rfl | rfl | rfl | rfl : x1 = 0 ∨ x1 = 1 ∨ x1 = 2 ∨ x1 = 3 ∨ x1 = 4 ∨ x1 = 5 ∨ x1 = 6 ∨ x1 = 7 ∨ x1 = 8 ∨ x1 = 9 ∨ x1 = 10 ∨ x1 = 11 ∨ x1 = 12 := by omega
  · rw [hsQR_0] at h
    dsimp only at h
    refine ⟨fun _ => ?_, fun e => absurd rfl e⟩
    repeat' first
      | unfold cQR_axiom
      | exact hs_w32 _
      | exact (hs_w32 _).1
      | exact hsB_o _
      | exact kA
      | exact rfl
      | exact Or.inr rfl
      | exact Or.inl rfl
      | exact h   (by omega)
      | exact h   (hsN0_z _)
      | contradiction
      | refine SHnum hA kA nA (by omega) ?_
      | refine SHflag hA kA nA (by omega) ?_
      | refine SHtold ?_
      | refine kOn_of hA ?_
      | refine kOn_of hn ?_
      | refine ⟨4000, 40000, ?_⟩
      | refine And.intro ?_ ?_
      | omega
      | intro _
  · rw [hsQR_1] at h
    dsimp only at h
    refine ⟨fun e => absurd e (by decide), fun _ => ⟨fun _ => ?_, fun e => absurd rfl e⟩⟩
    repeat' first
      | unfold cQR_fact
      | exact hs_w32 _
      | exact (hs_w32 _).1
      | exact hsB_o _
      | exact kA
      | exact rfl
      | exact Or.inr rfl
      | exact Or.inl rfl
      | exact h   (by omega)
      | exact h   (hsN0_z _)
      | contradiction
      | refine SHnum hA kA nA (by omega) ?_
      | refine SHflag hA kA nA (by omega) ?_
      | refine SHtold ?_
      | refine kOn_of hA ?_
      | refine kOn_of hn ?_
      | refine ⟨4000, 40000, ?_⟩
      | refine And.intro ?_ ?_
      | omega
      | intro _
  · rw [hsQR_2] at h
    dsimp only at h
    refine ⟨fun e => absurd e (by decide), fun _ => ⟨fun e => absurd e (by decide), fun _ => ⟨fun _ => ?_, fun e => absurd rfl e⟩⟩⟩
    repeat' first
      | unfold cQR_forget
      | exact hs_w32 _
      | exact (hs_w32 _).1
      | exact hsB_o _
      | exact kA
      | exact rfl
      | exact Or.inr rfl
      | exact Or.inl rfl
      | exact h   (by omega)
      | exact h   (hsN0_z _)
      | contradiction
      | refine SHnum hA kA nA (by omega) ?_
      | refine SHflag hA kA nA (by omega) ?_
      | refine SHtold ?_
      | refine kOn_of hA ?_
      | refine kOn_of hn ?_
      | refine ⟨4000, 40000, ?_⟩
      | refine And.intro ?_ ?_
      | omega
      | intro _
  · rw [hsQR_3] at h
    dsimp only at h
    refine ⟨fun e => absurd e (by decide), fun _ => ⟨fun e => absurd e (by decide), fun _ => ⟨fun e => absurd e (by decide), fun _ => ⟨fun _ => ?_, fun e => absurd rfl e⟩⟩⟩⟩
    repeat' first
      | unfold cQR_question
      | exact hs_w32 _
      | exact (hs_w32 _).1
      | exact hsB_o _
      | exact kA
      | exact rfl
      | exact Or.inr rfl
      | exact Or.inl rfl
      | exact h   (by omega)
      | exact h   (hsN0_z _)
      | contradiction
      | refine SHnum hA kA nA (by omega) ?_
      | refine SHflag hA kA nA (by omega) ?_
      | refine SHtold ?_
      | refine kOn_of hA ?_
      | refine kOn_of hn ?_
      | refine ⟨4000, 40000, ?_⟩
      | refine And.intro ?_ ?_
      | omega
      | intro _
  · rw [hsQR_4] at h
    dsimp only at h
    refine ⟨fun e => absurd e (by decide), fun _ => ⟨fun e => absurd e (by decide), fun _ => ⟨fun e => absurd e (by decide), fun _ => ⟨fun e => absurd e (by decide), fun _ => ⟨fun _ => ?_, fun e => absurd rfl e⟩⟩⟩⟩⟩
    repeat' first
      | unfold cQR_atom
      | exact hs_w32 _
      | exact (hs_w32 _).1
      | exact hsB_o _
      | exact kA
      | exact rfl
      | exact Or.inr rfl
      | exact Or.inl rfl
      | exact h   (by omega)
      | exact h   (hsN0_z _)
      | contradiction
      | refine SHnum hA kA nA (by omega) ?_
      | refine SHflag hA kA nA (by omega) ?_
      | refine SHtold ?_
      | refine kOn_of hA ?_
      | refine kOn_of hn ?_
      | refine ⟨4000, 40000, ?_⟩
      | refine And.intro ?_ ?_
      | omega
      | intro _
  · rw [hsQR_5] at h
    dsimp only at h
    refine ⟨fun e => absurd e (by decide), fun _ => ⟨fun e => absurd e (by decide), fun _ => ⟨fun e => absurd e (by decide), fun _ => ⟨fun e => absurd e (by decide), fun _ => ⟨fun e => absurd e (by decide), fun _ => ⟨fun _ => ?_, fun e => absurd rfl e⟩⟩⟩⟩⟩⟩
    repeat' first
      | unfold cQR_forms
      | exact hs_w32 _
      | exact (hs_w32 _).1
      | exact hsB_o _
      | exact kA
      | exact rfl
      | exact Or.inr rfl
      | exact Or.inl rfl
      | exact h   (by omega)
      | exact h   (hsN0_z _)
      | contradiction
      | refine SHnum hA kA nA (by omega) ?_
      | refine SHflag hA kA nA (by omega) ?_
      | refine SHtold ?_
      | refine kOn_of hA ?_
      | refine kOn_of hn ?_
      | refine ⟨4000, 40000, ?_⟩
      | refine And.intro ?_ ?_
      | omega
      | intro _
  · rw [hsQR_6] at h
    dsimp only at h
    refine ⟨fun e => absurd e (by decide), fun _ => ⟨fun e => absurd e (by decide), fun _ => ⟨fun e => absurd e (by decide), fun _ => ⟨fun e => absurd e (by decide), fun _ => ⟨fun e => absurd e (by decide), fun _ => ⟨fun e => absurd e (by decide), fun _ => ⟨fun _ => ?_, fun e => absurd rfl e⟩⟩⟩⟩⟩⟩⟩
    repeat' first
      | unfold cQR_form
      | exact hs_w32 _
      | exact (hs_w32 _).1
      | exact hsB_o _
      | exact kA
      | exact rfl
      | exact Or.inr rfl
      | exact Or.inl rfl
      | exact h   (by omega)
      | exact h   (hsN0_z _)
      | contradiction
      | refine SHnum hA kA nA (by omega) ?_
      | refine SHflag hA kA nA (by omega) ?_
      | refine SHtold ?_
      | refine kOn_of hA ?_
      | refine kOn_of hn ?_
      | refine ⟨4000, 40000, ?_⟩
      | refine And.intro ?_ ?_
      | omega
      | intro _
  · rw [hsQR_7] at h
    dsimp only at h
    refine ⟨fun e => absurd e (by decide), fun _ => ⟨fun e => absurd e (by decide), fun _ => ⟨fun e => absurd e (by decide), fun _ => ⟨fun e => absurd e (by decide), fun _ => ⟨fun e => absurd e (by decide), fun _ => ⟨fun e => absurd e (by decide), fun _ => ⟨fun e => absurd e (by decide), fun _ => ⟨fun _ => ?_, fun e => absurd rfl e⟩⟩⟩⟩⟩⟩⟩⟩
    repeat' first
      | unfold cQR_run
      | exact hs_w32 _
      | exact (hs_w32 _).1
      | exact hsB_o _
      | exact kA
      | exact rfl
      | exact Or.inr rfl
      | exact Or.inl rfl
      | exact h   (by omega)
      | exact h   (hsN0_z _)
      | contradiction
      | refine SHnum hA kA nA (by omega) ?_
      | refine SHflag hA kA nA (by omega) ?_
      | refine SHtold ?_
      | refine kOn_of hA ?_
      | refine kOn_of hn ?_
      | refine ⟨4000, 40000, ?_⟩
      | refine And.intro ?_ ?_
      | omega
      | intro _
  · rw [hsQR_8] at h
    dsimp only at h
    refine ⟨fun e => absurd e (by decide), fun _ => ⟨fun e => absurd e (by decide), fun _ => ⟨fun e => absurd e (by decide), fun _ => ⟨fun e => absurd e (by decide), fun _ => ⟨fun e => absurd e (by decide), fun _ => ⟨fun e => absurd e (by decide), fun _ => ⟨fun e => absurd e (by decide), fun _ => ⟨fun e => absurd e (by decide), fun _ => ⟨fun _ => ?_, fun e => absurd rfl e⟩⟩⟩⟩⟩⟩⟩⟩⟩
    repeat' first
      | unfold cQR_answer
      | exact hs_w32 _
      | exact (hs_w32 _).1
      | exact hsB_o _
      | exact kA
      | exact rfl
      | exact Or.inr rfl
      | exact Or.inl rfl
      | exact h   (by omega)
      | exact h   (hsN0_z _)
      | contradiction
      | refine SHnum hA kA nA (by omega) ?_
      | refine SHflag hA kA nA (by omega) ?_
      | refine SHtold ?_
      | refine kOn_of hA ?_
      | refine kOn_of hn ?_
      | refine ⟨4000, 40000, ?_⟩
      | refine And.intro ?_ ?_
      | omega
      | intro _
  · rw [hsQR_9] at h
    dsimp only at h
    refine ⟨fun e => absurd e (by decide), fun _ => ⟨fun e => absurd e (by decide), fun _ => ⟨fun e => absurd e (by decide), fun _ => ⟨fun e => absurd e (by decide), fun _ => ⟨fun e => absurd e (by decide), fun _ => ⟨fun e => absurd e (by decide), fun _ => ⟨fun e => absurd e (by decide), fun _ => ⟨fun e => absurd e (by decide), fun _ => ⟨fun e => absurd e (by decide), fun _ => ⟨fun _ => ?_, fun e => absurd rfl e⟩⟩⟩⟩⟩⟩⟩⟩⟩⟩
    repeat' first
      | unfold cQR_why
      | exact hs_w32 _
      | exact (hs_w32 _).1
      | exact hsB_o _
      | exact kA
      | exact rfl
      | exact Or.inr rfl
      | exact Or.inl rfl
      | exact h   (by omega)
      | exact h   (hsN0_z _)
      | contradiction
      | refine SHnum hA kA nA (by omega) ?_
      | refine SHflag hA kA nA (by omega) ?_
      | refine SHtold ?_
      | refine kOn_of hA ?_
      | refine kOn_of hn ?_
      | refine ⟨4000, 40000, ?_⟩
      | refine And.intro ?_ ?_
      | omega
      | intro _
  · rw [hsQR_10] at h
    dsimp only at h
    refine ⟨fun e => absurd e (by decide), fun _ => ⟨fun e => absurd e (by decide), fun _ => ⟨fun e => absurd e (by decide), fun _ => ⟨fun e => absurd e (by decide), fun _ => ⟨fun e => absurd e (by decide), fun _ => ⟨fun e => absurd e (by decide), fun _ => ⟨fun e => absurd e (by decide), fun _ => ⟨fun e => absurd e (by decide), fun _ => ⟨fun e => absurd e (by decide), fun _ => ⟨fun e => absurd e (by decide), fun _ => ⟨fun _ => ?_, fun e => absurd rfl e⟩⟩⟩⟩⟩⟩⟩⟩⟩⟩⟩
    repeat' first
      | unfold cQR_broken
      | exact hs_w32 _
      | exact (hs_w32 _).1
      | exact hsB_o _
      | exact kA
      | exact rfl
      | exact Or.inr rfl
      | exact Or.inl rfl
      | exact h   (by omega)
      | exact h   (hsN0_z _)
      | contradiction
      | refine SHnum hA kA nA (by omega) ?_
      | refine SHflag hA kA nA (by omega) ?_
      | refine SHtold ?_
      | refine kOn_of hA ?_
      | refine kOn_of hn ?_
      | refine ⟨4000, 40000, ?_⟩
      | refine And.intro ?_ ?_
      | omega
      | intro _
  · rw [hsQR_11] at h
    dsimp only at h
    refine ⟨fun e => absurd e (by decide), fun _ => ⟨fun e => absurd e (by decide), fun _ => ⟨fun e => absurd e (by decide), fun _ => ⟨fun e => absurd e (by decide), fun _ => ⟨fun e => absurd e (by decide), fun _ => ⟨fun e => absurd e (by decide), fun _ => ⟨fun e => absurd e (by decide), fun _ => ⟨fun e => absurd e (by decide), fun _ => ⟨fun e => absurd e (by decide), fun _ => ⟨fun e => absurd e (by decide), fun _ => ⟨fun e => absurd e (by decide), fun _ => ⟨fun _ => ?_, fun e => absurd rfl e⟩⟩⟩⟩⟩⟩⟩⟩⟩⟩⟩⟩
    repeat' first
      | unfold cQR_count
      | exact hs_w32 _
      | exact (hs_w32 _).1
      | exact hsB_o _
      | exact kA
      | exact rfl
      | exact Or.inr rfl
      | exact Or.inl rfl
      | exact h   (by omega)
      | exact h   (hsN0_z _)
      | contradiction
      | refine SHnum hA kA nA (by omega) ?_
      | refine SHflag hA kA nA (by omega) ?_
      | refine SHtold ?_
      | refine kOn_of hA ?_
      | refine kOn_of hn ?_
      | refine ⟨4000, 40000, ?_⟩
      | refine And.intro ?_ ?_
      | omega
      | intro _
  · rw [hsQR_12] at h
    dsimp only at h
    refine ⟨fun e => absurd e (by decide), fun _ => ⟨fun e => absurd e (by decide), fun _ => ⟨fun e => absurd e (by decide), fun _ => ⟨fun e => absurd e (by decide), fun _ => ⟨fun e => absurd e (by decide), fun _ => ⟨fun e => absurd e (by decide), fun _ => ⟨fun e => absurd e (by decide), fun _ => ⟨fun e => absurd e (by decide), fun _ => ⟨fun e => absurd e (by decide), fun _ => ⟨fun e => absurd e (by decide), fun _ => ⟨fun e => absurd e (by decide), fun _ => ⟨fun e => absurd e (by decide), fun _ => ⟨fun _ => ?_, fun e => absurd rfl e⟩⟩⟩⟩⟩⟩⟩⟩⟩⟩⟩⟩⟩
    repeat' first
      | unfold cQR_clear
      | exact hs_w32 _
      | exact (hs_w32 _).1
      | exact hsB_o _
      | exact kA
      | exact rfl
      | exact Or.inr rfl
      | exact Or.inl rfl
      | exact h   (by omega)
      | exact h   (hsN0_z _)
      | contradiction
      | refine SHnum hA kA nA (by omega) ?_
      | refine SHflag hA kA nA (by omega) ?_
      | refine SHtold ?_
      | refine kOn_of hA ?_
      | refine kOn_of hn ?_
      | refine ⟨4000, 40000, ?_⟩
      | refine And.intro ?_ ?_
      | omega
      | intro _
theorem SH_diskCall {MC : Nat} {MS : Nat} {post : Int → Int → KS → Prop} {kd : Nat → Nat} {an : Nat → Nat} {al : Nat → Int → Int} {mX0_disk : Nat → Option Nat} {mX0_args : Nat → Option Nat} {KD_T : Int} {KD_S : KS} {ra : Nat → Nat} {x0 : Nat} {x1 : Int} {A : Nat} (hA : mX0_args x0 = some A) (kA : kd A = 7) (nA : an A = 8) (hn : mX0_disk x0 = some (ra 11)) (hM : 4000 ≤ MC ∧ 40000 ≤ MS) (h1 : 0 ≤ x1 ∧ x1 < 11) (hg : 0 ≤ KD_T ∧ KD_T ≤ 200) (h : ∀ (KD_T' : Int), (KD_T ≤ KD_T' ∧ KD_T' ≤ KD_T + 1) → (¬ (hsKD x1 (al A) KD_S).1 = -9223372036854775808) → post (hsKD x1 (al A) KD_S).1 KD_T' (hsKD x1 (al A) KD_S).2) : wpSH_X0_diskCall MC MS post kd an al mX0_disk mX0_args KD_T KD_S ra x0 x1 := by
  unfold wpSH_X0_diskCall
  obtain rfl | rfl | rfl | rfl | rfl | rfl | rfl | rfl | rfl | rfl | rfl : x1 = 0 ∨ x1 = 1 ∨ x1 = 2 ∨ x1 = 3 ∨ x1 = 4 ∨ x1 = 5 ∨ x1 = 6 ∨ x1 = 7 ∨ x1 = 8 ∨ x1 = 9 ∨ x1 = 10 := by omega
  · rw [hsKD_0] at h
    dsimp only at h
    refine ⟨fun _ => ?_, fun e => absurd rfl e⟩
    repeat' first
      | unfold cKD_page
      | exact hs_w32 _
      | exact (hs_w32 _).1
      | exact hsB_o _
      | exact kA
      | exact rfl
      | exact Or.inr rfl
      | exact Or.inl rfl
      | exact h _ (by omega) (by omega)
      | exact h _ (by omega) (hsN0_z _)
      | contradiction
      | refine SHnum hA kA nA (by omega) ?_
      | refine SHflag hA kA nA (by omega) ?_
      | refine SHtold ?_
      | refine kOn_of hA ?_
      | refine kOn_of hn ?_
      | refine ⟨4000, 40000, ?_⟩
      | refine And.intro ?_ ?_
      | omega
      | intro _
  · rw [hsKD_1] at h
    dsimp only at h
    refine ⟨fun e => absurd e (by decide), fun _ => ⟨fun _ => ?_, fun e => absurd rfl e⟩⟩
    repeat' first
      | unfold cKD_commit
      | exact hs_w32 _
      | exact (hs_w32 _).1
      | exact hsB_o _
      | exact kA
      | exact rfl
      | exact Or.inr rfl
      | exact Or.inl rfl
      | exact h _ (by omega) (by omega)
      | exact h _ (by omega) (hsN0_z _)
      | contradiction
      | refine SHnum hA kA nA (by omega) ?_
      | refine SHflag hA kA nA (by omega) ?_
      | refine SHtold ?_
      | refine kOn_of hA ?_
      | refine kOn_of hn ?_
      | refine ⟨4000, 40000, ?_⟩
      | refine And.intro ?_ ?_
      | omega
      | intro _
  · rw [hsKD_2] at h
    dsimp only at h
    refine ⟨fun e => absurd e (by decide), fun _ => ⟨fun e => absurd e (by decide), fun _ => ⟨fun _ => ?_, fun e => absurd rfl e⟩⟩⟩
    repeat' first
      | unfold cKD_sync
      | exact hs_w32 _
      | exact (hs_w32 _).1
      | exact hsB_o _
      | exact kA
      | exact rfl
      | exact Or.inr rfl
      | exact Or.inl rfl
      | exact h _ (by omega) (by omega)
      | exact h _ (by omega) (hsN0_z _)
      | contradiction
      | refine SHnum hA kA nA (by omega) ?_
      | refine SHflag hA kA nA (by omega) ?_
      | refine SHtold ?_
      | refine kOn_of hA ?_
      | refine kOn_of hn ?_
      | refine ⟨4000, 40000, ?_⟩
      | refine And.intro ?_ ?_
      | omega
      | intro _
  · rw [hsKD_3] at h
    dsimp only at h
    refine ⟨fun e => absurd e (by decide), fun _ => ⟨fun e => absurd e (by decide), fun _ => ⟨fun e => absurd e (by decide), fun _ => ⟨fun _ => ?_, fun e => absurd rfl e⟩⟩⟩⟩
    repeat' first
      | unfold cKD_cut
      | exact hs_w32 _
      | exact (hs_w32 _).1
      | exact hsB_o _
      | exact kA
      | exact rfl
      | exact Or.inr rfl
      | exact Or.inl rfl
      | exact h _ (by omega) (by omega)
      | exact h _ (by omega) (hsN0_z _)
      | contradiction
      | refine SHnum hA kA nA (by omega) ?_
      | refine SHflag hA kA nA (by omega) ?_
      | refine SHtold ?_
      | refine kOn_of hA ?_
      | refine kOn_of hn ?_
      | refine ⟨4000, 40000, ?_⟩
      | refine And.intro ?_ ?_
      | omega
      | intro _
  · rw [hsKD_4] at h
    dsimp only at h
    refine ⟨fun e => absurd e (by decide), fun _ => ⟨fun e => absurd e (by decide), fun _ => ⟨fun e => absurd e (by decide), fun _ => ⟨fun e => absurd e (by decide), fun _ => ⟨fun _ => ?_, fun e => absurd rfl e⟩⟩⟩⟩⟩
    repeat' first
      | unfold cKD_start
      | exact hs_w32 _
      | exact (hs_w32 _).1
      | exact hsB_o _
      | exact kA
      | exact rfl
      | exact Or.inr rfl
      | exact Or.inl rfl
      | exact h _ (by omega) (by omega)
      | exact h _ (by omega) (hsN0_z _)
      | contradiction
      | refine SHnum hA kA nA (by omega) ?_
      | refine SHflag hA kA nA (by omega) ?_
      | refine SHtold ?_
      | refine kOn_of hA ?_
      | refine kOn_of hn ?_
      | refine ⟨4000, 40000, ?_⟩
      | refine And.intro ?_ ?_
      | omega
      | intro _
  · rw [hsKD_5] at h
    dsimp only at h
    refine ⟨fun e => absurd e (by decide), fun _ => ⟨fun e => absurd e (by decide), fun _ => ⟨fun e => absurd e (by decide), fun _ => ⟨fun e => absurd e (by decide), fun _ => ⟨fun e => absurd e (by decide), fun _ => ⟨fun _ => ?_, fun e => absurd rfl e⟩⟩⟩⟩⟩⟩
    repeat' first
      | unfold cKD_poke
      | exact hs_w32 _
      | exact (hs_w32 _).1
      | exact hsB_o _
      | exact kA
      | exact rfl
      | exact Or.inr rfl
      | exact Or.inl rfl
      | exact h _ (by omega) (by omega)
      | exact h _ (by omega) (hsN0_z _)
      | contradiction
      | refine SHnum hA kA nA (by omega) ?_
      | refine SHflag hA kA nA (by omega) ?_
      | refine SHtold ?_
      | refine kOn_of hA ?_
      | refine kOn_of hn ?_
      | refine ⟨4000, 40000, ?_⟩
      | refine And.intro ?_ ?_
      | omega
      | intro _
  · rw [hsKD_6] at h
    dsimp only at h
    refine ⟨fun e => absurd e (by decide), fun _ => ⟨fun e => absurd e (by decide), fun _ => ⟨fun e => absurd e (by decide), fun _ => ⟨fun e => absurd e (by decide), fun _ => ⟨fun e => absurd e (by decide), fun _ => ⟨fun e => absurd e (by decide), fun _ => ⟨fun _ => ?_, fun e => absurd rfl e⟩⟩⟩⟩⟩⟩⟩
    repeat' first
      | unfold cKD_wrong
      | exact hs_w32 _
      | exact (hs_w32 _).1
      | exact hsB_o _
      | exact kA
      | exact rfl
      | exact Or.inr rfl
      | exact Or.inl rfl
      | exact h _ (by omega) (by omega)
      | exact h _ (by omega) (hsN0_z _)
      | contradiction
      | refine SHnum hA kA nA (by omega) ?_
      | refine SHflag hA kA nA (by omega) ?_
      | refine SHtold ?_
      | refine kOn_of hA ?_
      | refine kOn_of hn ?_
      | refine ⟨4000, 40000, ?_⟩
      | refine And.intro ?_ ?_
      | omega
      | intro _
  · rw [hsKD_7] at h
    dsimp only at h
    refine ⟨fun e => absurd e (by decide), fun _ => ⟨fun e => absurd e (by decide), fun _ => ⟨fun e => absurd e (by decide), fun _ => ⟨fun e => absurd e (by decide), fun _ => ⟨fun e => absurd e (by decide), fun _ => ⟨fun e => absurd e (by decide), fun _ => ⟨fun e => absurd e (by decide), fun _ => ⟨fun _ => ?_, fun e => absurd rfl e⟩⟩⟩⟩⟩⟩⟩⟩
    repeat' first
      | unfold cKD_backup
      | exact hs_w32 _
      | exact (hs_w32 _).1
      | exact hsB_o _
      | exact kA
      | exact rfl
      | exact Or.inr rfl
      | exact Or.inl rfl
      | exact h _ (by omega) (by omega)
      | exact h _ (by omega) (hsN0_z _)
      | contradiction
      | refine SHnum hA kA nA (by omega) ?_
      | refine SHflag hA kA nA (by omega) ?_
      | refine SHtold ?_
      | refine kOn_of hA ?_
      | refine kOn_of hn ?_
      | refine ⟨4000, 40000, ?_⟩
      | refine And.intro ?_ ?_
      | omega
      | intro _
  · rw [hsKD_8] at h
    dsimp only at h
    refine ⟨fun e => absurd e (by decide), fun _ => ⟨fun e => absurd e (by decide), fun _ => ⟨fun e => absurd e (by decide), fun _ => ⟨fun e => absurd e (by decide), fun _ => ⟨fun e => absurd e (by decide), fun _ => ⟨fun e => absurd e (by decide), fun _ => ⟨fun e => absurd e (by decide), fun _ => ⟨fun e => absurd e (by decide), fun _ => ⟨fun _ => ?_, fun e => absurd rfl e⟩⟩⟩⟩⟩⟩⟩⟩⟩
    repeat' first
      | unfold cKD_drop
      | exact hs_w32 _
      | exact (hs_w32 _).1
      | exact hsB_o _
      | exact kA
      | exact rfl
      | exact Or.inr rfl
      | exact Or.inl rfl
      | exact h _ (by omega) (by omega)
      | exact h _ (by omega) (hsN0_z _)
      | contradiction
      | refine SHnum hA kA nA (by omega) ?_
      | refine SHflag hA kA nA (by omega) ?_
      | refine SHtold ?_
      | refine kOn_of hA ?_
      | refine kOn_of hn ?_
      | refine ⟨4000, 40000, ?_⟩
      | refine And.intro ?_ ?_
      | omega
      | intro _
  · rw [hsKD_9] at h
    dsimp only at h
    refine ⟨fun e => absurd e (by decide), fun _ => ⟨fun e => absurd e (by decide), fun _ => ⟨fun e => absurd e (by decide), fun _ => ⟨fun e => absurd e (by decide), fun _ => ⟨fun e => absurd e (by decide), fun _ => ⟨fun e => absurd e (by decide), fun _ => ⟨fun e => absurd e (by decide), fun _ => ⟨fun e => absurd e (by decide), fun _ => ⟨fun e => absurd e (by decide), fun _ => ⟨fun _ => ?_, fun e => absurd rfl e⟩⟩⟩⟩⟩⟩⟩⟩⟩⟩
    repeat' first
      | unfold cKD_derived
      | exact hs_w32 _
      | exact (hs_w32 _).1
      | exact hsB_o _
      | exact kA
      | exact rfl
      | exact Or.inr rfl
      | exact Or.inl rfl
      | exact h _ (by omega) (by omega)
      | exact h _ (by omega) (hsN0_z _)
      | contradiction
      | refine SHnum hA kA nA (by omega) ?_
      | refine SHflag hA kA nA (by omega) ?_
      | refine SHtold ?_
      | refine kOn_of hA ?_
      | refine kOn_of hn ?_
      | refine ⟨4000, 40000, ?_⟩
      | refine And.intro ?_ ?_
      | omega
      | intro _
  · rw [hsKD_10] at h
    dsimp only at h
    refine ⟨fun e => absurd e (by decide), fun _ => ⟨fun e => absurd e (by decide), fun _ => ⟨fun e => absurd e (by decide), fun _ => ⟨fun e => absurd e (by decide), fun _ => ⟨fun e => absurd e (by decide), fun _ => ⟨fun e => absurd e (by decide), fun _ => ⟨fun e => absurd e (by decide), fun _ => ⟨fun e => absurd e (by decide), fun _ => ⟨fun e => absurd e (by decide), fun _ => ⟨fun e => absurd e (by decide), fun _ => ⟨fun _ => ?_, fun e => absurd rfl e⟩⟩⟩⟩⟩⟩⟩⟩⟩⟩⟩
    repeat' first
      | unfold cKD_full
      | exact hs_w32 _
      | exact (hs_w32 _).1
      | exact hsB_o _
      | exact kA
      | exact rfl
      | exact Or.inr rfl
      | exact Or.inl rfl
      | exact h _ (by omega) (by omega)
      | exact h _ (by omega) (hsN0_z _)
      | contradiction
      | refine SHnum hA kA nA (by omega) ?_
      | refine SHflag hA kA nA (by omega) ?_
      | refine SHtold ?_
      | refine kOn_of hA ?_
      | refine kOn_of hn ?_
      | refine ⟨4000, 40000, ?_⟩
      | refine And.intro ?_ ?_
      | omega
      | intro _
