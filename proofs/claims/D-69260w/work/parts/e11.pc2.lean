/-! ProofChecker (room PC): what each rule gives (printed by tools/pcgive.py) -/
section
variable {kd : Nat → Nat} {an : Nat → Nat} {ai : Nat → Int → Int} {al : Nat → Int → Int} {ar : Nat → Int → Option Nat} {mX8_rules : Nat → Option Nat} {mX8_axioms : Nat → Option Nat} {mX8_axiomCount : Nat → Int} {mX8_givens : Nat → Option Nat} {mX8_givenCount : Nat → Int} {mX8_wanted : Nat → Option Nat} {mX8_rows : Nat → Option Nat} {mX8_rowCount : Nat → Int} {mX8_looked : Nat → Int} {mX8_from : Nat → Option Nat} {mX8_needed : Nat → Option Nat} {mX8_broken : Nat → Int} {mX8_places : Nat → Option Nat} {mX8_text : Nat → Option Nat} {mX8_size : Nat → Int} {mX9_kind : Nat → Int} {mX9_a : Nat → Int} {mX9_b : Nat → Int} {mX9_c : Nat → Int} {mX26_rule : Nat → Int} {mX26_instance : Nat → Int} {mX26_premises : Nat → Option Nat} {mX26_count : Nat → Int} {mX26_states : Nat → Option Nat} {mX26_right : Nat → Int} {mX26_size : Nat → Int} {mX10_takes : Nat → Int} {mX10_name : Nat → Option Nat} {mX12_any : Nat → Int} {mX14_kind : Nat → Int} {mX16_kind : Nat → Int} {mX18_first : Nat → Int} {mX19_either : Nat → Int} {z x2 : Int} {o x1 Fm t : Nat} {q : Int → Nat} {s : Int → Int → Int} {ax tr : Int → Int} {aA aG aa ag : Nat}
theorem CPC_gz_0 {post : Int → (Nat → Int) → (Nat → Int) → (Nat → Int) → (Nat → Int) → Prop} (F : pcFr kd an ar mX9_kind mX9_a mX9_b mX9_c Fm t 0 q s) (ko : kd o = 4) (ka : kd x1 = 1) (ea : mX8_axioms x1 = some aA) (kA : kd aA = 22) (lA : an aA = 100) (rA : ar aA (x2 - 1) = some aa) (k2a : kd aa = 2) (hx2 : 1 ≤ x2 ∧ x2 ≤ 100) (oA : pcO mX9_kind mX9_a mX9_b mX9_c aa (fun j => ax (4 * x2 + j))) (nz : ax (4 * x2) ≠ 0) (h1 : ∀ v0 v1 v2 v3, pcG 0 x2 ax tr (s 0) (s 1) (s 2) = pcM v0 v1 v2 v3 → v0 ≠ 0 → post 1 (va_up mX9_kind t v0) (va_up mX9_a t v1) (va_up mX9_b t v2) (va_up mX9_c t v3)) (h0 : pcG 0 x2 ax tr (s 0) (s 1) (s 2) = pcZ → ∀ v0 v1 v2 v3, post 0 (va_up mX9_kind t v0) (va_up mX9_a t v1) (va_up mX9_b t v2) (va_up mX9_c t v3)) : wpPC_X11_give post kd an ar mX8_axioms mX9_kind mX9_a mX9_b mX9_c (some x1) x2 (some Fm) (some t) := by
  obtain ⟨⟨k1, k2, k3⟩, hf⟩ := F
  have g : pcG 0 x2 ax tr (s 0) (s 1) (s 2) = pcM (ax (4 * x2)) (ax (4 * x2 + 1)) (ax (4 * x2 + 2)) (ax (4 * x2 + 3)) := rfl
  rw [g] at h1 h0
  obtain ⟨o0, o1, o2, o3⟩ := oA
  dsimp only at o0 o1 o2 o3
  rw [Int.add_zero] at o0
  unfold wpPC_X11_give wpPC_X9_copy wpPC_X9_set
  have i1 : 0 ≤ x2 - 1 := by omega
  have i2 : x2 - 1 < 100 := by omega
  have i3 : zR (x2 - 1) := by omega
  simp only [kOn_iff, forall_eq, k1, k2, k3, ko, ka, ea, kA, lA, rA, k2a, o0, o1, o2, o3]
  grind
theorem CPC_gz_1 {post : Int → (Nat → Int) → (Nat → Int) → (Nat → Int) → (Nat → Int) → Prop} (F : pcFr kd an ar mX9_kind mX9_a mX9_b mX9_c Fm t 0 q s) (ko : kd o = 5) (e0 : mX12_any o = 0) (ka : kd x1 = 1) (ea : mX8_givens x1 = some aG) (kA : kd aG = 22) (lA : an aG = 100) (rA : ar aG (x2 - 1) = some ag) (k2a : kd ag = 2) (hx2 : 1 ≤ x2 ∧ x2 ≤ 100) (oA : pcO mX9_kind mX9_a mX9_b mX9_c ag (fun j => tr (4 * x2 + j))) (nz : tr (4 * x2) ≠ 0) (h1 : ∀ v0 v1 v2 v3, pcG 1 x2 ax tr (s 0) (s 1) (s 2) = pcM v0 v1 v2 v3 → v0 ≠ 0 → post 1 (va_up mX9_kind t v0) (va_up mX9_a t v1) (va_up mX9_b t v2) (va_up mX9_c t v3)) (h0 : pcG 1 x2 ax tr (s 0) (s 1) (s 2) = pcZ → ∀ v0 v1 v2 v3, post 0 (va_up mX9_kind t v0) (va_up mX9_a t v1) (va_up mX9_b t v2) (va_up mX9_c t v3)) : wpPC_X12_give post kd an ar mX8_givens mX9_kind mX9_a mX9_b mX9_c mX12_any o (some x1) x2 (some Fm) (some t) := by
  obtain ⟨⟨k1, k2, k3⟩, hf⟩ := F
  have g : pcG 1 x2 ax tr (s 0) (s 1) (s 2) = pcM (tr (4 * x2)) (tr (4 * x2 + 1)) (tr (4 * x2 + 2)) (tr (4 * x2 + 3)) := rfl
  rw [g] at h1 h0
  obtain ⟨o0, o1, o2, o3⟩ := oA
  dsimp only at o0 o1 o2 o3
  rw [Int.add_zero] at o0
  unfold wpPC_X12_give wpPC_X9_copy wpPC_X9_set
  have i1 : 0 ≤ x2 - 1 := by omega
  have i2 : x2 - 1 < 100 := by omega
  have i3 : zR (x2 - 1) := by omega
  simp only [kOn_iff, forall_eq, k1, k2, k3, ko, e0, ka, ea, kA, lA, rA, k2a, o0, o1, o2, o3]
  grind
theorem CPC_gz_2 {post : Int → (Nat → Int) → (Nat → Int) → (Nat → Int) → (Nat → Int) → Prop} (F : pcFr kd an ar mX9_kind mX9_a mX9_b mX9_c Fm t 0 q s) (ko : kd o = 6) (h1 : ∀ v0 v1 v2 v3, pcG 2 x2 ax tr (s 0) (s 1) (s 2) = pcM v0 v1 v2 v3 → v0 ≠ 0 → post 1 (va_up mX9_kind t v0) (va_up mX9_a t v1) (va_up mX9_b t v2) (va_up mX9_c t v3)) (h0 : pcG 2 x2 ax tr (s 0) (s 1) (s 2) = pcZ → ∀ v0 v1 v2 v3, post 0 (va_up mX9_kind t v0) (va_up mX9_a t v1) (va_up mX9_b t v2) (va_up mX9_c t v3)) : wpPC_X13_give post kd mX9_kind mX9_a mX9_b mX9_c (some x1) x2 (some Fm) (some t) := by
  obtain ⟨⟨k1, k2, k3⟩, hf⟩ := F
  have g : pcG 2 x2 ax tr (s 0) (s 1) (s 2) = pcM 1 x2 x2 0 := rfl
  rw [g] at h1 h0
  unfold wpPC_X13_give wpPC_X9_set
  simp only [kOn_iff, forall_eq, k1, k2, k3, ko]
  grind
theorem CPC_gz_3 {post : Int → (Nat → Int) → (Nat → Int) → (Nat → Int) → (Nat → Int) → Prop} (F : pcFr kd an ar mX9_kind mX9_a mX9_b mX9_c Fm t 2 q s) (ko : kd o = 7) (e0 : mX14_kind o = 1) (h1 : ∀ v0 v1 v2 v3, pcG 3 x2 ax tr (s 0) (s 1) (s 2) = pcM v0 v1 v2 v3 → v0 ≠ 0 → post 1 (va_up mX9_kind t v0) (va_up mX9_a t v1) (va_up mX9_b t v2) (va_up mX9_c t v3)) (h0 : pcG 3 x2 ax tr (s 0) (s 1) (s 2) = pcZ → ∀ v0 v1 v2 v3, post 0 (va_up mX9_kind t v0) (va_up mX9_a t v1) (va_up mX9_b t v2) (va_up mX9_c t v3)) : wpPC_X14_give post kd an ar mX9_kind mX9_a mX9_b mX9_c mX14_kind o (some x1) x2 (some Fm) (some t) := by
  obtain ⟨⟨k1, k2, k3⟩, hf⟩ := F
  obtain ⟨a0, ⟨b0, c0⟩, d00, d01, d02, d03⟩ := hf 0 (by decide) (by decide)
  have u0 : ∀ {f : Nat → Int} {v : Int}, va_up f t v (q 0) = f (q 0) := fun {f v} => va_up_ne f v c0
  obtain ⟨a1, ⟨b1, c1⟩, d10, d11, d12, d13⟩ := hf 1 (by decide) (by decide)
  have u1 : ∀ {f : Nat → Int} {v : Int}, va_up f t v (q 1) = f (q 1) := fun {f v} => va_up_ne f v c1
  have g : pcG 3 x2 ax tr (s 0) (s 1) (s 2) = if s 0 0 = 1 ∧ s 1 0 = 1 ∧ s 0 2 = s 1 1 then pcM 1 (s 0 1) (s 1 2) 0 else pcZ := rfl
  rw [g] at h1 h0
  unfold wpPC_X14_give wpPC_X9_set
  simp only [kOn_iff, forall_eq, k1, k2, k3, ko, e0, a0, b0, u0, d00, d01, d02, d03, a1, b1, u1, d10, d11, d12, d13]
  grind
theorem CPC_gz_4 {post : Int → (Nat → Int) → (Nat → Int) → (Nat → Int) → (Nat → Int) → Prop} (F : pcFr kd an ar mX9_kind mX9_a mX9_b mX9_c Fm t 2 q s) (ko : kd o = 7) (e0 : mX14_kind o = 2) (h1 : ∀ v0 v1 v2 v3, pcG 4 x2 ax tr (s 0) (s 1) (s 2) = pcM v0 v1 v2 v3 → v0 ≠ 0 → post 1 (va_up mX9_kind t v0) (va_up mX9_a t v1) (va_up mX9_b t v2) (va_up mX9_c t v3)) (h0 : pcG 4 x2 ax tr (s 0) (s 1) (s 2) = pcZ → ∀ v0 v1 v2 v3, post 0 (va_up mX9_kind t v0) (va_up mX9_a t v1) (va_up mX9_b t v2) (va_up mX9_c t v3)) : wpPC_X14_give post kd an ar mX9_kind mX9_a mX9_b mX9_c mX14_kind o (some x1) x2 (some Fm) (some t) := by
  obtain ⟨⟨k1, k2, k3⟩, hf⟩ := F
  obtain ⟨a0, ⟨b0, c0⟩, d00, d01, d02, d03⟩ := hf 0 (by decide) (by decide)
  have u0 : ∀ {f : Nat → Int} {v : Int}, va_up f t v (q 0) = f (q 0) := fun {f v} => va_up_ne f v c0
  obtain ⟨a1, ⟨b1, c1⟩, d10, d11, d12, d13⟩ := hf 1 (by decide) (by decide)
  have u1 : ∀ {f : Nat → Int} {v : Int}, va_up f t v (q 1) = f (q 1) := fun {f v} => va_up_ne f v c1
  have g : pcG 4 x2 ax tr (s 0) (s 1) (s 2) = if s 0 0 = 2 ∧ s 1 0 = 2 ∧ s 0 2 = s 1 1 then pcM 2 (s 0 1) (s 1 2) 0 else pcZ := rfl
  rw [g] at h1 h0
  unfold wpPC_X14_give wpPC_X9_set
  simp only [kOn_iff, forall_eq, k1, k2, k3, ko, e0, a0, b0, u0, d00, d01, d02, d03, a1, b1, u1, d10, d11, d12, d13]
  grind
theorem CPC_gz_5 {post : Int → (Nat → Int) → (Nat → Int) → (Nat → Int) → (Nat → Int) → Prop} (F : pcFr kd an ar mX9_kind mX9_a mX9_b mX9_c Fm t 2 q s) (ko : kd o = 8) (h1 : ∀ v0 v1 v2 v3, pcG 5 x2 ax tr (s 0) (s 1) (s 2) = pcM v0 v1 v2 v3 → v0 ≠ 0 → post 1 (va_up mX9_kind t v0) (va_up mX9_a t v1) (va_up mX9_b t v2) (va_up mX9_c t v3)) (h0 : pcG 5 x2 ax tr (s 0) (s 1) (s 2) = pcZ → ∀ v0 v1 v2 v3, post 0 (va_up mX9_kind t v0) (va_up mX9_a t v1) (va_up mX9_b t v2) (va_up mX9_c t v3)) : wpPC_X15_give post kd an ar mX9_kind mX9_a mX9_b mX9_c (some x1) x2 (some Fm) (some t) := by
  obtain ⟨⟨k1, k2, k3⟩, hf⟩ := F
  obtain ⟨a0, ⟨b0, c0⟩, d00, d01, d02, d03⟩ := hf 0 (by decide) (by decide)
  have u0 : ∀ {f : Nat → Int} {v : Int}, va_up f t v (q 0) = f (q 0) := fun {f v} => va_up_ne f v c0
  obtain ⟨a1, ⟨b1, c1⟩, d10, d11, d12, d13⟩ := hf 1 (by decide) (by decide)
  have u1 : ∀ {f : Nat → Int} {v : Int}, va_up f t v (q 1) = f (q 1) := fun {f v} => va_up_ne f v c1
  have g : pcG 5 x2 ax tr (s 0) (s 1) (s 2) = if s 0 0 = 1 ∧ s 1 0 = 11 ∧ s 1 2 = 0 ∧ s 1 3 = s 0 1 then pcM 11 (s 1 1) 0 (s 0 2) else pcZ := rfl
  rw [g] at h1 h0
  unfold wpPC_X15_give wpPC_X9_set wpPC_X8_isOf
  simp only [kOn_iff, forall_eq, k1, k2, k3, ko, a0, b0, u0, d00, d01, d02, d03, a1, b1, u1, d10, d11, d12, d13]
  grind
theorem CPC_gz_6 {post : Int → (Nat → Int) → (Nat → Int) → (Nat → Int) → (Nat → Int) → Prop} (F : pcFr kd an ar mX9_kind mX9_a mX9_b mX9_c Fm t 2 q s) (ko : kd o = 9) (e0 : mX16_kind o = 2) (h1 : ∀ v0 v1 v2 v3, pcG 6 x2 ax tr (s 0) (s 1) (s 2) = pcM v0 v1 v2 v3 → v0 ≠ 0 → post 1 (va_up mX9_kind t v0) (va_up mX9_a t v1) (va_up mX9_b t v2) (va_up mX9_c t v3)) (h0 : pcG 6 x2 ax tr (s 0) (s 1) (s 2) = pcZ → ∀ v0 v1 v2 v3, post 0 (va_up mX9_kind t v0) (va_up mX9_a t v1) (va_up mX9_b t v2) (va_up mX9_c t v3)) : wpPC_X16_give post kd an ar mX9_kind mX9_a mX9_b mX9_c mX16_kind mX18_first mX19_either o (some x1) x2 (some Fm) (some t) := by
  obtain ⟨⟨k1, k2, k3⟩, hf⟩ := F
  obtain ⟨a0, ⟨b0, c0⟩, d00, d01, d02, d03⟩ := hf 0 (by decide) (by decide)
  have u0 : ∀ {f : Nat → Int} {v : Int}, va_up f t v (q 0) = f (q 0) := fun {f v} => va_up_ne f v c0
  obtain ⟨a1, ⟨b1, c1⟩, d10, d11, d12, d13⟩ := hf 1 (by decide) (by decide)
  have u1 : ∀ {f : Nat → Int} {v : Int}, va_up f t v (q 1) = f (q 1) := fun {f v} => va_up_ne f v c1
  have g : pcG 6 x2 ax tr (s 0) (s 1) (s 2) = if s 0 0 = 2 ∧ s 1 0 = 11 ∧ s 1 2 = s 0 1 then pcM 11 (s 1 1) (s 0 2) (s 1 3) else pcZ := rfl
  have hz : pcG 6 x2 ax tr (s 0) (s 1) (s 2) = pcZ → post 0 mX9_kind mX9_a mX9_b mX9_c := fun e => by have := h0 e (mX9_kind t) (mX9_a t) (mX9_b t) (mX9_c t); rw [va_up_id (f := mX9_kind) rfl, va_up_id (f := mX9_a) rfl, va_up_id (f := mX9_b) rfl, va_up_id (f := mX9_c) rfl] at this; exact this
  rw [g] at h1 h0 hz
  simp only [wpPC_X16_give, wpPC_X9_set, wpPC_X8_isOf, wpDPC_X17_more_9_10_11_12_15, wpPC_X17_more, wpPC_X18_more, wpPC_X19_more, wpPC_X20_more, wpPC_X23_more]
  simp only [kOn_iff, forall_eq, k1, k2, k3, ko, e0, a0, b0, u0, d00, d01, d02, d03, a1, b1, u1, d10, d11, d12, d13]
  grind
theorem CPC_gz_7 {post : Int → (Nat → Int) → (Nat → Int) → (Nat → Int) → (Nat → Int) → Prop} (F : pcFr kd an ar mX9_kind mX9_a mX9_b mX9_c Fm t 2 q s) (ko : kd o = 10) (e0 : mX16_kind o = 3) (e1 : mX18_first o = 1) (h1 : ∀ v0 v1 v2 v3, pcG 7 x2 ax tr (s 0) (s 1) (s 2) = pcM v0 v1 v2 v3 → v0 ≠ 0 → post 1 (va_up mX9_kind t v0) (va_up mX9_a t v1) (va_up mX9_b t v2) (va_up mX9_c t v3)) (h0 : pcG 7 x2 ax tr (s 0) (s 1) (s 2) = pcZ → ∀ v0 v1 v2 v3, post 0 (va_up mX9_kind t v0) (va_up mX9_a t v1) (va_up mX9_b t v2) (va_up mX9_c t v3)) : wpPC_X16_give post kd an ar mX9_kind mX9_a mX9_b mX9_c mX16_kind mX18_first mX19_either o (some x1) x2 (some Fm) (some t) := by
  obtain ⟨⟨k1, k2, k3⟩, hf⟩ := F
  obtain ⟨a0, ⟨b0, c0⟩, d00, d01, d02, d03⟩ := hf 0 (by decide) (by decide)
  have u0 : ∀ {f : Nat → Int} {v : Int}, va_up f t v (q 0) = f (q 0) := fun {f v} => va_up_ne f v c0
  obtain ⟨a1, ⟨b1, c1⟩, d10, d11, d12, d13⟩ := hf 1 (by decide) (by decide)
  have u1 : ∀ {f : Nat → Int} {v : Int}, va_up f t v (q 1) = f (q 1) := fun {f v} => va_up_ne f v c1
  have g : pcG 7 x2 ax tr (s 0) (s 1) (s 2) = if s 0 0 = 3 ∧ s 1 0 = 11 ∧ s 1 2 = s 0 1 then pcM 11 (s 1 1) 0 (s 0 2) else pcZ := rfl
  have hz : pcG 7 x2 ax tr (s 0) (s 1) (s 2) = pcZ → post 0 mX9_kind mX9_a mX9_b mX9_c := fun e => by have := h0 e (mX9_kind t) (mX9_a t) (mX9_b t) (mX9_c t); rw [va_up_id (f := mX9_kind) rfl, va_up_id (f := mX9_a) rfl, va_up_id (f := mX9_b) rfl, va_up_id (f := mX9_c) rfl] at this; exact this
  rw [g] at h1 h0 hz
  simp only [wpPC_X16_give, wpPC_X9_set, wpPC_X8_isOf, wpDPC_X17_more_9_10_11_12_15, wpPC_X17_more, wpPC_X18_more, wpPC_X19_more, wpPC_X20_more, wpPC_X23_more]
  simp only [kOn_iff, forall_eq, k1, k2, k3, ko, e0, e1, a0, b0, u0, d00, d01, d02, d03, a1, b1, u1, d10, d11, d12, d13]
  grind
theorem CPC_gz_8 {post : Int → (Nat → Int) → (Nat → Int) → (Nat → Int) → (Nat → Int) → Prop} (F : pcFr kd an ar mX9_kind mX9_a mX9_b mX9_c Fm t 2 q s) (ko : kd o = 10) (e0 : mX16_kind o = 4) (e1 : mX18_first o = 0) (h1 : ∀ v0 v1 v2 v3, pcG 8 x2 ax tr (s 0) (s 1) (s 2) = pcM v0 v1 v2 v3 → v0 ≠ 0 → post 1 (va_up mX9_kind t v0) (va_up mX9_a t v1) (va_up mX9_b t v2) (va_up mX9_c t v3)) (h0 : pcG 8 x2 ax tr (s 0) (s 1) (s 2) = pcZ → ∀ v0 v1 v2 v3, post 0 (va_up mX9_kind t v0) (va_up mX9_a t v1) (va_up mX9_b t v2) (va_up mX9_c t v3)) : wpPC_X16_give post kd an ar mX9_kind mX9_a mX9_b mX9_c mX16_kind mX18_first mX19_either o (some x1) x2 (some Fm) (some t) := by
  obtain ⟨⟨k1, k2, k3⟩, hf⟩ := F
  obtain ⟨a0, ⟨b0, c0⟩, d00, d01, d02, d03⟩ := hf 0 (by decide) (by decide)
  have u0 : ∀ {f : Nat → Int} {v : Int}, va_up f t v (q 0) = f (q 0) := fun {f v} => va_up_ne f v c0
  obtain ⟨a1, ⟨b1, c1⟩, d10, d11, d12, d13⟩ := hf 1 (by decide) (by decide)
  have u1 : ∀ {f : Nat → Int} {v : Int}, va_up f t v (q 1) = f (q 1) := fun {f v} => va_up_ne f v c1
  have g : pcG 8 x2 ax tr (s 0) (s 1) (s 2) = if s 0 0 = 4 ∧ s 1 0 = 11 ∧ s 1 2 = s 0 1 then pcM 11 (s 1 3) 0 (s 0 2) else pcZ := rfl
  have hz : pcG 8 x2 ax tr (s 0) (s 1) (s 2) = pcZ → post 0 mX9_kind mX9_a mX9_b mX9_c := fun e => by have := h0 e (mX9_kind t) (mX9_a t) (mX9_b t) (mX9_c t); rw [va_up_id (f := mX9_kind) rfl, va_up_id (f := mX9_a) rfl, va_up_id (f := mX9_b) rfl, va_up_id (f := mX9_c) rfl] at this; exact this
  rw [g] at h1 h0 hz
  simp only [wpPC_X16_give, wpPC_X9_set, wpPC_X8_isOf, wpDPC_X17_more_9_10_11_12_15, wpPC_X17_more, wpPC_X18_more, wpPC_X19_more, wpPC_X20_more, wpPC_X23_more]
  simp only [kOn_iff, forall_eq, k1, k2, k3, ko, e0, e1, a0, b0, u0, d00, d01, d02, d03, a1, b1, u1, d10, d11, d12, d13]
  grind
theorem CPC_gz_9 {post : Int → (Nat → Int) → (Nat → Int) → (Nat → Int) → (Nat → Int) → Prop} (F : pcFr kd an ar mX9_kind mX9_a mX9_b mX9_c Fm t 2 q s) (ko : kd o = 11) (e0 : mX16_kind o = 7) (e1 : mX19_either o = 1) (h1 : ∀ v0 v1 v2 v3, pcG 9 x2 ax tr (s 0) (s 1) (s 2) = pcM v0 v1 v2 v3 → v0 ≠ 0 → post 1 (va_up mX9_kind t v0) (va_up mX9_a t v1) (va_up mX9_b t v2) (va_up mX9_c t v3)) (h0 : pcG 9 x2 ax tr (s 0) (s 1) (s 2) = pcZ → ∀ v0 v1 v2 v3, post 0 (va_up mX9_kind t v0) (va_up mX9_a t v1) (va_up mX9_b t v2) (va_up mX9_c t v3)) : wpPC_X16_give post kd an ar mX9_kind mX9_a mX9_b mX9_c mX16_kind mX18_first mX19_either o (some x1) x2 (some Fm) (some t) := by
  obtain ⟨⟨k1, k2, k3⟩, hf⟩ := F
  obtain ⟨a0, ⟨b0, c0⟩, d00, d01, d02, d03⟩ := hf 0 (by decide) (by decide)
  have u0 : ∀ {f : Nat → Int} {v : Int}, va_up f t v (q 0) = f (q 0) := fun {f v} => va_up_ne f v c0
  obtain ⟨a1, ⟨b1, c1⟩, d10, d11, d12, d13⟩ := hf 1 (by decide) (by decide)
  have u1 : ∀ {f : Nat → Int} {v : Int}, va_up f t v (q 1) = f (q 1) := fun {f v} => va_up_ne f v c1
  have g : pcG 9 x2 ax tr (s 0) (s 1) (s 2) = if s 0 0 = 7 ∧ s 1 0 = 11 ∧ s 1 2 = s 0 1 then pcM 11 (s 1 3) (s 1 2) (s 1 1) else pcZ := rfl
  have hz : pcG 9 x2 ax tr (s 0) (s 1) (s 2) = pcZ → post 0 mX9_kind mX9_a mX9_b mX9_c := fun e => by have := h0 e (mX9_kind t) (mX9_a t) (mX9_b t) (mX9_c t); rw [va_up_id (f := mX9_kind) rfl, va_up_id (f := mX9_a) rfl, va_up_id (f := mX9_b) rfl, va_up_id (f := mX9_c) rfl] at this; exact this
  rw [g] at h1 h0 hz
  simp only [wpPC_X16_give, wpPC_X9_set, wpPC_X8_isOf, wpDPC_X17_more_9_10_11_12_15, wpPC_X17_more, wpPC_X18_more, wpPC_X19_more, wpPC_X20_more, wpPC_X23_more]
  simp only [kOn_iff, forall_eq, k1, k2, k3, ko, e0, e1, a0, b0, u0, d00, d01, d02, d03, a1, b1, u1, d10, d11, d12, d13]
  grind
theorem CPC_gz_10 {post : Int → (Nat → Int) → (Nat → Int) → (Nat → Int) → (Nat → Int) → Prop} (F : pcFr kd an ar mX9_kind mX9_a mX9_b mX9_c Fm t 3 q s) (ko : kd o = 12) (e0 : mX16_kind o = 6) (h1 : ∀ v0 v1 v2 v3, pcG 10 x2 ax tr (s 0) (s 1) (s 2) = pcM v0 v1 v2 v3 → v0 ≠ 0 → post 1 (va_up mX9_kind t v0) (va_up mX9_a t v1) (va_up mX9_b t v2) (va_up mX9_c t v3)) (h0 : pcG 10 x2 ax tr (s 0) (s 1) (s 2) = pcZ → ∀ v0 v1 v2 v3, post 0 (va_up mX9_kind t v0) (va_up mX9_a t v1) (va_up mX9_b t v2) (va_up mX9_c t v3)) : wpPC_X16_give post kd an ar mX9_kind mX9_a mX9_b mX9_c mX16_kind mX18_first mX19_either o (some x1) x2 (some Fm) (some t) := by
  obtain ⟨⟨k1, k2, k3⟩, hf⟩ := F
  obtain ⟨a0, ⟨b0, c0⟩, d00, d01, d02, d03⟩ := hf 0 (by decide) (by decide)
  have u0 : ∀ {f : Nat → Int} {v : Int}, va_up f t v (q 0) = f (q 0) := fun {f v} => va_up_ne f v c0
  obtain ⟨a1, ⟨b1, c1⟩, d10, d11, d12, d13⟩ := hf 1 (by decide) (by decide)
  have u1 : ∀ {f : Nat → Int} {v : Int}, va_up f t v (q 1) = f (q 1) := fun {f v} => va_up_ne f v c1
  obtain ⟨a2, ⟨b2, c2⟩, d20, d21, d22, d23⟩ := hf 2 (by decide) (by decide)
  have u2 : ∀ {f : Nat → Int} {v : Int}, va_up f t v (q 2) = f (q 2) := fun {f v} => va_up_ne f v c2
  have g : pcG 10 x2 ax tr (s 0) (s 1) (s 2) = if s 0 0 = 6 ∧ s 1 0 = 11 ∧ s 1 2 = s 0 1 ∧ s 2 0 = 11 ∧ s 2 2 = s 0 1 ∧ s 1 3 = s 2 1 then pcM 11 (s 1 1) (s 1 2) (s 2 3) else pcZ := rfl
  have hz : pcG 10 x2 ax tr (s 0) (s 1) (s 2) = pcZ → post 0 mX9_kind mX9_a mX9_b mX9_c := fun e => by have := h0 e (mX9_kind t) (mX9_a t) (mX9_b t) (mX9_c t); rw [va_up_id (f := mX9_kind) rfl, va_up_id (f := mX9_a) rfl, va_up_id (f := mX9_b) rfl, va_up_id (f := mX9_c) rfl] at this; exact this
  rw [g] at h1 h0 hz
  simp only [wpPC_X16_give, wpPC_X9_set, wpPC_X8_isOf, wpDPC_X17_more_9_10_11_12_15, wpPC_X17_more, wpPC_X18_more, wpPC_X19_more, wpPC_X20_more, wpPC_X23_more]
  simp only [kOn_iff, forall_eq, k1, k2, k3, ko, e0, a0, b0, u0, d00, d01, d02, d03, a1, b1, u1, d10, d11, d12, d13, a2, b2, u2, d20, d21, d22, d23]
  grind
theorem CPC_gz_11 {post : Int → (Nat → Int) → (Nat → Int) → (Nat → Int) → (Nat → Int) → Prop} (F : pcFr kd an ar mX9_kind mX9_a mX9_b mX9_c Fm t 2 q s) (ko : kd o = 11) (e0 : mX16_kind o = 8) (e1 : mX19_either o = 0) (h1 : ∀ v0 v1 v2 v3, pcG 11 x2 ax tr (s 0) (s 1) (s 2) = pcM v0 v1 v2 v3 → v0 ≠ 0 → post 1 (va_up mX9_kind t v0) (va_up mX9_a t v1) (va_up mX9_b t v2) (va_up mX9_c t v3)) (h0 : pcG 11 x2 ax tr (s 0) (s 1) (s 2) = pcZ → ∀ v0 v1 v2 v3, post 0 (va_up mX9_kind t v0) (va_up mX9_a t v1) (va_up mX9_b t v2) (va_up mX9_c t v3)) : wpPC_X16_give post kd an ar mX9_kind mX9_a mX9_b mX9_c mX16_kind mX18_first mX19_either o (some x1) x2 (some Fm) (some t) := by
  obtain ⟨⟨k1, k2, k3⟩, hf⟩ := F
  obtain ⟨a0, ⟨b0, c0⟩, d00, d01, d02, d03⟩ := hf 0 (by decide) (by decide)
  have u0 : ∀ {f : Nat → Int} {v : Int}, va_up f t v (q 0) = f (q 0) := fun {f v} => va_up_ne f v c0
  obtain ⟨a1, ⟨b1, c1⟩, d10, d11, d12, d13⟩ := hf 1 (by decide) (by decide)
  have u1 : ∀ {f : Nat → Int} {v : Int}, va_up f t v (q 1) = f (q 1) := fun {f v} => va_up_ne f v c1
  have g : pcG 11 x2 ax tr (s 0) (s 1) (s 2) = if s 0 0 = 8 ∧ s 1 0 = 11 ∧ s 1 2 = s 0 1 then pcM 11 (s 1 3) (s 0 2) (s 1 1) else pcZ := rfl
  have hz : pcG 11 x2 ax tr (s 0) (s 1) (s 2) = pcZ → post 0 mX9_kind mX9_a mX9_b mX9_c := fun e => by have := h0 e (mX9_kind t) (mX9_a t) (mX9_b t) (mX9_c t); rw [va_up_id (f := mX9_kind) rfl, va_up_id (f := mX9_a) rfl, va_up_id (f := mX9_b) rfl, va_up_id (f := mX9_c) rfl] at this; exact this
  rw [g] at h1 h0 hz
  simp only [wpPC_X16_give, wpPC_X9_set, wpPC_X8_isOf, wpDPC_X17_more_9_10_11_12_15, wpPC_X17_more, wpPC_X18_more, wpPC_X19_more, wpPC_X20_more, wpPC_X23_more]
  simp only [kOn_iff, forall_eq, k1, k2, k3, ko, e0, e1, a0, b0, u0, d00, d01, d02, d03, a1, b1, u1, d10, d11, d12, d13]
  grind
theorem CPC_gz_12 {post : Int → (Nat → Int) → (Nat → Int) → (Nat → Int) → (Nat → Int) → Prop} (F : pcFr kd an ar mX9_kind mX9_a mX9_b mX9_c Fm t 1 q s) (ko : kd o = 13) (h1 : ∀ v0 v1 v2 v3, pcG 12 x2 ax tr (s 0) (s 1) (s 2) = pcM v0 v1 v2 v3 → v0 ≠ 0 → post 1 (va_up mX9_kind t v0) (va_up mX9_a t v1) (va_up mX9_b t v2) (va_up mX9_c t v3)) (h0 : pcG 12 x2 ax tr (s 0) (s 1) (s 2) = pcZ → ∀ v0 v1 v2 v3, post 0 (va_up mX9_kind t v0) (va_up mX9_a t v1) (va_up mX9_b t v2) (va_up mX9_c t v3)) : wpPC_X21_give post kd an ar mX9_kind mX9_a mX9_b mX9_c (some x1) x2 (some Fm) (some t) := by
  obtain ⟨⟨k1, k2, k3⟩, hf⟩ := F
  obtain ⟨a0, ⟨b0, c0⟩, d00, d01, d02, d03⟩ := hf 0 (by decide) (by decide)
  have u0 : ∀ {f : Nat → Int} {v : Int}, va_up f t v (q 0) = f (q 0) := fun {f v} => va_up_ne f v c0
  have g : pcG 12 x2 ax tr (s 0) (s 1) (s 2) = if s 0 0 = 11 ∧ s 0 2 = 1 then pcM 11 (s 0 3) 1 (s 0 1) else pcZ := rfl
  rw [g] at h1 h0
  unfold wpPC_X21_give wpPC_X9_set wpPC_X8_isOf
  simp only [kOn_iff, forall_eq, k1, k2, k3, ko, a0, b0, u0, d00, d01, d02, d03]
  grind
theorem CPC_gz_13 {post : Int → (Nat → Int) → (Nat → Int) → (Nat → Int) → (Nat → Int) → Prop} (F : pcFr kd an ar mX9_kind mX9_a mX9_b mX9_c Fm t 2 q s) (ko : kd o = 14) (h1 : ∀ v0 v1 v2 v3, pcG 13 x2 ax tr (s 0) (s 1) (s 2) = pcM v0 v1 v2 v3 → v0 ≠ 0 → post 1 (va_up mX9_kind t v0) (va_up mX9_a t v1) (va_up mX9_b t v2) (va_up mX9_c t v3)) (h0 : pcG 13 x2 ax tr (s 0) (s 1) (s 2) = pcZ → ∀ v0 v1 v2 v3, post 0 (va_up mX9_kind t v0) (va_up mX9_a t v1) (va_up mX9_b t v2) (va_up mX9_c t v3)) : wpPC_X22_give post kd an ar mX9_kind mX9_a mX9_b mX9_c (some x1) x2 (some Fm) (some t) := by
  obtain ⟨⟨k1, k2, k3⟩, hf⟩ := F
  obtain ⟨a0, ⟨b0, c0⟩, d00, d01, d02, d03⟩ := hf 0 (by decide) (by decide)
  have u0 : ∀ {f : Nat → Int} {v : Int}, va_up f t v (q 0) = f (q 0) := fun {f v} => va_up_ne f v c0
  obtain ⟨a1, ⟨b1, c1⟩, d10, d11, d12, d13⟩ := hf 1 (by decide) (by decide)
  have u1 : ∀ {f : Nat → Int} {v : Int}, va_up f t v (q 1) = f (q 1) := fun {f v} => va_up_ne f v c1
  have g : pcG 13 x2 ax tr (s 0) (s 1) (s 2) = if s 0 0 = 11 ∧ s 0 2 = 1 ∧ s 1 0 = 11 ∧ s 1 1 = s 0 1 then pcM 11 (s 0 3) (s 1 2) (s 1 3) else pcZ := rfl
  rw [g] at h1 h0
  unfold wpPC_X22_give wpPC_X9_set wpPC_X8_isOf
  simp only [kOn_iff, forall_eq, k1, k2, k3, ko, a0, b0, u0, d00, d01, d02, d03, a1, b1, u1, d10, d11, d12, d13]
  grind
theorem CPC_gz_14 {post : Int → (Nat → Int) → (Nat → Int) → (Nat → Int) → (Nat → Int) → Prop} (F : pcFr kd an ar mX9_kind mX9_a mX9_b mX9_c Fm t 3 q s) (ko : kd o = 15) (e0 : mX16_kind o = 9) (h1 : ∀ v0 v1 v2 v3, pcG 14 x2 ax tr (s 0) (s 1) (s 2) = pcM v0 v1 v2 v3 → v0 ≠ 0 → post 1 (va_up mX9_kind t v0) (va_up mX9_a t v1) (va_up mX9_b t v2) (va_up mX9_c t v3)) (h0 : pcG 14 x2 ax tr (s 0) (s 1) (s 2) = pcZ → ∀ v0 v1 v2 v3, post 0 (va_up mX9_kind t v0) (va_up mX9_a t v1) (va_up mX9_b t v2) (va_up mX9_c t v3)) : wpPC_X16_give post kd an ar mX9_kind mX9_a mX9_b mX9_c mX16_kind mX18_first mX19_either o (some x1) x2 (some Fm) (some t) := by
  obtain ⟨⟨k1, k2, k3⟩, hf⟩ := F
  obtain ⟨a0, ⟨b0, c0⟩, d00, d01, d02, d03⟩ := hf 0 (by decide) (by decide)
  have u0 : ∀ {f : Nat → Int} {v : Int}, va_up f t v (q 0) = f (q 0) := fun {f v} => va_up_ne f v c0
  obtain ⟨a1, ⟨b1, c1⟩, d10, d11, d12, d13⟩ := hf 1 (by decide) (by decide)
  have u1 : ∀ {f : Nat → Int} {v : Int}, va_up f t v (q 1) = f (q 1) := fun {f v} => va_up_ne f v c1
  obtain ⟨a2, ⟨b2, c2⟩, d20, d21, d22, d23⟩ := hf 2 (by decide) (by decide)
  have u2 : ∀ {f : Nat → Int} {v : Int}, va_up f t v (q 2) = f (q 2) := fun {f v} => va_up_ne f v c2
  have g : pcG 14 x2 ax tr (s 0) (s 1) (s 2) = if s 0 0 = 9 ∧ s 1 0 = 11 ∧ s 1 2 = s 0 1 ∧ s 2 0 = 11 ∧ s 2 2 = s 0 1 ∧ s 1 1 = s 2 1 then pcM 11 (s 1 3) 1 (s 2 3) else pcZ := rfl
  have hz : pcG 14 x2 ax tr (s 0) (s 1) (s 2) = pcZ → post 0 mX9_kind mX9_a mX9_b mX9_c := fun e => by have := h0 e (mX9_kind t) (mX9_a t) (mX9_b t) (mX9_c t); rw [va_up_id (f := mX9_kind) rfl, va_up_id (f := mX9_a) rfl, va_up_id (f := mX9_b) rfl, va_up_id (f := mX9_c) rfl] at this; exact this
  rw [g] at h1 h0 hz
  simp only [wpPC_X16_give, wpPC_X9_set, wpPC_X8_isOf, wpDPC_X17_more_9_10_11_12_15, wpPC_X17_more, wpPC_X18_more, wpPC_X19_more, wpPC_X20_more, wpPC_X23_more]
  simp only [kOn_iff, forall_eq, k1, k2, k3, ko, e0, a0, b0, u0, d00, d01, d02, d03, a1, b1, u1, d10, d11, d12, d13, a2, b2, u2, d20, d21, d22, d23]
  grind
theorem CPC_gz_15 {post : Int → (Nat → Int) → (Nat → Int) → (Nat → Int) → (Nat → Int) → Prop} (F : pcFr kd an ar mX9_kind mX9_a mX9_b mX9_c Fm t 3 q s) (ko : kd o = 16) (h1 : ∀ v0 v1 v2 v3, pcG 15 x2 ax tr (s 0) (s 1) (s 2) = pcM v0 v1 v2 v3 → v0 ≠ 0 → post 1 (va_up mX9_kind t v0) (va_up mX9_a t v1) (va_up mX9_b t v2) (va_up mX9_c t v3)) (h0 : pcG 15 x2 ax tr (s 0) (s 1) (s 2) = pcZ → ∀ v0 v1 v2 v3, post 0 (va_up mX9_kind t v0) (va_up mX9_a t v1) (va_up mX9_b t v2) (va_up mX9_c t v3)) : wpPC_X24_give post kd an ar mX9_kind mX9_a mX9_b mX9_c (some x1) x2 (some Fm) (some t) := by
  obtain ⟨⟨k1, k2, k3⟩, hf⟩ := F
  obtain ⟨a0, ⟨b0, c0⟩, d00, d01, d02, d03⟩ := hf 0 (by decide) (by decide)
  have u0 : ∀ {f : Nat → Int} {v : Int}, va_up f t v (q 0) = f (q 0) := fun {f v} => va_up_ne f v c0
  obtain ⟨a1, ⟨b1, c1⟩, d10, d11, d12, d13⟩ := hf 1 (by decide) (by decide)
  have u1 : ∀ {f : Nat → Int} {v : Int}, va_up f t v (q 1) = f (q 1) := fun {f v} => va_up_ne f v c1
  obtain ⟨a2, ⟨b2, c2⟩, d20, d21, d22, d23⟩ := hf 2 (by decide) (by decide)
  have u2 : ∀ {f : Nat → Int} {v : Int}, va_up f t v (q 2) = f (q 2) := fun {f v} => va_up_ne f v c2
  have g : pcG 15 x2 ax tr (s 0) (s 1) (s 2) = if s 0 0 = 5 ∧ s 1 0 = 11 ∧ s 1 2 = 0 ∧ s 2 0 = 11 ∧ s 2 2 = 0 ∧ s 1 3 = s 0 1 ∧ s 2 3 = s 0 2 ∧ s 1 1 = s 2 1 then pcM 12 0 0 0 else pcZ := rfl
  rw [g] at h1 h0
  unfold wpPC_X24_give wpPC_X9_set wpPC_X8_isOf
  simp only [kOn_iff, forall_eq, k1, k2, k3, ko, a0, b0, u0, d00, d01, d02, d03, a1, b1, u1, d10, d11, d12, d13, a2, b2, u2, d20, d21, d22, d23]
  grind
theorem CPC_gz_16 {post : Int → (Nat → Int) → (Nat → Int) → (Nat → Int) → (Nat → Int) → Prop} (F : pcFr kd an ar mX9_kind mX9_a mX9_b mX9_c Fm t 2 q s) (ko : kd o = 17) (h1 : ∀ v0 v1 v2 v3, pcG 16 x2 ax tr (s 0) (s 1) (s 2) = pcM v0 v1 v2 v3 → v0 ≠ 0 → post 1 (va_up mX9_kind t v0) (va_up mX9_a t v1) (va_up mX9_b t v2) (va_up mX9_c t v3)) (h0 : pcG 16 x2 ax tr (s 0) (s 1) (s 2) = pcZ → ∀ v0 v1 v2 v3, post 0 (va_up mX9_kind t v0) (va_up mX9_a t v1) (va_up mX9_b t v2) (va_up mX9_c t v3)) : wpPC_X25_give post kd an ar mX9_kind mX9_a mX9_b mX9_c (some x1) x2 (some Fm) (some t) := by
  obtain ⟨⟨k1, k2, k3⟩, hf⟩ := F
  obtain ⟨a0, ⟨b0, c0⟩, d00, d01, d02, d03⟩ := hf 0 (by decide) (by decide)
  have u0 : ∀ {f : Nat → Int} {v : Int}, va_up f t v (q 0) = f (q 0) := fun {f v} => va_up_ne f v c0
  obtain ⟨a1, ⟨b1, c1⟩, d10, d11, d12, d13⟩ := hf 1 (by decide) (by decide)
  have u1 : ∀ {f : Nat → Int} {v : Int}, va_up f t v (q 1) = f (q 1) := fun {f v} => va_up_ne f v c1
  have g : pcG 16 x2 ax tr (s 0) (s 1) (s 2) = if s 0 0 = 10 ∧ s 1 0 = 11 ∧ s 1 2 = 1 ∧ s 1 1 = s 0 1 ∧ s 1 3 = s 0 2 then pcM 12 0 0 0 else pcZ := rfl
  rw [g] at h1 h0
  unfold wpPC_X25_give wpPC_X9_set wpPC_X8_isOf
  simp only [kOn_iff, forall_eq, k1, k2, k3, ko, a0, b0, u0, d00, d01, d02, d03, a1, b1, u1, d10, d11, d12, d13]
  grind
theorem CPC_gz_17 {post : Int → (Nat → Int) → (Nat → Int) → (Nat → Int) → (Nat → Int) → Prop} (F : pcFr kd an ar mX9_kind mX9_a mX9_b mX9_c Fm t 1 q s) (ko : kd o = 5) (e0 : mX12_any o = 1) (ka : kd x1 = 1) (ea : mX8_givens x1 = some aG) (kA : kd aG = 22) (lA : an aG = 100) (rA : ar aG (x2 - 1) = some ag) (k2a : kd ag = 2) (hx2 : 1 ≤ x2 ∧ x2 ≤ 100) (oA : pcO mX9_kind mX9_a mX9_b mX9_c ag (fun j => tr (4 * x2 + j))) (nz : tr (4 * x2) ≠ 0) (h1 : ∀ v0 v1 v2 v3, pcG 17 x2 ax tr (s 0) (s 1) (s 2) = pcM v0 v1 v2 v3 → v0 ≠ 0 → post 1 (va_up mX9_kind t v0) (va_up mX9_a t v1) (va_up mX9_b t v2) (va_up mX9_c t v3)) (h0 : pcG 17 x2 ax tr (s 0) (s 1) (s 2) = pcZ → ∀ v0 v1 v2 v3, post 0 (va_up mX9_kind t v0) (va_up mX9_a t v1) (va_up mX9_b t v2) (va_up mX9_c t v3)) : wpPC_X12_give post kd an ar mX8_givens mX9_kind mX9_a mX9_b mX9_c mX12_any o (some x1) x2 (some Fm) (some t) := by
  obtain ⟨⟨k1, k2, k3⟩, hf⟩ := F
  obtain ⟨a0, ⟨b0, c0⟩, d00, d01, d02, d03⟩ := hf 0 (by decide) (by decide)
  have u0 : ∀ {f : Nat → Int} {v : Int}, va_up f t v (q 0) = f (q 0) := fun {f v} => va_up_ne f v c0
  have g : pcG 17 x2 ax tr (s 0) (s 1) (s 2) = if s 0 0 = 12 then pcM (tr (4 * x2)) (tr (4 * x2 + 1)) (tr (4 * x2 + 2)) (tr (4 * x2 + 3)) else pcZ := rfl
  rw [g] at h1 h0
  obtain ⟨o0, o1, o2, o3⟩ := oA
  dsimp only at o0 o1 o2 o3
  rw [Int.add_zero] at o0
  unfold wpPC_X12_give wpPC_X9_copy wpPC_X9_set
  have i1 : 0 ≤ x2 - 1 := by omega
  have i2 : x2 - 1 < 100 := by omega
  have i3 : zR (x2 - 1) := by omega
  simp only [kOn_iff, forall_eq, k1, k2, k3, ko, e0, a0, b0, u0, d00, d01, d02, d03, ka, ea, kA, lA, rA, k2a, o0, o1, o2, o3]
  grind
theorem CPC_give {post : Int → (Nat → Int) → (Nat → Int) → (Nat → Int) → (Nat → Int) → Prop} (F : pcFr kd an ar mX9_kind mX9_a mX9_b mX9_c Fm t (pcT z) q s) (U : pcRu kd mX10_takes mX12_any mX14_kind mX16_kind mX18_first mX19_either z o) (ka : kd x1 = 1) (ea : mX8_axioms x1 = some aA) (eg : mX8_givens x1 = some aG) (kA : kd aA = 22 ∧ kd aG = 22) (lA : an aA = 100 ∧ an aG = 100) (hA : z = 0 → (1 ≤ x2 ∧ x2 ≤ 100) ∧ ∃ b, ar aA (x2 - 1) = some b ∧ kd b = 2 ∧ pcO mX9_kind mX9_a mX9_b mX9_c b (fun j => ax (4 * x2 + j)) ∧ ax (4 * x2) ≠ 0) (hG : (z = 1 ∨ z = 17) → (1 ≤ x2 ∧ x2 ≤ 100) ∧ ∃ b, ar aG (x2 - 1) = some b ∧ kd b = 2 ∧ pcO mX9_kind mX9_a mX9_b mX9_c b (fun j => tr (4 * x2 + j)) ∧ tr (4 * x2) ≠ 0) (h1 : ∀ v0 v1 v2 v3, pcG z x2 ax tr (s 0) (s 1) (s 2) = pcM v0 v1 v2 v3 → v0 ≠ 0 → post 1 (va_up mX9_kind t v0) (va_up mX9_a t v1) (va_up mX9_b t v2) (va_up mX9_c t v3)) (h0 : pcG z x2 ax tr (s 0) (s 1) (s 2) = pcZ → ∀ v0 v1 v2 v3, post 0 (va_up mX9_kind t v0) (va_up mX9_a t v1) (va_up mX9_b t v2) (va_up mX9_c t v3)) : wpDPC_X11_give_4_5_6_7_8_9_10_11_12_13_14_15_16_17 post kd an ar mX8_axioms mX8_givens mX9_kind mX9_a mX9_b mX9_c mX12_any mX14_kind mX16_kind mX18_first mX19_either o (some x1) x2 (some Fm) (some t) := by
  unfold wpDPC_X11_give_4_5_6_7_8_9_10_11_12_13_14_15_16_17
  rcases U with ⟨-, ⟨rfl, ko⟩ | ⟨rfl, ko, e0⟩ | ⟨rfl, ko⟩ | ⟨rfl, ko, e0⟩ | ⟨rfl, ko, e0⟩ | ⟨rfl, ko⟩ | ⟨rfl, ko, e0⟩ | ⟨rfl, ko, e0, e1⟩ | ⟨rfl, ko, e0, e1⟩ | ⟨rfl, ko, e0, e1⟩ | ⟨rfl, ko, e0⟩ | ⟨rfl, ko, e0, e1⟩ | ⟨rfl, ko⟩ | ⟨rfl, ko⟩ | ⟨rfl, ko, e0⟩ | ⟨rfl, ko⟩ | ⟨rfl, ko⟩ | ⟨rfl, ko, e0⟩⟩
  · obtain ⟨hx, b, r1, r2, r3, r4⟩ := hA rfl
    exact (Or.inl ⟨ko, CPC_gz_0 F ko ka ea kA.1 lA.1 r1 r2 hx r3 r4 h1 h0⟩)
  · obtain ⟨hx, b, r1, r2, r3, r4⟩ := hG (by decide)
    exact (Or.inr (Or.inl ⟨ko, CPC_gz_1 F ko e0 ka eg kA.2 lA.2 r1 r2 hx r3 r4 h1 h0⟩))
  · exact (Or.inr (Or.inr (Or.inl ⟨ko, CPC_gz_2 F ko  h1 h0⟩)))
  · exact (Or.inr (Or.inr (Or.inr (Or.inl ⟨ko, CPC_gz_3 F ko e0 h1 h0⟩))))
  · exact (Or.inr (Or.inr (Or.inr (Or.inl ⟨ko, CPC_gz_4 F ko e0 h1 h0⟩))))
  · exact (Or.inr (Or.inr (Or.inr (Or.inr (Or.inl ⟨ko, CPC_gz_5 F ko  h1 h0⟩)))))
  · exact (Or.inr (Or.inr (Or.inr (Or.inr (Or.inr (Or.inl ⟨ko, CPC_gz_6 F ko e0 h1 h0⟩))))))
  · exact (Or.inr (Or.inr (Or.inr (Or.inr (Or.inr (Or.inr (Or.inl ⟨ko, CPC_gz_7 F ko e0 e1 h1 h0⟩)))))))
  · exact (Or.inr (Or.inr (Or.inr (Or.inr (Or.inr (Or.inr (Or.inl ⟨ko, CPC_gz_8 F ko e0 e1 h1 h0⟩)))))))
  · exact (Or.inr (Or.inr (Or.inr (Or.inr (Or.inr (Or.inr (Or.inr (Or.inl ⟨ko, CPC_gz_9 F ko e0 e1 h1 h0⟩))))))))
  · exact (Or.inr (Or.inr (Or.inr (Or.inr (Or.inr (Or.inr (Or.inr (Or.inr (Or.inl ⟨ko, CPC_gz_10 F ko e0 h1 h0⟩)))))))))
  · exact (Or.inr (Or.inr (Or.inr (Or.inr (Or.inr (Or.inr (Or.inr (Or.inl ⟨ko, CPC_gz_11 F ko e0 e1 h1 h0⟩))))))))
  · exact (Or.inr (Or.inr (Or.inr (Or.inr (Or.inr (Or.inr (Or.inr (Or.inr (Or.inr (Or.inl ⟨ko, CPC_gz_12 F ko  h1 h0⟩))))))))))
  · exact (Or.inr (Or.inr (Or.inr (Or.inr (Or.inr (Or.inr (Or.inr (Or.inr (Or.inr (Or.inr (Or.inl ⟨ko, CPC_gz_13 F ko  h1 h0⟩)))))))))))
  · exact (Or.inr (Or.inr (Or.inr (Or.inr (Or.inr (Or.inr (Or.inr (Or.inr (Or.inr (Or.inr (Or.inr (Or.inl ⟨ko, CPC_gz_14 F ko e0 h1 h0⟩))))))))))))
  · exact (Or.inr (Or.inr (Or.inr (Or.inr (Or.inr (Or.inr (Or.inr (Or.inr (Or.inr (Or.inr (Or.inr (Or.inr (Or.inl ⟨ko, CPC_gz_15 F ko  h1 h0⟩)))))))))))))
  · exact (Or.inr (Or.inr (Or.inr (Or.inr (Or.inr (Or.inr (Or.inr (Or.inr (Or.inr (Or.inr (Or.inr (Or.inr (Or.inr (⟨ko, CPC_gz_16 F ko  h1 h0⟩))))))))))))))
  · obtain ⟨hx, b, r1, r2, r3, r4⟩ := hG (by decide)
    exact (Or.inr (Or.inl ⟨ko, CPC_gz_17 F ko e0 ka eg kA.2 lA.2 r1 r2 hx r3 r4 h1 h0⟩))
end
