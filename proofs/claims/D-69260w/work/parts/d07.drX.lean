/-! DatatypeValues: the reference (X49) does what a call does -/
def dqIR (tp : Int → Int) (sz c : Int) (kn on tw bt : Int → Int) (os : Int) (o : Int → Int) (S : dvS) : Prop := ∃ o1, dvT tp ∧ dvVs c kn on tw bt ∧ (0 ≤ sz ∧ sz ≤ 64) ∧ os ≤ 80 ∧ (∀ i, 0 ≤ i → i < os → o i = o1 i) ∧ S = ((tp, sz), (c, kn, on, tw, bt), os, o1)
section
variable {tp kn on tw bt o row : Int → Int} {sz c os x n v i a b op kind at_ F_ o1_ o2_ rs sm sl Y M D : Int} {S : dvS}
theorem Q49_type {post : Int → (Int → Int) → Int → Int → Prop} (R : dqIR tp sz c kn on tw bt os o S) (hn : zR n) (h : ∀ tp' sz', dqIR tp' sz' c kn on tw bt os o ((dqType x n S).2) → post (dqType x n S).1 tp' sz' 0) : wpX49_type post tp sz x n := by
  obtain ⟨o1, hT, V, hsz, hos, ho, rfl⟩ := R
  have hc := V.1
  refine T49_type hsz hn (fun f => ?_) (fun f z => ?_) (fun f z => ?_)
  · have e : dqType x n ((tp, sz), (c, kn, on, tw, bt), os, o1) = (-1, ((tp, sz), (c, kn, on, tw, bt), os, o1)) := if_neg f
    rw [e] at h
    exact h _ _ ⟨_, hT, V, hsz, hos, ho, rfl⟩
  · have e : dqType x n ((tp, sz), (c, kn, on, tw, bt), os, o1) = (-3, ((tp, sz), (c, kn, on, tw, bt), os, o1)) := (if_pos f).trans (if_pos z)
    rw [e] at h
    exact h _ _ ⟨_, hT, V, hsz, hos, ho, rfl⟩
  · have e : dqType x n ((tp, sz), (c, kn, on, tw, bt), os, o1) = (sz + n, ((dvTq tp sz x n n, sz + n), (c, kn, on, tw, bt), os, o1)) := (if_pos f).trans (if_neg (by omega))
    rw [e] at h
    exact h _ _ ⟨_, hT.tq, V, ⟨by omega, z⟩, hos, ho, rfl⟩
theorem Q49_read {post : Int → (Int → Int) → (Int → Int) → (Int → Int) → (Int → Int) → Int → Int → Int → Int → Int → Int → (Int → Int) → Int → Int → Int → Int → Prop} (R : dqIR tp sz c kn on tw bt os o S) (h : ∀ kn' on' tw' bt' c' sz' at' F' o1' o2' row' rs' sm' sl', dqIR tp sz' c' kn' on' tw' bt' os o ((dqRead kind S).2) → post (dqRead kind S).1 kn' on' tw' bt' c' sz' at' F' o1' o2' row' rs' 0 sm' sl') : wpX49_read post kn on tw bt c tp sz at_ F_ o1_ o2_ row rs sm sl kind := by
  obtain ⟨o1, hT, V, hsz, hos, ho, rfl⟩ := R
  have hc := V.1
  refine T49_read hT hsz hc (fun f => ?_) (fun f z at_ a1 a2 row rs sm sl => ?_) (fun f z z2 at_ a1 a2 row rs sm sl => ?_) (fun f z z2 at_ a1 a2 row rs sm sl => ?_)
  · have e : dqRead kind ((tp, sz), (c, kn, on, tw, bt), os, o1) = (-1, ((tp, sz), (c, kn, on, tw, bt), os, o1)) := if_neg f
    rw [e] at h
    exact h _ _ _ _ _ _ _ _ _ _ _ _ _ _ ⟨_, hT, V, hsz, hos, ho, rfl⟩
  · have e : dqRead kind ((tp, sz), (c, kn, on, tw, bt), os, o1) = (-10 - (dvRv tp sz kind).1, ((tp, 0), (c, kn, on, tw, bt), os, o1)) := (if_pos f).trans (if_pos z)
    rw [e] at h
    exact h _ _ _ _ _ _ _ _ _ _ _ _ _ _ ⟨_, hT, V, ⟨Int.le_refl _, by decide⟩, hos, ho, rfl⟩
  · have e : dqRead kind ((tp, sz), (c, kn, on, tw, bt), os, o1) = (-3, ((tp, 0), (c, kn, on, tw, bt), os, o1)) := (if_pos f).trans ((if_neg (by omega)).trans (if_pos z2))
    rw [e] at h
    exact h _ _ _ _ _ _ _ _ _ _ _ _ _ _ ⟨_, hT, V, ⟨Int.le_refl _, by decide⟩, hos, ho, rfl⟩
  · have e : dqRead kind ((tp, sz), (c, kn, on, tw, bt), os, o1) = (c, ((tp, 0), (c + 1, updI kn c kind, updI on c (if kind ≤ 6 then (dvRv tp sz kind).2.1 else (dvRv tp sz kind).2.2.2.1), updI tw c (if kind = 3 ∨ 6 < kind then 0 else (dvRv tp sz kind).2.2.1), dvBu bt c (dvRv tp sz kind).2.2.2.1 (dvRv tp sz kind).2.2.2.2), os, o1)) := (if_pos f).trans ((if_neg (by omega)).trans (if_neg (by omega)))
    rw [e] at h
    exact h _ _ _ _ _ _ _ _ _ _ _ _ _ _ ⟨_, hT, dvVs_read hT f z V z2, ⟨Int.le_refl _, by decide⟩, hos, ho, rfl⟩
theorem Q49_values {post : Int → Int → Prop} (R : dqIR tp sz c kn on tw bt os o S) (h : post (dqValues S) 0) : wpX49_values post c := by
  obtain ⟨o1, hT, V, hsz, hos, ho, rfl⟩ := R
  have hc := V.1
  unfold wpX49_values
  exact h
theorem Q49_kind {post : Int → Int → Prop} (R : dqIR tp sz c kn on tw bt os o S) (h : post (dqKind v S) 0) : wpX49_kind post kn c v := by
  obtain ⟨o1, hT, V, hsz, hos, ho, rfl⟩ := R
  have hc := V.1
  exact T49_kind hc.2 h
theorem Q49_part {post : Int → Int → Prop} (R : dqIR tp sz c kn on tw bt os o S) (h : post (dqPart v i S) 0) : wpX49_part post on tw c v i := by
  obtain ⟨o1, hT, V, hsz, hos, ho, rfl⟩ := R
  have hc := V.1
  exact T49_part hc.2 h
theorem Q49_byteOf {post : Int → Int → Prop} (R : dqIR tp sz c kn on tw bt os o S) (h : post (dqByteOf v i S) 0) : wpX49_byteOf post kn on bt c v i := by
  obtain ⟨o1, hT, V, hsz, hos, ho, rfl⟩ := R
  have hc := V.1
  exact T49_byteOf hc.2 (fun v0 v1 k => ((V.2 v v0 v1).1.2.2.2.2.2 k).1.2) h
theorem Q49_compare {post : Int → Int → Int → Int → Int → Prop} (R : dqIR tp sz c kn on tw bt os o S) (h : ∀ y m d, post (dqCompare a b S) 0 y m d) : wpX49_compare post kn on tw bt c Y M D a b := by
  obtain ⟨o1, hT, V, hsz, hos, ho, rfl⟩ := R
  have hc := V.1
  exact T49_compare V h
theorem Q49_tell {post : Int → (Int → Int) → Int → Int → Int → Int → Int → Prop} (R : dqIR tp sz c kn on tw bt os o S) (h : ∀ o' os' y m d, dqIR tp sz c kn on tw bt os' o' ((dqTell v S).2) → post (dqTell v S).1 o' os' 0 y m d) : wpX49_tell post kn on tw bt c o os Y M D v := by
  obtain ⟨o1, hT, V, hsz, hos, ho, rfl⟩ := R
  have hc := V.1
  refine T49_tell V (fun f => ?_) (fun f y m d => ?_)
  · have e : dqTell v ((tp, sz), (c, kn, on, tw, bt), os, o1) = (-1, ((tp, sz), (c, kn, on, tw, bt), os, o1)) := if_neg f
    rw [e] at h
    exact h _ _ _ _ _ ⟨_, hT, V, hsz, hos, ho, rfl⟩
  · have e : dqTell v ((tp, sz), (c, kn, on, tw, bt), os, o1) = (((dvTl kn on tw bt v).length : Int), ((tp, sz), (c, kn, on, tw, bt), ((dvTl kn on tw bt v).length : Int), dvPo (fun _ => 0) (dvTl kn on tw bt v))) := if_pos f
    rw [e] at h
    exact h _ _ _ _ _ ⟨_, hT, V, hsz, dvTl_l V f, fun i i0 i1 => dvPo_c ⟨i0, i1⟩, rfl⟩
theorem Q49_told {post : Int → Int → Prop} (R : dqIR tp sz c kn on tw bt os o S) (h : post (dqTold i S) 0) : wpX49_told post o os i := by
  obtain ⟨o1, hT, V, hsz, hos, ho, rfl⟩ := R
  have hc := V.1
  refine T49_told (by omega) ?_
  have e : dqTold i ((tp, sz), (c, kn, on, tw, bt), os, o1) = if 0 ≤ i ∧ i < os then o i else -1 := by
    show (if 0 ≤ i ∧ i < os then o1 i else -1) = _
    by_cases f : 0 ≤ i ∧ i < os
    · rw [if_pos f, if_pos f, ho i f.1 f.2]
    · rw [if_neg f, if_neg f]
  rw [← e]
  exact h
theorem Q49_apply {post : Int → (Int → Int) → (Int → Int) → (Int → Int) → (Int → Int) → Int → Int → Int → Int → Int → Int → Int → Int → Prop} (R : dqIR tp sz c kn on tw bt os o S) (hop : zR op) (h : ∀ kn' on' tw' bt' c' a1 a2 rs' y m d, dqIR tp sz c' kn' on' tw' bt' os o ((dqApply op a b S).2) → post (dqApply op a b S).1 kn' on' tw' bt' c' a1 a2 rs' 0 y m d) : wpX49_apply post kn on tw bt c o1_ o2_ row rs Y M D op a b := by
  obtain ⟨o1, hT, V, hsz, hos, ho, rfl⟩ := R
  have hc := V.1
  refine T49_apply V hop (fun y m d => ⟨fun z a1 a2 s => ?_, fun z z2 a1 a2 s => ?_, fun z z2 a1 a2 s => ?_⟩)
  · have e : dqApply op a b ((tp, sz), (c, kn, on, tw, bt), os, o1) = ((dvAp kn on tw c op a b).1, ((tp, sz), (c, kn, on, tw, bt), os, o1)) := if_pos z
    rw [e] at h
    exact h _ _ _ _ _ _ _ _ _ _ _ ⟨_, hT, V, hsz, hos, ho, rfl⟩
  · have e : dqApply op a b ((tp, sz), (c, kn, on, tw, bt), os, o1) = (-3, ((tp, sz), (c, kn, on, tw, bt), os, o1)) := (if_neg (by omega)).trans (if_pos z2)
    rw [e] at h
    exact h _ _ _ _ _ _ _ _ _ _ _ ⟨_, hT, V, hsz, hos, ho, rfl⟩
  · have e : dqApply op a b ((tp, sz), (c, kn, on, tw, bt), os, o1) = (c, ((tp, sz), (c + 1, updI kn c (dvAp kn on tw c op a b).2.1, updI on c (dvAp kn on tw c op a b).2.2.1, updI tw c (dvAp kn on tw c op a b).2.2.2, bt), os, o1)) := (if_neg (by omega)).trans (if_neg (by omega))
    rw [e] at h
    exact h _ _ _ _ _ _ _ _ _ _ _ ⟨_, hT, dvVs_apply V z2 z, hsz, hos, ho, rfl⟩
end
