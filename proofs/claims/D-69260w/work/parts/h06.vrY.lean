/-! VirtualRewrite: the reference (X54) does what a call does -/
def vrIR (c sz ky mp : Int → Int) (mc : Int) (at_ : Int → Int) (ac : Int) (sp : Int → Int) (sc lg : Int) (a fb f1 o : Int → Int) (an : Int) (asked : Int → Int) (s : vrS) : Prop := ∃ M n cn sv sf s1 ask, mc = ((M : Nat) : Int) ∧ ac = ((n : Nat) : Int) ∧ vrH c sz mp M at_ n sc ∧ (lg = 0 ∨ lg = 1) ∧ tAn cn sv sf s1 ask a fb f1 o asked an ∧ s = ((c, sz, ky), (mp, M), (at_, n), (sp, sc), (cn, sv, sf, s1, ask))
section
variable {c sz ky mp at_ sp a fb f1 o asked f tr R_ lb : Int → Int} {mc ac sc lg an uc t k b d i p s' v w x y z : Int} {s : vrS}
theorem vrLg {lg lg' : Int} (hl : lg = 0 ∨ lg = 1) (e : lg' = 0 ∨ lg' = 1 ∨ lg' = lg) : lg' = 0 ∨ lg' = 1 := by omega
theorem Q54_key {post : Int → Int → (Int → Int) → Prop} (R : vrIR c sz ky mp mc at_ ac sp sc lg a fb f1 o an asked s) (hb : b = 0 ∨ b = 1) (h : ∀ ky', vrIR c sz ky' mp mc at_ ac sp sc lg a fb f1 o an asked ((vrKey t k b s).2) → post (vrKey t k b s).1 0 ky') : wpX54_key post c sz ky t k b := by
  obtain ⟨M, n, cn, sv, sf, s1, ask, rfl, rfl, H, hl, K, rfl⟩ := R
  have hO := H.2.1
  exact T54_key (fun t a b => (hO.2.1 t a b).2) hb (h _ ⟨_, _, _, _, _, _, _, rfl, rfl, H, hl, K, rfl⟩)
theorem Q54_row {post : Int → Int → (Int → Int) → (Int → Int) → Prop} (R : vrIR c sz ky mp mc at_ ac sp sc lg a fb f1 o an asked s) (h : ∀ c' sz', vrIR c' sz' ky mp mc at_ ac sp sc lg a fb f1 o an asked ((vrRow t x y z s).2) → post (vrRow t x y z s).1 0 c' sz') : wpX54_row post c sz ky t x y z := by
  obtain ⟨M, n, cn, sv, sf, s1, ask, rfl, rfl, H, hl, K, rfl⟩ := R
  have hO := H.2.1
  exact T54_row hO.2.1 (h _ _ ⟨_, _, _, _, _, _, _, rfl, rfl, H.row, hl, K, rfl⟩)
theorem Q54_drop {post : Int → Int → (Int → Int) → (Int → Int) → Prop} (R : vrIR c sz ky mp mc at_ ac sp sc lg a fb f1 o an asked s) (h : ∀ c' sz', vrIR c' sz' ky mp mc at_ ac sp sc lg a fb f1 o an asked ((vrDrop t i s).2) → post (vrDrop t i s).1 0 c' sz') : wpX54_drop post c sz t i := by
  obtain ⟨M, n, cn, sv, sf, s1, ask, rfl, rfl, H, hl, K, rfl⟩ := R
  have hO := H.2.1
  exact T54_drop hO.2.1 (h _ _ ⟨_, _, _, _, _, _, _, rfl, rfl, H.drop, hl, K, rfl⟩)
theorem Q54_mapping {post : Int → Int → (Int → Int) → Int → Prop} (R : vrIR c sz ky mp mc at_ ac sp sc lg a fb f1 o an asked s) (h : ∀ mp' mc', vrIR c sz ky mp' mc' at_ ac sp sc lg a fb f1 o an asked ((vrMap t p x k y d s).2) → post (vrMap t p x k y d s).1 0 mp' mc') : wpX54_mapping post mp mc t p x k y d := by
  obtain ⟨M, n, cn, sv, sf, s1, ask, rfl, rfl, H, hl, K, rfl⟩ := R
  have hO := H.2.1
  exact T54_mapping hO.1 (h _ _ ⟨_, _, _, _, _, _, _, vrMap_N.symm, rfl, H.map, hl, K, rfl⟩)
theorem Q54_triples {post : Int → Int → Prop} (R : vrIR c sz ky mp mc at_ ac sp sc lg a fb f1 o an asked s) (h : post (vrTri s) 0) : wpX54_triples post c sz mp mc := by
  obtain ⟨M, n, cn, sv, sf, s1, ask, rfl, rfl, H, hl, K, rfl⟩ := R
  have hO := H.2.1
  exact T54_triples hO h
theorem Q54_atom {post : Int → Int → (Int → Int) → Int → Prop} (R : vrIR c sz ky mp mc at_ ac sp sc lg a fb f1 o an asked s) (h : ∀ at' ac', vrIR c sz ky mp mc at' ac' sp sc lg a fb f1 o an asked ((vrAtom p x y s).2) → post (vrAtom p x y s).1 0 at' ac') : wpX54_atom post at_ ac p x y := by
  obtain ⟨M, n, cn, sv, sf, s1, ask, rfl, rfl, H, hl, K, rfl⟩ := R
  have hO := H.2.1
  have n4 := H.1
  exact T54_atom ⟨by omega, by omega⟩ (h _ _ ⟨_, _, _, _, _, _, _, rfl, vrAtom_N.symm, H.atom, hl, K, rfl⟩)
theorem Q54_span {post : Int → Int → (Int → Int) → Int → Prop} (R : vrIR c sz ky mp mc at_ ac sp sc lg a fb f1 o an asked s) (h : ∀ sp' sc', vrIR c sz ky mp mc at_ ac sp' sc' lg a fb f1 o an asked ((vrSpan v x y s).2) → post (vrSpan v x y s).1 0 sp' sc') : wpX54_span post sp sc v x y := by
  obtain ⟨M, n, cn, sv, sf, s1, ask, rfl, rfl, H, hl, K, rfl⟩ := R
  have hO := H.2.1
  exact T54_span H.2.2.2 (h _ _ ⟨_, _, _, _, _, _, _, rfl, rfl, H.span, hl, K, rfl⟩)
theorem Q54_clear {post : Int → Int → Int → Int → Prop} (R : vrIR c sz ky mp mc at_ ac sp sc lg a fb f1 o an asked s) (h : ∀ ac' sc', vrIR c sz ky mp mc at_ ac' sp sc' lg a fb f1 o an asked ((vrClear s).2) → post (vrClear s).1 0 ac' sc') : wpX54_clear post ac := by
  obtain ⟨M, n, cn, sv, sf, s1, ask, rfl, rfl, H, hl, K, rfl⟩ := R
  have hO := H.2.1
  unfold wpX54_clear
  exact h 0 0 ⟨_, _, _, _, _, _, _, rfl, rfl, H.clear, hl, K, rfl⟩
theorem Q54_unions {post : Int → Int → (Int → Int) → Int → Int → (Int → Int) → Prop} (R : vrIR c sz ky mp mc at_ ac sp sc lg a fb f1 o an asked s) (h : ∀ f' uc' lg' tr', vrIR c sz ky mp mc at_ ac sp sc lg' a fb f1 o an asked s → post (vrUnions s) 0 f' uc' lg' tr') : wpX54_unions post ky mp mc at_ ac f uc lg tr := by
  obtain ⟨M, n, cn, sv, sf, s1, ask, rfl, rfl, H, hl, K, rfl⟩ := R
  have hO := H.2.1
  exact T54_unions H.q (fun f' uc' lg' tr' e => h f' uc' lg' tr' ⟨_, _, _, _, _, _, _, rfl, rfl, H, (vrLg hl e), K, rfl⟩)
theorem Q54_union {post : Int → Int → (Int → Int) → Int → Int → (Int → Int) → Prop} (R : vrIR c sz ky mp mc at_ ac sp sc lg a fb f1 o an asked s) (h : ∀ f' uc' lg' tr', vrIR c sz ky mp mc at_ ac sp sc lg' a fb f1 o an asked s → post (vrUnion i w s) 0 f' uc' lg' tr') : wpX54_union post ky mp mc at_ ac f uc lg tr i w := by
  obtain ⟨M, n, cn, sv, sf, s1, ask, rfl, rfl, H, hl, K, rfl⟩ := R
  have hO := H.2.1
  exact T54_union H.q (fun f' uc' lg' tr' e => h f' uc' lg' tr' ⟨_, _, _, _, _, _, _, rfl, rfl, H, (vrLg hl e), K, rfl⟩)
theorem Q54_estimate {post : Int → Int → (Int → Int) → Int → Int → (Int → Int) → Prop} (R : vrIR c sz ky mp mc at_ ac sp sc lg a fb f1 o an asked s) (h : ∀ f' uc' lg' tr', vrIR c sz ky mp mc at_ ac sp sc lg' a fb f1 o an asked s → post (vrEst i s) 0 f' uc' lg' tr') : wpX54_estimate post sz ky mp mc at_ ac f uc lg tr i := by
  obtain ⟨M, n, cn, sv, sf, s1, ask, rfl, rfl, H, hl, K, rfl⟩ := R
  have hO := H.2.1
  exact T54_estimate H.q hO.2.1 (fun f' uc' lg' tr' e => h f' uc' lg' tr' ⟨_, _, _, _, _, _, _, rfl, rfl, H, (vrLg hl e), K, rfl⟩)
theorem Q54_run {post : Int → Int → (Int → Int) → Int → Int → (Int → Int) → (Int → Int) → (Int → Int) → (Int → Int) → (Int → Int) → (Int → Int) → (Int → Int) → Int → (Int → Int) → Int → Prop} (R : vrIR c sz ky mp mc at_ ac sp sc lg a fb f1 o an asked s) (h : ∀ f' uc' lg' tr' R' a' fb' f1' lb' o' an' asked' tm', vrIR c sz ky mp mc at_ ac sp sc lg' a' fb' f1' o' an' asked' ((vrRun s).2) → post (vrRun s).1 0 f' uc' lg' tr' R' a' fb' f1' lb' o' an' asked' tm') : wpX54_run post c sz ky mp mc at_ ac sp sc f uc lg tr R_ a fb f1 lb o asked := by
  obtain ⟨M, n, cn, sv, sf, s1, ask, rfl, rfl, H, hl, K, rfl⟩ := R
  have hO := H.2.1
  exact T54_run hO H.q H.2.2.1 H.2.2.2 (fun f' uc' lg' tr' R' a' fb' f1' lb' o' an' asked' tm' e K' _ => h f' uc' lg' tr' R' a' fb' f1' lb' o' an' asked' tm' ⟨_, _, _, _, _, _, _, rfl, rfl, H, (vrLg hl e), K', rfl⟩)
theorem Q54_value {post : Int → Int → Prop} (R : vrIR c sz ky mp mc at_ ac sp sc lg a fb f1 o an asked s) (h : post (vrValue i v s).2 (if (vrValue i v s).1 = 0 then 0 else 1)) : wpX54_value post a o an asked i v := by
  obtain ⟨M, n, cn, sv, sf, s1, ask, rfl, rfl, H, hl, K, rfl⟩ := R
  have hO := H.2.1
  refine T54_value K (fun q => ?_) (fun q => ?_)
  · have e : vrValue i v ((c, sz, ky), (mp, M), (at_, n), (sp, sc), (cn, sv, sf, s1, ask)) = (2, 0) := pif_t q
    rw [e] at h
    exact h
  · have e : vrValue i v ((c, sz, ky), (mp, M), (at_, n), (sp, sc), (cn, sv, sf, s1, ask)) = (0, vVal cn sv i v) := pif_f q
    rw [e] at h
    exact h
theorem Q54_found {post : Int → Int → Prop} (R : vrIR c sz ky mp mc at_ ac sp sc lg a fb f1 o an asked s) (h : post (vrFound i w s) 0) : wpX54_found post fb f1 o an i w := by
  obtain ⟨M, n, cn, sv, sf, s1, ask, rfl, rfl, H, hl, K, rfl⟩ := R
  have hO := H.2.1
  exact T54_found K h
end
