/-! BASE 13: the words of 'throw new E()' (printed by tools/xatoms.py) -/
set_option maxRecDepth 100000
def kZl (C n d : String) (A : Nat → Prop) (U : State) (H : Heap) : Prop := ∃ (c : ClassId) (k : Class) (i : Nat) (f : Field) (a : Nat) (cell : Cell), U.vm.findClass C = some c ∧ U.fieldFound? C n d = some (c, k, i, f) ∧ f.isStatic = true ∧ k.statics = some a ∧ H[a]? = some cell ∧ cell.vm.isStatics = true ∧ cell.cls = c ∧ f.slot < cell.slots.size ∧ k.staticTypes[f.slot]? = some f.type ∧ (∃ b : Nat, cell.slots[f.slot]? = some (.ref b)) ∧ ¬ A a
theorem kZl.moved {C n d : String} {A : Nat → Prop} {u U : State} {H : Heap} (hvm : u.vm.Alike U.vm) (h : kZl C n d A u H) : kZl C n d A U H := by
  obtain ⟨c, k, i, f, a, cell, h0, h1, h2, h3, h4, h5, h6, h7, h8, h9⟩ := h
  obtain ⟨k', hi', he⟩ := State.fieldFound?_setVm hvm h1
  exact ⟨c, k', i, f, a, cell, by rw [hvm.findClass]; exact h0, hi', h2, by rw [he]; exact h3, h4, h5, h6, h7, by rw [he]; exact h8, h9⟩
theorem kZl.kept {C n d : String} {A : Nat → Prop} {U : State} {H H1 : Heap} (h : kZl C n d A U H) (hq : ∀ a : Nat, a < H.size → ¬ A a → H1[a]? = H[a]?) : kZl C n d A U H1 := by
  obtain ⟨c, k, i, f, a, cell, h0, h1, h2, h3, h4, h5, h6, h7, h8, h9, h10⟩ := h
  exact ⟨c, k, i, f, a, cell, h0, h1, h2, h3, by rw [hq a (Array.getElem?_eq_some_iff.mp h4).1 h10]; exact h4, h5, h6, h7, h8, h9, h10⟩
theorem kZl.narrow {C n d : String} {A B : Nat → Prop} {U : State} {H : Heap} (h : kZl C n d A U H) (hAB : ∀ q, q < H.size → B q → A q) : kZl C n d B U H := by
  obtain ⟨c, k, i, f, a, cell, h0, h1, h2, h3, h4, h5, h6, h7, h8, h9, h10⟩ := h
  exact ⟨c, k, i, f, a, cell, h0, h1, h2, h3, h4, h5, h6, h7, h8, h9, fun z => h10 (hAB a (Array.getElem?_eq_some_iff.mp h4).1 z)⟩
theorem kZl.lays {C n d : String} {A : Nat → Prop} {s : State} {args : Array Value} (h : kZl C n d A s s.heap) : (Cond.laysStatic C n d).before args s = true := by
  obtain ⟨c, k, i, f, a, cell, h0, h1, h2, h3, h4, h5, h6, h7, h8, h9⟩ := h
  exact Cond.laysStatic_of h0 h1 h2 h3 h4 h5 h6 h7 h8
theorem kZl.isr {C n d : String} {A : Nat → Prop} {s : State} {args : Array Value} (h : kZl C n d A s s.heap) : (Cond.isRef (.static C n d)).before args s = true := by
  obtain ⟨c, k, i, f, a, cell, h0, h1, h2, h3, h4, h5, h6, h7, h8, ⟨b, h9⟩, -⟩ := h
  have he : (Term.static C n d).eval args s none [] s = some (.ref b) := Term.static_eval h1 h2 h3 h4 h5 h9
  simp [Cond.before, Cond.holds, Cond.value, he]
/-- what the exceptions' constructors ask of what lies outside -/
def kEX (G : kGt) : Prop := ∀ (A : Nat → Prop) (s : State) (H : Heap), G A s H → kZl "java/lang/Throwable" "UNASSIGNED_STACK" "[Ljava/lang/StackTraceElement;" A s H ∧ kZl "java/lang/Throwable" "SUPPRESSED_SENTINEL" "Ljava/util/List;" A s H
theorem al_cons {P : Cond → Prop} {a : Cond} {l : List Cond} (h : P a) (t : ∀ w ∈ l, P w) : ∀ w ∈ a :: l, P w := fun w hw => by
  rcases List.mem_cons.mp hw with rfl | h1
  · exact h
  · exact t w h1
theorem al_nil {P : Cond → Prop} : ∀ w ∈ ([] : List Cond), P w := fun w hw => by cases hw
section KX13
variable {Xw : va_W} {G : kGt} {p : Program} {s : State} {m : MethodId} {args : Array Value} {meth : Method} {c : Code} {cc : ByteArray} {nL : Nat} {own : String} {ret : Option FieldType} {D : va_G} {cl : List vw_C} {tys : List (ClassId × FieldType)} {A : Nat → Prop} {ic : Nat}
theorem xw533 : (Jvm.Cond.initialized "java/lang/Throwable") ∈ lw_all := lw_g (lw_at lw_m1 55 rfl) rfl
theorem xw602 : (Jvm.Cond.instanceMethod ({ cls := "java/lang/Object", name := "<init>", desc := "()V" } : Jvm.MethodName)) ∈ lw_all := lw_g (lw_at lw_m1 124 rfl) rfl
theorem xw603 : (Jvm.Cond.code ({ cls := "java/lang/Object", name := "<init>", desc := "()V" } : Jvm.MethodName) object_method_1_code (1 : Nat) (Option.none : Option Jvm.ClassFile.FieldType)) ∈ lw_all := lw_g (lw_at lw_m1 125 rfl) rfl
theorem xw1850 : (Jvm.Cond.instantiable "java/lang/IllegalStateException" (6 : Nat)) ∈ lw_all := lw_g (lw_at lw_m6 172 rfl) rfl
theorem xw1851 : (Jvm.Cond.castable "java/lang/IllegalStateException" "java/lang/IllegalStateException") ∈ lw_tbl := lw_at lw_m6 173 rfl
theorem xw1852 : (Jvm.Cond.declares ({ cls := "java/lang/RuntimeException", name := "<init>", desc := "()V" } : Jvm.MethodName)) ∈ lw_tbl := lw_at lw_m6 174 rfl
theorem xw1854 : (Jvm.Cond.declares ({ cls := "java/lang/Exception", name := "<init>", desc := "()V" } : Jvm.MethodName)) ∈ lw_tbl := lw_at lw_m6 176 rfl
theorem xw1856 : (Jvm.Cond.declares ({ cls := "java/lang/Throwable", name := "<init>", desc := "()V" } : Jvm.MethodName)) ∈ lw_tbl := lw_at lw_m6 178 rfl
theorem xw1858 : (Jvm.Cond.selects "java/lang/IllegalStateException" ({ cls := "java/lang/Throwable", name := "fillInStackTrace", desc := "(I)Ljava/lang/Throwable;" } : Jvm.MethodName) ({ cls := "java/lang/Throwable", name := "fillInStackTrace", desc := "(I)Ljava/lang/Throwable;" } : Jvm.MethodName)) ∈ lw_all := lw_g (lw_at lw_m6 180 rfl) rfl
theorem xw1859 : (Jvm.Cond.selects "java/lang/IllegalStateException" ({ cls := "java/lang/Throwable", name := "fillInStackTrace", desc := "()Ljava/lang/Throwable;" } : Jvm.MethodName) ({ cls := "java/lang/Throwable", name := "fillInStackTrace", desc := "()Ljava/lang/Throwable;" } : Jvm.MethodName)) ∈ lw_all := lw_g (lw_at lw_m6 181 rfl) rfl
theorem xw1860 : (Jvm.Cond.lays "java/lang/IllegalStateException" "java/lang/Throwable" "cause" "Ljava/lang/Throwable;") ∈ lw_all := lw_g (lw_at lw_m6 182 rfl) rfl
theorem xw1861 : (Jvm.Cond.lays "java/lang/Throwable" "java/lang/Throwable" "cause" "Ljava/lang/Throwable;") ∈ lw_all := lw_g (lw_at lw_m6 183 rfl) rfl
theorem xw1862 : (Jvm.Cond.lays "java/lang/IllegalStateException" "java/lang/Throwable" "stackTrace" "[Ljava/lang/StackTraceElement;") ∈ lw_all := lw_g (lw_at lw_m6 184 rfl) rfl
theorem xw1863 : (Jvm.Cond.lays "java/lang/Throwable" "java/lang/Throwable" "stackTrace" "[Ljava/lang/StackTraceElement;") ∈ lw_all := lw_g (lw_at lw_m6 185 rfl) rfl
theorem xw1864 : (Jvm.Cond.lays "java/lang/IllegalStateException" "java/lang/Throwable" "suppressedExceptions" "Ljava/util/List;") ∈ lw_all := lw_g (lw_at lw_m6 186 rfl) rfl
theorem xw1865 : (Jvm.Cond.lays "java/lang/Throwable" "java/lang/Throwable" "suppressedExceptions" "Ljava/util/List;") ∈ lw_all := lw_g (lw_at lw_m6 187 rfl) rfl
theorem xw1866 : (Jvm.Cond.lays "java/lang/IllegalStateException" "java/lang/Throwable" "detailMessage" "Ljava/lang/String;") ∈ lw_all := lw_g (lw_at lw_m6 188 rfl) rfl
theorem xw1867 : (Jvm.Cond.lays "java/lang/Throwable" "java/lang/Throwable" "detailMessage" "Ljava/lang/String;") ∈ lw_all := lw_g (lw_at lw_m6 189 rfl) rfl
theorem xw1868 : (Jvm.Cond.lays "java/lang/IllegalStateException" "java/lang/Throwable" "backtrace" "Ljava/lang/Object;") ∈ lw_all := lw_g (lw_at lw_m6 190 rfl) rfl
theorem xw1869 : (Jvm.Cond.lays "java/lang/Throwable" "java/lang/Throwable" "backtrace" "Ljava/lang/Object;") ∈ lw_all := lw_g (lw_at lw_m6 191 rfl) rfl
theorem xw1870 : (Jvm.Cond.fieldLink "java/lang/Throwable" (198 : Nat) "java/lang/Throwable" "backtrace" "Ljava/lang/Object;") ∈ lw_all := lw_g (lw_at lw_m6 192 rfl) rfl
theorem xw1871 : (Jvm.Cond.superclass "java/lang/Throwable" "java/lang/Object") ∈ lw_all := lw_g (lw_at lw_m6 193 rfl) rfl
theorem xw1872 : (Jvm.Cond.instanceMethod ({ cls := "java/lang/Throwable", name := "<init>", desc := "()V" } : Jvm.MethodName)) ∈ lw_all := lw_g (lw_at lw_m6 194 rfl) rfl
theorem xw1873 : (Jvm.Cond.code ({ cls := "java/lang/Throwable", name := "<init>", desc := "()V" } : Jvm.MethodName) prog_115_method_1_code (1 : Nat) (Option.none : Option Jvm.ClassFile.FieldType)) ∈ lw_all := lw_g (lw_at lw_m6 195 rfl) rfl
theorem xw1874 : (Jvm.Cond.methodLink "java/lang/Throwable" (1 : Nat) ({ cls := "java/lang/Object", name := "<init>", desc := "()V" } : Jvm.MethodName)) ∈ lw_all := lw_g (lw_at lw_m6 196 rfl) rfl
theorem xw1875 : (Jvm.Cond.fieldLink "java/lang/Throwable" (13 : Nat) "java/lang/Throwable" "UNASSIGNED_STACK" "[Ljava/lang/StackTraceElement;") ∈ lw_all := lw_g (lw_at lw_m6 197 rfl) rfl
theorem xw1877 : (Jvm.Cond.fieldLink "java/lang/Throwable" (20 : Nat) "java/lang/Throwable" "SUPPRESSED_SENTINEL" "Ljava/util/List;") ∈ lw_all := lw_g (lw_at lw_m6 199 rfl) rfl
theorem xw1879 : (Jvm.Cond.methodLink "java/lang/Throwable" (27 : Nat) ({ cls := "java/lang/Throwable", name := "fillInStackTrace", desc := "()Ljava/lang/Throwable;" } : Jvm.MethodName)) ∈ lw_all := lw_g (lw_at lw_m6 201 rfl) rfl
theorem xw1880 : (Jvm.Cond.instanceMethod ({ cls := "java/lang/Throwable", name := "fillInStackTrace", desc := "()Ljava/lang/Throwable;" } : Jvm.MethodName)) ∈ lw_all := lw_g (lw_at lw_m6 202 rfl) rfl
theorem xw1882 : (Jvm.Cond.selects "java/lang/IllegalArgumentException" ({ cls := "java/lang/Throwable", name := "fillInStackTrace", desc := "()Ljava/lang/Throwable;" } : Jvm.MethodName) ({ cls := "java/lang/Throwable", name := "fillInStackTrace", desc := "()Ljava/lang/Throwable;" } : Jvm.MethodName)) ∈ lw_all := lw_g (lw_at lw_m6 204 rfl) rfl
theorem xw1883 : (Jvm.Cond.codeSync ({ cls := "java/lang/Throwable", name := "fillInStackTrace", desc := "()Ljava/lang/Throwable;" } : Jvm.MethodName) prog_115_method_18_code (1 : Nat) (Option.some (Jvm.ClassFile.FieldType.object "java/lang/Throwable"))) ∈ lw_all := lw_g (lw_at lw_m6 205 rfl) rfl
theorem xw1884 : (Jvm.Cond.methodLink "java/lang/Throwable" (202 : Nat) ({ cls := "java/lang/Throwable", name := "fillInStackTrace", desc := "(I)Ljava/lang/Throwable;" } : Jvm.MethodName)) ∈ lw_all := lw_g (lw_at lw_m6 206 rfl) rfl
theorem xw1886 : (Jvm.Cond.instanceMethod ({ cls := "java/lang/Throwable", name := "fillInStackTrace", desc := "(I)Ljava/lang/Throwable;" } : Jvm.MethodName)) ∈ lw_all := lw_g (lw_at lw_m6 208 rfl) rfl
theorem xw1888 : (Jvm.Cond.native ({ cls := "java/lang/Throwable", name := "fillInStackTrace", desc := "(I)Ljava/lang/Throwable;" } : Jvm.MethodName)) ∈ lw_all := lw_g (lw_at lw_m6 210 rfl) rfl
theorem xw1904 : (Jvm.Cond.fieldLink "java/lang/Throwable" (7 : Nat) "java/lang/Throwable" "cause" "Ljava/lang/Throwable;") ∈ lw_all := lw_g (lw_at lw_m6 226 rfl) rfl
theorem xw1905 : (Jvm.Cond.fieldLink "java/lang/Throwable" (17 : Nat) "java/lang/Throwable" "stackTrace" "[Ljava/lang/StackTraceElement;") ∈ lw_all := lw_g (lw_at lw_m6 227 rfl) rfl
theorem xw1906 : (Jvm.Cond.fieldLink "java/lang/Throwable" (24 : Nat) "java/lang/Throwable" "suppressedExceptions" "Ljava/util/List;") ∈ lw_all := lw_g (lw_at lw_m6 228 rfl) rfl
theorem xw2604 : (Jvm.Cond.instanceMethod ({ cls := "java/lang/IllegalStateException", name := "<init>", desc := "()V" } : Jvm.MethodName)) ∈ lw_all := lw_g (lw_at lw_m9 206 rfl) rfl
theorem xw2605 : (Jvm.Cond.code ({ cls := "java/lang/IllegalStateException", name := "<init>", desc := "()V" } : Jvm.MethodName) prog_102_method_1_code (1 : Nat) (Option.none : Option Jvm.ClassFile.FieldType)) ∈ lw_all := lw_g (lw_at lw_m9 207 rfl) rfl
theorem xw2606 : (Jvm.Cond.methodLink "java/lang/IllegalStateException" (1 : Nat) ({ cls := "java/lang/RuntimeException", name := "<init>", desc := "()V" } : Jvm.MethodName)) ∈ lw_all := lw_g (lw_at lw_m9 208 rfl) rfl
theorem xw2607 : (Jvm.Cond.instanceMethod ({ cls := "java/lang/RuntimeException", name := "<init>", desc := "()V" } : Jvm.MethodName)) ∈ lw_all := lw_g (lw_at lw_m9 209 rfl) rfl
theorem xw2608 : (Jvm.Cond.code ({ cls := "java/lang/RuntimeException", name := "<init>", desc := "()V" } : Jvm.MethodName) prog_109_method_1_code (1 : Nat) (Option.none : Option Jvm.ClassFile.FieldType)) ∈ lw_all := lw_g (lw_at lw_m9 210 rfl) rfl
theorem xw2609 : (Jvm.Cond.methodLink "java/lang/RuntimeException" (1 : Nat) ({ cls := "java/lang/Exception", name := "<init>", desc := "()V" } : Jvm.MethodName)) ∈ lw_all := lw_g (lw_at lw_m9 211 rfl) rfl
theorem xw2610 : (Jvm.Cond.instanceMethod ({ cls := "java/lang/Exception", name := "<init>", desc := "()V" } : Jvm.MethodName)) ∈ lw_all := lw_g (lw_at lw_m9 212 rfl) rfl
theorem xw2611 : (Jvm.Cond.code ({ cls := "java/lang/Exception", name := "<init>", desc := "()V" } : Jvm.MethodName) prog_100_method_1_code (1 : Nat) (Option.none : Option Jvm.ClassFile.FieldType)) ∈ lw_all := lw_g (lw_at lw_m9 213 rfl) rfl
theorem xw2612 : (Jvm.Cond.methodLink "java/lang/Exception" (1 : Nat) ({ cls := "java/lang/Throwable", name := "<init>", desc := "()V" } : Jvm.MethodName)) ∈ lw_all := lw_g (lw_at lw_m9 214 rfl) rfl
theorem xw2685 : (Jvm.Cond.instantiable "java/lang/IllegalArgumentException" (6 : Nat)) ∈ lw_all := lw_g (lw_at lw_m10 47 rfl) rfl
theorem xw2686 : (Jvm.Cond.castable "java/lang/IllegalArgumentException" "java/lang/IllegalArgumentException") ∈ lw_tbl := lw_at lw_m10 48 rfl
theorem xw2687 : (Jvm.Cond.selects "java/lang/IllegalArgumentException" ({ cls := "java/lang/Throwable", name := "fillInStackTrace", desc := "(I)Ljava/lang/Throwable;" } : Jvm.MethodName) ({ cls := "java/lang/Throwable", name := "fillInStackTrace", desc := "(I)Ljava/lang/Throwable;" } : Jvm.MethodName)) ∈ lw_all := lw_g (lw_at lw_m10 49 rfl) rfl
theorem xw2688 : (Jvm.Cond.lays "java/lang/IllegalArgumentException" "java/lang/Throwable" "cause" "Ljava/lang/Throwable;") ∈ lw_all := lw_g (lw_at lw_m10 50 rfl) rfl
theorem xw2689 : (Jvm.Cond.lays "java/lang/IllegalArgumentException" "java/lang/Throwable" "stackTrace" "[Ljava/lang/StackTraceElement;") ∈ lw_all := lw_g (lw_at lw_m10 51 rfl) rfl
theorem xw2690 : (Jvm.Cond.lays "java/lang/IllegalArgumentException" "java/lang/Throwable" "suppressedExceptions" "Ljava/util/List;") ∈ lw_all := lw_g (lw_at lw_m10 52 rfl) rfl
theorem xw2691 : (Jvm.Cond.lays "java/lang/IllegalArgumentException" "java/lang/Throwable" "detailMessage" "Ljava/lang/String;") ∈ lw_all := lw_g (lw_at lw_m10 53 rfl) rfl
theorem xw2692 : (Jvm.Cond.lays "java/lang/IllegalArgumentException" "java/lang/Throwable" "backtrace" "Ljava/lang/Object;") ∈ lw_all := lw_g (lw_at lw_m10 54 rfl) rfl
theorem xw2694 : (Jvm.Cond.instanceMethod ({ cls := "java/lang/IllegalArgumentException", name := "<init>", desc := "()V" } : Jvm.MethodName)) ∈ lw_all := lw_g (lw_at lw_m10 56 rfl) rfl
theorem xw2695 : (Jvm.Cond.code ({ cls := "java/lang/IllegalArgumentException", name := "<init>", desc := "()V" } : Jvm.MethodName) prog_101_method_1_code (1 : Nat) (Option.none : Option Jvm.ClassFile.FieldType)) ∈ lw_all := lw_g (lw_at lw_m10 57 rfl) rfl
theorem xw2696 : (Jvm.Cond.methodLink "java/lang/IllegalArgumentException" (1 : Nat) ({ cls := "java/lang/RuntimeException", name := "<init>", desc := "()V" } : Jvm.MethodName)) ∈ lw_all := lw_g (lw_at lw_m10 58 rfl) rfl
theorem x_atoms1 (X : kXp G p s m args meth c cc nL own ret D cl tys A) (hX : kEX G) (hl : Cond.methodLink own ic (Bundle.init0 (kEx 1)) ∈ lw_all) : ∀ w ∈ Bundle.ownAtoms0 own ic (kEx 1) ["java/lang/RuntimeException", "java/lang/Exception"], w.before args s = true := by
  have hA := X.1.1.2.2.2.2
  have hN := X.2.1
  obtain ⟨z1, z2⟩ := hX _ _ _ X.2.2.2.1
  refine al_cons (hA _ xw533) ?_
  refine al_cons (hA _ xw1871) ?_
  refine al_cons (hA _ xw1880) ?_
  refine al_cons (hA _ xw1883) ?_
  refine al_cons (hA _ xw1886) ?_
  refine al_cons (hA _ xw1888) ?_
  refine al_cons (hA _ xw1872) ?_
  refine al_cons (hA _ xw1873) ?_
  refine al_cons (hA _ xw602) ?_
  refine al_cons (hA _ xw603) ?_
  refine al_cons (hA _ xw1874) ?_
  refine al_cons (hA _ xw1879) ?_
  refine al_cons (hA _ xw1884) ?_
  refine al_cons (hA _ xw1904) ?_
  refine al_cons (hA _ xw1861) ?_
  refine al_cons (hA _ xw1905) ?_
  refine al_cons (hA _ xw1863) ?_
  refine al_cons (hA _ xw1906) ?_
  refine al_cons (hA _ xw1865) ?_
  refine al_cons (hA _ xw1875) ?_
  refine al_cons (z1.lays) ?_
  refine al_cons (hA _ xw1877) ?_
  refine al_cons (z2.lays) ?_
  refine al_cons (hA _ xw1867) ?_
  refine al_cons (hA _ xw2694) ?_
  refine al_cons (hA _ xw2695) ?_
  refine al_cons (hA _ xw2696) ?_
  refine al_cons (hA _ xw2607) ?_
  refine al_cons (hN.use xw1852 rfl) ?_
  refine al_cons (hA _ xw2607) ?_
  refine al_cons (hA _ xw2608) ?_
  refine al_cons (hA _ xw2609) ?_
  refine al_cons (hA _ xw2610) ?_
  refine al_cons (hN.use xw1854 rfl) ?_
  refine al_cons (hA _ xw2610) ?_
  refine al_cons (hA _ xw2611) ?_
  refine al_cons (hA _ xw2612) ?_
  refine al_cons (hA _ xw1872) ?_
  refine al_cons (hN.use xw1856 rfl) ?_
  refine al_cons (hA _ hl) ?_
  refine al_cons (hA _ xw2685) ?_
  refine al_cons (hN.use xw2686 rfl) ?_
  refine al_cons (hA _ xw2687) ?_
  refine al_cons (hA _ xw1882) ?_
  refine al_cons (hA _ xw2688) ?_
  refine al_cons (hA _ xw2689) ?_
  refine al_cons (hA _ xw2690) ?_
  refine al_cons (hA _ xw2691) ?_
  refine al_cons (z1.isr) ?_
  refine al_cons (z2.isr) ?_
  refine al_cons (hA _ xw1870) ?_
  refine al_cons (hA _ xw1869) ?_
  refine al_cons (hA _ xw2692) ?_
  exact al_nil
theorem x_atoms2 (X : kXp G p s m args meth c cc nL own ret D cl tys A) (hX : kEX G) (hl : Cond.methodLink own ic (Bundle.init0 (kEx 2)) ∈ lw_all) : ∀ w ∈ Bundle.ownAtoms0 own ic (kEx 2) ["java/lang/RuntimeException", "java/lang/Exception"], w.before args s = true := by
  have hA := X.1.1.2.2.2.2
  have hN := X.2.1
  obtain ⟨z1, z2⟩ := hX _ _ _ X.2.2.2.1
  refine al_cons (hA _ xw533) ?_
  refine al_cons (hA _ xw1871) ?_
  refine al_cons (hA _ xw1880) ?_
  refine al_cons (hA _ xw1883) ?_
  refine al_cons (hA _ xw1886) ?_
  refine al_cons (hA _ xw1888) ?_
  refine al_cons (hA _ xw1872) ?_
  refine al_cons (hA _ xw1873) ?_
  refine al_cons (hA _ xw602) ?_
  refine al_cons (hA _ xw603) ?_
  refine al_cons (hA _ xw1874) ?_
  refine al_cons (hA _ xw1879) ?_
  refine al_cons (hA _ xw1884) ?_
  refine al_cons (hA _ xw1904) ?_
  refine al_cons (hA _ xw1861) ?_
  refine al_cons (hA _ xw1905) ?_
  refine al_cons (hA _ xw1863) ?_
  refine al_cons (hA _ xw1906) ?_
  refine al_cons (hA _ xw1865) ?_
  refine al_cons (hA _ xw1875) ?_
  refine al_cons (z1.lays) ?_
  refine al_cons (hA _ xw1877) ?_
  refine al_cons (z2.lays) ?_
  refine al_cons (hA _ xw1867) ?_
  refine al_cons (hA _ xw2604) ?_
  refine al_cons (hA _ xw2605) ?_
  refine al_cons (hA _ xw2606) ?_
  refine al_cons (hA _ xw2607) ?_
  refine al_cons (hN.use xw1852 rfl) ?_
  refine al_cons (hA _ xw2607) ?_
  refine al_cons (hA _ xw2608) ?_
  refine al_cons (hA _ xw2609) ?_
  refine al_cons (hA _ xw2610) ?_
  refine al_cons (hN.use xw1854 rfl) ?_
  refine al_cons (hA _ xw2610) ?_
  refine al_cons (hA _ xw2611) ?_
  refine al_cons (hA _ xw2612) ?_
  refine al_cons (hA _ xw1872) ?_
  refine al_cons (hN.use xw1856 rfl) ?_
  refine al_cons (hA _ hl) ?_
  refine al_cons (hA _ xw1850) ?_
  refine al_cons (hN.use xw1851 rfl) ?_
  refine al_cons (hA _ xw1858) ?_
  refine al_cons (hA _ xw1859) ?_
  refine al_cons (hA _ xw1860) ?_
  refine al_cons (hA _ xw1862) ?_
  refine al_cons (hA _ xw1864) ?_
  refine al_cons (hA _ xw1866) ?_
  refine al_cons (z1.isr) ?_
  refine al_cons (z2.isr) ?_
  refine al_cons (hA _ xw1870) ?_
  refine al_cons (hA _ xw1869) ?_
  refine al_cons (hA _ xw1868) ?_
  exact al_nil
end KX13
