/-! BASE ROWS: the world as plain facts about the heap H. zO: an object; zI: an array of ints (int, boolean, byte); zR: an array of references. A store gives back the new fact, and that every other address is as it was. -/
set_option maxRecDepth 100000
def TZ : u_T := fun _ => ("", "", "", false)
def zCl : List vw_C := [(RX0, TX0, 6), (RX6, TX6, 13), (RX7, TX7, 11), (RX5, TX5, 3), (RX9, TX9, 5), (RX2, TZ, 0), (RX3, TZ, 0), (RX4, TZ, 0), (RX8, TX8, 11), (RJ6, TJ6, 3), (RJ8, TJ8, 4), (RJ0, TJ0, 4)]
abbrev zG : Type := va_G × (Nat → ClassId) × (Nat → Nat)
/-- the array types by number: 0 int, 1 boolean, 2 byte, 3 Object, 4 Lane, 5 Instruction, 6 Operation, 7 Rule -/
def zTn : Nat → FieldType := fun k => match k with
  | 0 => .int
  | 1 => .boolean
  | 2 => .byte
  | 3 => .object "java/lang/Object"
  | 4 => .object RX7
  | 5 => .object RX5
  | 6 => .object "BarrelProcessor$Operation"
  | _ => .object RX1
def zTy (G : zG) : List (ClassId × FieldType) := (List.range 8).map fun k => (G.2.1 k, zTn k)
def zO (G : zG) (a ci : Nat) (fs : List Value) (H : Heap) : Prop := va_at G.1 zCl (a, .inr (ci, fs)) H
def zI (G : zG) (a t n : Nat) (f : Nat → Int32) (H : Heap) : Prop := va_at G.1 zCl (a, .inl (G.2.1 t, n, .inl f)) H
def zR (G : zG) (a t n : Nat) (f : Nat → Option Nat) (H : Heap) : Prop := va_at G.1 zCl (a, .inl (G.2.1 t, n, .inr (.inr (.inr (.inr f))))) H
theorem zO.kept {G : zG} {a ci : Nat} {fs : List Value} {H H1 : Heap} (h : zO G a ci fs H) (hq : H1[a]? = H[a]?) : zO G a ci fs H1 := va_at.kept h hq
theorem zI.kept {G : zG} {a t n : Nat} {f : Nat → Int32} {H H1 : Heap} (h : zI G a t n f H) (hq : H1[a]? = H[a]?) : zI G a t n f H1 := va_at.kept h hq
theorem zR.kept {G : zG} {a t n : Nat} {f : Nat → Option Nat} {H H1 : Heap} (h : zR G a t n f H) (hq : H1[a]? = H[a]?) : zR G a t n f H1 := va_at.kept h hq
theorem zO.lt {G : zG} {a ci : Nat} {fs : List Value} {H : Heap} (h : zO G a ci fs H) : a < H.size := va_at.lt h
theorem zI.lt {G : zG} {a t n : Nat} {f : Nat → Int32} {H : Heap} (h : zI G a t n f H) : a < H.size := va_at.lt h
theorem zR.lt {G : zG} {a t n : Nat} {f : Nat → Option Nat} {H : Heap} (h : zR G a t n f H) : a < H.size := va_at.lt h
theorem zI.to {G : zG} {a t n : Nat} {f g : Nat → Int32} {H : Heap} (h : zI G a t n f H) (e : ∀ k, k < n → f k = g k) : zI G a t n g H := by
  have h1 : H[a]? = some (vp_cell (G.2.1 t) (n, .inl f)) := h
  show H[a]? = some (vp_cell (G.2.1 t) (n, .inl g))
  rw [h1, vp_cell_i, vp_cell_i]
  refine congrArg some ?_
  unfold arrV
  congr 1
  refine Array.ext (by simp) (fun i hi1 hi2 => ?_)
  simp only [Array.getElem_ofFn]
  rw [e i (by simpa using hi1)]
theorem zR.to {G : zG} {a t n : Nat} {f g : Nat → Option Nat} {H : Heap} (h : zR G a t n f H) (e : ∀ k, k < n → f k = g k) : zR G a t n g H := by
  have h1 : H[a]? = some (vp_cell (G.2.1 t) (n, .inr (.inr (.inr (.inr f))))) := h
  show H[a]? = some (vp_cell (G.2.1 t) (n, .inr (.inr (.inr (.inr g)))))
  rw [h1, vp_cell_q, vp_cell_q]
  refine congrArg some ?_
  unfold arrV
  congr 1
  refine Array.ext (by simp) (fun i hi1 hi2 => ?_)
  simp only [Array.getElem_ofFn]
  rw [e i (by simpa using hi1)]
theorem zO.to {G : zG} {a ci : Nat} {fs gs : List Value} {H : Heap} (h : zO G a ci fs H) (e : fs = gs) : zO G a ci gs H := e ▸ h
theorem z1 {G : zG} {q : Nat × va_E} {H : Heap} (h : va_at G.1 zCl q H) : va_P G.1 zCl [q] H := by
  intro k x hx
  have hz : k < 1 := (List.getElem?_eq_some_iff.mp hx).1
  rw [show k = 0 by omega] at hx
  cases hx
  exact h
theorem zTy_at (G : zG) {t : Nat} (h : t < 8) : (zTy G)[t]? = some (G.2.1 t, zTn t) := by
  simp [zTy, h]
def zFl : List (String × Nat × String × String × String × String) := [("BarrelProcessor", 210, "BarrelProcessor$Instruction", "operation", "I", "BarrelProcessor"), ("BarrelProcessor", 213, "BarrelProcessor$Instruction", "first", "I", "BarrelProcessor"), ("BarrelProcessor", 216, "BarrelProcessor$Instruction", "second", "I", "BarrelProcessor"), ("BarrelProcessor", 159, "BarrelProcessor$Lane", "registers", "[I", "BarrelProcessor"), ("BarrelProcessor", 207, "BarrelProcessor$Lane", "counter", "I", "BarrelProcessor"), ("BarrelProcessor", 138, "BarrelProcessor$Lane", "state", "I", "BarrelProcessor"), ("BarrelProcessor", 225, "BarrelProcessor$Lane", "executed", "I", "BarrelProcessor"), ("BarrelProcessor", 228, "BarrelProcessor$Lane", "lent", "I", "BarrelProcessor"), ("BarrelProcessor", 231, "BarrelProcessor$Lane", "mostStarved", "I", "BarrelProcessor"), ("BarrelProcessor", 134, "BarrelProcessor$Machine", "lanes", "[LBarrelProcessor$Lane;", "BarrelProcessor"), ("BarrelProcessor", 124, "BarrelProcessor$Machine", "program", "[LBarrelProcessor$Instruction;", "BarrelProcessor"), ("BarrelProcessor", 166, "BarrelProcessor$Machine", "words", "[I", "BarrelProcessor"), ("BarrelProcessor", 169, "BarrelProcessor$Machine", "table", "[I", "BarrelProcessor"), ("BarrelProcessor", 175, "BarrelProcessor$Machine", "settings", "[I", "BarrelProcessor"), ("BarrelProcessor", 178, "BarrelProcessor$Machine", "breakpoints", "[Z", "BarrelProcessor"), ("BarrelProcessor", 219, "BarrelProcessor$Machine", "cycle", "I", "BarrelProcessor"), ("BarrelProcessor", 222, "BarrelProcessor$Machine", "idle", "I", "BarrelProcessor"), ("BarrelProcessor", 237, "BarrelProcessor$Machine", "traceCycles", "[I", "BarrelProcessor"), ("BarrelProcessor", 240, "BarrelProcessor$Machine", "traceThreads", "[I", "BarrelProcessor"), ("BarrelProcessor", 243, "BarrelProcessor$Machine", "tracePlaces", "[I", "BarrelProcessor"), ("BarrelProcessor", 234, "BarrelProcessor$Machine", "traced", "I", "BarrelProcessor"), ("BarrelProcessor", 117, "BarrelProcessor$Reader", "instructions", "Ljava/util/List;", "BarrelProcessor"), ("BarrelProcessor", 201, "BarrelProcessor$Reader", "place", "I", "BarrelProcessor"), ("BarrelProcessor$LongestWaiting", 20, "BarrelProcessor$Lane", "latestIssue", "I", "BarrelProcessor"), ("BarrelProcessor$LongestWaiting", 16, "BarrelProcessor$Machine", "lanes", "[LBarrelProcessor$Lane;", "BarrelProcessor"), ("BarrelProcessor$Machine", 140, "BarrelProcessor$Instruction", "operation", "I", "BarrelProcessor"), ("BarrelProcessor$Machine", 143, "BarrelProcessor$Instruction", "first", "I", "BarrelProcessor"), ("BarrelProcessor$Machine", 146, "BarrelProcessor$Instruction", "second", "I", "BarrelProcessor"), ("BarrelProcessor$Machine", 118, "BarrelProcessor$Lane", "registers", "[I", "BarrelProcessor"), ("BarrelProcessor$Machine", 109, "BarrelProcessor$Lane", "counter", "I", "BarrelProcessor"), ("BarrelProcessor$Machine", 82, "BarrelProcessor$Lane", "state", "I", "BarrelProcessor"), ("BarrelProcessor$Machine", 112, "BarrelProcessor$Lane", "loadRegister", "I", "BarrelProcessor"), ("BarrelProcessor$Machine", 115, "BarrelProcessor$Lane", "loadWord", "I", "BarrelProcessor"), ("BarrelProcessor$Machine", 85, "BarrelProcessor$Lane", "loadCycle", "I", "BarrelProcessor"), ("BarrelProcessor$Machine", 121, "BarrelProcessor$Lane", "latestIssue", "I", "BarrelProcessor"), ("BarrelProcessor$Machine", 124, "BarrelProcessor$Lane", "executed", "I", "BarrelProcessor"), ("BarrelProcessor$Machine", 127, "BarrelProcessor$Lane", "lent", "I", "BarrelProcessor"), ("BarrelProcessor$Machine", 136, "BarrelProcessor", "operations", "[LBarrelProcessor$Operation;", "BarrelProcessor"), ("BarrelProcessor$Machine", 92, "BarrelProcessor", "rules", "[LBarrelProcessor$Rule;", "BarrelProcessor"), ("BarrelProcessor$Machine", 51, "BarrelProcessor", "halting", "LBarrelProcessor$Instruction;", "BarrelProcessor"), ("BarrelProcessor$Reader", 133, "BarrelProcessor", "halting", "LBarrelProcessor$Instruction;", "BarrelProcessor")]
def zMl : List (String × Nat × MethodName × String) := [("BarrelProcessor$Rule", 29, yX2_init, "BarrelProcessor"), ("BarrelProcessor$Rule", 35, yX3_init, "BarrelProcessor"), ("BarrelProcessor$Rule", 38, yX4_init, "BarrelProcessor"), ("BarrelProcessor$Machine", 50, yX7_init, "BarrelProcessor"), ("BarrelProcessor$Reader", 48, yX0_isIn, "BarrelProcessor")]
def zCs : List (String × String) := [("java/lang/String", "java/lang/CharSequence"), ("java/lang/String", "java/lang/Object"), ("java/lang/System$2", "jdk/internal/access/JavaLangAccess"), ("java/lang/System$2", "java/lang/Object"), ("java/util/ArrayList", "java/util/List"), ("java/util/ArrayList", "java/lang/Object"), ("java/lang/StringBuilder", "java/lang/CharSequence"), ("java/lang/StringBuilder", "java/lang/Object"), ("BarrelProcessor", "java/lang/Object"), ("BarrelProcessor$Rule", "java/lang/Object"), ("BarrelProcessor$NextReady", "BarrelProcessor$Rule"), ("BarrelProcessor$NextReady", "java/lang/Object"), ("BarrelProcessor$LongestWaiting", "BarrelProcessor$Rule"), ("BarrelProcessor$LongestWaiting", "java/lang/Object"), ("BarrelProcessor$NoLending", "BarrelProcessor$Rule"), ("BarrelProcessor$NoLending", "java/lang/Object"), ("BarrelProcessor$Instruction", "java/lang/Object"), ("BarrelProcessor$Machine", "java/lang/Object"), ("BarrelProcessor$Lane", "java/lang/Object"), ("BarrelProcessorModel", "java/lang/Object"), ("BarrelProcessor$Reader", "java/lang/Object"), ("BarrelProcessor$Operation", "java/lang/Object"), ("[B", "java/lang/Cloneable"), ("[B", "java/lang/Object"), ("[I", "java/lang/Cloneable"), ("[I", "java/lang/Object"), ("[LBarrelProcessor$Instruction;", "java/lang/Object"), ("[LBarrelProcessor$Lane;", "java/lang/Object"), ("[LBarrelProcessor$Operation;", "java/lang/Object"), ("[LBarrelProcessor$Rule;", "java/lang/Object"), ("[Ljava/lang/Object;", "java/lang/Object"), ("[Z", "java/lang/Cloneable"), ("[Z", "java/lang/Object")]
def zIf : List (String × MethodName × MethodName) := [("java/lang/StringBuilder", ⟨"java/lang/CharSequence", "length", "()I"⟩, yJ8_length), ("java/lang/StringBuilder", ⟨"java/lang/CharSequence", "charAt", "(I)C"⟩, yJ8_charAt), ("java/util/ArrayList", ⟨"java/util/List", "add", "(Ljava/lang/Object;)Z"⟩, yJ6_add), ("java/util/ArrayList", ⟨"java/util/List", "size", "()I"⟩, yJ6_size), ("java/util/ArrayList", ⟨"java/util/List", "remove", "(I)Ljava/lang/Object;"⟩, yJ6_remove), ("java/util/ArrayList", ⟨"java/util/List", "get", "(I)Ljava/lang/Object;"⟩, yJ6_get), ("java/util/ArrayList", ⟨"java/util/List", "isEmpty", "()Z"⟩, yJ6_isEmpty), ("BarrelProcessor$NextReady", ⟨"BarrelProcessor$Rule", "borrower", "(LBarrelProcessor$Machine;I)I"⟩, yX2_borrower), ("BarrelProcessor$LongestWaiting", ⟨"BarrelProcessor$Rule", "borrower", "(LBarrelProcessor$Machine;I)I"⟩, yX3_borrower), ("BarrelProcessor$NoLending", ⟨"BarrelProcessor$Rule", "borrower", "(LBarrelProcessor$Machine;I)I"⟩, yX4_borrower), ("BarrelProcessor$NextReady", ⟨"BarrelProcessor$Rule", "issuer", "(LBarrelProcessor$Machine;I)I"⟩, yX1_issuer), ("BarrelProcessor$LongestWaiting", ⟨"BarrelProcessor$Rule", "issuer", "(LBarrelProcessor$Machine;I)I"⟩, yX1_issuer), ("BarrelProcessor$NoLending", ⟨"BarrelProcessor$Rule", "issuer", "(LBarrelProcessor$Machine;I)I"⟩, yX1_issuer)]
def zAo : List String := ["BarrelProcessor$Operation", "BarrelProcessor$Rule", "BarrelProcessor$Lane", "BarrelProcessor$Instruction", "java/lang/Object"]
def zSr : List (String × Nat × String) := [("BarrelProcessor", 38, "none"), ("BarrelProcessor", 44, "next"), ("BarrelProcessor", 46, "longest"), ("BarrelProcessor$Rule", 19, "next"), ("BarrelProcessor$Rule", 25, "longest"), ("BarrelProcessor$Reader", 78, ""), ("BarrelProcessor$Reader", 96, "s"), ("BarrelProcessor$Reader", 102, "a"), ("BarrelProcessor$Reader", 104, "d"), ("BarrelProcessor$Reader", 106, "m"), ("BarrelProcessor$Reader", 108, "l"), ("BarrelProcessor$Reader", 110, "w"), ("BarrelProcessor$Reader", 112, "x"), ("BarrelProcessor$Reader", 114, "j"), ("BarrelProcessor$Reader", 116, "z"), ("BarrelProcessor$Reader", 118, "n"), ("BarrelProcessor$Reader", 120, "b"), ("BarrelProcessor$Reader", 122, "h")]
def zLs : List (Nat × Nat × String) := [(12, 17, "lambda$new$0"), (20, 21, "lambda$new$1"), (28, 22, "lambda$new$2"), (36, 23, "lambda$new$3"), (44, 24, "lambda$new$4"), (52, 25, "lambda$new$5"), (61, 26, "lambda$new$6"), (70, 27, "lambda$new$7"), (79, 28, "lambda$new$8"), (88, 29, "lambda$new$9"), (97, 30, "lambda$new$10"), (106, 31, "lambda$new$11")]
def zSh (nm : String) : Lambda.Shape := ({ iface := "BarrelProcessor$Operation", name := "run", sam := ({ parameters := [(Jvm.ClassFile.FieldType.object "BarrelProcessor$Machine"), (Jvm.ClassFile.FieldType.object "BarrelProcessor$Lane"), Jvm.ClassFile.FieldType.int, Jvm.ClassFile.FieldType.int], returnType := (Option.none : Option Jvm.ClassFile.FieldType) } : Jvm.ClassFile.MethodDescriptor), captured := [], kind := 6, implClass := "BarrelProcessor", implName := nm, implDesc := ({ parameters := [(Jvm.ClassFile.FieldType.object "BarrelProcessor$Machine"), (Jvm.ClassFile.FieldType.object "BarrelProcessor$Lane"), Jvm.ClassFile.FieldType.int, Jvm.ClassFile.FieldType.int], returnType := (Option.none : Option Jvm.ClassFile.FieldType) } : Jvm.ClassFile.MethodDescriptor), implItf := false, inst := ({ parameters := [(Jvm.ClassFile.FieldType.object "BarrelProcessor$Machine"), (Jvm.ClassFile.FieldType.object "BarrelProcessor$Lane"), Jvm.ClassFile.FieldType.int, Jvm.ClassFile.FieldType.int], returnType := (Option.none : Option Jvm.ClassFile.FieldType) } : Jvm.ClassFile.MethodDescriptor) } : Jvm.Lambda.Shape)
/-- a static field of the tables, at the cell a, its place i -/
def zSt (C n d : String) (a i : Nat) (U : State) : Prop := ∃ (cf : ClassId) (kf : Class) (fi : Nat) (f : Field), U.fieldFound? C n d = some (cf, kf, fi, f) ∧ f.isStatic = true ∧ kf.init = .initialized ∧ kf.statics = some a ∧ f.slot = i
def zSv (a i : Nat) (v : Value) (H : Heap) : Prop := ∃ cell : Cell, H[a]? = some cell ∧ cell.vm.isStatics = true ∧ cell.slots[i]? = some v
theorem zSt.moved {C n d : String} {a i : Nat} {u U : State} (hvm : u.vm.Alike U.vm) (h : zSt C n d a i u) : zSt C n d a i U := by
  obtain ⟨cf, kf, fi, f, h1, h2, h3, h4, h5⟩ := h
  obtain ⟨k', hi', he⟩ := State.fieldFound?_setVm hvm h1
  exact ⟨cf, k', fi, f, hi', h2, by rw [he]; exact h3, by rw [he]; exact h4, h5⟩
/-- a lambda's place, as the start gives it -/
def zLam (a : Nat) (ca : ClassId) (pc : Nat) (nm : String) (U : State) : Prop := ∃ (m : MethodId) (kc : Class) (i0 p0 : Nat), U.methodNamed? yX0_init = some m ∧ U.vm.classes[m.cls]? = some kc ∧ (kc.callSites.find? fun y => y.1 == m.idx && y.2.1 == pc) = some (i0, p0, .constant a) ∧ Lambda.isMade { classPath := fun _ => none } U.vm m.cls (zSh nm) ca = true ∧ U.lambdaCallable (zSh nm) ca = true
theorem zLam.warm {a : Nat} {ca : ClassId} {pc : Nat} {nm : String} {s U : State} (hW : s.WarmedH U.vm) (h : zLam a ca pc nm s) : zLam a ca pc nm U := by
  obtain ⟨m, kc, i0, p0, h1, h2, h3, h4, h5⟩ := h
  obtain ⟨kc', hk', he⟩ := hW.alike.2.2 _ _ h2
  have hm' : U.methodNamed? yX0_init = some m := by
    have := State.methodNamed?_setVm (s := s) hW.alike yX0_init
    rw [h1] at this
    exact this
  refine ⟨m, kc', i0, p0, hm', hk', by rw [he]; exact h3, Lambda.isMade_warmer hW h4, ?_⟩
  have hA := hW.alike
  simp only [State.lambdaCallable, hA.findClass, hA.assignable, hA.superclasses, hA.declaredIn] at h5 ⊢
  exact h5
theorem zLam.same {a : Nat} {ca : ClassId} {pc : Nat} {nm : String} {u U : State} (hv : u.vm = U.vm) (h : zLam a ca pc nm u) : zLam a ca pc nm U := by
  obtain ⟨m, kc, i0, p0, h1, h2, h3, h4, h5⟩ := h
  have hm' : U.methodNamed? yX0_init = some m := by
    have := State.methodNamed?_setVm (s := u) (hv ▸ Vm.Alike.refl u.vm : u.vm.Alike U.vm) yX0_init
    rw [h1] at this
    exact this
  refine ⟨m, kc, i0, p0, hm', by rw [← hv]; exact h2, h3, by rw [← hv]; exact h4, ?_⟩
  unfold State.lambdaCallable at h5 ⊢
  rw [← hv]
  exact h5
/-- a default method is what a call on an object of C runs -/
def zDef (C : String) (x : MethodName) (U : State) : Prop := ∃ (c : ClassId) (r : MethodId), U.vm.findClass C = some c ∧ U.methodNamed? x = some r ∧ selectMethod {} U.vm c r = .method r
theorem zDef.moved {C : String} {x : MethodName} {u U : State} (hvm : u.vm.Alike U.vm) (h : zDef C x u) : zDef C x U := by
  obtain ⟨c, r, h1, h2, h3⟩ := h
  have hm' : U.methodNamed? x = some r := by
    have := State.methodNamed?_setVm (s := u) hvm x
    rw [h2] at this
    exact this
  exact ⟨c, r, by rw [hvm.findClass]; exact h1, hm', by rw [hvm.selectMethod]; exact h3⟩
/-- what a call on an object of the class runs, beyond the words: the interface's default method, the private methods of StringBuilder's superclass -/
def zDs : List (String × MethodName) := [(RX2, yX1_issuer), (RX3, yX1_issuer), (RX4, yX1_issuer), (RJ8, yJ7_ensureCapacityInternal), (RJ8, yJ7_newCapacity), (RJ8, yJ7_putStringAt), (RJ8, yJ7_inflateIfNeededFor)]
/-- the operations' interface: its one method, that is abstract -/
def zRun : MethodName := ⟨"BarrelProcessor$Operation", "run", "(LBarrelProcessor$Machine;LBarrelProcessor$Lane;II)V"⟩
def zOp (U : State) : Prop := (Cond.declares zRun).before #[] U = true ∧ (Cond.interfaceMethod "BarrelProcessor$Operation" "BarrelProcessor$Operation" "run" "(LBarrelProcessor$Machine;LBarrelProcessor$Lane;II)V").before #[] U = true
theorem zOp.moved {u U : State} (hvm : u.vm.Alike U.vm) (h : zOp u) : zOp U := by
  obtain ⟨h1, h2⟩ := h
  obtain ⟨r, meth, hn, -⟩ := Cond.declares_spec h1
  have tr : ∀ {c : Cond}, c.onTables = true → c.before #[] (u.setVm U.vm) = true → c.before #[] U = true := by
    intro c hc h
    have e := Cond.onTables_vm (A := #[]) (A' := #[]) (U := u) (U' := U) U.vm c hc
    have hU : U.setVm U.vm = U := rfl
    rw [hU] at e
    rw [← e]
    exact h
  exact ⟨tr rfl (by rw [Cond.declares_setVm hvm]; exact h1), tr rfl (by rw [Cond.interfaceMethod_setVm hvm (r := r) hn (by decide)]; exact h2)⟩
/-- what the tables say, and rides -/
def zK (G : zG) (U : State) : Prop := va_K G.1 zCl (zTy G) U ∧ (∀ q ∈ zFl, va_Nw (.fieldLinkNest q.1 q.2.1 q.2.2.1 q.2.2.2.1 q.2.2.2.2.1 q.2.2.2.2.2) U) ∧ (∀ q ∈ zMl, va_Nw (.methodLinkNest q.1 q.2.1 q.2.2.1 q.2.2.2) U) ∧ (∀ q ∈ zCs, va_Nw (.castable q.1 q.2) U) ∧ (∀ q ∈ zIf, va_Fw q.1 q.2.1 q.2.2 U) ∧ (∀ C ∈ zAo, va_AO C U) ∧
  (∀ (k : Nat) (q : String × Nat × String), zSr[k]? = some q → vk_R q.1 q.2.1 q.2.2 (G.2.2 k) U) ∧ (∀ (k : Nat) (q : Nat × Nat × String), zLs[k]? = some q → zLam (G.2.2 (20 + k)) (G.2.1 (20 + k)) q.1 q.2.2 U) ∧
  (zSt "java/lang/String" "COMPACT_STRINGS" "Z" (G.2.2 40) (G.2.2 41) U ∧ zSt "java/util/ArrayList" "DEFAULTCAPACITY_EMPTY_ELEMENTDATA" "[Ljava/lang/Object;" (G.2.2 42) (G.2.2 43) U ∧ zSt "jdk/internal/util/Preconditions" "SIOOBE_FORMATTER" "Ljava/util/function/BiFunction;" (G.2.2 44) (G.2.2 45) U) ∧
  (∀ q ∈ zDs, zDef q.1 q.2 U) ∧ zOp U ∧ va_Mi "[Ljava/lang/Object;" (G.2.2 46) U ∧ va_Dc U
theorem zIf_ok : ∀ q ∈ zIf, q.2.1.cls ≠ "java/lang/invoke/MethodHandle" ∧ q.2.1.cls ≠ "java/lang/invoke/VarHandle" := by decide +kernel
theorem va_Fw.same {C : String} {x y : MethodName} {u U : State} (h : u.vm = U.vm) (hF : va_Fw C x y u) : va_Fw C x y U :=
  ⟨va_tabs rfl h hF.1, va_tabs rfl h hF.2.1, va_tabs rfl h hF.2.2.1, va_tabs rfl h hF.2.2.2.1, va_tabs rfl h hF.2.2.2.2⟩
theorem zK.same {G : zG} {u U : State} (hv : u.vm = U.vm) (h : zK G u) : zK G U := by
  have ha : u.vm.Alike U.vm := hv ▸ Vm.Alike.refl u.vm
  obtain ⟨h1, h2, h3, h4, h5, h6, h7, h8, ⟨h9, h10, h11⟩, h12, h13, h14, h15⟩ := h
  exact ⟨h1.moved ha, fun q hq => va_Nw.same rfl hv (h2 q hq), fun q hq => va_Nw.same rfl hv (h3 q hq), fun q hq => va_Nw.same rfl hv (h4 q hq), fun q hq => (h5 q hq).same hv, fun C hC => (h6 C hC).moved ha,
    fun k q hq => vk_R.same hv.symm (h7 k q hq), fun k q hq => (h8 k q hq).same hv, ⟨h9.moved ha, h10.moved ha, h11.moved ha⟩, fun q hq => (h12 q hq).moved ha, h13.moved ha, h14.moved ha, h15.moved ha⟩
theorem zK.warm {G : zG} {s U : State} (hW : s.WarmedH U.vm) (h : zK G s) : zK G U := by
  have ha := hW.alike
  obtain ⟨h1, h2, h3, h4, h5, h6, h7, h8, ⟨h9, h10, h11⟩, h12, h13, h14, h15⟩ := h
  exact ⟨h1.moved ha, fun q hq => va_Nw.warmF hW (h2 q hq), fun q hq => va_Nw.warmM hW (h3 q hq), fun q hq => va_Nw.warmC hW (h4 q hq), fun q hq => va_Fw.moved (zIf_ok q hq) ha (h5 q hq), fun C hC => (h6 C hC).moved ha,
    fun k q hq => vk_R.warm hW (h7 k q hq), fun k q hq => (h8 k q hq).warm hW, ⟨h9.moved ha, h10.moved ha, h11.moved ha⟩, fun q hq => (h12 q hq).moved ha, h13.moved ha, h14.moved ha, h15.moved ha⟩
theorem zK.f {G : zG} {U : State} (h : zK G U) (k : Nat) {a b n d hh : String} {i : Nat} (hk : zFl[k]? = some (a, i, b, n, d, hh)) : va_Nw (.fieldLinkNest a i b n d hh) U := h.2.1 _ (List.mem_of_getElem? hk)
theorem zK.m {G : zG} {U : State} (h : zK G U) (k : Nat) {a hh : String} {i : Nat} {x : MethodName} (hk : zMl[k]? = some (a, i, x, hh)) : va_Nw (.methodLinkNest a i x hh) U := h.2.2.1 _ (List.mem_of_getElem? hk)
theorem zK.c {G : zG} {U : State} (h : zK G U) (k : Nat) {a b : String} (hk : zCs[k]? = some (a, b)) : va_Nw (.castable a b) U := h.2.2.2.1 _ (List.mem_of_getElem? hk)
theorem zK.i {G : zG} {U : State} (h : zK G U) (k : Nat) {a : String} {x y : MethodName} (hk : zIf[k]? = some (a, x, y)) : va_Fw a x y U := h.2.2.2.2.1 _ (List.mem_of_getElem? hk)
theorem zK.ao {G : zG} {U : State} (h : zK G U) (k : Nat) {C : String} (hk : zAo[k]? = some C) : va_AO C U := h.2.2.2.2.2.1 _ (List.mem_of_getElem? hk)
theorem zK.st {G : zG} {U : State} (h : zK G U) : zSt "java/lang/String" "COMPACT_STRINGS" "Z" (G.2.2 40) (G.2.2 41) U ∧ zSt "java/util/ArrayList" "DEFAULTCAPACITY_EMPTY_ELEMENTDATA" "[Ljava/lang/Object;" (G.2.2 42) (G.2.2 43) U ∧ zSt "jdk/internal/util/Preconditions" "SIOOBE_FORMATTER" "Ljava/util/function/BiFunction;" (G.2.2 44) (G.2.2 45) U := h.2.2.2.2.2.2.2.2.1
theorem zK.df {G : zG} {U : State} (h : zK G U) (k : Nat) {C : String} {x : MethodName} (hk : zDs[k]? = some (C, x)) : zDef C x U := h.2.2.2.2.2.2.2.2.2.1 _ (List.mem_of_getElem? hk)
theorem zK.op {G : zG} {U : State} (h : zK G U) : zOp U := h.2.2.2.2.2.2.2.2.2.2.1
theorem zK.mi {G : zG} {U : State} (h : zK G U) : va_Mi "[Ljava/lang/Object;" (G.2.2 46) U ∧ va_Dc U := h.2.2.2.2.2.2.2.2.2.2.2
theorem zK.lm {G : zG} {U : State} (h : zK G U) (k : Nat) {pc i : Nat} {nm : String} (hk : zLs[k]? = some (pc, i, nm)) : zLam (G.2.2 (20 + k)) (G.2.1 (20 + k)) pc nm U := h.2.2.2.2.2.2.2.1 _ _ hk
theorem zK.s {G : zG} {U : State} (h : zK G U) (k : Nat) {o tx : String} {i : Nat} (hk : zSr[k]? = some (o, i, tx)) : vk_R o i tx (G.2.2 k) U := h.2.2.2.2.2.2.1 _ _ hk
section ZROW
variable {p : Program} {l : Launch} {e : Env} {R : Room} {s : State} {m : MethodId} {args : Array Value} {below : List Frame} {meth : Method} {c : Code} {H : Heap} {locs : List Loc} {cells slots : Nat} {Q : State → Prop}
variable {cc : ByteArray} {pc : Nat} {ls : Array Slot} {rest : List Value} {G : zG} {A : Nat → Prop} {a : Nat} {H0 : Heap}
/-- the value on top, by another name -/
theorem zTop {x y : Int32} (h : x = y) (k : W p l e R s m args below meth c H locs cells slots Q (F0 m pc ls (.int y :: rest))) : W p l e R s m args below meth c H locs cells slots Q (F0 m pc ls (.int x :: rest)) := h ▸ k
theorem zTop2 {x y : Int32} {v : Value} (h : x = y) (k : W p l e R s m args below meth c H locs cells slots Q (F0 m pc ls (v :: .int y :: rest))) : W p l e R s m args below meth c H locs cells slots Q (F0 m pc ls (v :: .int x :: rest)) := h ▸ k

theorem zget (hx : p.tables.exec = Jvm.exec) (hb : c.code = cc) (hts : ∀ w ∈ lw_all, w.before args s = true) {own : String} (ho : s.vm.findClass own = some m.cls) (hK : zK G s) {ref C : String} {T : u_T} {N ci index : Nat} {fs : List Value} (h : zO G a ci fs H) (hc : zCl[ci]? = some (C, T, N)) (hin : ∀ w ∈ u_ws C T N, w ∈ lw_all) (k : Nat) (hk : k < N) (hlink : (Cond.fieldLink own index ref (T k).2.1 (T k).2.2.1) ∈ lw_all) (hsame : ∀ x, s.fieldFound? (T k).1 (T k).2.1 (T k).2.2.1 = some x → s.fieldFound? ref (T k).2.1 (T k).2.2.1 = some x) {v : Value} (hv : fs[k]? = some v) (hdg : decode cc pc = .ok (.getfield index, 3))
    (kk : W p l e R s m args below meth c H locs cells slots Q (F0 m (pc + 3) ls (v :: rest))) : W p l e R s m args below meth c H locs cells slots Q (F0 m pc ls (.ref a :: rest)) :=
  va_get hx hb hts hin ho hK.1 (z1 h) 0 rfl hc k hk (hts _ hlink) hsame hv hdg kk
theorem zgetN (hx : p.tables.exec = Jvm.exec) (hb : c.code = cc) (hts : ∀ w ∈ lw_all, w.before args s = true) {own : String} {host : String} (ho : s.vm.findClass own = some m.cls) (hK : zK G s) {ref C : String} {T : u_T} {N ci index : Nat} {fs : List Value} (h : zO G a ci fs H) (hc : zCl[ci]? = some (C, T, N)) (hin : ∀ w ∈ u_ws C T N, w ∈ lw_all) (k : Nat) (hk : k < N) (hlink : va_Nw (.fieldLinkNest own index ref (T k).2.1 (T k).2.2.1 host) s) (hsame : ∀ x, s.fieldFound? (T k).1 (T k).2.1 (T k).2.2.1 = some x → s.fieldFound? ref (T k).2.1 (T k).2.2.1 = some x) {v : Value} (hv : fs[k]? = some v) (hdg : decode cc pc = .ok (.getfield index, 3))
    (kk : W p l e R s m args below meth c H locs cells slots Q (F0 m (pc + 3) ls (v :: rest))) : W p l e R s m args below meth c H locs cells slots Q (F0 m pc ls (.ref a :: rest)) :=
  va_getN hx hb hts hin ho hK.1 (z1 h) 0 rfl hc k hk (va_Nw.use rfl hlink) hsame hv hdg kk
theorem zput (hx : p.tables.exec = Jvm.exec) (hb : c.code = cc) (hts : ∀ w ∈ lw_all, w.before args s = true) {own : String} (ho : s.vm.findClass own = some m.cls) (hK : zK G s) {ref C : String} {T : u_T} {N ci index : Nat} {fs : List Value} (h : zO G a ci fs H) (hS : va_S A H0 H locs) (hA : A a) (hc : zCl[ci]? = some (C, T, N)) (hin : ∀ w ∈ u_ws C T N, w ∈ lw_all) {ty0 : Nat → FieldType} (hty : ∀ k, k < N → parseFieldDescriptor (T k).2.2.1 = some (ty0 k)) (hnm : ∀ a, a < N → ∀ b, b < N → a ≠ b → (T a).2.1 ≠ (T b).2.1) (k : Nat) (hk : k < N) (hlink : (Cond.fieldLink own index ref (T k).2.1 (T k).2.2.1) ∈ lw_all) (hsame : ∀ x, s.fieldFound? (T k).1 (T k).2.1 (T k).2.2.1 = some x → s.fieldFound? ref (T k).2.1 (T k).2.2.1 = some x) (hfin : (T k).2.2.2 = false) {v : Value} (hn : narrow (ty0 k) v = v) (hfit : fits (ty0 k) v = true) (hl : k < fs.length) (hdg : decode cc pc = .ok (.putfield index, 3))
    (kk : ∀ (H1 : Heap) (locs1 : List Loc), zO G a ci (fs.set k v) H1 → H1.size = H.size → (∀ q : Nat, q ≠ a → H1[q]? = H[q]?) → va_S A H0 H1 locs1 → W p l e R s m args below meth c H1 locs1 cells slots Q (F0 m (pc + 3) ls rest)) : W p l e R s m args below meth c H locs cells slots Q (F0 m pc ls (v :: .ref a :: rest)) := by
  have hap := va_apart (own := own) hts hin ty0 hty hnm hK.1 hc
  obtain ⟨r, h1, cell, q1, q2, q3, q4⟩ := h
  obtain rfl : r = (C, T, N) := Option.some.inj (h1.symm.trans hc)
  obtain ⟨hSl, hfc, kC, hkC, hkind⟩ := hK.1.1 ci _ hc
  obtain ⟨cf, kf, fi, f, hi, hsl⟩ := hSl k hk
  have hlay := hts _ (hin _ (u_in_lay hk))
  unfold u_lay at hlay
  rw [if_neg (by rw [hfin]; decide)] at hlay
  have hst := (u_facts hfc hkC (u_lays hts hin hk) hi).1
  have h6 := u_store hfc hkC hkind hlay hi (hty k hk) hn hfit
  refine W.putK hx hb (f := f) ⟨ho, hts _ hlink, ⟨_, _, _, hsame _ hi⟩, hst⟩ (by rw [q2]; exact h6) q1 q3 (by rw [hsl]; exact k2_hasslot (q4 k hk)) rfl rfl hdg fun H' e1 e2 e3 => ?_
  rw [hsl] at e1 ⊢
  exact kk H' _ ⟨_, hc, t_OB.to (V := updV (vp_V fs) k v) ⟨_, e1, q2, q3, t_set q4 hap hk v⟩ (fun j _ => vp_updV_set hl v j)⟩ e2 e3 (hS.put e2 e3 hA)
theorem zputN (hx : p.tables.exec = Jvm.exec) (hb : c.code = cc) (hts : ∀ w ∈ lw_all, w.before args s = true) {own : String} {host : String} (ho : s.vm.findClass own = some m.cls) (hK : zK G s) {ref C : String} {T : u_T} {N ci index : Nat} {fs : List Value} (h : zO G a ci fs H) (hS : va_S A H0 H locs) (hA : A a) (hc : zCl[ci]? = some (C, T, N)) (hin : ∀ w ∈ u_ws C T N, w ∈ lw_all) {ty0 : Nat → FieldType} (hty : ∀ k, k < N → parseFieldDescriptor (T k).2.2.1 = some (ty0 k)) (hnm : ∀ a, a < N → ∀ b, b < N → a ≠ b → (T a).2.1 ≠ (T b).2.1) (k : Nat) (hk : k < N) (hlink : va_Nw (.fieldLinkNest own index ref (T k).2.1 (T k).2.2.1 host) s) (hsame : ∀ x, s.fieldFound? (T k).1 (T k).2.1 (T k).2.2.1 = some x → s.fieldFound? ref (T k).2.1 (T k).2.2.1 = some x) (hfin : (T k).2.2.2 = false) {v : Value} (hn : narrow (ty0 k) v = v) (hfit : fits (ty0 k) v = true) (hl : k < fs.length) (hdg : decode cc pc = .ok (.putfield index, 3))
    (kk : ∀ (H1 : Heap) (locs1 : List Loc), zO G a ci (fs.set k v) H1 → H1.size = H.size → (∀ q : Nat, q ≠ a → H1[q]? = H[q]?) → va_S A H0 H1 locs1 → W p l e R s m args below meth c H1 locs1 cells slots Q (F0 m (pc + 3) ls rest)) : W p l e R s m args below meth c H locs cells slots Q (F0 m pc ls (v :: .ref a :: rest)) := by
  have hap := va_apart (own := own) hts hin ty0 hty hnm hK.1 hc
  obtain ⟨r, h1, cell, q1, q2, q3, q4⟩ := h
  obtain rfl : r = (C, T, N) := Option.some.inj (h1.symm.trans hc)
  obtain ⟨hSl, hfc, kC, hkC, hkind⟩ := hK.1.1 ci _ hc
  obtain ⟨cf, kf, fi, f, hi, hsl⟩ := hSl k hk
  have hlay := hts _ (hin _ (u_in_lay hk))
  unfold u_lay at hlay
  rw [if_neg (by rw [hfin]; decide)] at hlay
  have hst := (u_facts hfc hkC (u_lays hts hin hk) hi).1
  have h6 := u_store hfc hkC hkind hlay hi (hty k hk) hn hfit
  refine va_WputK hx hb (f := f) ho (va_Nw.use rfl hlink) (hsame _ hi) hst (by rw [q2]; exact h6) q1 q3 (by rw [hsl]; exact k2_hasslot (q4 k hk)) rfl rfl hdg fun H' e1 e2 e3 => ?_
  rw [hsl] at e1 ⊢
  exact kk H' _ ⟨_, hc, t_OB.to (V := updV (vp_V fs) k v) ⟨_, e1, q2, q3, t_set q4 hap hk v⟩ (fun j _ => vp_updV_set hl v j)⟩ e2 e3 (hS.put e2 e3 hA)
theorem zputF (hx : p.tables.exec = Jvm.exec) (hb : c.code = cc) (hts : ∀ w ∈ lw_all, w.before args s = true) {own : String} (ho : s.vm.findClass own = some m.cls) (hK : zK G s) {ref C : String} {T : u_T} {N ci index : Nat} {fs : List Value} (h : zO G a ci fs H) (hS : va_S A H0 H locs) (hA : A a) (hc : zCl[ci]? = some (C, T, N)) (hin : ∀ w ∈ u_ws C T N, w ∈ lw_all) {ty0 : Nat → FieldType} (hty : ∀ k, k < N → parseFieldDescriptor (T k).2.2.1 = some (ty0 k)) (hnm : ∀ a, a < N → ∀ b, b < N → a ≠ b → (T a).2.1 ≠ (T b).2.1) (k : Nat) (hk : k < N) (hlink : (Cond.fieldLink own index ref (T k).2.1 (T k).2.2.1) ∈ lw_all) (hsame : ∀ x, s.fieldFound? (T k).1 (T k).2.1 (T k).2.2.1 = some x → s.fieldFound? ref (T k).2.1 (T k).2.2.1 = some x) (hfin : (T k).2.2.2 = true) (hin2 : meth.name = "<init>") (hdecl : (T k).1 = own) {v : Value} (hn : narrow (ty0 k) v = v) (hfit : fits (ty0 k) v = true) (hl : k < fs.length) (hdg : decode cc pc = .ok (.putfield index, 3))
    (kk : ∀ (H1 : Heap) (locs1 : List Loc), zO G a ci (fs.set k v) H1 → H1.size = H.size → (∀ q : Nat, q ≠ a → H1[q]? = H[q]?) → va_S A H0 H1 locs1 → W p l e R s m args below meth c H1 locs1 cells slots Q (F0 m (pc + 3) ls rest)) : W p l e R s m args below meth c H locs cells slots Q (F0 m pc ls (v :: .ref a :: rest)) := by
  have hap := va_apart (own := own) hts hin ty0 hty hnm hK.1 hc
  obtain ⟨r, h1, cell, q1, q2, q3, q4⟩ := h
  obtain rfl : r = (C, T, N) := Option.some.inj (h1.symm.trans hc)
  obtain ⟨hSl, hfc, kC, hkC, hkind⟩ := hK.1.1 ci _ hc
  obtain ⟨cf, kf, fi, f, hi, hsl⟩ := hSl k hk
  have hlay := hts _ (hin _ (u_in_lay hk))
  unfold u_lay at hlay
  rw [if_pos hfin] at hlay
  have hst := (u_facts hfc hkC (u_lays hts hin hk) hi).1
  have hcf : m.cls = cf := by
    obtain ⟨_, _, c', _, _, _, -, -, hf', -, -, -, hown2, -⟩ := Cond.laysFinal_spec hlay
    have e1 : c' = cf := by have := hi.symm.trans hf'; simp at this; exact this.1.symm
    rw [hdecl] at hown2
    rw [← e1]; exact Option.some.inj (ho.symm.trans hown2)
  have h6 := u_fits hfc hkC hkind (Or.inr hlay) hi (hty k hk) hn hfit
  refine W.putFinK hx hb ho (hts _ hlink) (hsame _ hi) hst hcf hin2 (by rw [q2]; exact h6) q1 q3 (by rw [hsl]; exact k2_hasslot (q4 k hk)) rfl rfl hdg fun H' e1 e2 e3 => ?_
  rw [hsl] at e1 ⊢
  exact kk H' _ ⟨_, hc, t_OB.to (V := updV (vp_V fs) k v) ⟨_, e1, q2, q3, t_set q4 hap hk v⟩ (fun j _ => vp_updV_set hl v j)⟩ e2 e3 (hS.put e2 e3 hA)
theorem ziald (hx : p.tables.exec = Jvm.exec) (hb : c.code = cc) (hK : zK G s) {n : Nat} {f : Nat → Int32} (h : zI G a 0 n f H) (k : Nat) (hk : k < n) (hn : n < 2 ^ 31) (hdg : decode cc pc = .ok (.iaload, 1))
    (kk : W p l e R s m args below meth c H locs cells slots Q (F0 m (pc + 1) ls (.int (f k) :: rest))) : W p l e R s m args below meth c H locs cells slots Q (F0 m pc ls (.int (nI k) :: .ref a :: rest)) := by
  have e1 : (nI k).toNatClampNeg = k := nI_clamp (by omega)
  refine va_iald hx hb hK.1 (z1 h) 0 0 rfl (zTy_at G (by decide)) (vp_in_nI hk hn) hdg ?_
  rw [e1]
  exact kk
theorem zzald (hx : p.tables.exec = Jvm.exec) (hb : c.code = cc) (hK : zK G s) {n : Nat} {f : Nat → Int32} (h : zI G a 1 n f H) (k : Nat) (hk : k < n) (hn : n < 2 ^ 31) (hdg : decode cc pc = .ok (.baload, 1))
    (kk : W p l e R s m args below meth c H locs cells slots Q (F0 m (pc + 1) ls (.int (f k) :: rest))) : W p l e R s m args below meth c H locs cells slots Q (F0 m pc ls (.int (nI k) :: .ref a :: rest)) := by
  have e1 : (nI k).toNatClampNeg = k := nI_clamp (by omega)
  refine va_zald hx hb hK.1 (z1 h) 0 1 rfl (zTy_at G (by decide)) (vp_in_nI hk hn) hdg ?_
  rw [e1]
  exact kk
theorem zbald (hx : p.tables.exec = Jvm.exec) (hb : c.code = cc) (hK : zK G s) {n : Nat} {f : Nat → Int32} (h : zI G a 2 n f H) (k : Nat) (hk : k < n) (hn : n < 2 ^ 31) (hdg : decode cc pc = .ok (.baload, 1))
    (kk : W p l e R s m args below meth c H locs cells slots Q (F0 m (pc + 1) ls (.int (f k) :: rest))) : W p l e R s m args below meth c H locs cells slots Q (F0 m pc ls (.int (nI k) :: .ref a :: rest)) := by
  have e1 : (nI k).toNatClampNeg = k := nI_clamp (by omega)
  refine va_bald hx hb hK.1 (z1 h) 0 2 rfl (zTy_at G (by decide)) (vp_in_nI hk hn) hdg ?_
  rw [e1]
  exact kk
theorem zaald (hx : p.tables.exec = Jvm.exec) (hb : c.code = cc) (hK : zK G s) {t n : Nat} {C : String} (ht : t < 8) (htC : zTn t = .object C) {f : Nat → Option Nat} (h : zR G a t n f H) (k : Nat) (hk : k < n) (hn : n < 2 ^ 31) (hdg : decode cc pc = .ok (.aaload, 1))
    (kk : W p l e R s m args below meth c H locs cells slots Q (F0 m (pc + 1) ls (va_rf (f k) :: rest))) : W p l e R s m args below meth c H locs cells slots Q (F0 m pc ls (.int (nI k) :: .ref a :: rest)) := by
  have e1 : (nI k).toNatClampNeg = k := nI_clamp (by omega)
  refine va_aldq (C := C) hx hb hK.1 (z1 h) 0 t rfl (by rw [← htC]; exact zTy_at G ht) (vp_in_nI hk hn) hdg ?_
  rw [e1]
  exact kk
theorem ziast (hx : p.tables.exec = Jvm.exec) (hb : c.code = cc) (hK : zK G s) {n : Nat} {f : Nat → Int32} (h : zI G a 0 n f H) (hS : va_S A H0 H locs) (hA : A a) (k : Nat) (hk : k < n) (hn : n < 2 ^ 31) {x : Int32} (hdg : decode cc pc = .ok (.iastore, 1))
    (kk : ∀ (H1 : Heap) (locs1 : List Loc), zI G a 0 n (upd f k x) H1 → H1.size = H.size → (∀ q : Nat, q ≠ a → H1[q]? = H[q]?) → va_S A H0 H1 locs1 → W p l e R s m args below meth c H1 locs1 cells slots Q (F0 m (pc + 1) ls rest)) : W p l e R s m args below meth c H locs cells slots Q (F0 m pc ls (.int x :: .int (nI k) :: .ref a :: rest)) := by
  have e1 : (nI k).toNatClampNeg = k := nI_clamp (by omega)
  refine W.iast hx hb h ((hK.1.2 0 _ (zTy_at G (by decide))).1 n (fun j => .int (f j))) (fun q => by cases q) (by show ¬ (nI k < 0 ∨ (arrV _ _ _).slots.size ≤ _); rw [arrV_size]; exact vp_in_nI hk hn) rfl rfl hdg fun H1 e z oq => ?_
  refine kk H1 _ ?_ z oq (hS.put z oq hA)
  show H1[a]? = some (vp_cell _ _)
  rw [e, e1]
  rw [vp_cell_i, vp_cell_i, arrV_store]
  congr 2
  funext q
  by_cases hq : q = k
  · subst hq
    simp [updV, upd, vp_nar]
    try rfl
  · simp [updV, upd, hq]
theorem zzast (hx : p.tables.exec = Jvm.exec) (hb : c.code = cc) (hK : zK G s) {n : Nat} {f : Nat → Int32} (h : zI G a 1 n f H) (hS : va_S A H0 H locs) (hA : A a) (k : Nat) (hk : k < n) (hn : n < 2 ^ 31) {x : Int32} (hdg : decode cc pc = .ok (.bastore, 1))
    (kk : ∀ (H1 : Heap) (locs1 : List Loc), zI G a 1 n (upd f k (vp_nar .boolean x)) H1 → H1.size = H.size → (∀ q : Nat, q ≠ a → H1[q]? = H[q]?) → va_S A H0 H1 locs1 → W p l e R s m args below meth c H1 locs1 cells slots Q (F0 m (pc + 1) ls rest)) : W p l e R s m args below meth c H locs cells slots Q (F0 m pc ls (.int x :: .int (nI k) :: .ref a :: rest)) := by
  have e1 : (nI k).toNatClampNeg = k := nI_clamp (by omega)
  refine W.zast hx hb h ((hK.1.2 1 _ (zTy_at G (by decide))).1 n (fun j => .int (f j))) (fun q => by cases q) (by show ¬ (nI k < 0 ∨ (arrV _ _ _).slots.size ≤ _); rw [arrV_size]; exact vp_in_nI hk hn) rfl rfl hdg fun H1 e z oq => ?_
  refine kk H1 _ ?_ z oq (hS.put z oq hA)
  show H1[a]? = some (vp_cell _ _)
  rw [e, e1]
  rw [vp_cell_i, vp_cell_i, arrV_store]
  congr 2
  funext q
  by_cases hq : q = k
  · subst hq
    simp [updV, upd, vp_nar]
    try rfl
  · simp [updV, upd, hq]
theorem zbast (hx : p.tables.exec = Jvm.exec) (hb : c.code = cc) (hK : zK G s) {n : Nat} {f : Nat → Int32} (h : zI G a 2 n f H) (hS : va_S A H0 H locs) (hA : A a) (k : Nat) (hk : k < n) (hn : n < 2 ^ 31) {x : Int32} (hdg : decode cc pc = .ok (.bastore, 1))
    (kk : ∀ (H1 : Heap) (locs1 : List Loc), zI G a 2 n (upd f k (vp_nar .byte x)) H1 → H1.size = H.size → (∀ q : Nat, q ≠ a → H1[q]? = H[q]?) → va_S A H0 H1 locs1 → W p l e R s m args below meth c H1 locs1 cells slots Q (F0 m (pc + 1) ls rest)) : W p l e R s m args below meth c H locs cells slots Q (F0 m pc ls (.int x :: .int (nI k) :: .ref a :: rest)) := by
  have e1 : (nI k).toNatClampNeg = k := nI_clamp (by omega)
  refine W.bast hx hb h ((hK.1.2 2 _ (zTy_at G (by decide))).1 n (fun j => .int (f j))) (fun q => by cases q) (by show ¬ (nI k < 0 ∨ (arrV _ _ _).slots.size ≤ _); rw [arrV_size]; exact vp_in_nI hk hn) rfl rfl hdg fun H1 e z oq => ?_
  refine kk H1 _ ?_ z oq (hS.put z oq hA)
  show H1[a]? = some (vp_cell _ _)
  rw [e, e1]
  rw [vp_cell_i, vp_cell_i, arrV_store]
  congr 2
  funext q
  by_cases hq : q = k
  · subst hq
    simp [updV, upd, vp_nar]
    try rfl
  · simp [updV, upd, hq]
theorem zanyK {E C : String} {v ci : Nat} {fs : List Value} {T : u_T} {N : Nat} (hK : zK G s) (h : zO G v ci fs H) (hc : zCl[ci]? = some (C, T, N)) (hcast : va_Nw (.castable C E) s) : va_Any E s H v := by
  refine va_rAny (s := s) hK.1 (z1 h) (q0 := 0) rfl hc (fun comp c0 h1 h2 => ?_)
  obtain ⟨c1, t1, f1, f2, f3⟩ := Cond.castable_spec (args := #[]) hcast
  cases h2.symm.trans f1
  cases h1.symm.trans f2
  exact f3
theorem zanyS {C : String} {v ci : Nat} {fs : List Value} {T : u_T} {N : Nat} (hK : zK G s) (h : zO G v ci fs H) (hc : zCl[ci]? = some (C, T, N)) : va_Any C s H v := by
  have hcls := (hK.1.1 ci _ hc).2
  refine va_rAny (s := s) hK.1 (z1 h) (q0 := 0) rfl hc (fun comp c0 h1 h2 => ?_)
  cases h1.symm.trans h2
  cases h1.symm.trans hcls.1
  exact va_assign hcls
theorem va_Any.kept {E : String} {v : Nat} {H1 : Heap} (h : va_Any E s H v) (hq : H1[v]? = H[v]?) : va_Any E s H1 v := by
  obtain ⟨cv, h1, h2⟩ := h
  exact ⟨cv, by rw [hq]; exact h1, h2⟩
theorem zaast (hx : p.tables.exec = Jvm.exec) (hb : c.code = cc) (hK : zK G s) {t n v : Nat} {C : String} (ht : t < 8) (htC : zTn t = .object C) {f : Nat → Option Nat} (h : zR G a t n f H) (hv : va_Any C s H v) (hS : va_S A H0 H locs) (hA : A a) (k : Nat) (hk : k < n) (hn : n < 2 ^ 31) (hdg : decode cc pc = .ok (.aastore, 1))
    (kk : ∀ (H1 : Heap) (locs1 : List Loc), zR G a t n (va_up f k (some v)) H1 → H1.size = H.size → (∀ q : Nat, q ≠ a → H1[q]? = H[q]?) → va_S A H0 H1 locs1 → W p l e R s m args below meth c H1 locs1 cells slots Q (F0 m (pc + 1) ls rest)) : W p l e R s m args below meth c H locs cells slots Q (F0 m pc ls (.ref v :: .int (nI k) :: .ref a :: rest)) := by
  have e1 : (nI k).toNatClampNeg = k := nI_clamp (by omega)
  obtain ⟨cellV, g1, g3, ⟨kC, hkC⟩, hasg⟩ := hv
  have hra := (hK.1.2 t _ (zTy_at G ht)).2
  rw [htC] at hra
  obtain ⟨kA, comp, k1, k2, k3, -⟩ := hra
  obtain ⟨kE, hkE, -⟩ := Vm.findClass_spec k3
  refine W.aast hx hb h (fun q h => by cases h) (fun h => by cases h) k1 k2 rfl hkE ⟨nI_pos (by omega), by show _ < (arrV _ _ _).slots.size; rw [arrV_size, e1]; exact hk⟩ g1 (fun q h => by rw [h] at g3; cases g3) hkC (hasg _ k3) rfl rfl hdg fun H1 e z oq => ?_
  refine kk H1 _ ?_ z oq (hS.put z oq hA)
  show H1[a]? = some (vp_cell _ _)
  rw [e, e1]
  rw [vp_cell_q, vp_cell_q, arrV_store]
  congr 2
  funext q
  by_cases hq : q = k
  · subst hq
    simp [updV, va_up, va_rf]
  · simp [updV, va_up, hq]
theorem zaastN (hx : p.tables.exec = Jvm.exec) (hb : c.code = cc) (hK : zK G s) {t n : Nat} {C : String} (ht : t < 8) (htC : zTn t = .object C) {f : Nat → Option Nat} (h : zR G a t n f H) (hS : va_S A H0 H locs) (hA : A a) (k : Nat) (hk : k < n) (hn : n < 2 ^ 31) (hdg : decode cc pc = .ok (.aastore, 1))
    (kk : ∀ (H1 : Heap) (locs1 : List Loc), zR G a t n (va_up f k none) H1 → H1.size = H.size → (∀ q : Nat, q ≠ a → H1[q]? = H[q]?) → va_S A H0 H1 locs1 → W p l e R s m args below meth c H1 locs1 cells slots Q (F0 m (pc + 1) ls rest)) : W p l e R s m args below meth c H locs cells slots Q (F0 m pc ls (.null :: .int (nI k) :: .ref a :: rest)) := by
  have e1 : (nI k).toNatClampNeg = k := nI_clamp (by omega)
  have har := (hK.1.2 t _ (zTy_at G ht)).1 n (fun j => va_rf (f j))
  rw [htC] at har
  refine va_WaastN (C := C) hx hb h har (fun h => by cases h) (by show ¬ (nI k < 0 ∨ (arrV _ _ _).slots.size ≤ _); rw [arrV_size]; exact vp_in_nI hk hn) rfl rfl hdg fun H1 e z oq => ?_
  refine kk H1 _ ?_ z oq (hS.put z oq hA)
  show H1[a]? = some (vp_cell _ _)
  rw [e, e1]
  rw [vp_cell_q, vp_cell_q, arrV_store]
  congr 2
  funext q
  by_cases hq : q = k
  · subst hq
    simp [updV, va_up, va_rf]
  · simp [updV, va_up, hq]
theorem va_S.grow {A : Nat → Prop} {H0 H H1 : Heap} {locs : List Loc} (h : va_S A H0 H locs) (z : H.size ≤ H1.size) (o : ∀ q : Nat, q < H.size → H1[q]? = H[q]?) : va_S A H0 H1 locs :=
  ⟨Nat.le_trans h.1 z, fun q h1 h2 => (o q (Nat.lt_of_lt_of_le h1 h.1)).trans (h.2.1 q h1 h2), h.2.2⟩
theorem znew {c0 : Code} (hx : p.tables.exec = Jvm.exec) (hb : c0.code = cc) (hts : ∀ w ∈ lw_all, w.before args s = true) {own C : String} {T : u_T} {N ci index : Nat} (ho : s.vm.findClass own = some m.cls) (hK : zK G s) (hin : ∀ w ∈ u_ws C T N, w ∈ lw_all) {ty : Nat → FieldType} (hty : ∀ k, k < N → parseFieldDescriptor (T k).2.2.1 = some (ty k)) (hcl : (Cond.classLink own index C) ∈ lw_all) (hinst : (Cond.instantiable C N) ∈ lw_all) (hini : (Cond.initialized C) ∈ lw_all)
    (hS : va_S A H0 H locs) (hc : zCl[ci]? = some (C, T, N)) {fs : List Value} (hfs : ∀ j, j < N → defaultValue (ty j) = vp_V fs j) (hcells : cells + 1 ≤ R.cells) (hslots : slots + N ≤ R.slots) (hdg : decode cc pc = .ok (.new index, 3))
    (kk : ∀ H1 : Heap, zO G H.size ci fs H1 → H1.size = H.size + 1 → (∀ q : Nat, q < H.size → H1[q]? = H[q]?) → va_S A H0 H1 locs → W p l e R s m args below meth c0 H1 locs (cells + 1) (slots + N) Q (F0 m (pc + 3) ls (.ref H.size :: rest))) : W p l e R s m args below meth c0 H locs cells slots Q (F0 m pc ls rest) := by
  have hKn := hK.1.1 ci _ hc
  refine W.newcK hx hb ho (hts _ hcl) (hts _ hinst) (hts _ hini) rfl hdg hcells hslots hKn.2.1 rfl fun H1 kC hkC e1 z1 o1 => ?_
  exact kk H1 ⟨_, hc, (u_born ty hts hin hKn hkC e1 hty).to hfs⟩ z1 o1 (hS.grow (by omega) o1)
theorem znewa (hx : p.tables.exec = Jvm.exec) (hb : c.code = cc) (hts : ∀ w ∈ lw_all, w.before args s = true) (hK : zK G s) {t : Nat} (ht : t < 3) {atype : ArrayType} (hat : newarray.typeOf atype = zTn t) (harr : (Cond.arrayClass (zTn t)) ∈ lw_all)
    (hS : va_S A H0 H locs) (n : Nat) (hn : n ≤ 100000) (hcells : cells + 1 ≤ R.cells) (hslots : slots + n ≤ R.slots) (hdg : decode cc pc = .ok (.newarray atype, 2))
    (kk : ∀ H1 : Heap, zI G H.size t n (fun _ => 0) H1 → H1.size = H.size + 1 → (∀ q : Nat, q < H.size → H1[q]? = H[q]?) → va_S A H0 H1 locs → W p l e R s m args below meth c H1 locs (cells + 1) (slots + n) Q (F0 m (pc + 2) ls (.ref H.size :: rest))) : W p l e R s m args below meth c H locs cells slots Q (F0 m pc ls (.int (nI n) :: rest)) := by
  have e1 : (nI n).toNatClampNeg = n := nI_clamp (by omega)
  have hcb : componentBytes (newarray.typeOf atype) ≤ 4 := by
    rw [hat]
    rcases (show t = 0 ∨ t = 1 ∨ t = 2 by omega) with rfl | rfl | rfl <;> decide
  refine va_newaK hx hb (by rw [hat]; exact hts _ harr) rfl hdg rfl (nI_pos (by omega)) e1 (by have := Nat.mul_le_mul hn hcb; omega) hcells hslots rfl fun H1 cA e2 z2 o2 hAr hNm => ?_
  have hra := hK.1.2 t _ (zTy_at G (by omega))
  have hid : cA = G.2.1 t := by
    rw [hat] at hNm
    have h2 := hra.2
    rcases (show t = 0 ∨ t = 1 ∨ t = 2 by omega) with rfl | rfl | rfl <;> exact Option.some.inj (hNm.symm.trans h2)
  subst hid
  refine kk H1 ?_ z2 o2 (hS.grow (by omega) o2)
  show H1[H.size]? = some (vp_cell _ _)
  rw [e2, vp_cell_i, hat]
  rcases (show t = 0 ∨ t = 1 ∨ t = 2 by omega) with rfl | rfl | rfl <;> rfl
theorem znewq (hx : p.tables.exec = Jvm.exec) (hb : c.code = cc) (hts : ∀ w ∈ lw_all, w.before args s = true) (hK : zK G s) {own C : String} {index t : Nat} (ho : s.vm.findClass own = some m.cls) (ht : t < 8) (htC : zTn t = .object C) (hcl : (Cond.classLink own index C) ∈ lw_all) (hover : va_AO C s)
    (hS : va_S A H0 H locs) (n : Nat) (hn : n ≤ 100000) (hcells : cells + 1 ≤ R.cells) (hslots : slots + n ≤ R.slots) (hdg : decode cc pc = .ok (.anewarray index, 3))
    (kk : ∀ H1 : Heap, zR G H.size t n (fun _ => none) H1 → H1.size = H.size + 1 → (∀ q : Nat, q < H.size → H1[q]? = H[q]?) → va_S A H0 H1 locs → W p l e R s m args below meth c H1 locs (cells + 1) (slots + n) Q (F0 m (pc + 3) ls (.ref H.size :: rest))) : W p l e R s m args below meth c H locs cells slots Q (F0 m pc ls (.int (nI n) :: rest)) := by
  have e1 : (nI n).toNatClampNeg = n := nI_clamp (by omega)
  refine W.anew hx hb ho (hts _ hcl) (va_AO.use hover) rfl hdg rfl (nI_pos (by omega)) (by rw [e1]; omega) hcells (by rw [e1]; exact hslots) fun cA kA comp f1 f2 f3 f4 => ?_
  have hra := hK.1.2 t _ (zTy_at G ht)
  have h2 := hra.2
  rw [htC] at h2
  obtain ⟨kA', comp', r1, r2, r3, r4⟩ := h2
  have hid : cA = G.2.1 t := Option.some.inj (f1.symm.trans r4)
  subst hid
  rw [e1]
  generalize hH1 : H.push ({ cls := G.2.1 t, slots := Array.replicate n .null, vm := .none } : Cell) = H1
  have z1 : H1.size = H.size + 1 := by rw [← hH1, Array.size_push]
  have e2 : H1[H.size]? = some (arrV (G.2.1 t) n (fun _ => .null)) := by rw [← hH1, Array.getElem?_push_size, ← arrV_new]
  have o1 : ∀ q : Nat, q < H.size → H1[q]? = H[q]? := fun q hq => by rw [← hH1, Array.getElem?_push, if_neg (Nat.ne_of_lt hq)]
  refine kk H1 ?_ z1 o1 (hS.grow (by omega) o1)
  show H1[H.size]? = some (vp_cell _ _)
  rw [vp_cell_q]
  exact e2
theorem zalenI (hx : p.tables.exec = Jvm.exec) (hb : c.code = cc) (hK : zK G s) {t n : Nat} {f : Nat → Int32} (h : zI G a t n f H) (ht : t < 8) (hdg : decode cc pc = .ok (.arraylength, 1))
    (kk : W p l e R s m args below meth c H locs cells slots Q (F0 m (pc + 1) ls (.int (nI n) :: rest))) : W p l e R s m args below meth c H locs cells slots Q (F0 m pc ls (.ref a :: rest)) := by
  refine W.alen (n := Int32.ofNat n) hx hb h ((hK.1.2 t _ (zTy_at G ht)).1 n (fun j => .int (f j))) (by rw [vp_cell_i, arrV_size] <;> rfl) rfl rfl hdg kk
theorem zalenR (hx : p.tables.exec = Jvm.exec) (hb : c.code = cc) (hK : zK G s) {t n : Nat} {f : Nat → Option Nat} (h : zR G a t n f H) (ht : t < 8) (hdg : decode cc pc = .ok (.arraylength, 1))
    (kk : W p l e R s m args below meth c H locs cells slots Q (F0 m (pc + 1) ls (.int (nI n) :: rest))) : W p l e R s m args below meth c H locs cells slots Q (F0 m pc ls (.ref a :: rest)) := by
  refine W.alen (n := Int32.ofNat n) hx hb h ((hK.1.2 t _ (zTy_at G ht)).1 n (fun j => va_rf (f j))) (by rw [vp_cell_q, arrV_size] <;> rfl) rfl rfl hdg kk
end ZROW
/-! contracts: a start that knows the heap, an end with its frame -/
def zP (G : zG) (H : Heap) (av : List Value) : Array Value → State → Prop := va_Pc av (fun U => zK G U ∧ U.heap = H)
def zQ (post : Option Value → Heap → Prop) (A : Nat → Prop) : Array Value → State → Outcome → State → Prop := fun _ st oc t => (∃ v, oc = .returned v ∧ post v t.heap) ∧ va_F A st t
abbrev zM (l : Launch) (G : zG) (y : MethodName) (cc : ByteArray) (nL : Nat) (ret : Option FieldType) (rm : Room) (H : Heap) (av : List Value) (post : Option Value → Heap → Prop) (A : Nat → Prop) : Prop := Met l y (ws_ y cc nL ret) rm (zP G H av) (zQ post A) rm.cells rm.slots A
abbrev zN : Nat → Prop := fun _ => False
theorem zP.blind {G : zG} {H : Heap} {av : List Value} : FrameBlind (zP G H av) := fun a U g mk h => ⟨h.1, zK.same (u := U) (U := U.calling g mk a) rfl h.2.1, h.2.2⟩
section ZCALL
variable {p : Program} {l : Launch} {e : Env} {R : Room} {s : State} {m : MethodId} {args : Array Value} {below : List Frame} {meth : Method} {c : Code} {H : Heap} {locs : List Loc} {cells slots : Nat} {Q : State → Prop}
variable {cc : ByteArray} {pc : Nat} {ls : Array Slot} {rest st0 : List Value} {G : zG} {A A0 A1 : Nat → Prop} {a : Nat} {H0 : Heap} {mc ms : Nat}
theorem zM.start {y : MethodName} {nL : Nat} {ret : Option FieldType} {rm : Room} {av : List Value} {post : Option Value → Heap → Prop} {own : String} (hy : plainName y.cls = true) (hcls : y.cls = own) (hav : (lg_sl av).length ≤ nL)
    (body : ∀ (p : Program) (e : Env) (s : State) (m : MethodId) (args : Array Value) (below : List Frame) (meth : Method) (c : Code) (ls : Array Slot) (Q : State → Prop), p.tables.exec = Jvm.exec → c.code = cc → c.maxLocals = nL → meth.sig.returnType = ret → meth.locks = false → meth.name = y.name → s.vm.findClass own = some m.cls → (∀ w ∈ lw_all, w.before args s = true) → zK G s → s.heap = H → Q = MQ below (zQ post A) args s rm.cells rm.slots A → lv_has ls nL (lv_args 0 av) → va_S A H H [] → W p l e rm s m args below meth c H [] 0 0 Q (F0 m 0 ls [])) : zM l G y cc nL ret rm H av post A := by
  refine Met.ofW (cc := cc) (maxL := nL) (ret := ret) hy rfl ?_
  intro p e s m args below meth c s₁ B hml hv
  obtain ⟨rfl, hK, hH⟩ := hv
  have hts := atoms_spec (ws := ws_ y cc nL ret) B.pre
  have hl := lv_entry av (n := nL) hav
  rw [lg_entry_eq]
  generalize (lg_sl av ++ List.replicate (nL - (lg_sl av).length) Slot.unset).toArray = ls at hl ⊢
  have k := body p e s m av.toArray below meth c ls _ B.exec B.bytes hml B.returns B.notSynchronized (name_of_methodNamed B.named B.method).1 (hcls ▸ findClass_of_methodNamed B.named) (fun w h => hts w (List.mem_cons_of_mem _ h)) hK hH rfl hl va_S.rf
  rw [← hH] at k
  exact k
theorem zcall {post : Option Value → Heap → Prop} {a : Array Value} (hr : va_Run p l e R s m args below meth c H locs cells slots mc ms (F0 m pc ls st0) rest (zQ post A1 a) A1) (hS : va_S A0 H0 H locs) (hA : ∀ q, A1 q → A0 q)
    (kk : ∀ (v : Option Value) (H1 : Heap) (locs1 : List Loc), post v H1 → H.size ≤ H1.size → (∀ q : Nat, q < H.size → ¬ A1 q → H1[q]? = H[q]?) → va_S A0 H0 H1 locs1 → W p l e R s m args below meth c H1 locs1 (cells + mc) (slots + ms) Q (F0 m (pc + 3) ls (v.toList ++ rest))) : W p l e R s m args below meth c H locs cells slots Q (F0 m pc ls st0) := by
  intro T hT X
  obtain ⟨v, st₀, t, T', L, h0, X', hL, e1, e2, ⟨⟨v', hv, hp⟩, hz, hk⟩, st⟩ := hr T hT X
  cases hv
  rw [h0] at hz hk
  obtain ⟨t2, a1, b1⟩ := kk v T'.heap (locs ++ L) (by rw [e1]; exact hp) (by rw [e1]; exact hz) (fun q h1 h2 => by rw [e1]; exact hk q h1 h2)
    ⟨Nat.le_trans hS.1 (by rw [e1]; exact hz), fun q h1 h2 => by rw [e1, hk q (Nat.lt_of_lt_of_le h1 hS.1) (fun z => h2 (hA q z))]; exact hS.2.1 q h1 h2, fun q hq => by
      rcases List.mem_append.mp hq with h | h
      · exact hS.2.2 q h
      · exact hA _ (hL q h)⟩ T' rfl X'
  exact ⟨t2, st t2 a1, b1⟩
theorem zcall5 {post : Option Value → Heap → Prop} {a : Array Value} (hr : va_Run5 p l e R s m args below meth c H locs cells slots mc ms (F0 m pc ls st0) rest (zQ post A1 a) A1) (hS : va_S A0 H0 H locs) (hA : ∀ q, A1 q → A0 q)
    (kk : ∀ (v : Option Value) (H1 : Heap) (locs1 : List Loc), post v H1 → H.size ≤ H1.size → (∀ q : Nat, q < H.size → ¬ A1 q → H1[q]? = H[q]?) → va_S A0 H0 H1 locs1 → W p l e R s m args below meth c H1 locs1 (cells + mc) (slots + ms) Q (F0 m (pc + 5) ls (v.toList ++ rest))) : W p l e R s m args below meth c H locs cells slots Q (F0 m pc ls st0) := by
  intro T hT X
  obtain ⟨v, st₀, t, T', L, h0, X', hL, e1, e2, ⟨⟨v', hv, hp⟩, hz, hk⟩, st⟩ := hr T hT X
  cases hv
  rw [h0] at hz hk
  obtain ⟨t2, a1, b1⟩ := kk v T'.heap (locs ++ L) (by rw [e1]; exact hp) (by rw [e1]; exact hz) (fun q h1 h2 => by rw [e1]; exact hk q h1 h2)
    ⟨Nat.le_trans hS.1 (by rw [e1]; exact hz), fun q h1 h2 => by rw [e1, hk q (Nat.lt_of_lt_of_le h1 hS.1) (fun z => h2 (hA q z))]; exact hS.2.1 q h1 h2, fun q hq => by
      rcases List.mem_append.mp hq with h | h
      · exact hS.2.2 q h
      · exact hA _ (hL q h)⟩ T' rfl X'
  exact ⟨t2, st t2 a1, b1⟩
theorem zrecv {ci : Nat} {fs : List Value} {C : String} {T : u_T} {N : Nat} (hK : zK G s) (h : zO G a ci fs H) (hc : zCl[ci]? = some (C, T, N)) : ∃ cell : Cell, H[a]? = some cell ∧ cell.vm.isStatics = false ∧ s.vm.findClass C = some cell.cls := va_recv hK.1 (z1 h) hc (q0 := 0) rfl
abbrev zFix (p : Program) (l : Launch) (s : State) (m : MethodId) (args : Array Value) (c : Code) (cc : ByteArray) (nL : Nat) (own : String) (G : zG) : Prop := p.tables.exec = Jvm.exec ∧ c.code = cc ∧ c.maxLocals = nL ∧ s.vm.findClass own = some m.cls ∧ (∀ w ∈ lw_all, w.before args s = true) ∧ zK G s
/-- a call of an own method on an object -/
theorem zcV {y : MethodName} {bytes : ByteArray} {maxL nL index : Nat} {ret : Option FieldType} {rm : Room} {post : Option Value → Heap → Prop} {own : String} {b : Addr} {As : List Value} (n : Nat)
    (F : zFix p l s m args c cc nL own G) (hM : zM l G y bytes maxL ret rm H (.ref b :: As) post A1)
    (h1 : Cond.methodLink own index y ∈ lw_all) (h2 : Cond.instanceMethod y ∈ lw_all) (h3 : Cond.selects y.cls y y ∈ lw_all) (h4 : Cond.initialized y.cls ∈ lw_all) (h5 : Cond.code y bytes maxL ret ∈ lw_all)
    (hd : y.cls = y.cls ∧ y.cls ≠ "java/lang/invoke/MethodHandle" ∧ y.cls ≠ "java/lang/invoke/VarHandle" ∧ (parseMethodDescriptor y.desc).map (fun d => d.parameters.length) = some n) (hR : rm.frames + 1 ≤ R.frames ∧ 8 + (maxL + 11) + rm.locals ≤ R.locals)
    (hrc : ∃ cell : Cell, H[b]? = some cell ∧ cell.vm.isStatics = false ∧ s.vm.findClass y.cls = some cell.cls) (hn : As.length = n) (hl : ls.size = nL) (hst : st0 = As.reverse ++ .ref b :: rest) (hW : (rest.map fun v => v.category).sum ≤ 8) (hdg : decode cc pc = .ok (.invokevirtual index, 3)) (hf : cells + rm.cells ≤ R.cells ∧ slots + rm.slots ≤ R.slots)
    (hS : va_S A0 H0 H locs) (hA : ∀ q, A1 q → A0 q)
    (kk : ∀ (v : Option Value) (H1 : Heap) (locs1 : List Loc), post v H1 → H.size ≤ H1.size → (∀ q : Nat, q < H.size → ¬ A1 q → H1[q]? = H[q]?) → va_S A0 H0 H1 locs1 → W p l e R s m args below meth c H1 locs1 (cells + rm.cells) (slots + rm.slots) Q (F0 m (pc + 3) ls (v.toList ++ rest))) : W p l e R s m args below meth c H locs cells slots Q (F0 m pc ls st0) := by
  obtain ⟨hx, hb, hml, ho, hts, hK⟩ := F
  exact zcall (va_runV (As := As) (rest := rest) ⟨hx, hb, hml, ho, hts⟩ hM (cwV n hts (lw_V h1 h2 h3 h4 h5) rfl rfl rfl hd hR) ⟨zP.blind, hrc, fun U hU hW => ⟨rfl, hK.warm hW, hU⟩⟩ rfl hn hl hst (lv_room hW) hdg hf) hS hA kk
theorem zcS {y : MethodName} {bytes : ByteArray} {maxL nL index : Nat} {ret : Option FieldType} {rm : Room} {post : Option Value → Heap → Prop} {own : String} {As : List Value} (n : Nat)
    (F : zFix p l s m args c cc nL own G) (hM : zM l G y bytes maxL ret rm H As post A1)
    (h1 : Cond.methodLink own index y ∈ lw_all) (h2 : Cond.static y ∈ lw_all) (h4 : Cond.initialized y.cls ∈ lw_all) (h5 : Cond.code y bytes maxL ret ∈ lw_all)
    (hd : y.cls ≠ "java/lang/invoke/MethodHandle" ∧ y.cls ≠ "java/lang/invoke/VarHandle" ∧ (parseMethodDescriptor y.desc).map (fun d => d.parameters.length) = some n) (hR : rm.frames + 1 ≤ R.frames ∧ 8 + (maxL + 11) + rm.locals ≤ R.locals)
    (hn : As.length = n) (hl : ls.size = nL) (hst : st0 = As.reverse ++ rest) (hW : (rest.map fun v => v.category).sum ≤ 8) (hdg : decode cc pc = .ok (.invokestatic index, 3)) (hf : cells + rm.cells ≤ R.cells ∧ slots + rm.slots ≤ R.slots)
    (hS : va_S A0 H0 H locs) (hA : ∀ q, A1 q → A0 q)
    (kk : ∀ (v : Option Value) (H1 : Heap) (locs1 : List Loc), post v H1 → H.size ≤ H1.size → (∀ q : Nat, q < H.size → ¬ A1 q → H1[q]? = H[q]?) → va_S A0 H0 H1 locs1 → W p l e R s m args below meth c H1 locs1 (cells + rm.cells) (slots + rm.slots) Q (F0 m (pc + 3) ls (v.toList ++ rest))) : W p l e R s m args below meth c H locs cells slots Q (F0 m pc ls st0) := by
  obtain ⟨hx, hb, hml, ho, hts, hK⟩ := F
  exact zcall (va_runS (As := As) (rest := rest) ⟨hx, hb, hml, ho, hts⟩ hM (va_cwS n hts (lw_S h1 h2 h4 h5) rfl rfl rfl hd hR) ⟨zP.blind, fun U hU hW => ⟨rfl, hK.warm hW, hU⟩⟩ rfl hn hl hst (lv_room hW) hdg hf) hS hA kk
theorem zcI {y : MethodName} {bytes : ByteArray} {maxL nL index : Nat} {rm : Room} {post : Option Value → Heap → Prop} {own : String} {b : Addr} {As : List Value} (n : Nat)
    (F : zFix p l s m args c cc nL own G) (hM : zM l G y bytes maxL none rm H (.ref b :: As) post A1)
    (h1 : Cond.methodLink own index y ∈ lw_all) (h2 : Cond.instanceMethod y ∈ lw_all) (h4 : Cond.initialized y.cls ∈ lw_all) (h5 : Cond.code y bytes maxL none ∈ lw_all) (hnm : y.name = "<init>")
    (hd : y.cls ≠ "java/lang/invoke/MethodHandle" ∧ y.cls ≠ "java/lang/invoke/VarHandle" ∧ (parseMethodDescriptor y.desc).map (fun d => d.parameters.length) = some n) (hR : rm.frames + 1 ≤ R.frames ∧ 8 + (maxL + 11) + rm.locals ≤ R.locals)
    (hn : As.length = n) (hl : ls.size = nL) (hst : st0 = As.reverse ++ .ref b :: rest) (hW : (rest.map fun v => v.category).sum ≤ 8) (hdg : decode cc pc = .ok (.invokespecial index, 3)) (hf : cells + rm.cells ≤ R.cells ∧ slots + rm.slots ≤ R.slots)
    (hS : va_S A0 H0 H locs) (hA : ∀ q, A1 q → A0 q)
    (kk : ∀ (v : Option Value) (H1 : Heap) (locs1 : List Loc), post v H1 → H.size ≤ H1.size → (∀ q : Nat, q < H.size → ¬ A1 q → H1[q]? = H[q]?) → va_S A0 H0 H1 locs1 → W p l e R s m args below meth c H1 locs1 (cells + rm.cells) (slots + rm.slots) Q (F0 m (pc + 3) ls (v.toList ++ rest))) : W p l e R s m args below meth c H locs cells slots Q (F0 m pc ls st0) := by
  obtain ⟨hx, hb, hml, ho, hts, hK⟩ := F
  exact zcall (va_runI (As := As) (rest := rest) ⟨hx, hb, hml, ho, hts⟩ hM (cwI n hts (lw_meth h5) rfl rfl rfl (hts _ h4) (hts _ h1) (hts _ h2) hnm hd hR) ⟨zP.blind, fun U hU hW => ⟨rfl, hK.warm hW, hU⟩⟩ rfl hn hl hst (lv_room hW) hdg hf) hS hA kk
/-- the ends -/
theorem zri {post : Option Value → Heap → Prop} {ty : FieldType} {v : Int32} (hx : p.tables.exec = Jvm.exec) (hb : c.code = cc) (hr : meth.sig.returnType = some ty) (hlk : meth.locks = false) (hH : s.heap = H0) (hQ : Q = MQ below (zQ post A) args s mc ms A) (hn : narrow ty (.int v) = .int v) (hS : va_S A H0 H locs) (hp : post (some (.int v)) H) (hc : cells ≤ mc) (hs : slots ≤ ms) (hdg : decode cc pc = .ok (.ireturn, 1)) : W p l e R s m args below meth c H locs cells slots Q (F0 m pc ls [.int v]) := by
  subst hQ
  refine W.widen hc hs ?_
  exact W.zret hx hb hr hn (fun t ht _ => ⟨⟨_, rfl, by rw [ht]; exact hp⟩, (hH ▸ hS : va_S A s.heap H locs).F ht⟩) hS.2.2 hdg hlk
theorem zrv {post : Option Value → Heap → Prop} (hx : p.tables.exec = Jvm.exec) (hb : c.code = cc) (hr : meth.sig.returnType = none) (hlk : meth.locks = false) (hH : s.heap = H0) (hQ : Q = MQ below (zQ post A) args s mc ms A) (hS : va_S A H0 H locs) (hp : post none H) (hc : cells ≤ mc) (hs : slots ≤ ms) (hdg : decode cc pc = .ok (.return_, 1)) : W p l e R s m args below meth c H locs cells slots Q (F0 m pc ls []) := by
  subst hQ
  refine W.widen hc hs ?_
  exact W.vret hx hb hr (fun t ht _ => ⟨⟨_, rfl, by rw [ht]; exact hp⟩, (hH ▸ hS : va_S A s.heap H locs).F ht⟩) hS.2.2 hdg hlk
theorem zra {post : Option Value → Heap → Prop} {rt : FieldType} {v : Nat} (hx : p.tables.exec = Jvm.exec) (hb : c.code = cc) (hr : meth.sig.returnType = some rt) (hrt : (∃ n, rt = .object n) ∨ ∃ t, rt = .array t) (hlk : meth.locks = false) (hH : s.heap = H0) (hQ : Q = MQ below (zQ post A) args s mc ms A) (hS : va_S A H0 H locs) (hp : post (some (.ref v)) H) (hc : cells ≤ mc) (hs : slots ≤ ms) (hdg : decode cc pc = .ok (.areturn, 1)) : W p l e R s m args below meth c H locs cells slots Q (F0 m pc ls [.ref v]) := by
  subst hQ
  refine W.widen hc hs ?_
  exact W.aret hx hb hr hrt (Or.inr ⟨_, rfl⟩) (fun t ht _ => ⟨⟨_, rfl, by rw [ht]; exact hp⟩, (hH ▸ hS : va_S A s.heap H locs).F ht⟩) hS.2.2 hdg hlk
theorem zrf {post : Option Value → Heap → Prop} {v : UInt32} (hx : p.tables.exec = Jvm.exec) (hb : c.code = cc) (hr : meth.sig.returnType = some .float) (hlk : meth.locks = false) (hH : s.heap = H0) (hQ : Q = MQ below (zQ post A) args s mc ms A) (hS : va_S A H0 H locs) (hp : post (some (.float v)) H) (hc : cells ≤ mc) (hs : slots ≤ ms) (hdg : decode cc pc = .ok (.freturn, 1)) : W p l e R s m args below meth c H locs cells slots Q (F0 m pc ls [.float v]) := by
  subst hQ
  refine W.widen hc hs ?_
  exact W.fret hx hb hr (fun t ht _ => ⟨⟨_, rfl, by rw [ht]; exact hp⟩, (hH ▸ hS : va_S A s.heap H locs).F ht⟩) hS.2.2 hdg hlk
end ZCALL

