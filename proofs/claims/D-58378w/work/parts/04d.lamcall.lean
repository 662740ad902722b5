/-! LAMBDAS, II: a call of an operation's object runs the component's static method -/
theorem zDf_is {q : Nat × Nat × String} (h : q ∈ zLs) : (zSh q.2.2).file "BarrelProcessor" = some (zDf q.2.2) := by
  obtain ⟨x, hx⟩ := Option.isSome_iff_exists.mp (zDf_s q h)
  simp [zDf, hx]
theorem zFw_is {q : Nat × Nat × String} (h : q ∈ zLs) : ∀ ms, layoutMethods (zDf q.2.2) = some ms → ms[1]? = some (zFw q.2.2) := by
  intro ms hms
  obtain ⟨x, hx⟩ := Option.isSome_iff_exists.mp (zFw_s q h)
  have hf : zFw q.2.2 = x := by simp [zFw, hx]
  rw [hms] at hx
  rw [hf]
  exact hx
theorem zmade {e : Setting} {vm : Vm} {d c : ClassId} {dk : Class} {q : Nat × Nat × String} (hq : q ∈ zLs) (hd : vm.classes[d]? = some dk) (hname : dk.name = "BarrelProcessor") (h : Lambda.isMade e vm d (zSh q.2.2) c = true) :
    ∃ (k tk : Class) (file : ClassFile) (methk : Method) (ck : Code) (toy : ClassId) (t : MethodId),
      vm.classes[c]? = some k ∧ k.name = "BarrelProcessor$$Lambda" ∧ k.cf = some file ∧ file.constantPool = (zDf q.2.2).constantPool ∧
      vm.method? ⟨c, 1⟩ = some methk ∧ methk.code = some ck ∧ ck.code = zLcode ∧ ck.maxLocals = 5 ∧ methk.locks = false ∧ methk.accessFlags = 0x0001 ∧ methk.sig.returnType = none ∧
      vm.findClass "BarrelProcessor" = some toy ∧ vm.classes[toy]? = some tk ∧ ((methodIn toy q.2.2 zLd tk.isInterface none).ask e vm).1 = .ok t ∧
      vm.methodReady c 17 t ∧ vm.classReady c 14 toy ∧ (∃ (iface : ClassId) (f : MethodId), vm.findClass "BarrelProcessor$Operation" = some iface ∧ ((methodIn iface "run" zLd true none).ask e vm).1 = .ok f ∧ selectMethod {} vm c f = .method ⟨c, 1⟩) := by
  obtain ⟨dk', k, ok, tk, file, cf, object, iface, toy, lay, methods, target, found, hd', hk, hfile, hcf, -, hif, -, -, hms, ht, htk, hg, hfo, hrec, -, -, -, -, hpool, hmeth, -, -, hres, hsel⟩ := Lambda.isMade_spec h
  cases hd.symm.trans hd'
  rw [hname, zDf_is hq] at hcf
  cases hcf
  obtain ⟨b, hb, hsame⟩ := hmeth 1 (zFw q.2.2) (zFw_is hq methods hms)
  simp only [Lambda.sameMethod, Bool.and_eq_true, decide_eq_true_eq] at hsame
  obtain ⟨⟨hn, -, hsig, hfl⟩, hcode⟩ := hsame
  have fc := zFw_c q hq
  have ff := zFw_f q hq
  simp only [Prod.mk.injEq] at ff
  have e17 := zDf_17 q hq
  obtain ⟨h14, hs14, hne⟩ := zDf_14 q hq
  cases hfc : (zFw q.2.2).code with
  | none => rw [hfc] at fc; cases fc
  | some x =>
    cases hbc : b.code with
    | none => simp [hfc, hbc] at hcode
    | some y =>
      simp only [hfc, hbc, Bool.and_eq_true, decide_eq_true_eq] at hcode
      simp only [hfc, Option.map_some, Option.some.injEq, Prod.mk.injEq] at fc
      refine ⟨k, tk, file, b, y, toy, target, hk, by rw [hrec.1, hname]; rfl, hfile, hpool.2.1, by simp [Vm.method?, hk, hb], hbc, ?_, by rw [← hcode.1.1.1.1.2.1]; exact fc.2, ?_, by rw [← hfl]; exact ff.1, by rw [← hsig]; exact ff.2.2, ht, htk, hg,
        ⟨k, hk, hres 17 _ (Lambda.resolvedOf_method e17.1 e17.2.1 ht htk e17.2.2 hg)⟩, ⟨k, hk, hres 14 _ (Lambda.resolvedOf_class h14 hne hs14 ht)⟩, iface, found, hif, hfo, hsel⟩
      · rw [← hcode.1.1.1.1.2.2]
        exact ByteArray.ext fc.1
      · simp [Method.locks, Method.isSynchronized, ← hfl, ff.1, hasFlag, Acc.synchronized]
/-- an operation's object -/
def zLo (G : zG) (k : Nat) (H : Heap) : Prop := ∃ cell : Cell, H[G.2.2 (20 + k)]? = some cell ∧ cell.cls = G.2.1 (20 + k) ∧ cell.vm = .none
theorem zLo.kept {G : zG} {k : Nat} {H H1 : Heap} (h : zLo G k H) (hq : H1[G.2.2 (20 + k)]? = H[G.2.2 (20 + k)]?) : zLo G k H1 := by
  obtain ⟨cell, h1, h2⟩ := h
  exact ⟨cell, by rw [hq]; exact h1, h2⟩
theorem zLo.lt {G : zG} {k : Nat} {H : Heap} (h : zLo G k H) : G.2.2 (20 + k) < H.size := by
  obtain ⟨cell, h1, -⟩ := h
  exact (Array.getElem?_eq_some_iff.mp h1).1
theorem zmadeAt {U : State} {a : Nat} {ca : ClassId} {pc0 i0 : Nat} {nm : String} (hq : (pc0, i0, nm) ∈ zLs) (h : zLam a ca pc0 nm U) :
    ∃ (k tk : Class) (file : ClassFile) (methk : Method) (ck : Code) (toy : ClassId) (t : MethodId),
      U.vm.classes[ca]? = some k ∧ k.name = "BarrelProcessor$$Lambda" ∧ k.cf = some file ∧ file.constantPool = (zDf nm).constantPool ∧
      U.vm.method? ⟨ca, 1⟩ = some methk ∧ methk.code = some ck ∧ ck.code = zLcode ∧ ck.maxLocals = 5 ∧ methk.locks = false ∧ methk.accessFlags = 0x0001 ∧ methk.sig.returnType = none ∧
      U.vm.findClass "BarrelProcessor" = some toy ∧ U.vm.classes[toy]? = some tk ∧ ((methodIn toy nm zLd tk.isInterface none).ask { classPath := fun _ => none } U.vm).1 = .ok t ∧
      U.vm.methodReady ca 17 t ∧ U.vm.classReady ca 14 toy ∧ (∃ (iface : ClassId) (f : MethodId), U.vm.findClass "BarrelProcessor$Operation" = some iface ∧ ((methodIn iface "run" zLd true none).ask { classPath := fun _ => none } U.vm).1 = .ok f ∧ selectMethod {} U.vm ca f = .method ⟨ca, 1⟩) ∧
      (∃ i, U.vm.findClass "BarrelProcessor$Operation" = some i ∧ U.vm.assignable ca i = true ∧ ((ca :: U.vm.superclasses ca).any fun k => (declaredIn U.vm "run" zLd k).any fun (_, x) => x.isPrivate || x.isStatic) = false) := by
  obtain ⟨mI, kc, _, _, g1, g2, g3, g4, g5⟩ := h
  obtain ⟨kx, hkx, hnx⟩ := className_of_methodNamed g1
  cases g2.symm.trans hkx
  obtain ⟨k, tk, file, methk, ck, toy, t, h1, h2, h3, h4, h5, h6, h7, h8, h9, h10, h11, h12, h13, h14, h15, h16, h17⟩ := zmade hq g2 hnx g4
  obtain ⟨i, hi, hasg, hway⟩ := State.lambdaCallable_spec g5
  exact ⟨k, tk, file, methk, ck, toy, t, h1, h2, h3, h4, h5, h6, h7, h8, h9, h10, h11, h12, h13, h14, h15, h16, h17, i, hi, hasg, hway⟩
