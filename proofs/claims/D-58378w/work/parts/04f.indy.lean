/-! ROWS, IV: the call sites of lambdas; a start that knows its method -/
theorem zM.startN {l : Launch} {G : zG} {y : MethodName} {cc : ByteArray} {nL : Nat} {ret : Option FieldType} {rm : Room} {H : Heap} {av : List Value} {post : Option Value → Heap → Prop} {A : Nat → Prop} {own : String} (hy : plainName y.cls = true) (hcls : y.cls = own) (hav : (lg_sl av).length ≤ nL)
    (body : ∀ (p : Program) (e : Env) (s : State) (m : MethodId) (args : Array Value) (below : List Frame) (meth : Method) (c : Code) (ls : Array Slot) (Q : State → Prop), s.methodNamed? y = some m → p.tables.exec = Jvm.exec → c.code = cc → c.maxLocals = nL → meth.sig.returnType = ret → meth.locks = false → meth.name = y.name → s.vm.findClass own = some m.cls → (∀ w ∈ lw_all, w.before args s = true) → zK G s → s.heap = H → Q = MQ below (zQ post A) args s rm.cells rm.slots A → lv_has ls nL (lv_args 0 av) → va_S A H H [] → W p l e rm s m args below meth c H [] 0 0 Q (F0 m 0 ls [])) : zM l G y cc nL ret rm H av post A := by
  refine Met.ofW (cc := cc) (maxL := nL) (ret := ret) hy rfl ?_
  intro p e s m args below meth c s₁ B hml hv
  obtain ⟨rfl, hK, hH⟩ := hv
  have hts := atoms_spec (ws := ws_ y cc nL ret) B.pre
  have hl := lv_entry av (n := nL) hav
  rw [lg_entry_eq]
  generalize (lg_sl av ++ List.replicate (nL - (lg_sl av).length) Slot.unset).toArray = ls at hl ⊢
  have k := body p e s m av.toArray below meth c ls _ B.named B.exec B.bytes hml B.returns B.notSynchronized (name_of_methodNamed B.named B.method).1 (hcls ▸ findClass_of_methodNamed B.named) (fun w h => hts w (List.mem_cons_of_mem _ h)) hK hH rfl hl va_S.rf
  rw [← hH] at k
  exact k
section ZINDY
variable {p : Program} {l : Launch} {e : Env} {R : Room} {s : State} {m : MethodId} {args : Array Value} {below : List Frame} {meth : Method} {c : Code} {H : Heap} {locs : List Loc} {cells slots : Nat} {Q : State → Prop}
variable {cc : ByteArray} {pc : Nat} {ls : Array Slot} {rest : List Value} {G : zG}
theorem zindy (hx : p.tables.exec = Jvm.exec) (hb : c.code = cc) (hml : c.maxLocals = ls.size) (hK : zK G s) (hnm : s.methodNamed? yX0_init = some m) {index : Nat} (k : Nat) {i0 : Nat} {nm : String} (hk : zLs[k]? = some (pc, i0, nm)) (hlocals : (rest.map fun v => v.category).sum + 3072 ≤ R.locals) (hdg : decode cc pc = .ok (.invokedynamic index, 5))
    (kk : W p l e R s m args below meth c H locs cells slots Q (F0 m (pc + 5) ls (.ref (G.2.2 (20 + k)) :: rest))) : W p l e R s m args below meth c H locs cells slots Q (F0 m pc ls rest) := by
  obtain ⟨mI, kc, j0, p0, g1, g2, g3, -, -⟩ := hK.lm k hk
  cases hnm.symm.trans g1
  intro T hT X
  obtain ⟨t, a1, b1⟩ := kk T hT X
  refine ⟨t, X.lambdaConstant hx (g := F0 m pc ls rest) rfl (by show ls.size = _; rw [hml]) (by rw [hb]; exact hdg) g2 g3 ?_ a1, b1⟩
  show 2 * 0 + (rest.map fun v => v.category).sum + e.platform.lambdaLinkWords ≤ R.locals
  rw [X.admits.platform]
  show 2 * 0 + (rest.map fun v => v.category).sum + 3072 ≤ R.locals
  omega
end ZINDY
