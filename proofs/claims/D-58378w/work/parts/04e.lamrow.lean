/-! LAMBDAS, III: the row -/
section ZLAM
variable {p : Program} {l : Launch} {e : Env} {R : Room} {s : State} {m : MethodId} {args : Array Value} {below : List Frame} {meth : Method} {c : Code} {H : Heap} {locs : List Loc} {cells slots : Nat} {Q : State → Prop}
variable {cc : ByteArray} {pc : Nat} {ls : Array Slot} {rest st0 : List Value} {G : zG} {A A0 A1 : Nat → Prop} {a : Nat} {H0 : Heap} {mc ms : Nat}
/-- a call of the operation k's object: it runs lambda$new$k -/
theorem zcL {y : MethodName} {bytes : ByteArray} {maxL nL index count k pc0 ix0 r1 r2 : Nat} {i1 i2 : Int32} {nm : String} {rm : Room} {post : Option Value → Heap → Prop} {own : String}
    (F : zFix p l s m args c cc nL own G) (hM : zM l G y bytes maxL none rm H [.ref r1, .ref r2, .int i1, .int i2] post A1) (hk : zLs[k]? = some (pc0, ix0, nm)) (hy : y = ⟨"BarrelProcessor", nm, zLd⟩)
    (h1 : Cond.methodLink own index zRun ∈ lw_all) (h2 : Cond.static y ∈ lw_all) (h4 : Cond.initialized y.cls ∈ lw_all) (h5 : Cond.code y bytes maxL none ∈ lw_all) (hpar : (parseMethodDescriptor zLd).map (fun d => d.parameters.length) = some 4)
    (hv : ∀ v H1, post v H1 → v = none) (hO : zLo G k H) (hR : rm.frames + 2 ≤ R.frames ∧ 32 + (maxL + 11) + rm.locals ≤ R.locals)
    (hl : ls.size = nL) (hst : st0 = .int i2 :: .int i1 :: .ref r2 :: .ref r1 :: .ref (G.2.2 (20 + k)) :: rest) (hW : (rest.map fun v => v.category).sum ≤ 8) (hdg : decode cc pc = .ok (.invokeinterface index count, 5)) (hf : cells + rm.cells ≤ R.cells ∧ slots + rm.slots ≤ R.slots)
    (hS : va_S A0 H0 H locs) (hA : ∀ q, A1 q → A0 q)
    (kk : ∀ (v : Option Value) (H1 : Heap) (locs1 : List Loc), post v H1 → H.size ≤ H1.size → (∀ q : Nat, q < H.size → ¬ A1 q → H1[q]? = H[q]?) → va_S A0 H0 H1 locs1 → W p l e R s m args below meth c H1 locs1 (cells + rm.cells) (slots + rm.slots) Q (F0 m (pc + 5) ls (v.toList ++ rest))) : W p l e R s m args below meth c H locs cells slots Q (F0 m pc ls st0) := by
  obtain ⟨hx, hb, hml, ho, hts, hK⟩ := F
  have hmem : (pc0, ix0, nm) ∈ zLs := List.mem_of_getElem? hk
  have hdecl : (Cond.declares zRun).before args s = true := va_any rfl hK.op.1
  have hface : (Cond.interfaceMethod "BarrelProcessor$Operation" "BarrelProcessor$Operation" "run" "(LBarrelProcessor$Machine;LBarrelProcessor$Lane;II)V").before args s = true := va_any rfl hK.op.2
  obtain ⟨r0, r, hnm, hrm, hstR, hsigR⟩ := Cond.declares_spec hdecl
  obtain ⟨cL, kL, r1', hcL, hkL, hiL, hfoundL, hn1⟩ := Cond.interfaceMethod_spec hface
  have hn1' : s.methodNamed? zRun = some r1' := hn1
  cases hnm.symm.trans hn1'
  have hr0cls : r0.cls = cL := Option.some.inj ((findClass_of_methodNamed hnm).symm.trans hcL)
  obtain ⟨hnameR, hdescR⟩ := name_of_methodNamed hnm hrm
  obtain ⟨kM, tk, file, methM, ckM, toy, tt, m1, m2, m3, m4, m5, m6, m7, m8, m9, m10, m11, m12, m13, m14, m15, m16, ⟨iface, fnd, m17, m18, m19⟩, i9, m20, m21, m22⟩ := zmadeAt hmem (hK.lm k hk)
  cases hcL.symm.trans m17
  cases hcL.symm.trans m20
  have hfr : fnd = r0 := by
    unfold State.methodFound? at hfoundL
    rw [hcL] at hfoundL
    simp only [Option.bind_eq_bind, Option.bind_some, hkL, hiL] at hfoundL
    have hz : ((methodIn cL "run" zLd true none).ask { classPath := fun _ => none } s.vm).1.toOption = some r0 := hfoundL
    rw [m18] at hz
    exact Option.some.inj hz
  subst hfr
  obtain ⟨cell, hcell, hcc, hcv⟩ := hO
  have hway : ((cell.cls :: s.vm.superclasses cell.cls).any fun k => (declaredIn s.vm r.name r.desc k).any fun (_, z) => z.isPrivate || z.isStatic) = false := by
    rw [hnameR, hdescR, hcc]; exact m22
  have hpubM : hasFlag methM.accessFlags Acc.public_ = true := by rw [m10]; decide
  have habM : methM.isAbstract = false := by simp [Method.isAbstract, m10, hasFlag, Acc.abstract]
  have hlen : ([.ref r1, .ref r2, .int i1, .int i2] : List Value).length = r.sig.parameters.length := by
    have h2 : (parseMethodDescriptor zLd).map (fun d => d.parameters.length) = some 4 := hpar
    have h3 : parseMethodDescriptor zLd = some r.sig := hsigR
    rw [h3] at h2
    exact (Option.some.inj h2).symm
  refine zcall5 (post := post) (A1 := A1) (a := #[.ref r1, .ref r2, .int i1, .int i2]) (rest := rest) (st0 := st0) (fun T hT X => ?_) hS hA kk
  have hselP : selectMethod e.platform s.vm cell.cls fnd = .method ⟨G.2.1 (20 + k), 1⟩ := by rw [Launch.admits_selectMethod X.admits, hcc]; exact m19
  obtain ⟨vm₁, X₁, hstep₁⟩ := X.invokeinterface hx ho (hts _ h1) hnm hrm hstR (by rw [hr0cls]; exact hkL) hiL (by decide) (a := G.2.2 (20 + k)) (cell := cell) (kcell := kM) (by rw [hT]; exact hcell)
    (fun z h => by rw [hcv] at h; cases h) (by rw [hcc]; exact m1) (by rw [hr0cls, hcc]; exact m21) hselP m5 hway hpubM habM (g := F0 m pc ls st0) rfl (argsL := [.ref r1, .ref r2, .int i1, .int i2]) (rest := rest) hlen hst (by rw [hb]; exact hdg)
  obtain ⟨T₁, eT⟩ : ∃ T₁, T₁ = T.setVm vm₁ := ⟨_, rfl⟩
  rw [← eT] at X₁ hstep₁
  have hT1 : T₁.heap = H := by rw [eT]; exact hT
  have hKT : zK G T₁ := hK.warm X₁.warmed
  obtain ⟨kM', tk', file', methM', ck', toy', t', n1, n2, n3, n4, n5, n6, n7, n8, n9, n10, n11, n12, n13, n14, n15, n16, -, -⟩ := zmadeAt hmem (hKT.lm k hk)
  have hg0 : ({ F0 m pc ls st0 with stack := rest } : JFrame) = F0 m pc ls rest := rfl
  rw [hg0] at hstep₁
  have hdg' : decode c.code (F0 m pc ls rest).pc = .ok (.invokeinterface index count, 5) := by rw [hb]; exact hdg
  obtain ⟨Y₀, hin⟩ := X₁.into (g := F0 m pc ls rest) rfl (by show ls.size = _; rw [hl, hml]) hdg' #[.ref (G.2.2 (20 + k)), .ref r1, .ref r2, .int i1, .int i2] (R' := { frames := rm.frames + 1, cells := rm.cells, slots := rm.slots, locals := 8 + (maxL + 11) + rm.locals }) n5 n6 n9
    (State.plainMethod.of_name (fun k' hk' => by cases n1.symm.trans hk'; rw [n2]; decide)) (by show rm.frames + 1 + 1 ≤ _; omega) (by show 2 * 0 + (rest.map fun v => v.category).sum + (ck'.maxLocals + 11) + (8 + (maxL + 11) + rm.locals) ≤ _; rw [n8]; omega) hf.1 hf.2
  generalize hU : (T₁.setTop (F0 m pc ls rest)).pushFrame (.java (entryFrame ⟨G.2.1 (20 + k), 1⟩ #[.ref (G.2.2 (20 + k)), .ref r1, .ref r2, .int i1, .int i2] ck'.maxLocals)) = U at Y₀ hin
  have hvmU : U.vm = T₁.vm := by rw [← hU]; rfl
  have hheapU : U.heap = H := by rw [← hU, ← hT1]; rfl
  have hwd : ∀ w ∈ ws_ y bytes maxL none, ∀ (a' : Array Value) (U2 : State), T₁.WarmedH U2.vm → w.before a' U2 = true := fun w hw a' U2 hW2 => pay_in hts (lw_meth h5) w hw a' U2 (State.WarmedH.trans X₁.warmed hW2)
  have hBk : Back l { frames := rm.frames + 1, cells := rm.cells, slots := rm.slots, locals := 8 + (maxL + 11) + rm.locals } p e (.java (F0 m pc ls rest) :: below) (T₁.calling (F0 m pc ls rest) ⟨G.2.1 (20 + k), 1⟩ #[.ref (G.2.2 (20 + k)), .ref r1, .ref r2, .int i1, .int i2]) #[.ref (G.2.2 (20 + k)), .ref r1, .ref r2, .int i1, .int i2] y 3 8 (PreOf _ rm.cells rm.slots (zP G H [.ref r1, .ref r2, .int i1, .int i2])) (PostOf (zQ post A1) rm.cells rm.slots A1) :=
    back_of (bytes := bytes) (maxL := maxL) (ret := none) hM zP.blind rfl rfl (Nat.le_refl _) (Nat.le_refl _) hwd List.mem_cons_self (fun a' U2 hW2 => word_at (State.WarmedH.trans X₁.warmed hW2) (Or.inl (by first | rfl | simp [Cond.onTables, Cond.keeps, Cond.steady])) (hts _ h4))
  have hnamedY : ∃ mkY, U.methodNamed? y = some mkY ∧ mkY = t' := by
    have hcd : (Cond.code y bytes maxL none).before #[] T₁ = true := pay_in hts (lw_meth h5) _ List.mem_cons_self #[] T₁ X₁.warmed
    obtain ⟨mkY, hnY⟩ := Cond.code_named hcd
    have hfY := State.methodFound?_of_named hnY (by rw [hy]; show "BarrelProcessor" ≠ _ ∧ "BarrelProcessor" ≠ _; decide)
    rw [hy] at hfY
    unfold State.methodFound? at hfY
    have n12' : T₁.vm.findClass ({ cls := "BarrelProcessor", name := nm, desc := zLd } : MethodName).cls = some toy' := n12
    rw [n12'] at hfY
    simp only [Option.bind_eq_bind, Option.bind_some, n13] at hfY
    have hz : ((methodIn toy' nm zLd tk'.isInterface none).ask { classPath := fun _ => none } T₁.vm).1.toOption = some mkY := hfY
    rw [n14] at hz
    refine ⟨mkY, ?_, (Option.some.inj hz).symm⟩
    have := State.methodNamed?_setVm (s := T₁) (hvmU ▸ Vm.Alike.refl T₁.vm : T₁.vm.Alike U.vm) y
    rw [hnY] at this
    exact this
  obtain ⟨mkY, hnY, rfl⟩ := hnamedY
  obtain ⟨v, ⟨U', l2, c2, s2⟩, Y', ⟨g', mk', t, L, e1, e2, hq, h1', hL, h2', h3'⟩, hsteps⟩ := hBk ⟨G.2.1 (20 + k), 1⟩ methM' ck' ⟨U, [], 0, 0⟩ { method := ⟨G.2.1 (20 + k), 1⟩, pc := 5, locals := #[.val (.ref (G.2.2 (20 + k))), .val (.ref r1), .val (.ref r2), .val (.int i1), .val (.int i2)], stack := [], locked := none } (.invokestatic 17) mkY #[.ref r1, .ref r2, .int i1, .int i2] Y₀ rfl (by show 5 = _; rw [n8]) (by rw [n7]; exact zL5) (show 2 * 0 + (([] : List Value).map fun v => v.category).sum ≤ 8 by decide) hnY
    ⟨by show 0 + rm.cells ≤ rm.cells; omega, by show 0 + rm.slots ≤ rm.slots; omega, rfl, zK.same hvmU.symm hKT, hheapU⟩
  dsimp only [Pt.U, Pt.locs, Pt.cells, Pt.slots] at Y' e1 e2 h1' h2' h3' hsteps
  obtain ⟨⟨v', hv', hp⟩, hfr⟩ := hq
  cases hv'
  obtain rfl := hv _ _ hp
  obtain ⟨fs, hleave, -, hended, hWe, hsame⟩ := Y'.leave (v := none) (fun _ => rfl) n9
  obtain ⟨T', X', hW', -, ht⟩ := X₁.outOf rfl hdg' hended hWe hsame
  have hvT : T'.vm = t.vm := by
    have h9 : (U'.setFrames fs).vm = T'.vm := by rw [ht]; rfl
    rw [← h9]; exact e2
  have hhT : T'.heap = t.heap := by
    have h9 : (U'.setFrames fs).heap = T'.heap := by rw [ht]; rfl
    rw [← h9]; exact e1
  refine ⟨none, U.calling g' mk' #[.ref r1, .ref r2, .int i1, .int i2], t, T', l2, hheapU, ?_, fun q hq => hL q (by rw [h1'] at hq; simpa using hq), hhT, hvT, ⟨⟨none, rfl, hp⟩, hfr⟩, fun target h => hstep₁ _ fun acts => ?_⟩
  · rw [h2', h3', Nat.zero_add, Nat.zero_add] at X'
    exact X'
  · rw [hin acts]
    refine Steps.trans ?_ h
    show Steps p.tables e below _ (T'.setTop { F0 m pc ls rest with pc := pc + 5, stack := (none : Option Value).toList ++ rest })
    have ht2 : U'.setFrames fs = T'.setTop { F0 m pc ls rest with pc := pc + 5, stack := (none : Option Value).toList ++ rest } := ht
    rw [← ht2]
    refine Steps.weaken (mid := [.java (F0 m pc ls rest)]) ?_
    have hloc : entryFrame ⟨G.2.1 (20 + k), 1⟩ #[.ref (G.2.2 (20 + k)), .ref r1, .ref r2, .int i1, .int i2] ck'.maxLocals = { method := ⟨G.2.1 (20 + k), 1⟩, pc := 0, locals := #[.val (.ref (G.2.2 (20 + k))), .val (.ref r1), .val (.ref r2), .val (.int i1), .val (.int i2)], stack := [], locked := none } := by rw [n8]; rfl
    rw [hloc]
    have hs : U.topJava?.isSome := Y₀.here.top
    have hWU : T₁.WarmedH U.vm := by rw [hvmU]; exact State.WarmedH.refl T₁
    have hcdU : (Cond.code y bytes maxL none).before #[] U = true := hwd _ List.mem_cons_self #[] U hWU
    obtain ⟨methT, cT, p1, -, -, -, -, -, -, p8⟩ := Cond.code_spec hnY hcdU
    have hstU : (Cond.static y).before #[] U = true := word_at (State.WarmedH.trans X₁.warmed hWU) (Or.inl (by first | rfl | simp [Cond.onTables, Cond.keeps, Cond.steady])) (hts _ h2)
    have hstatic : methT.isStatic = true := Cond.static_spec hnY p1 hstU
    obtain ⟨kT, hkT, hnT⟩ := className_of_methodNamed hnY
    have hiniU : (Cond.initialized y.cls).before #[] U = true := word_at (State.WarmedH.trans X₁.warmed hWU) (Or.inl (by first | rfl | simp [Cond.onTables, Cond.keeps, Cond.steady])) (hts _ h4)
    have hinitT : kT.init = .initialized := Cond.initialized_spec (findClass_of_methodNamed hnY) hkT hiniU
    have hyc : y.cls ≠ "java/lang/invoke/MethodHandle" ∧ y.cls ≠ "java/lang/invoke/VarHandle" := by rw [hy]; show "BarrelProcessor" ≠ _ ∧ "BarrelProcessor" ≠ _; decide
    have hpolyT : signaturePolymorphic kT methT = false := signaturePolymorphic_of_name (by rw [hnT]; exact hyc) methT
    have hparT : ([.ref r1, .ref r2, .int i1, .int i2] : List Value).length = methT.sig.parameters.length := by
      have q2 : (parseMethodDescriptor zLd).map (fun d => d.parameters.length) = some 4 := hpar
      rw [hy] at p8
      have q3 : parseMethodDescriptor zLd = some methT.sig := p8
      rw [q3] at q2
      exact (Option.some.inj q2).symm
    have e17 := zDf_17 _ hmem
    obtain ⟨b9, hmemr⟩ := memberRef_ask' (e := e) (vm := U.vm) (d := G.2.1 (20 + k)) (index := 17) (k := kM') (by rw [hvmU]; exact n1) n3 (Or.inl (by rw [n4]; exact e17.1)) (by rw [n4]; exact e17.2.2)
    have htkn : tk'.name = "BarrelProcessor" := by
      obtain ⟨kq, hkq, hnq⟩ := Vm.findClass_spec n12
      cases n13.symm.trans hkq
      exact hnq
    have href : plainRef U e (G.2.1 (20 + k)) 17 := ⟨14, _, _, b9, toy', tk', hmemr, by rw [hvmU]; exact n16, by rw [hvmU]; exact n13, by
      rw [Array.any_eq_false]
      intro i hi
      rw [signaturePolymorphic_of_name (by rw [htkn]; decide)]
      simp⟩
    jvm_step Y₀.here [hx, n7, zL0]
    refine ⟨rfl, ?_⟩
    jvm_step Y₀.here [hx, n7, zL1]
    refine ⟨rfl, ?_⟩
    jvm_step Y₀.here [hx, n7, zL2]
    jvm_step Y₀.here [hx, n7, zL3]
    jvm_step Y₀.here [hx, n7, zL5, invokestatic.wp_ready (e := e) (s := U) (m := mkY) (k := kT) (meth := methT) (args := [.ref r1, .ref r2, .int i1, .int i2]) (rest := [])
      (f := { method := ⟨G.2.1 (20 + k), 1⟩, pc := 5, locals := #[.val (.ref (G.2.2 (20 + k))), .val (.ref r1), .val (.ref r2), .val (.int i1), .val (.int i2)], stack := [.int i2, .int i1, .ref r2, .ref r1], locked := none }) hs href (by rw [hvmU]; exact n15) hkT p1 hpolyT hstatic hinitT hparT rfl]
    intro acts'
    rw [doInvoke_state]
    refine hsteps.trans ?_
    have n5' : U'.vm.method? ⟨G.2.1 (20 + k), 1⟩ = some methM' := Y'.method'
    jvm_step Y'.here [Y'.here.top, hx, n7, zL8, n5', n11]
    (try refine ⟨rfl, ?_⟩); (try refine ⟨rfl, ?_⟩)
    first | (intro acts2; rw [hleave _ acts2 rfl rfl rfl]) | rw [hleave _ _ rfl rfl rfl]
    exact Steps.refl _
end ZLAM
