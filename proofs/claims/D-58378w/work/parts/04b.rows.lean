/-! ROWS, II: copies of arrays, clones, calls of nest mates and through interfaces, constants -/
theorem nI_toIntN {k : Nat} (h : k < 2 ^ 31) : (nI k).toInt = (k : Int) := nI_toInt h
theorem nI_nn {k : Nat} (h : k < 2 ^ 31) : ¬ nI k < 0 := nI_pos h
section ZROW2
variable {p : Program} {l : Launch} {e : Env} {R : Room} {s : State} {m : MethodId} {args : Array Value} {below : List Frame} {meth : Method} {c : Code} {H : Heap} {locs : List Loc} {cells slots : Nat} {Q : State → Prop}
variable {cc : ByteArray} {pc : Nat} {ls : Array Slot} {rest : List Value} {G : zG} {A : Nat → Prop} {a : Nat} {H0 : Heap}
theorem zcopyI (hx : p.tables.exec = Jvm.exec) (hb : c.code = cc) (hml : c.maxLocals = ls.size) (hts : ∀ w ∈ lw_all, w.before args s = true) {own : String} (ho : s.vm.findClass own = some m.cls) (hK : zK G s) {index : Nat}
    (hlink : (Cond.methodLink own index arraycopyName) ∈ lw_all) (hnat : (Cond.native arraycopyName) ∈ lw_all) (hstat : (Cond.static arraycopyName) ∈ lw_all) (hini : (Cond.initialized "java/lang/System") ∈ lw_all)
    {t n0 n1 a0 : Nat} {f g : Nat → Int32} (ht : t < 3) (h0 : zI G a0 t n0 f H) (h1 : zI G a t n1 g H) (hS : va_S A H0 H locs) (hA : A a) (sp dp n : Nat) (h4 : sp + n ≤ n0) (h5 : dp + n ≤ n1) (hn0 : n0 < 2 ^ 31) (hn1 : n1 < 2 ^ 31)
    (hfit : ∀ i, i < n → fits (zTn t) (.int (f (sp + i))) = true) (hframes : 1 ≤ R.frames) (hlocals : (rest.map fun v => v.category).sum + (nativeFrameWords "java/lang/System" "arraycopy" 5 + 11) ≤ R.locals) (hdg : decode cc pc = .ok (.invokestatic index, 3))
    (kk : ∀ (H1 : Heap) (locs1 : List Loc), zI G a t n1 (va_cpy f g sp dp n) H1 → H1.size = H.size → (∀ q : Nat, q ≠ a → H1[q]? = H[q]?) → va_S A H0 H1 locs1 → W p l e R s m args below meth c H1 locs1 cells slots Q (F0 m (pc + 3) ls rest)) : W p l e R s m args below meth c H locs cells slots Q (F0 m pc ls (.int (nI n) :: .int (nI dp) :: .ref a :: .int (nI sp) :: .ref a0 :: rest)) := by
  have e1 : (nI sp).toNatClampNeg = sp := nI_clamp (by omega)
  have e2 : (nI dp).toNatClampNeg = dp := nI_clamp (by omega)
  have e3 : (nI n).toNatClampNeg = n := nI_clamp (by omega)
  have i1 : (nI sp).toInt = (sp : Int) := nI_toInt (by omega)
  have i2 : (nI dp).toInt = (dp : Int) := nI_toInt (by omega)
  have i3 : (nI n).toInt = (n : Int) := nI_toInt (by omega)
  have hc0 : H[a0]? = some (vp_cell (G.2.1 t) (n0, .inl f)) := h0
  have hc1 : H[a]? = some (vp_cell (G.2.1 t) (n1, .inl g)) := h1
  intro T hT X
  obtain ⟨-, k0, hk0, cm0, hkk0⟩ := (hK.1.2 t _ (zTy_at G (by omega))).1 n0 (fun j => .int (f j))
  obtain ⟨-, k1, hk1, cm1, hkk1⟩ := (hK.1.2 t _ (zTy_at G (by omega))).1 n1 (fun j => .int (g j))
  have hprim : refKind (zTn t) = false := by rcases (show t = 0 ∨ t = 1 ∨ t = 2 by omega) with rfl | rfl | rfl <;> rfl
  obtain ⟨vm', X', step⟩ := X.arraycopy hx ho (hts _ hlink) (hts _ hnat) (hts _ hstat) (hts _ hini) (src := a0) (dst := a) (cs := vp_cell (G.2.1 t) (n0, .inl f)) (cd := vp_cell (G.2.1 t) (n1, .inl g)) (srcPos := nI sp) (destPos := nI dp) (n := nI n) (by rw [hT]; exact hc0) (by rw [hT]; exact hc1)
    (fun _ h => by cases h) (fun _ h => by cases h) (fun h => by cases h) (fun h => by cases h) hk0 hk1 hkk0 hkk1 (by simp [hprim]) (nI_pos (by omega)) (nI_pos (by omega)) (nI_pos (by omega))
    (by rw [i1, i3]; show ¬ _ > ((arrV _ n0 (fun j => .int (f j))).slots.size : Int); rw [arrV_size]; omega)
    (by rw [i2, i3]; show ¬ _ > ((arrV _ n1 (fun j => .int (g j))).slots.size : Int); rw [arrV_size]; omega)
    (fun vm₁ _ i hi => by
      rw [e3] at hi
      have e : (vp_cell (G.2.1 t) (n0, .inl f)).slots.getD ((nI sp).toNatClampNeg + i) .null = .int (f (sp + i)) := by
        show (arrV _ n0 (fun j => .int (f j))).slots.getD _ _ = _
        rw [e1, Array.getD_eq_getD_getElem?, arrV_read _ _ (by omega)]
        rfl
      rw [e]
      exact ⟨hfit i hi, trivial⟩)
    (g := F0 m pc ls (.int (nI n) :: .int (nI dp) :: .ref a :: .int (nI sp) :: .ref a0 :: rest)) rfl (by rw [hml]) (rest := rest) rfl (by rw [hb]; exact hdg) hframes (by show 2 * 0 + _ + _ ≤ _; omega)
  have ec : copied (vp_cell (G.2.1 t) (n0, .inl f)) (vp_cell (G.2.1 t) (n1, .inl g)) (nI sp) (nI dp) (nI n) = vp_cell (G.2.1 t) (n1, .inl (va_cpy f g sp dp n)) := by
    show (arrV _ n1 (fun j => .int (g j))).storeRun (nI dp).toNatClampNeg ((arrV _ n0 (fun j => .int (f j))).stretch (nI sp).toNatClampNeg (nI n).toNatClampNeg) = _
    rw [e1, e2, e3]
    exact va_copied (fun z => .int z) _ _ f g h4
  rw [ec] at X' step
  have hl : a < H.size := (Array.getElem?_eq_some_iff.mp hc1).1
  obtain ⟨H1, eH⟩ : ∃ H1, H1 = H.setIfInBounds a (vp_cell (G.2.1 t) (n1, .inl (va_cpy f g sp dp n))) := ⟨_, rfl⟩
  have hheap : ((T.setVm vm').setCell a (vp_cell (G.2.1 t) (n1, .inl (va_cpy f g sp dp n)))).heap = H1 := by rw [eH, ← hT]; rfl
  have oq : ∀ q : Nat, q ≠ a → H1[q]? = H[q]? := fun q hq => by rw [eH]; simp [Array.getElem?_setIfInBounds, Ne.symm hq]
  have z1 : H1.size = H.size := by rw [eH]; simp
  obtain ⟨t1, a1, b1⟩ := kk H1 _ (show H1[a]? = some _ by rw [eH]; simp [Array.getElem?_setIfInBounds, hl]) z1 oq ⟨by rw [z1]; exact hS.1, fun q g1 g2 => by
      rw [oq q (fun e => g2 (by rw [e]; exact hA))]
      exact hS.2.1 q g1 g2, fun q hq => by
      rcases List.mem_append.mp hq with h | h
      · exact hS.2.2 q h
      · obtain ⟨z, -, hz⟩ := List.mem_map.mp h
        rw [← hz]
        exact hA⟩ _ hheap X'
  exact ⟨t1, step t1 a1, b1⟩
theorem zcopyR (hx : p.tables.exec = Jvm.exec) (hb : c.code = cc) (hml : c.maxLocals = ls.size) (hts : ∀ w ∈ lw_all, w.before args s = true) {own : String} (ho : s.vm.findClass own = some m.cls) (hK : zK G s) {index : Nat}
    (hlink : (Cond.methodLink own index arraycopyName) ∈ lw_all) (hnat : (Cond.native arraycopyName) ∈ lw_all) (hstat : (Cond.static arraycopyName) ∈ lw_all) (hini : (Cond.initialized "java/lang/System") ∈ lw_all)
    {t n0 n1 a0 : Nat} {E : String} {f g : Nat → Option Nat} (ht : t < 8) (htC : zTn t = .object E) (h0 : zR G a0 t n0 f H) (h1 : zR G a t n1 g H) (hS : va_S A H0 H locs) (hA : A a) (sp dp n : Nat) (h4 : sp + n ≤ n0) (h5 : dp + n ≤ n1) (hn0 : n0 < 2 ^ 31) (hn1 : n1 < 2 ^ 31)
    (hel : ∀ i, i < n → ∀ y : Nat, f (sp + i) = some y → va_Any E s H y) (hframes : 1 ≤ R.frames) (hlocals : (rest.map fun v => v.category).sum + (nativeFrameWords "java/lang/System" "arraycopy" 5 + 11) ≤ R.locals) (hdg : decode cc pc = .ok (.invokestatic index, 3))
    (kk : ∀ (H1 : Heap) (locs1 : List Loc), zR G a t n1 (va_cpy f g sp dp n) H1 → H1.size = H.size → (∀ q : Nat, q ≠ a → H1[q]? = H[q]?) → va_S A H0 H1 locs1 → W p l e R s m args below meth c H1 locs1 cells slots Q (F0 m (pc + 3) ls rest)) : W p l e R s m args below meth c H locs cells slots Q (F0 m pc ls (.int (nI n) :: .int (nI dp) :: .ref a :: .int (nI sp) :: .ref a0 :: rest)) := by
  have e1 : (nI sp).toNatClampNeg = sp := nI_clamp (by omega)
  have e2 : (nI dp).toNatClampNeg = dp := nI_clamp (by omega)
  have e3 : (nI n).toNatClampNeg = n := nI_clamp (by omega)
  have i1 : (nI sp).toInt = (sp : Int) := nI_toInt (by omega)
  have i2 : (nI dp).toInt = (dp : Int) := nI_toInt (by omega)
  have i3 : (nI n).toInt = (n : Int) := nI_toInt (by omega)
  have hc0 : H[a0]? = some (vp_cell (G.2.1 t) (n0, .inr (.inr (.inr (.inr f))))) := h0
  have hc1 : H[a]? = some (vp_cell (G.2.1 t) (n1, .inr (.inr (.inr (.inr g))))) := h1
  have hty := hK.1.2 t _ (zTy_at G ht)
  rw [htC] at hty
  intro T hT X
  obtain ⟨-, k0, hk0, cm0, hkk0⟩ := hty.1 n0 (fun j => va_rf (f j))
  obtain ⟨-, k1, hk1, cm1, hkk1⟩ := hty.1 n1 (fun j => va_rf (g j))
  obtain ⟨vm', X', step⟩ := X.arraycopy hx ho (hts _ hlink) (hts _ hnat) (hts _ hstat) (hts _ hini) (src := a0) (dst := a) (cs := vp_cell (G.2.1 t) (n0, .inr (.inr (.inr (.inr f))))) (cd := vp_cell (G.2.1 t) (n1, .inr (.inr (.inr (.inr g))))) (srcPos := nI sp) (destPos := nI dp) (n := nI n) (by rw [hT]; exact hc0) (by rw [hT]; exact hc1)
    (fun _ h => by cases h) (fun _ h => by cases h) (fun h => by cases h) (fun h => by cases h) hk0 hk1 hkk0 hkk1 rfl (nI_pos (by omega)) (nI_pos (by omega)) (nI_pos (by omega))
    (by rw [i1, i3]; show ¬ _ > ((arrV _ n0 (fun j => va_rf (f j))).slots.size : Int); rw [arrV_size]; omega)
    (by rw [i2, i3]; show ¬ _ > ((arrV _ n1 (fun j => va_rf (g j))).slots.size : Int); rw [arrV_size]; omega)
    (fun vm₁ hal i hi => by
      rw [e3] at hi
      have e : (vp_cell (G.2.1 t) (n0, .inr (.inr (.inr (.inr f))))).slots.getD ((nI sp).toNatClampNeg + i) .null = va_rf (f (sp + i)) := by
        show (arrV _ n0 (fun j => va_rf (f j))).slots.getD _ _ = _
        rw [e1, Array.getD_eq_getD_getElem?, arrV_read _ _ (by omega)]
        rfl
      rw [e]
      cases hy : f (sp + i) with
      | none => exact ⟨rfl, trivial⟩
      | some y =>
        obtain ⟨cellV, g1, g2, ⟨kC, hkC⟩, hasg⟩ := hel i hi y hy
        obtain ⟨kA, comp, r1, r2, r3, -⟩ := hty.2
        cases hk1.symm.trans r1
        cases hkk1.symm.trans r2
        obtain ⟨kE, hkE, -⟩ := Vm.findClass_spec r3
        obtain ⟨kC', hkC', -⟩ := hal.2.2 _ _ hkC
        obtain ⟨kE', hkE', -⟩ := hal.2.2 _ _ hkE
        refine ⟨rfl, cellV, (show T.heap[y]? = some cellV by rw [hT]; exact g1), (fun q h => by rw [h] at g2; cases g2), ⟨kC', hkC'⟩, ⟨kE', hkE'⟩, ?_⟩
        show vm₁.assignable _ _ = true
        rw [hal.assignable]
        exact hasg _ r3)
    (g := F0 m pc ls (.int (nI n) :: .int (nI dp) :: .ref a :: .int (nI sp) :: .ref a0 :: rest)) rfl (by rw [hml]) (rest := rest) rfl (by rw [hb]; exact hdg) hframes (by show 2 * 0 + _ + _ ≤ _; omega)
  have ec : copied (vp_cell (G.2.1 t) (n0, .inr (.inr (.inr (.inr f))))) (vp_cell (G.2.1 t) (n1, .inr (.inr (.inr (.inr g))))) (nI sp) (nI dp) (nI n) = vp_cell (G.2.1 t) (n1, .inr (.inr (.inr (.inr (va_cpy f g sp dp n))))) := by
    rw [vp_cell_q, vp_cell_q, vp_cell_q]
    show (arrV _ n1 (fun j => va_rf (g j))).storeRun (nI dp).toNatClampNeg ((arrV _ n0 (fun j => va_rf (f j))).stretch (nI sp).toNatClampNeg (nI n).toNatClampNeg) = _
    rw [e1, e2, e3]
    exact va_copied (fun z => va_rf z) _ _ f g h4
  rw [ec] at X' step
  have hl : a < H.size := (Array.getElem?_eq_some_iff.mp hc1).1
  obtain ⟨H1, eH⟩ : ∃ H1, H1 = H.setIfInBounds a (vp_cell (G.2.1 t) (n1, .inr (.inr (.inr (.inr (va_cpy f g sp dp n)))))) := ⟨_, rfl⟩
  have hheap : ((T.setVm vm').setCell a (vp_cell (G.2.1 t) (n1, .inr (.inr (.inr (.inr (va_cpy f g sp dp n))))))).heap = H1 := by rw [eH, ← hT]; rfl
  have oq : ∀ q : Nat, q ≠ a → H1[q]? = H[q]? := fun q hq => by rw [eH]; simp [Array.getElem?_setIfInBounds, Ne.symm hq]
  have z1 : H1.size = H.size := by rw [eH]; simp
  obtain ⟨t1, a1, b1⟩ := kk H1 _ (show H1[a]? = some _ by rw [eH]; simp [Array.getElem?_setIfInBounds, hl]) z1 oq ⟨by rw [z1]; exact hS.1, fun q g1 g2 => by
      rw [oq q (fun e => g2 (by rw [e]; exact hA))]
      exact hS.2.1 q g1 g2, fun q hq => by
      rcases List.mem_append.mp hq with h | h
      · exact hS.2.2 q h
      · obtain ⟨z, -, hz⟩ := List.mem_map.mp h
        rw [← hz]
        exact hA⟩ _ hheap X'
  exact ⟨t1, step t1 a1, b1⟩
/-- a clone of an array of numbers: a new cell at H.size -/
theorem zclone (hx : p.tables.exec = Jvm.exec) (hb : c.code = cc) (hml : c.maxLocals = ls.size) (hts : ∀ w ∈ lw_all, w.before args s = true) {own ad : String} (ho : s.vm.findClass own = some m.cls) (hK : zK G s) {index t n : Nat} {f : Nat → Int32}
    (hlink : (Cond.methodLink own index ⟨ad, "clone", "()Ljava/lang/Object;"⟩) ∈ lw_all) (hsame : (Cond.sameMethod ad "java/lang/Object" "clone" "()Ljava/lang/Object;") ∈ lw_all) (hnat : (Cond.native ⟨"java/lang/Object", "clone", "()Ljava/lang/Object;"⟩) ∈ lw_all) (hinst : (Cond.instanceMethod ⟨"java/lang/Object", "clone", "()Ljava/lang/Object;"⟩) ∈ lw_all)
    (hsel : (Cond.selects ad ⟨ad, "clone", "()Ljava/lang/Object;"⟩ ⟨"java/lang/Object", "clone", "()Ljava/lang/Object;"⟩) ∈ lw_all) (hcl : va_Nw (.castable ad "java/lang/Cloneable") s)
    (ht : t < 3) (had : "[" ++ (zTn t).toString = ad) (h : zI G a t n f H) (hS : va_S A H0 H locs) (hfit : ∀ i, i < n → fits (zTn t) (.int (f i)) = true)
    (hframes : 1 ≤ R.frames) (hlocals : (rest.map fun v => v.category).sum + 14 ≤ R.locals) (hcells : cells + 1 ≤ R.cells) (hslots : slots + n ≤ R.slots) (hdg : decode cc pc = .ok (.invokevirtual index, 3))
    (kk : ∀ H1 : Heap, zI G H.size t n f H1 → H1.size = H.size + 1 → (∀ q : Nat, q < H.size → H1[q]? = H[q]?) → va_S A H0 H1 locs → W p l e R s m args below meth c H1 locs (cells + 1) (slots + n) Q (F0 m (pc + 3) ls (.ref H.size :: rest))) : W p l e R s m args below meth c H locs cells slots Q (F0 m pc ls (.ref a :: rest)) := by
  have hc : H[a]? = some (vp_cell (G.2.1 t) (n, .inl f)) := h
  have hra := (hK.1.2 t _ (zTy_at G (by omega))).2
  have hnm : s.vm.findClass ad = some (G.2.1 t) := by
    rw [← had]
    rcases (show t = 0 ∨ t = 1 ∨ t = 2 by omega) with rfl | rfl | rfl <;> exact hra
  have hsz : (vp_cell (G.2.1 t) (n, .inl f)).slots.size = n := arrV_size _ _ _
  obtain ⟨c0, t0', f1, f2, f3⟩ := Cond.castable_spec (va_Nw.use (A := args) rfl hcl)
  cases hnm.symm.trans f1
  intro T hT X
  obtain ⟨-, kA, hkA, comp, hkind⟩ := State.isArrayOf_alike X.warmed.alike ((hK.1.2 t _ (zTy_at G (by omega))).1 0 (fun _ => .null))
  obtain ⟨-, kS, hkS, compS, hkindS⟩ := (hK.1.2 t _ (zTy_at G (by omega))).1 0 (fun _ => .null)
  obtain ⟨vm', X', st⟩ := X.cloneArray hx ho (hts _ hlink) (hts _ hsame) (hts _ hnat) (hts _ hinst) (hts _ hsel) (a := a) (cell := vp_cell (G.2.1 t) (n, .inl f)) (by rw [hT]; exact hc) (fun k h => by cases h) (fun h => by cases h) hnm f2 f3
    (fun i v hv => by
      have hk' : T.vm.classes[G.2.1 t]? = some kA := hkA
      have hv' : (arrV (G.2.1 t) n (fun j => .int (f j))).slots[i]? = some v := hv
      by_cases hi : i < n
      · rw [arrV_read _ _ hi] at hv'
        cases hv'
        have := hfit i hi
        show T.fitsSlot (G.2.1 t) .none i (.int (f i)) = true
        simpa [State.fitsSlot, State.slotType?, hk', hkind] using this
      · rw [Array.getElem?_eq_none (by rw [arrV_size]; omega)] at hv'
        cases hv')
    (g := F0 m pc ls (.ref a :: rest)) rfl (by rw [hml]) rfl (by rw [hb]; exact hdg) hframes (by show 2 * 0 + _ + 14 ≤ _; omega) hcells (by rw [hsz]; exact hslots) (hloader := Vm.clonesLoader_of_array hkS hkindS)
  rw [hsz] at X'
  generalize hH1 : H.push (vp_cell (G.2.1 t) (n, .inl f)) = H1
  have z1 : H1.size = H.size + 1 := by rw [← hH1, Array.size_push]
  have e1 : H1[H.size]? = some (vp_cell (G.2.1 t) (n, .inl f)) := by rw [← hH1, Array.getElem?_push_size]
  have o1 : ∀ q : Nat, q < H.size → H1[q]? = H[q]? := fun q hq => by rw [← hH1, Array.getElem?_push, if_neg (Nat.ne_of_lt hq)]
  obtain ⟨t1, b1, b2⟩ := kk H1 e1 z1 o1 (hS.grow (by omega) o1) _ (by rw [← hH1, ← hT]; rfl) X'
  refine ⟨t1, st t1 ?_, b2⟩
  rw [hT]
  exact b1
end ZROW2
section ZCALL2
variable {p : Program} {l : Launch} {e : Env} {R : Room} {s : State} {m : MethodId} {args : Array Value} {below : List Frame} {meth : Method} {c : Code} {H : Heap} {locs : List Loc} {cells slots : Nat} {Q : State → Prop}
variable {cc : ByteArray} {pc : Nat} {ls : Array Slot} {rest st0 : List Value} {G : zG} {A A0 A1 : Nat → Prop} {a : Nat} {H0 : Heap} {mc ms : Nat}
/-- a nest mate's constructor -/
theorem zcIN {y : MethodName} {bytes : ByteArray} {maxL nL index : Nat} {rm : Room} {post : Option Value → Heap → Prop} {own host : String} {b : Addr} {As : List Value} (n : Nat)
    (F : zFix p l s m args c cc nL own G) (hM : zM l G y bytes maxL none rm H (.ref b :: As) post A1)
    (h1 : va_Nw (.methodLinkNest own index y host) s) (h2 : Cond.instanceMethod y ∈ lw_all) (h4 : Cond.initialized y.cls ∈ lw_all) (h5 : Cond.code y bytes maxL none ∈ lw_all) (hnm : y.name = "<init>")
    (hd : y.cls ≠ "java/lang/invoke/MethodHandle" ∧ y.cls ≠ "java/lang/invoke/VarHandle" ∧ (parseMethodDescriptor y.desc).map (fun d => d.parameters.length) = some n) (hR : rm.frames + 1 ≤ R.frames ∧ 8 + (maxL + 11) + rm.locals ≤ R.locals)
    (hn : As.length = n) (hl : ls.size = nL) (hst : st0 = As.reverse ++ .ref b :: rest) (hW : (rest.map fun v => v.category).sum ≤ 8) (hdg : decode cc pc = .ok (.invokespecial index, 3)) (hf : cells + rm.cells ≤ R.cells ∧ slots + rm.slots ≤ R.slots)
    (hS : va_S A0 H0 H locs) (hA : ∀ q, A1 q → A0 q)
    (kk : ∀ (v : Option Value) (H1 : Heap) (locs1 : List Loc), post v H1 → H.size ≤ H1.size → (∀ q : Nat, q < H.size → ¬ A1 q → H1[q]? = H[q]?) → va_S A0 H0 H1 locs1 → W p l e R s m args below meth c H1 locs1 (cells + rm.cells) (slots + rm.slots) Q (F0 m (pc + 3) ls (v.toList ++ rest))) : W p l e R s m args below meth c H locs cells slots Q (F0 m pc ls st0) := by
  obtain ⟨hx, hb, hml, ho, hts, hK⟩ := F
  exact zcall (va_runIN (As := As) (rest := rest) ⟨hx, hb, hml, ho, hts⟩ hM ⟨va_cnB n hts (lw_meth h5) rfl rfl rfl h1 (hts _ h4) hd hR, hnm, hts _ h2⟩ ⟨zP.blind, fun U hU hW => ⟨rfl, hK.warm hW, hU⟩⟩ rfl hn hl hst (lv_room hW) hdg hf) hS hA kk
/-- a nest mate's static method -/
theorem zcSN {y : MethodName} {bytes : ByteArray} {maxL nL index : Nat} {ret : Option FieldType} {rm : Room} {post : Option Value → Heap → Prop} {own host : String} {As : List Value} (n : Nat)
    (F : zFix p l s m args c cc nL own G) (hM : zM l G y bytes maxL ret rm H As post A1)
    (h1 : va_Nw (.methodLinkNest own index y host) s) (h2 : Cond.static y ∈ lw_all) (h4 : Cond.initialized y.cls ∈ lw_all) (h5 : Cond.code y bytes maxL ret ∈ lw_all)
    (hd : y.cls ≠ "java/lang/invoke/MethodHandle" ∧ y.cls ≠ "java/lang/invoke/VarHandle" ∧ (parseMethodDescriptor y.desc).map (fun d => d.parameters.length) = some n) (hR : rm.frames + 1 ≤ R.frames ∧ 8 + (maxL + 11) + rm.locals ≤ R.locals)
    (hn : As.length = n) (hl : ls.size = nL) (hst : st0 = As.reverse ++ rest) (hW : (rest.map fun v => v.category).sum ≤ 8) (hdg : decode cc pc = .ok (.invokestatic index, 3)) (hf : cells + rm.cells ≤ R.cells ∧ slots + rm.slots ≤ R.slots)
    (hS : va_S A0 H0 H locs) (hA : ∀ q, A1 q → A0 q)
    (kk : ∀ (v : Option Value) (H1 : Heap) (locs1 : List Loc), post v H1 → H.size ≤ H1.size → (∀ q : Nat, q < H.size → ¬ A1 q → H1[q]? = H[q]?) → va_S A0 H0 H1 locs1 → W p l e R s m args below meth c H1 locs1 (cells + rm.cells) (slots + rm.slots) Q (F0 m (pc + 3) ls (v.toList ++ rest))) : W p l e R s m args below meth c H locs cells slots Q (F0 m pc ls st0) := by
  obtain ⟨hx, hb, hml, ho, hts, hK⟩ := F
  exact zcall (va_runSN (As := As) (rest := rest) ⟨hx, hb, hml, ho, hts⟩ hM ⟨va_cnB n hts (lw_meth h5) rfl rfl rfl h1 (hts _ h4) hd hR, hts _ h2, trivial⟩ ⟨zP.blind, fun U hU hW => ⟨rfl, hK.warm hW, hU⟩⟩ rfl hn hl hst (lv_room hW) hdg hf) hS hA kk
theorem zlw_F {own : String} {idx : Nat} {C : String} {x y : MethodName} {b : ByteArray} {L : Nat} {r : Option FieldType} (h1 : Cond.methodLink own idx x ∈ lw_all) (h2 : Cond.selects C x y ∈ lw_all) (h3 : Cond.instanceMethod y ∈ lw_all) (h4 : Cond.initialized y.cls ∈ lw_all) (h5 : Cond.code y b L r ∈ lw_all) : GoodIn lw_all (va_wsF own idx C x y (ws_ y b L r)) :=
  lw_app (fun w hw => by
    rcases List.mem_cons.mp hw with rfl | hw
    · exact h1
    rcases List.mem_cons.mp hw with rfl | hw
    · exact h2
    rcases List.mem_cons.mp hw with rfl | hw
    · exact h3
    rcases List.mem_cons.mp hw with rfl | hw
    · exact h4
    · cases hw) (lw_meth h5)
/-- a call through an interface on an object of a known class -/
theorem zcF {x y : MethodName} {bytes : ByteArray} {maxL nL index count ci N : Nat} {ret : Option FieldType} {rm : Room} {post : Option Value → Heap → Prop} {own C : String} {T : u_T} {b : Addr} {As fs : List Value} (n : Nat)
    (F : zFix p l s m args c cc nL own G) (hM : zM l G y bytes maxL ret rm H (.ref b :: As) post A1)
    (h1 : Cond.methodLink own index x ∈ lw_all) (h2 : Cond.selects C x y ∈ lw_all) (h3 : Cond.instanceMethod y ∈ lw_all) (h4 : Cond.initialized y.cls ∈ lw_all) (h5 : Cond.code y bytes maxL ret ∈ lw_all) (hF : va_Fw C x y s)
    (hd : x.cls ≠ "java/lang/invoke/MethodHandle" ∧ x.cls ≠ "java/lang/invoke/VarHandle" ∧ (parseMethodDescriptor x.desc).map (fun d => d.parameters.length) = some n) (hR : rm.frames + 1 ≤ R.frames ∧ 8 + (maxL + 11) + rm.locals ≤ R.locals)
    (hO : zO G b ci fs H) (hc : zCl[ci]? = some (C, T, N)) (hn : As.length = n) (hl : ls.size = nL) (hst : st0 = As.reverse ++ .ref b :: rest) (hW : (rest.map fun v => v.category).sum ≤ 8) (hdg : decode cc pc = .ok (.invokeinterface index count, 5)) (hf : cells + rm.cells ≤ R.cells ∧ slots + rm.slots ≤ R.slots)
    (hS : va_S A0 H0 H locs) (hA : ∀ q, A1 q → A0 q)
    (kk : ∀ (v : Option Value) (H1 : Heap) (locs1 : List Loc), post v H1 → H.size ≤ H1.size → (∀ q : Nat, q < H.size → ¬ A1 q → H1[q]? = H[q]?) → va_S A0 H0 H1 locs1 → W p l e R s m args below meth c H1 locs1 (cells + rm.cells) (slots + rm.slots) Q (F0 m (pc + 5) ls (v.toList ++ rest))) : W p l e R s m args below meth c H locs cells slots Q (F0 m pc ls st0) := by
  obtain ⟨hx, hb, hml, ho, hts, hK⟩ := F
  exact zcall5 (va_runF (As := As) (rest := rest) (hK.1.1 ci _ hc).2 ⟨hx, hb, hml, ho, hts⟩ hM (va_cwF n hts (zlw_F h1 h2 h3 h4 h5) rfl rfl rfl hF hd hR) ⟨zP.blind, zrecv hK hO hc, fun U hU hW => ⟨rfl, hK.warm hW, hU⟩⟩ rfl hn hl hst (lv_room hW) hdg hf) hS hA kk
/-- a static field -/
theorem zgets (hx : p.tables.exec = Jvm.exec) (hb : c.code = cc) (hts : ∀ w ∈ lw_all, w.before args s = true) {own ref C nm d : String} {index a0 i0 : Nat} (ho : s.vm.findClass own = some m.cls) (hZ : zSt C nm d a0 i0 s) {v : Value} (hv : zSv a0 i0 v H) (hlink : (Cond.fieldLink own index ref nm d) ∈ lw_all) (hsame : ∀ x, s.fieldFound? C nm d = some x → s.fieldFound? ref nm d = some x) (hdg : decode cc pc = .ok (.getstatic index, 3))
    (kk : W p l e R s m args below meth c H locs cells slots Q (F0 m (pc + 3) ls (v :: rest))) : W p l e R s m args below meth c H locs cells slots Q (F0 m pc ls rest) := by
  obtain ⟨cf, kf, fi, f, h1, h2, h3, h4, h5⟩ := hZ
  obtain ⟨cell, g1, g2, g3⟩ := hv
  exact W.gets hx hb ho (hts _ hlink) (hsame _ h1) h2 h3 h4 g1 (fun e => by rw [e] at g2; cases g2) (by rw [h5]; exact g3) rfl hdg kk
end ZCALL2
section ZCALL3
variable {p : Program} {l : Launch} {e : Env} {R : Room} {s : State} {m : MethodId} {args : Array Value} {below : List Frame} {meth : Method} {c : Code} {H : Heap} {locs : List Loc} {cells slots : Nat} {Q : State → Prop}
variable {cc : ByteArray} {pc : Nat} {ls : Array Slot} {rest st0 : List Value} {G : zG} {A A0 A1 : Nat → Prop} {a : Nat} {H0 : Heap} {mc ms : Nat}
/-- a call through an interface that lands in the interface's own default method -/
theorem zcFD {y : MethodName} {bytes : ByteArray} {maxL nL index count ci N : Nat} {ret : Option FieldType} {rm : Room} {post : Option Value → Heap → Prop} {own C : String} {T0 : u_T} {b : Addr} {As fs : List Value} (n : Nat)
    (F : zFix p l s m args c cc nL own G) (hM : zM l G y bytes maxL ret rm H (.ref b :: As) post A1)
    (h1 : Cond.methodLink own index y ∈ lw_all) (h3 : Cond.instanceMethod y ∈ lw_all) (h4 : Cond.initialized y.cls ∈ lw_all) (h5 : Cond.code y bytes maxL ret ∈ lw_all) (hF : va_Fw C y y s) (hD : zDef C y s)
    (hd : y.cls ≠ "java/lang/invoke/MethodHandle" ∧ y.cls ≠ "java/lang/invoke/VarHandle" ∧ (parseMethodDescriptor y.desc).map (fun d => d.parameters.length) = some n) (hR : rm.frames + 1 ≤ R.frames ∧ 8 + (maxL + 11) + rm.locals ≤ R.locals)
    (hO : zO G b ci fs H) (hc : zCl[ci]? = some (C, T0, N)) (hn : As.length = n) (hl : ls.size = nL) (hst : st0 = As.reverse ++ .ref b :: rest) (hW : (rest.map fun v => v.category).sum ≤ 8) (hdg : decode cc pc = .ok (.invokeinterface index count, 5)) (hf : cells + rm.cells ≤ R.cells ∧ slots + rm.slots ≤ R.slots)
    (hS : va_S A0 H0 H locs) (hA : ∀ q, A1 q → A0 q)
    (kk : ∀ (v : Option Value) (H1 : Heap) (locs1 : List Loc), post v H1 → H.size ≤ H1.size → (∀ q : Nat, q < H.size → ¬ A1 q → H1[q]? = H[q]?) → va_S A0 H0 H1 locs1 → W p l e R s m args below meth c H1 locs1 (cells + rm.cells) (slots + rm.slots) Q (F0 m (pc + 5) ls (v.toList ++ rest))) : W p l e R s m args below meth c H locs cells slots Q (F0 m pc ls st0) := by
  obtain ⟨hx, hb, hml, ho, hts, hK⟩ := F
  obtain ⟨cellB, hcB, hoB, hclB⟩ := zrecv hK hO hc
  obtain ⟨hfc, kB, hkB, -⟩ := (hK.1.1 ci _ hc).2
  rw [Option.some.inj (hfc.symm.trans hclB)] at hkB
  have hdecl : (Cond.declares y).before args s = true := va_any rfl hF.1
  have hface : (Cond.interfaceMethod y.cls y.cls y.name y.desc).before args s = true := va_any rfl hF.2.1
  have hpub : (Cond.publicMethod y).before args s = true := va_any rfl hF.2.2.1
  have hunh : (Cond.unhidden C y.name y.desc).before args s = true := va_any rfl hF.2.2.2.1
  have hcast : (Cond.castable C y.cls).before args s = true := va_any rfl hF.2.2.2.2
  obtain ⟨r0, r, hnm, hrm, hstR, hsigR⟩ := Cond.declares_spec hdecl
  obtain ⟨cL, kL, r1, hcL, hkL, hiL, hfoundL, hn1⟩ := Cond.interfaceMethod_spec hface
  cases hnm.symm.trans hn1
  have hr0cls : r0.cls = cL := Option.some.inj ((findClass_of_methodNamed hnm).symm.trans hcL)
  obtain ⟨hnameR, hdescR⟩ := name_of_methodNamed hnm hrm
  obtain ⟨mk, methM, hnamed, hmethM, -, habM⟩ := Cond.instanceMethod_spec (hts _ h3)
  cases hnm.symm.trans hnamed
  obtain ⟨c2, r2, q1, q2, q3⟩ := hD
  cases hclB.symm.trans q1
  cases hnm.symm.trans q2
  have hpubM : hasFlag methM.accessFlags Acc.public_ = true := Cond.publicMethod_spec hnamed hmethM hpub
  have hway : ((cellB.cls :: s.vm.superclasses cellB.cls).any fun k => (declaredIn s.vm r.name r.desc k).any fun (_, z) => z.isPrivate || z.isStatic) = false := by
    rw [hnameR, hdescR]; exact Cond.unhidden_spec hclB hunh
  obtain ⟨c3, t3, w1, w2, w3⟩ := Cond.castable_spec hcast
  cases hclB.symm.trans w1
  cases hcL.symm.trans w2
  have hlen : As.length = r.sig.parameters.length := by
    have h2 := hd.2.2
    rw [hsigR] at h2
    exact hn.trans (Option.some.inj h2).symm
  have hBk : Back l R p e below s args y 5 8 (PreOf R rm.cells rm.slots (zP G H (.ref b :: As))) (PostOf (zQ post A1) rm.cells rm.slots A1) :=
    back_of (bytes := bytes) (maxL := maxL) (ret := ret) hM zP.blind rfl rfl hR.1 hR.2 (pay_in hts (lw_meth h5)) List.mem_cons_self (fun a' U hW => word_at hW (Or.inl (by first | rfl | simp [Cond.onTables, Cond.keeps, Cond.steady])) (hts _ h4))
  refine zcall5 (post := post) (A1 := A1) (a := (Value.ref b :: As).toArray) (rest := rest) (st0 := st0) (fun T hT X => ?_) hS hA kk
  have hselP : selectMethod e.platform s.vm cellB.cls r0 = .method r0 := by rw [Launch.admits_selectMethod X.admits]; exact q3
  obtain ⟨vm₁, X₁, hstep₁⟩ := X.invokeinterface hx ho (hts _ h1) hnm hrm hstR (by rw [hr0cls]; exact hkL) hiL ⟨hd.1, hd.2.1⟩ (a := b) (cell := cellB) (kcell := kB) (by rw [hT]; exact hcB)
    (fun z h => by rw [h] at hoB; cases hoB) hkB (by rw [hr0cls]; exact w3) hselP hmethM hway hpubM habM (g := F0 m pc ls st0) rfl (argsL := As) (rest := rest) hlen hst (by rw [hb]; exact hdg)
  obtain ⟨v, ⟨U', l2, c2, s2⟩, X', ⟨g', mk', t, L, e1, e2, hq, h1', hL, h2', h3'⟩, hsteps⟩ := hBk m meth c ⟨T.setVm vm₁, locs, cells, slots⟩ { F0 m pc ls st0 with stack := rest } (.invokeinterface index count) r0 (Value.ref b :: As).toArray X₁ rfl (by show ls.size = _; rw [hl, hml]) (by rw [hb]; exact hdg) (show 2 * 0 + (rest.map fun v => v.category).sum ≤ 8 by omega) (X₁.named hnm) ⟨hf.1, hf.2, rfl, hK.warm X₁.warmed, hT⟩
  dsimp only [Pt.U, Pt.locs, Pt.cells, Pt.slots] at X' e1 e2 h1' h2' h3' hsteps
  subst h1'; subst h2'; subst h3'
  exact ⟨v, (T.setVm vm₁).calling g' mk' (Value.ref b :: As).toArray, t, U', L, hT, X', hL, e1, e2, hq, fun target h => hstep₁ _ fun acts => by rw [doInvoke_state]; exact hsteps.trans h⟩
end ZCALL3
