/-! ROWS, V: inherited, overriding and super calls; Strings that stand from the start -/
theorem zlw_l {ws l : List Cond} (hl : ∀ w ∈ l, w ∈ lw_all) (hc : GoodIn lw_all ws) : GoodIn lw_all (l ++ ws) := lw_app hl hc
section ZCALL4
variable {p : Program} {l : Launch} {e : Env} {R : Room} {s : State} {m : MethodId} {args : Array Value} {below : List Frame} {meth : Method} {c : Code} {H : Heap} {locs : List Loc} {cells slots : Nat} {Q : State → Prop}
variable {cc : ByteArray} {pc : Nat} {ls : Array Slot} {rest st0 : List Value} {G : zG} {A A0 A1 : Nat → Prop} {a : Nat} {H0 : Heap} {mc ms : Nat}
/-- an inherited method -/
theorem zcU {y : MethodName} {bytes : ByteArray} {maxL nL index : Nat} {ret : Option FieldType} {rm : Room} {post : Option Value → Heap → Prop} {own C : String} {b : Addr} {As : List Value} (n : Nat)
    (F : zFix p l s m args c cc nL own G) (hM : zM l G y bytes maxL ret rm H (.ref b :: As) post A1)
    (h1 : Cond.methodLink own index y ∈ lw_all) (h2 : Cond.instanceMethod y ∈ lw_all) (h3 : Cond.selects C y y ∈ lw_all) (h6 : Cond.sameMethod y.cls y.cls y.name y.desc ∈ lw_all) (h4 : Cond.initialized y.cls ∈ lw_all) (h5 : Cond.code y bytes maxL ret ∈ lw_all)
    (hd : y.cls ≠ "java/lang/invoke/MethodHandle" ∧ y.cls ≠ "java/lang/invoke/VarHandle" ∧ (parseMethodDescriptor y.desc).map (fun d => d.parameters.length) = some n) (hR : rm.frames + 1 ≤ R.frames ∧ 8 + (maxL + 11) + rm.locals ≤ R.locals)
    (hrc : ∃ cell : Cell, H[b]? = some cell ∧ cell.vm.isStatics = false ∧ s.vm.findClass C = some cell.cls) (hn : As.length = n) (hl : ls.size = nL) (hst : st0 = As.reverse ++ .ref b :: rest) (hW : (rest.map fun v => v.category).sum ≤ 8) (hdg : decode cc pc = .ok (.invokevirtual index, 3)) (hf : cells + rm.cells ≤ R.cells ∧ slots + rm.slots ≤ R.slots)
    (hS : va_S A0 H0 H locs) (hA : ∀ q, A1 q → A0 q)
    (kk : ∀ (v : Option Value) (H1 : Heap) (locs1 : List Loc), post v H1 → H.size ≤ H1.size → (∀ q : Nat, q < H.size → ¬ A1 q → H1[q]? = H[q]?) → va_S A0 H0 H1 locs1 → W p l e R s m args below meth c H1 locs1 (cells + rm.cells) (slots + rm.slots) Q (F0 m (pc + 3) ls (v.toList ++ rest))) : W p l e R s m args below meth c H locs cells slots Q (F0 m pc ls st0) := by
  obtain ⟨hx, hb, hml, ho, hts, hK⟩ := F
  have hG : GoodIn lw_all (va_wsU own index C y.cls y y (ws_ y bytes maxL ret)) := lw_app (fun w hw => by
    rcases List.mem_cons.mp hw with rfl | hw
    · exact h1
    rcases List.mem_cons.mp hw with rfl | hw
    · exact h6
    rcases List.mem_cons.mp hw with rfl | hw
    · exact h3
    rcases List.mem_cons.mp hw with rfl | hw
    · exact h2
    rcases List.mem_cons.mp hw with rfl | hw
    · exact h4
    · cases hw) (lw_meth h5)
  exact zcall (va_runU (As := As) (rest := rest) ⟨hx, hb, hml, ho, hts⟩ hM (va_cwU n hts hG rfl rfl rfl rfl hd hR) ⟨zP.blind, hrc, fun U hU hW => ⟨rfl, hK.warm hW, hU⟩⟩ rfl hn hl hst (lv_room hW) hdg hf) hS hA kk
/-- an overriding method -/
theorem zcO {x y : MethodName} {bytes b0 : ByteArray} {maxL nL index m0 : Nat} {ret r0 : Option FieldType} {rm : Room} {post : Option Value → Heap → Prop} {own C : String} {b : Addr} {As : List Value} (n : Nat)
    (F : zFix p l s m args c cc nL own G) (hM : zM l G y bytes maxL ret rm H (.ref b :: As) post A1)
    (h1 : Cond.methodLink own index x ∈ lw_all) (h2 : Cond.instanceMethod y ∈ lw_all) (h3 : Cond.selects C x y ∈ lw_all) (h6 : Cond.sameMethod x.cls x.cls x.name x.desc ∈ lw_all) (h7 : Cond.instanceMethod x ∈ lw_all) (h8 : Cond.code x b0 m0 r0 ∈ lw_all) (h4 : Cond.initialized y.cls ∈ lw_all) (h5 : Cond.code y bytes maxL ret ∈ lw_all)
    (hd : x.cls ≠ "java/lang/invoke/MethodHandle" ∧ x.cls ≠ "java/lang/invoke/VarHandle" ∧ (parseMethodDescriptor x.desc).map (fun d => d.parameters.length) = some n) (hR : rm.frames + 1 ≤ R.frames ∧ 8 + (maxL + 11) + rm.locals ≤ R.locals)
    (hrc : ∃ cell : Cell, H[b]? = some cell ∧ cell.vm.isStatics = false ∧ s.vm.findClass C = some cell.cls) (hn : As.length = n) (hl : ls.size = nL) (hst : st0 = As.reverse ++ .ref b :: rest) (hW : (rest.map fun v => v.category).sum ≤ 8) (hdg : decode cc pc = .ok (.invokevirtual index, 3)) (hf : cells + rm.cells ≤ R.cells ∧ slots + rm.slots ≤ R.slots)
    (hS : va_S A0 H0 H locs) (hA : ∀ q, A1 q → A0 q)
    (kk : ∀ (v : Option Value) (H1 : Heap) (locs1 : List Loc), post v H1 → H.size ≤ H1.size → (∀ q : Nat, q < H.size → ¬ A1 q → H1[q]? = H[q]?) → va_S A0 H0 H1 locs1 → W p l e R s m args below meth c H1 locs1 (cells + rm.cells) (slots + rm.slots) Q (F0 m (pc + 3) ls (v.toList ++ rest))) : W p l e R s m args below meth c H locs cells slots Q (F0 m pc ls st0) := by
  obtain ⟨hx, hb, hml, ho, hts, hK⟩ := F
  have hG : GoodIn lw_all (va_wsO own index C x.cls x y (ws_ y bytes maxL ret)) := lw_app (fun w hw => by
    rcases List.mem_cons.mp hw with rfl | hw
    · exact h1
    rcases List.mem_cons.mp hw with rfl | hw
    · exact h6
    rcases List.mem_cons.mp hw with rfl | hw
    · exact h7
    rcases List.mem_cons.mp hw with rfl | hw
    · exact h3
    rcases List.mem_cons.mp hw with rfl | hw
    · exact h2
    rcases List.mem_cons.mp hw with rfl | hw
    · exact h4
    · cases hw) (lw_meth h5)
  exact zcall (va_runU (As := As) (rest := rest) ⟨hx, hb, hml, ho, hts⟩ hM (va_cwO n hts hG rfl rfl rfl h8 hd hR) ⟨zP.blind, hrc, fun U hU hW => ⟨rfl, hK.warm hW, hU⟩⟩ rfl hn hl hst (lv_room hW) hdg hf) hS hA kk
/-- a method of the superclass, called by super -/
theorem zcSU {y : MethodName} {bytes : ByteArray} {maxL nL index ci N : Nat} {ret : Option FieldType} {rm : Room} {post : Option Value → Heap → Prop} {own C : String} {T : u_T} {b : Addr} {As fs : List Value} (n : Nat)
    (F : zFix p l s m args c cc nL own G) (hM : zM l G y bytes maxL ret rm H (.ref b :: As) post A1)
    (h1 : Cond.methodLink own index y ∈ lw_all) (h2 : Cond.instanceMethod y ∈ lw_all) (h6 : Cond.sameMethod y.cls y.cls y.name y.desc ∈ lw_all) (h7 : Cond.superclass own y.cls ∈ lw_all) (h4 : Cond.initialized y.cls ∈ lw_all) (h5 : Cond.code y bytes maxL ret ∈ lw_all)
    (hd : y.name ≠ "<init>" ∧ (parseMethodDescriptor y.desc).map (fun d => d.parameters.length) = some n) (hR : rm.frames + 1 ≤ R.frames ∧ 8 + (maxL + 11) + rm.locals ≤ R.locals)
    (hO : zO G b ci fs H) (hc : zCl[ci]? = some (C, T, N)) (hn : As.length = n) (hl : ls.size = nL) (hst : st0 = As.reverse ++ .ref b :: rest) (hW : (rest.map fun v => v.category).sum ≤ 8) (hdg : decode cc pc = .ok (.invokespecial index, 3)) (hf : cells + rm.cells ≤ R.cells ∧ slots + rm.slots ≤ R.slots)
    (hS : va_S A0 H0 H locs) (hA : ∀ q, A1 q → A0 q)
    (kk : ∀ (v : Option Value) (H1 : Heap) (locs1 : List Loc), post v H1 → H.size ≤ H1.size → (∀ q : Nat, q < H.size → ¬ A1 q → H1[q]? = H[q]?) → va_S A0 H0 H1 locs1 → W p l e R s m args below meth c H1 locs1 (cells + rm.cells) (slots + rm.slots) Q (F0 m (pc + 3) ls (v.toList ++ rest))) : W p l e R s m args below meth c H locs cells slots Q (F0 m pc ls st0) := by
  obtain ⟨hx, hb, hml, ho, hts, hK⟩ := F
  have hG : GoodIn lw_all (va_wsSU own index y (ws_ y bytes maxL ret)) := lw_app (fun w hw => by
    rcases List.mem_cons.mp hw with rfl | hw
    · exact h1
    rcases List.mem_cons.mp hw with rfl | hw
    · exact h6
    rcases List.mem_cons.mp hw with rfl | hw
    · exact h7
    rcases List.mem_cons.mp hw with rfl | hw
    · exact h2
    rcases List.mem_cons.mp hw with rfl | hw
    · exact h4
    · cases hw) (lw_meth h5)
  exact zcall (va_runSU (As := As) (rest := rest) (hK.1.1 ci _ hc).2 ⟨hx, hb, hml, ho, hts⟩ hM (va_cwSU n hts hG rfl rfl rfl hd hR) ⟨zP.blind, zrecv hK hO hc, fun U hU hW => ⟨rfl, hK.warm hW, hU⟩⟩ rfl hn hl hst (lv_room hW) hdg hf) hS hA kk
end ZCALL4
/-- an object that may only be read -/
def zOw (G : zG) (a ci : Nat) (fs : List Value) (H : Heap) : Prop := ∃ r : vw_C, zCl[ci]? = some r ∧ ∃ cell : Cell, H[a]? = some cell ∧ cell.cls = G.1.1 ci ∧ cell.vm.isStatics = false ∧ cell.vm ≠ .unknown ∧ ∀ k, k < r.2.2 → cell.slots[G.1.2 ci k]? = some (vp_V fs k)
def zTw (G : zG) (a t n : Nat) (f : Nat → Int32) (H : Heap) : Prop := ∃ cell : Cell, H[a]? = some cell ∧ cell.cls = G.2.1 t ∧ cell.vm.isStatics = false ∧ cell.vm ≠ .unknown ∧ n ≤ cell.slots.size ∧ cell.slots.size.toInt32 = Int32.ofNat n ∧ ∀ j, j < n → cell.slots[j]? = some (.int (f j))
theorem zOw.kept {G : zG} {a ci : Nat} {fs : List Value} {H H1 : Heap} (h : zOw G a ci fs H) (hq : H1[a]? = H[a]?) : zOw G a ci fs H1 := by
  obtain ⟨r, h1, cell, h2, h3⟩ := h
  exact ⟨r, h1, cell, by rw [hq]; exact h2, h3⟩
theorem zTw.kept {G : zG} {a t n : Nat} {f : Nat → Int32} {H H1 : Heap} (h : zTw G a t n f H) (hq : H1[a]? = H[a]?) : zTw G a t n f H1 := by
  obtain ⟨cell, h2, h3⟩ := h
  exact ⟨cell, by rw [hq]; exact h2, h3⟩
theorem zOw.lt {G : zG} {a ci : Nat} {fs : List Value} {H : Heap} (h : zOw G a ci fs H) : a < H.size := by
  obtain ⟨r, h1, cell, h2, h3⟩ := h
  exact (Array.getElem?_eq_some_iff.mp h2).1
theorem zTw.lt {G : zG} {a t n : Nat} {f : Nat → Int32} {H : Heap} (h : zTw G a t n f H) : a < H.size := by
  obtain ⟨cell, h2, h3⟩ := h
  exact (Array.getElem?_eq_some_iff.mp h2).1
theorem zO.w {G : zG} {a ci : Nat} {fs : List Value} {H : Heap} (h : zO G a ci fs H) : zOw G a ci fs H := by
  obtain ⟨r, h1, cell, q1, q2, q3, q4⟩ := h
  exact ⟨r, h1, cell, q1, q2, by rw [q3]; rfl, (by rw [q3]; exact fun e => by cases e), q4⟩
theorem zI.w {G : zG} {a t n : Nat} {f : Nat → Int32} {H : Heap} (h : zI G a t n f H) : zTw G a t n f H := by
  have h1 : H[a]? = some (arrV (G.2.1 t) n (fun j => .int (f j))) := h
  refine ⟨_, h1, rfl, rfl, (fun e => by cases e), (by rw [arrV_size]; exact Nat.le_refl _), (by rw [arrV_size]), fun j hj => arrV_read _ _ hj⟩
section ZWEAK
variable {p : Program} {l : Launch} {e : Env} {R : Room} {s : State} {m : MethodId} {args : Array Value} {below : List Frame} {meth : Method} {c : Code} {H : Heap} {locs : List Loc} {cells slots : Nat} {Q : State → Prop}
variable {cc : ByteArray} {pc : Nat} {ls : Array Slot} {rest : List Value} {G : zG} {A : Nat → Prop} {a : Nat} {H0 : Heap}
theorem zrecvW {ci : Nat} {fs : List Value} {C : String} {T : u_T} {N : Nat} (hK : zK G s) (h : zOw G a ci fs H) (hc : zCl[ci]? = some (C, T, N)) : ∃ cell : Cell, H[a]? = some cell ∧ cell.vm.isStatics = false ∧ s.vm.findClass C = some cell.cls := by
  obtain ⟨r, h1, cell, q1, q2, q3, -⟩ := h
  exact ⟨cell, q1, q3, by rw [q2]; exact (hK.1.1 ci _ hc).2.1⟩
theorem zgetW (hx : p.tables.exec = Jvm.exec) (hb : c.code = cc) (hts : ∀ w ∈ lw_all, w.before args s = true) {own : String} (ho : s.vm.findClass own = some m.cls) (hK : zK G s) {ref C : String} {T : u_T} {N ci index : Nat} {fs : List Value} (h : zOw G a ci fs H) (hc : zCl[ci]? = some (C, T, N)) (hin : ∀ w ∈ u_ws C T N, w ∈ lw_all) (k : Nat) (hk : k < N) (hlink : (Cond.fieldLink own index ref (T k).2.1 (T k).2.2.1) ∈ lw_all) (hsame : ∀ x, s.fieldFound? (T k).1 (T k).2.1 (T k).2.2.1 = some x → s.fieldFound? ref (T k).2.1 (T k).2.2.1 = some x) {v : Value} (hv : fs[k]? = some v) (hdg : decode cc pc = .ok (.getfield index, 3))
    (kk : W p l e R s m args below meth c H locs cells slots Q (F0 m (pc + 3) ls (v :: rest))) : W p l e R s m args below meth c H locs cells slots Q (F0 m pc ls (.ref a :: rest)) := by
  obtain ⟨r, h1, cell, q1, q2, q3, q4, q5⟩ := h
  obtain rfl : r = (C, T, N) := Option.some.inj (h1.symm.trans hc)
  obtain ⟨hSl, hfc, kC, hkC, hkind⟩ := hK.1.1 ci _ hc
  obtain ⟨cf, kf, fi, f, hi, hsl⟩ := hSl k hk
  have hst := (u_facts hfc hkC (u_lays hts hin hk) hi).1
  have e1 : vp_V fs k = v := by unfold vp_V; rw [List.getD_eq_getElem?_getD, hv]; rfl
  refine W.getf hx hb ho (hts _ hlink) (hsame _ hi) hst q1 q4 (v := v) (by rw [hsl, q5 k hk, e1]) rfl rfl hdg kk
theorem zalenW (hx : p.tables.exec = Jvm.exec) (hb : c.code = cc) (hK : zK G s) {t n : Nat} {f : Nat → Int32} (h : zTw G a t n f H) (ht : t < 8) (hdg : decode cc pc = .ok (.arraylength, 1))
    (kk : W p l e R s m args below meth c H locs cells slots Q (F0 m (pc + 1) ls (.int (nI n) :: rest))) : W p l e R s m args below meth c H locs cells slots Q (F0 m pc ls (.ref a :: rest)) := by
  obtain ⟨cell, q1, q2, q3, q4, q5, q6, q7⟩ := h
  obtain ⟨-, kS, hkS, compS, hkindS⟩ := (hK.1.2 t _ (zTy_at G ht)).1 0 (fun _ => .null)
  have hia : s.isArrayOf cell (zTn t) := ⟨(fun q e => by rw [e] at q3; cases q3), kS, (by rw [q2]; exact hkS), compS, hkindS⟩
  exact W.alen (n := Int32.ofNat n) hx hb q1 hia q6 rfl rfl hdg kk
theorem zbaldW (hx : p.tables.exec = Jvm.exec) (hb : c.code = cc) (hK : zK G s) {n : Nat} {f : Nat → Int32} (h : zTw G a 2 n f H) (k : Nat) (hk : k < n) (hn : n < 2 ^ 31) (hdg : decode cc pc = .ok (.baload, 1))
    (kk : W p l e R s m args below meth c H locs cells slots Q (F0 m (pc + 1) ls (.int (f k) :: rest))) : W p l e R s m args below meth c H locs cells slots Q (F0 m pc ls (.int (nI k) :: .ref a :: rest)) := by
  obtain ⟨cell, q1, q2, q3, q4, q5, q6, q7⟩ := h
  have e1 : (nI k).toNatClampNeg = k := nI_clamp (by omega)
  obtain ⟨-, kS, hkS, compS, hkindS⟩ := (hK.1.2 2 _ (zTy_at G (by decide))).1 0 (fun _ => .null)
  have hia : s.isArrayOf cell .byte := ⟨(fun q e => by rw [e] at q3; cases q3), kS, (by rw [q2]; exact hkS), compS, hkindS⟩
  exact W.bald (v := .int (f k)) hx hb q1 hia q4 (by rw [e1]; exact fun z => z.elim (nI_pos (by omega)) (fun z => by omega)) (by rw [e1]; exact q7 k hk) rfl rfl hdg kk
theorem zcopyW (hx : p.tables.exec = Jvm.exec) (hb : c.code = cc) (hml : c.maxLocals = ls.size) (hts : ∀ w ∈ lw_all, w.before args s = true) {own : String} (ho : s.vm.findClass own = some m.cls) (hK : zK G s) {index : Nat}
    (hlink : (Cond.methodLink own index arraycopyName) ∈ lw_all) (hnat : (Cond.native arraycopyName) ∈ lw_all) (hstat : (Cond.static arraycopyName) ∈ lw_all) (hini : (Cond.initialized "java/lang/System") ∈ lw_all)
    {t n0 n1 a0 : Nat} {f g : Nat → Int32} (ht : t < 3) (h0 : zTw G a0 t n0 f H) (h1 : zI G a t n1 g H) (hS : va_S A H0 H locs) (hA : A a) (sp dp n : Nat) (h4 : sp + n ≤ n0) (h5 : dp + n ≤ n1) (hn0 : n0 < 2 ^ 31) (hn1 : n1 < 2 ^ 31)
    (hfit : ∀ i, i < n → fits (zTn t) (.int (f (sp + i))) = true) (hframes : 1 ≤ R.frames) (hlocals : (rest.map fun v => v.category).sum + (nativeFrameWords "java/lang/System" "arraycopy" 5 + 11) ≤ R.locals) (hdg : decode cc pc = .ok (.invokestatic index, 3))
    (kk : ∀ (H1 : Heap) (locs1 : List Loc), zI G a t n1 (va_cpy f g sp dp n) H1 → H1.size = H.size → (∀ q : Nat, q ≠ a → H1[q]? = H[q]?) → va_S A H0 H1 locs1 → W p l e R s m args below meth c H1 locs1 cells slots Q (F0 m (pc + 3) ls rest)) : W p l e R s m args below meth c H locs cells slots Q (F0 m pc ls (.int (nI n) :: .int (nI dp) :: .ref a :: .int (nI sp) :: .ref a0 :: rest)) := by
  obtain ⟨scr, q1, q2, q3, q4, q5, q6, q7⟩ := h0
  have e1 : (nI sp).toNatClampNeg = sp := nI_clamp (by omega)
  have e2 : (nI dp).toNatClampNeg = dp := nI_clamp (by omega)
  have e3 : (nI n).toNatClampNeg = n := nI_clamp (by omega)
  have i1 : (nI sp).toInt = (sp : Int) := nI_toInt (by omega)
  have i2 : (nI dp).toInt = (dp : Int) := nI_toInt (by omega)
  have i3 : (nI n).toInt = (n : Int) := nI_toInt (by omega)
  have hc1 : H[a]? = some (vp_cell (G.2.1 t) (n1, .inl g)) := h1
  intro T hT X
  obtain ⟨-, k0, hk0, cm0, hkk0⟩ := (hK.1.2 t _ (zTy_at G (by omega))).1 0 (fun j => .null)
  obtain ⟨-, k1, hk1, cm1, hkk1⟩ := (hK.1.2 t _ (zTy_at G (by omega))).1 n1 (fun j => .int (g j))
  have hprim : refKind (zTn t) = false := by rcases (show t = 0 ∨ t = 1 ∨ t = 2 by omega) with rfl | rfl | rfl <;> rfl
  obtain ⟨vm', X', step⟩ := X.arraycopy hx ho (hts _ hlink) (hts _ hnat) (hts _ hstat) (hts _ hini) (src := a0) (dst := a) (cs := scr) (cd := vp_cell (G.2.1 t) (n1, .inl g)) (srcPos := nI sp) (destPos := nI dp) (n := nI n) (by rw [hT]; exact q1) (by rw [hT]; exact hc1)
    (fun _ h => by rw [h] at q3; cases q3) (fun _ h => by cases h) q4 (fun h => by cases h) (by rw [q2]; exact hk0) hk1 hkk0 hkk1 (by simp [hprim]) (nI_pos (by omega)) (nI_pos (by omega)) (nI_pos (by omega))
    (by rw [i1, i3]; omega)
    (by rw [i2, i3]; show ¬ _ > ((arrV _ n1 (fun j => .int (g j))).slots.size : Int); rw [arrV_size]; omega)
    (fun vm₁ _ i hi => by
      rw [e3] at hi
      have e : scr.slots.getD ((nI sp).toNatClampNeg + i) .null = .int (f (sp + i)) := by
        rw [e1, Array.getD_eq_getD_getElem?, q7 _ (by omega)]
        rfl
      rw [e]
      exact ⟨hfit i hi, trivial⟩)
    (g := F0 m pc ls (.int (nI n) :: .int (nI dp) :: .ref a :: .int (nI sp) :: .ref a0 :: rest)) rfl (by rw [hml]) (rest := rest) rfl (by rw [hb]; exact hdg) hframes (by show 2 * 0 + _ + _ ≤ _; omega)
  have ec : copied scr (vp_cell (G.2.1 t) (n1, .inl g)) (nI sp) (nI dp) (nI n) = vp_cell (G.2.1 t) (n1, .inl (va_cpy f g sp dp n)) := by
    show (arrV _ n1 (fun j => .int (g j))).storeRun (nI dp).toNatClampNeg (scr.stretch (nI sp).toNatClampNeg (nI n).toNatClampNeg) = _
    rw [e1, e2, e3]
    exact va_copiedX (fun z => .int z) scr _ f g q7 h4
  rw [ec] at X' step
  have hl : a < H.size := (Array.getElem?_eq_some_iff.mp hc1).1
  obtain ⟨H1, eH⟩ : ∃ H1, H1 = H.setIfInBounds a (vp_cell (G.2.1 t) (n1, .inl (va_cpy f g sp dp n))) := ⟨_, rfl⟩
  have hheap : ((T.setVm vm').setCell a (vp_cell (G.2.1 t) (n1, .inl (va_cpy f g sp dp n)))).heap = H1 := by rw [eH, ← hT]; rfl
  have oq : ∀ q : Nat, q ≠ a → H1[q]? = H[q]? := fun q hq => by rw [eH]; simp [Array.getElem?_setIfInBounds, Ne.symm hq]
  have z1 : H1.size = H.size := by rw [eH]; simp
  obtain ⟨t1, a1, b1⟩ := kk H1 _ (show H1[a]? = some _ by rw [eH]; simp [Array.getElem?_setIfInBounds, hl]) z1 oq ⟨by rw [z1]; exact hS.1, fun q g1 g2 => by
      rw [oq q (fun e => g2 (by rw [e]; exact hA))]
      exact hS.2.1 q g1 g2, fun q hq => by
      rcases List.mem_append.mp hq with h | h
      · exact hS.2.2 q h
      · obtain ⟨z, -, hz⟩ := List.mem_map.mp h
        rw [← hz]
        exact hA⟩ _ hheap X'
  exact ⟨t1, step t1 a1, b1⟩
end ZWEAK
section ZPRIV
variable {p : Program} {l : Launch} {e : Env} {R : Room} {s : State} {m : MethodId} {args : Array Value} {below : List Frame} {meth : Method} {c : Code} {H : Heap} {locs : List Loc} {cells slots : Nat} {Q : State → Prop}
variable {cc : ByteArray} {pc : Nat} {ls : Array Slot} {rest st0 : List Value} {G : zG} {A A0 A1 : Nat → Prop} {a : Nat} {H0 : Heap} {mc ms : Nat}
/-- a private method of the superclass, called on an object of the class C -/
theorem zcP {y : MethodName} {bytes : ByteArray} {maxL nL index : Nat} {ret : Option FieldType} {rm : Room} {post : Option Value → Heap → Prop} {own C : String} {b : Addr} {As : List Value} (n : Nat)
    (F : zFix p l s m args c cc nL own G) (hM : zM l G y bytes maxL ret rm H (.ref b :: As) post A1)
    (h1 : Cond.methodLink own index y ∈ lw_all) (h2 : Cond.instanceMethod y ∈ lw_all) (h6 : Cond.sameMethod y.cls y.cls y.name y.desc ∈ lw_all) (h4 : Cond.initialized y.cls ∈ lw_all) (h5 : Cond.code y bytes maxL ret ∈ lw_all) (hD : zDef C y s)
    (hd : y.cls ≠ "java/lang/invoke/MethodHandle" ∧ y.cls ≠ "java/lang/invoke/VarHandle" ∧ (parseMethodDescriptor y.desc).map (fun d => d.parameters.length) = some n) (hR : rm.frames + 1 ≤ R.frames ∧ 8 + (maxL + 11) + rm.locals ≤ R.locals)
    (hrc : ∃ cell : Cell, H[b]? = some cell ∧ cell.vm.isStatics = false ∧ s.vm.findClass C = some cell.cls) (hn : As.length = n) (hl : ls.size = nL) (hst : st0 = As.reverse ++ .ref b :: rest) (hW : (rest.map fun v => v.category).sum ≤ 8) (hdg : decode cc pc = .ok (.invokevirtual index, 3)) (hf : cells + rm.cells ≤ R.cells ∧ slots + rm.slots ≤ R.slots)
    (hS : va_S A0 H0 H locs) (hA : ∀ q, A1 q → A0 q)
    (kk : ∀ (v : Option Value) (H1 : Heap) (locs1 : List Loc), post v H1 → H.size ≤ H1.size → (∀ q : Nat, q < H.size → ¬ A1 q → H1[q]? = H[q]?) → va_S A0 H0 H1 locs1 → W p l e R s m args below meth c H1 locs1 (cells + rm.cells) (slots + rm.slots) Q (F0 m (pc + 3) ls (v.toList ++ rest))) : W p l e R s m args below meth c H locs cells slots Q (F0 m pc ls st0) := by
  obtain ⟨hx, hb, hml, ho, hts, hK⟩ := F
  obtain ⟨cellB, hcB, hoB, hclB⟩ := hrc
  obtain ⟨mk, methM, hnamed, hmethM, hstM, habM⟩ := Cond.instanceMethod_spec (hts _ h2)
  obtain ⟨methM', cM, hmethM', -, -, -, -, -, -, hsigM⟩ := Cond.code_spec hnamed (hts _ h5)
  cases hmethM.symm.trans hmethM'
  obtain ⟨cn, ck, r1, hcn, hck, hni, hfo, hn1⟩ := Cond.sameMethod_found (hts _ h6)
  have hn1' : s.methodNamed? y = some r1 := hn1
  cases hnamed.symm.trans hn1'
  have hcnm : cn = mk.cls := Option.some.inj (hcn.symm.trans (findClass_of_methodNamed hnamed))
  obtain ⟨c2, r2, q1, q2, q3⟩ := hD
  cases hclB.symm.trans q1
  cases hnamed.symm.trans q2
  have hlen : As.length = methM.sig.parameters.length := by
    have h2 := hd.2.2
    rw [hsigM] at h2
    exact hn.trans (Option.some.inj h2).symm
  have hBk : Back l R p e below s args y 3 8 (PreOf R rm.cells rm.slots (zP G H (.ref b :: As))) (PostOf (zQ post A1) rm.cells rm.slots A1) :=
    back_of (bytes := bytes) (maxL := maxL) (ret := ret) hM zP.blind rfl rfl hR.1 hR.2 (pay_in hts (lw_meth h5)) List.mem_cons_self (fun a' U hW => word_at hW (Or.inl (by first | rfl | simp [Cond.onTables, Cond.keeps, Cond.steady])) (hts _ h4))
  refine zcall (post := post) (A1 := A1) (a := (Value.ref b :: As).toArray) (rest := rest) (st0 := st0) (fun T hT X => ?_) hS hA kk
  have hselP : selectMethod e.platform s.vm cellB.cls mk = .method mk := by rw [Launch.admits_selectMethod X.admits]; exact q3
  obtain ⟨vm₁, X₁, hstep₁⟩ := X.invokevirtualUp hx ho (hts _ h1) (hts _ h6) ⟨hd.1, hd.2.1⟩ hnamed hmethM hstM (a := b) (cell := cellB) (by rw [hT]; exact hcB)
    (fun z h => by rw [h] at hoB; cases hoB) hselP hmethM habM (by rw [← hcnm]; exact hck) hni (g := F0 m pc ls st0) rfl (argsL := As) (rest := rest) hlen hst (by rw [hb]; exact hdg)
  obtain ⟨v, ⟨U', l2, c2, s2⟩, X', ⟨g', mk', t, L, e1, e2, hq, h1', hL, h2', h3'⟩, hsteps⟩ := hBk m meth c ⟨T.setVm vm₁, locs, cells, slots⟩ { F0 m pc ls st0 with stack := rest } (.invokevirtual index) mk (Value.ref b :: As).toArray X₁ rfl (by show ls.size = _; rw [hl, hml]) (by rw [hb]; exact hdg) (show 2 * 0 + (rest.map fun v => v.category).sum ≤ 8 by omega) (X₁.named hnamed) ⟨hf.1, hf.2, rfl, hK.warm X₁.warmed, hT⟩
  dsimp only [Pt.U, Pt.locs, Pt.cells, Pt.slots] at X' e1 e2 h1' h2' h3' hsteps
  subst h1'; subst h2'; subst h3'
  exact ⟨v, (T.setVm vm₁).calling g' mk' (Value.ref b :: As).toArray, t, U', L, hT, X', hL, e1, e2, hq, fun target h => hstep₁ _ fun acts => by rw [doInvoke_state]; exact hsteps.trans h⟩
end ZPRIV
