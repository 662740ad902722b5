/-! the JDK's methods, II: Arrays, the StringBuilder that grows -/
set_option maxRecDepth 100000
theorem zfitB {x : Int32} (h : ∃ k : Nat, k ≤ 127 ∧ x = nI k) : fits (zTn 2) (.int x) = true := by
  obtain ⟨k, hk, rfl⟩ := h
  show (decide (-128 ≤ nI k) && decide (nI k ≤ 127)) = true
  have h1 : (-128 : Int32) ≤ nI k := by
    rw [Int32.le_iff_toInt_le, nI_toInt (by omega)]
    show (-128 : Int) ≤ _
    omega
  have h2 : nI k ≤ (127 : Int32) := by
    rw [Int32.le_iff_toInt_le, nI_toInt (by omega)]
    show _ ≤ (127 : Int)
    omega
  simp [h1, h2]
theorem zi2b : ∀ ch : Nat, ch < 128 → (nI ch).toInt8.toInt32 = nI ch := by decide +kernel
theorem znsub {a b : Nat} (h : a ≤ b) (hb : b < 100000) : nI a - nI b ≤ 0 := by
  rw [Int32.le_iff_toInt_le, Int32.toInt_sub, nI_toInt (by omega), nI_toInt (by omega)]
  rw [Int.bmod_eq_of_le (by omega) (by omega)]
  show _ ≤ (0 : Int)
  omega
abbrev rmJ10_copyOf : Room := ({ frames := 2, cells := 1, slots := 1000, locals := 79 } : Room)
set_option maxHeartbeats 1000000 in
theorem kJ10_copyOf (l : Launch) {G : zG} {H0 : Heap} (va k1 k2 : Nat) (fv : Nat → Int32) (h1 : k1 < k2) (h2 : k2 ≤ 1000) (hfv : ∀ j, j < k1 → ∃ k : Nat, k ≤ 127 ∧ fv j = nI k) (h_va : zI G va 2 k1 fv H0) : zM l G yJ10_copyOf cJ10_copyOf 3 (some (.array .byte)) rmJ10_copyOf H0 [.ref va, .int (nI k2)] (fun v H1 => ∃ (vb : Nat), v = some (.ref vb) ∧ zI G va 2 k1 fv H1 ∧ zI G vb 2 k2 (va_cpy fv (fun _ => 0) 0 0 k1) H1 ∧ H0.size ≤ vb) (fun q => H0.size ≤ q) := by
  refine zM.start (own := RJ10) (by decide) rfl (Nat.le_of_ble_eq_true rfl) ?_
  intro p e s m args below meth c ls Q hx hb hml hr hlk hnm hown hts hK hH hQ hl hS
  have hl : lv_has ls 3 [(0, .ref va), (1, .int (nI k2))] := hl
  refine lv_iload_n hx hb dJ10_copyOf_0 rfl (lv_at hl 1 rfl) ?_
  refine lv_aload_n hx hb dJ10_copyOf_1 rfl (lv_at hl 0 rfl) ?_
  refine zalenI hx hb hK h_va (by decide) dJ10_copyOf_2 ?_
  refine lv_icmp_ne (tgt := 14) hx hb dJ10_copyOf_3 (by decide) (fun c_3 => ?_) (fun c_3 => ?_)
  · have c_3 : ¬ k2 = k1 := fun z => c_3 ((nI_eq (by omega) (by omega)).mpr z)
    refine lv_iload_n hx hb dJ10_copyOf_14 rfl (lv_at hl 1 rfl) ?_
    have f_o := hS.1
    refine znewa (t := 2) hx hb hts hK (by decide) rfl q213 hS k2 (by first | decide | omega) (by first | decide | (show _ ≤ 1; omega)) (by first | decide | (show _ ≤ 1000; omega)) dJ10_copyOf_15 (fun H1 h_o hz_o ho_o hS => ?_)
    obtain ⟨b1, e_b1⟩ : ∃ z : Nat, H0.size = z := ⟨_, rfl⟩
    rw [e_b1] at h_o hz_o ho_o ⊢
    have z_b1 : H1.size = b1 + 1 := hz_o
    have l_va_b1 : va < b1 := e_b1 ▸ h_va.lt
    have h_va := h_va.kept (ho_o _ (e_b1 ▸ h_va.lt))
    have f_b1 : H0.size ≤ b1 := Nat.le_trans f_o (Nat.le_of_eq e_b1)
    have hb1 : zI G b1 2 k2 (fun _ => 0) H1 := h_o
    refine lv_astore_n (lv' := [(2, .ref b1), (0, .ref va), (1, .int (nI k2))]) hx hb dJ10_copyOf_17 rfl hl (by decide) rfl (fun ls hl => ?_)
    refine lv_aload_n hx hb dJ10_copyOf_18 rfl (lv_at hl 1 rfl) ?_
    refine lv_iconst (v := (nI 0)) hx hb dJ10_copyOf_19 (by decide) ?_
    refine lv_aload_n hx hb dJ10_copyOf_20 rfl (lv_at hl 0 rfl) ?_
    refine lv_iconst (v := (nI 0)) hx hb dJ10_copyOf_21 (by decide) ?_
    refine lv_aload_n hx hb dJ10_copyOf_22 rfl (lv_at hl 1 rfl) ?_
    refine zalenI hx hb hK h_va (by decide) dJ10_copyOf_23 ?_
    refine lv_iload_n hx hb dJ10_copyOf_24 rfl (lv_at hl 2 rfl) ?_
    refine va_mmin hx hb (by rw [hml]; exact hl.1.symm) hown (hts _ q541) (hts _ q542) (hts _ q64) (hts _ q543) (Nat.le_of_ble_eq_true rfl) (Nat.le_of_ble_eq_true rfl) (by first | decide | (show _ ≤ 1; omega)) (by first | decide | (show _ ≤ 1000; omega)) dJ10_copyOf_25 ?_
    refine zTop (y := nI (min k1 k2)) (zminN (by omega) (by omega)) ?_
    refine zTop (y := (nI k1)) (congrArg nI (by omega)) ?_
    refine zcopyI (t := 2) hx hb (by rw [hml]; exact hl.1.symm) hts hown hK q544 q546 q545 q66 (by decide) h_va hb1 hS (f_b1) 0 0 k1 (by omega) (by omega) (by omega) (by omega) (fun i hi => zfitB (by rw [Nat.zero_add]; exact hfv i (by omega))) (by decide) (Nat.le_of_ble_eq_true rfl) dJ10_copyOf_28 (fun H2 locs h_o hz_o hq_o hS => ?_)
    have h_va := h_va.kept (hq_o _ (Nat.ne_of_lt l_va_b1))
    have hb1 : zI G b1 2 k2 (va_cpy fv (fun _ => 0) 0 0 k1) H2 := h_o
    refine lv_aload_n hx hb dJ10_copyOf_31 rfl (lv_at hl 0 rfl) ?_
    exact zra hx hb hr (Or.inr ⟨_, rfl⟩) hlk hH hQ hS ⟨b1, rfl, h_va, hb1, f_b1⟩ (by first | exact Nat.le_of_ble_eq_true rfl | (show _ ≤ 1; omega)) (by first | exact Nat.le_of_ble_eq_true rfl | (show _ ≤ 1000; omega)) dJ10_copyOf_32
  · have c_3 : k2 = k1 := (nI_eq (by omega) (by omega)).mp c_3
    exact absurd c_3 (by omega)
abbrev rmJ7_newCapacity : Room := ({ frames := 3, cells := 0, slots := 0, locals := 72 } : Room)
set_option maxHeartbeats 1000000 in
theorem kJ7_newCapacity (l : Launch) {G : zG} {H0 : Heap} (tb vb cn cap : Nat) (ml : Int32) (fv : Nat → Int32) (k2 : Nat) (h1 : cap < k2) (h2 : k2 ≤ 200) (h_tb : zO G tb 10 [.ref vb, .int (nI 0), .int ml, .int (nI cn)] H0) (h_vb : zI G vb 2 cap fv H0) : zM l G yJ7_newCapacity cJ7_newCapacity 6 (some .int) rmJ7_newCapacity H0 [.ref tb, .int (nI k2)] (fun v H1 => H0 = H1 ∧ v = some (.int (nI (cap + max (k2 - cap) (cap + 2))))) (zN) := by
  refine zM.start (own := RJ7) (by decide) rfl (Nat.le_of_ble_eq_true rfl) ?_
  intro p e s m args below meth c ls Q hx hb hml hr hlk hnm hown hts hK hH hQ hl hS
  have hl : lv_has ls 6 [(0, .ref tb), (1, .int (nI k2))] := hl
  refine lv_aload_n hx hb dJ7_newCapacity_0 rfl (lv_at hl 0 rfl) ?_
  refine zget hx hb hts hown hK h_tb rfl in_J8 0 (by decide) q416 (fun _ h => h) (v := .ref vb) rfl dJ7_newCapacity_1 ?_
  refine zalenI hx hb hK h_vb (by decide) dJ7_newCapacity_4 ?_
  refine lv_istore_n (lv' := [(2, .int (nI cap)), (0, .ref tb), (1, .int (nI k2))]) hx hb dJ7_newCapacity_5 rfl hl (by decide) rfl (fun ls hl => ?_)
  refine lv_iload_n hx hb dJ7_newCapacity_6 rfl (lv_at hl 2 rfl) ?_
  refine lv_aload_n hx hb dJ7_newCapacity_7 rfl (lv_at hl 1 rfl) ?_
  refine zget hx hb hts hown hK h_tb rfl in_J8 1 (by decide) q417 (fun _ h => h) (v := .int (nI 0)) rfl dJ7_newCapacity_8 ?_
  refine lv_ishl hx hb dJ7_newCapacity_11 ?_
  refine zTop (y := (nI k2)) (zshl0 _) ?_
  refine lv_istore_n (lv' := [(3, .int (nI k2)), (2, .int (nI cap)), (0, .ref tb), (1, .int (nI k2))]) hx hb dJ7_newCapacity_12 rfl hl (by decide) rfl (fun ls hl => ?_)
  refine lv_iload_n hx hb dJ7_newCapacity_13 rfl (lv_at hl 0 rfl) ?_
  refine lv_iload_n hx hb dJ7_newCapacity_14 rfl (lv_at hl 1 rfl) ?_
  refine lv_isub hx hb dJ7_newCapacity_15 ?_
  refine zTop (y := nI (k2 - cap)) (zsub (by omega) (by omega)) ?_
  refine lv_istore (lv' := [(4, .int (nI (k2 - cap))), (3, .int (nI k2)), (2, .int (nI cap)), (0, .ref tb), (1, .int (nI k2))]) hx hb dJ7_newCapacity_16 hl (by decide) rfl (fun ls hl => ?_)
  refine lv_iload_n hx hb dJ7_newCapacity_18 rfl (lv_at hl 2 rfl) ?_
  refine lv_iload hx hb dJ7_newCapacity_19 (lv_at hl 0 rfl) ?_
  refine lv_iload_n hx hb dJ7_newCapacity_21 rfl (lv_at hl 2 rfl) ?_
  refine lv_iconst (v := (nI 2)) hx hb dJ7_newCapacity_22 (by decide) ?_
  refine lv_aload_n hx hb dJ7_newCapacity_23 rfl (lv_at hl 3 rfl) ?_
  refine zget hx hb hts hown hK h_tb rfl in_J8 1 (by decide) q417 (fun _ h => h) (v := .int (nI 0)) rfl dJ7_newCapacity_24 ?_
  refine lv_ishl hx hb dJ7_newCapacity_27 ?_
  refine zTop (y := (nI 2)) (zshl0 _) ?_
  refine lv_iadd hx hb dJ7_newCapacity_28 ?_
  refine zTop (y := nI (cap + 2)) (zadd (by omega)) ?_
  refine zcS 3 ⟨hx, hb, hml, hown, hts, hK⟩ (kJ2_newLength l cap (k2 - cap) (cap + 2) (by omega) (by omega) (by omega) (by omega)  ) q520 q521 q49 q522 (by decide +kernel) ⟨Nat.le_of_ble_eq_true rfl, Nat.le_of_ble_eq_true rfl⟩ rfl hl.1 (rest := []) rfl (Nat.le_of_ble_eq_true rfl) dJ7_newCapacity_29 ⟨by first | decide | omega, by first | decide | omega⟩ hS (fun _ h => h.elim) (fun v_c H1 locs hp_c hz_c hk_c hS => ?_)
  obtain ⟨rfl, rfl⟩ := hp_c
  refine lv_istore (lv' := [(5, .int (nI (cap + max (k2 - cap) (cap + 2)))), (4, .int (nI (k2 - cap))), (3, .int (nI k2)), (2, .int (nI cap)), (0, .ref tb), (1, .int (nI k2))]) hx hb dJ7_newCapacity_32 hl (by decide) rfl (fun ls hl => ?_)
  refine lv_iload hx hb dJ7_newCapacity_34 (lv_at hl 0 rfl) ?_
  refine lv_ldc (v := (nI 2147483647)) hx hb hown (hts _ q530) dJ7_newCapacity_36 ?_
  refine lv_icmp_ne (tgt := 51) hx hb dJ7_newCapacity_38 (by decide) (fun c_38 => ?_) (fun c_38 => ?_)
  · have c_38 : ¬ (cap + max (k2 - cap) (cap + 2)) = 2147483647 := fun z => c_38 ((nI_eq (by omega) (by omega)).mpr z)
    refine lv_iload hx hb dJ7_newCapacity_51 (lv_at hl 0 rfl) ?_
    refine lv_aload_n hx hb dJ7_newCapacity_53 rfl (lv_at hl 4 rfl) ?_
    refine zget hx hb hts hown hK h_tb rfl in_J8 1 (by decide) q417 (fun _ h => h) (v := .int (nI 0)) rfl dJ7_newCapacity_54 ?_
    refine lv_ishr hx hb dJ7_newCapacity_57 ?_
    refine zTop (y := (nI (cap + max (k2 - cap) (cap + 2)))) (zshr0 _) ?_
    exact zri hx hb hr hlk hH hQ rfl hS ⟨rfl, rfl⟩ (Nat.le_of_ble_eq_true rfl) (Nat.le_of_ble_eq_true rfl) dJ7_newCapacity_58
  · have c_38 : (cap + max (k2 - cap) (cap + 2)) = 2147483647 := (nI_eq (by omega) (by omega)).mp c_38
    exact absurd c_38 (by omega)
abbrev rmJ7_ensureCapacityInternal_no : Room := ({ frames := 0, cells := 0, slots := 0, locals := 0 } : Room)
set_option maxHeartbeats 1000000 in
theorem kJ7_ensureCapacityInternal_no (l : Launch) {G : zG} {H0 : Heap} (tb vb cn cap : Nat) (ml : Int32) (fv : Nat → Int32) (k2 : Nat) (h1 : k2 ≤ cap) (h2 : cap ≤ 1000) (h_tb : zO G tb 10 [.ref vb, .int (nI 0), .int ml, .int (nI cn)] H0) (h_vb : zI G vb 2 cap fv H0) : zM l G yJ7_ensureCapacityInternal cJ7_ensureCapacityInternal 3 none rmJ7_ensureCapacityInternal_no H0 [.ref tb, .int (nI k2)] (fun v H1 => H0 = H1 ∧ v = none) (zN) := by
  refine zM.start (own := RJ7) (by decide) rfl (Nat.le_of_ble_eq_true rfl) ?_
  intro p e s m args below meth c ls Q hx hb hml hr hlk hnm hown hts hK hH hQ hl hS
  have hl : lv_has ls 3 [(0, .ref tb), (1, .int (nI k2))] := hl
  refine lv_aload_n hx hb dJ7_ensureCapacityInternal_0 rfl (lv_at hl 0 rfl) ?_
  refine zget hx hb hts hown hK h_tb rfl in_J8 0 (by decide) q416 (fun _ h => h) (v := .ref vb) rfl dJ7_ensureCapacityInternal_1 ?_
  refine zalenI hx hb hK h_vb (by decide) dJ7_ensureCapacityInternal_4 ?_
  refine lv_aload_n hx hb dJ7_ensureCapacityInternal_5 rfl (lv_at hl 0 rfl) ?_
  refine zget hx hb hts hown hK h_tb rfl in_J8 1 (by decide) q417 (fun _ h => h) (v := .int (nI 0)) rfl dJ7_ensureCapacityInternal_6 ?_
  refine lv_ishr hx hb dJ7_ensureCapacityInternal_9 ?_
  refine zTop (y := nI cap) (zshr0 _) ?_
  refine lv_istore_n (lv' := [(2, .int (nI cap)), (0, .ref tb), (1, .int (nI k2))]) hx hb dJ7_ensureCapacityInternal_10 rfl hl (by decide) rfl (fun ls hl => ?_)
  refine lv_iload_n hx hb dJ7_ensureCapacityInternal_11 rfl (lv_at hl 2 rfl) ?_
  refine lv_iload_n hx hb dJ7_ensureCapacityInternal_12 rfl (lv_at hl 0 rfl) ?_
  refine lv_isub hx hb dJ7_ensureCapacityInternal_13 ?_
  refine lv_if_le (tgt := 38) hx hb dJ7_ensureCapacityInternal_14 (by decide) (fun _ => ?_) (fun z => absurd (znsub (by omega) (by omega)) z)
  exact zrv hx hb hr hlk hH hQ hS ⟨rfl, rfl⟩ (Nat.le_of_ble_eq_true rfl) (Nat.le_of_ble_eq_true rfl) dJ7_ensureCapacityInternal_38
abbrev rmJ7_ensureCapacityInternal_grow : Room := ({ frames := 4, cells := 1, slots := 1000, locals := 101 } : Room)
set_option maxHeartbeats 1000000 in
theorem kJ7_ensureCapacityInternal_grow (l : Launch) {G : zG} {H0 : Heap} (tb vb cn cap : Nat) (ml : Int32) (fv : Nat → Int32) (k2 : Nat) (h1 : cap < k2) (h2 : k2 ≤ 200) (hfv : ∀ j, j < cap → ∃ k : Nat, k ≤ 127 ∧ fv j = nI k) (h_tb : zO G tb 10 [.ref vb, .int (nI 0), .int ml, .int (nI cn)] H0) (h_vb : zI G vb 2 cap fv H0) : zM l G yJ7_ensureCapacityInternal cJ7_ensureCapacityInternal 3 none rmJ7_ensureCapacityInternal_grow H0 [.ref tb, .int (nI k2)] (fun v H1 => ∃ (vb2 : Nat), v = none ∧ zO G tb 10 [.ref vb2, .int (nI 0), .int ml, .int (nI cn)] H1 ∧ zI G vb2 2 (cap + max (k2 - cap) (cap + 2)) (va_cpy fv (fun _ => 0) 0 0 cap) H1 ∧ H0.size ≤ vb2) (fun q => q = tb ∨ H0.size ≤ q) := by
  refine zM.start (own := RJ7) (by decide) rfl (Nat.le_of_ble_eq_true rfl) ?_
  intro p e s m args below meth c ls Q hx hb hml hr hlk hnm hown hts hK hH hQ hl hS
  have hl : lv_has ls 3 [(0, .ref tb), (1, .int (nI k2))] := hl
  refine lv_aload_n hx hb dJ7_ensureCapacityInternal_0 rfl (lv_at hl 0 rfl) ?_
  refine zget hx hb hts hown hK h_tb rfl in_J8 0 (by decide) q416 (fun _ h => h) (v := .ref vb) rfl dJ7_ensureCapacityInternal_1 ?_
  refine zalenI hx hb hK h_vb (by decide) dJ7_ensureCapacityInternal_4 ?_
  refine lv_aload_n hx hb dJ7_ensureCapacityInternal_5 rfl (lv_at hl 0 rfl) ?_
  refine zget hx hb hts hown hK h_tb rfl in_J8 1 (by decide) q417 (fun _ h => h) (v := .int (nI 0)) rfl dJ7_ensureCapacityInternal_6 ?_
  refine lv_ishr hx hb dJ7_ensureCapacityInternal_9 ?_
  refine zTop (y := nI cap) (zshr0 _) ?_
  refine lv_istore_n (lv' := [(2, .int (nI cap)), (0, .ref tb), (1, .int (nI k2))]) hx hb dJ7_ensureCapacityInternal_10 rfl hl (by decide) rfl (fun ls hl => ?_)
  refine lv_iload_n hx hb dJ7_ensureCapacityInternal_11 rfl (lv_at hl 2 rfl) ?_
  refine lv_iload_n hx hb dJ7_ensureCapacityInternal_12 rfl (lv_at hl 0 rfl) ?_
  refine lv_isub hx hb dJ7_ensureCapacityInternal_13 ?_
  refine zTop (y := nI (k2 - cap)) (zsub (by omega) (by omega)) ?_
  refine lv_if_le (tgt := 38) hx hb dJ7_ensureCapacityInternal_14 (by decide) (fun c_14 => ?_) (fun c_14 => ?_)
  · have c_14 : (k2 - cap) = 0 := zle0 (by omega) c_14
    exact absurd c_14 (by omega)
  · have c_14 : 0 < (k2 - cap) := zle0n (by omega) c_14
    refine lv_aload_n hx hb dJ7_ensureCapacityInternal_17 rfl (lv_at hl 1 rfl) ?_
    refine lv_aload_n hx hb dJ7_ensureCapacityInternal_18 rfl (lv_at hl 1 rfl) ?_
    refine zget hx hb hts hown hK h_tb rfl in_J8 0 (by decide) q416 (fun _ h => h) (v := .ref vb) rfl dJ7_ensureCapacityInternal_19 ?_
    refine lv_aload_n hx hb dJ7_ensureCapacityInternal_22 rfl (lv_at hl 1 rfl) ?_
    refine lv_iload_n hx hb dJ7_ensureCapacityInternal_23 rfl (lv_at hl 2 rfl) ?_
    have f_o := hS.1
    refine zcP 1 ⟨hx, hb, hml, hown, hts, hK⟩ (kJ7_newCapacity l tb vb cn cap ml fv k2 (by omega) (by omega)  h_tb h_vb) q516 q518 q1488 q60 q519 (hK.df 4 rfl) (by decide +kernel) ⟨Nat.le_of_ble_eq_true rfl, Nat.le_of_ble_eq_true rfl⟩ (zrecv hK h_tb rfl) rfl hl.1 (rest := [.ref vb, .ref tb]) rfl (Nat.le_of_ble_eq_true rfl) dJ7_ensureCapacityInternal_24 ⟨by first | decide | (show _ ≤ 1; omega), by first | decide | (show _ ≤ 1000; omega)⟩ hS (fun _ h => h.elim) (fun v_c H1 locs hp_c hz_c hk_c hS => ?_)
    obtain ⟨rfl, rfl⟩ := hp_c
    refine lv_aload_n hx hb dJ7_ensureCapacityInternal_27 rfl (lv_at hl 1 rfl) ?_
    refine zget hx hb hts hown hK h_tb rfl in_J8 1 (by decide) q417 (fun _ h => h) (v := .int (nI 0)) rfl dJ7_ensureCapacityInternal_28 ?_
    refine lv_ishl hx hb dJ7_ensureCapacityInternal_31 ?_
    refine zTop (y := (nI (cap + max (k2 - cap) (cap + 2)))) (zshl0 _) ?_
    have f_o := hS.1
    refine zcS 2 ⟨hx, hb, hml, hown, hts, hK⟩ (kJ10_copyOf l vb cap (cap + max (k2 - cap) (cap + 2)) fv (by omega) (by omega) hfv  h_vb) q531 q532 q65 q533 (by decide +kernel) ⟨Nat.le_of_ble_eq_true rfl, Nat.le_of_ble_eq_true rfl⟩ rfl hl.1 (rest := [.ref tb]) rfl (Nat.le_of_ble_eq_true rfl) dJ7_ensureCapacityInternal_32 ⟨by first | decide | (show _ ≤ 1; omega), by first | decide | (show _ ≤ 1000; omega)⟩ hS (fun q h => (fun e => (Or.inr (Nat.le_trans f_o e))) h) (fun v_c H2 locs hp_c hz_c hk_c hS => ?_)
    obtain ⟨vb_1, rfl, ho0_1, ho1_1, hp0_1⟩ := hp_c
    have l_tb_vb_1 : tb < vb_1 := Nat.lt_of_lt_of_le h_tb.lt hp0_1
    have l_vb_vb_1 : vb < vb_1 := Nat.lt_of_lt_of_le h_vb.lt hp0_1
    have f_vb_1 : H0.size ≤ vb_1 := Nat.le_trans f_o hp0_1
    have h_tb := h_tb.kept (hk_c _ h_tb.lt (fun h => (fun e => absurd h_tb.lt (Nat.not_lt.mpr e)) h))
    have h_vb : zI G vb 2 cap fv H2 := ho0_1
    refine zput hx hb hts hown hK h_tb hS (Or.inl (rfl)) rfl in_J8 tyJ8_ok nmJ8 0 (by decide) q416 (fun _ h => h) rfl rfl rfl (Nat.le_of_ble_eq_true rfl) dJ7_ensureCapacityInternal_35 (fun H3 locs h_o hz_o hq_o hS => ?_)
    have ho1_1 := ho1_1.kept (hq_o _ (Nat.ne_of_gt l_tb_vb_1))
    have h_tb : zO G tb 10 [.ref vb_1, .int (nI 0), .int ml, .int (nI cn)] H3 := h_o
    exact zrv hx hb hr hlk hH hQ hS ⟨vb_1, rfl, h_tb, ho1_1, f_vb_1⟩ (by first | exact Nat.le_of_ble_eq_true rfl | (show _ ≤ 1; omega)) (by first | exact Nat.le_of_ble_eq_true rfl | (show _ ≤ 1000; omega)) dJ7_ensureCapacityInternal_38
abbrev rmJ7_append_2_no : Room := ({ frames := 1, cells := 0, slots := 0, locals := 22 } : Room)
set_option maxHeartbeats 1000000 in
theorem kJ7_append_2_no (l : Launch) {G : zG} {H0 : Heap} (tb vb cn cap : Nat) (ml : Int32) (fv : Nat → Int32) (ch : Nat) (h1 : cn < cap) (h2 : cap ≤ 1000) (hch : ch < 128) (hcn : cn ≤ cap) (hne_vb_tb : vb ≠ tb) (hC : zC G H0) (g_tb : G.2.2 50 ≤ tb) (g_vb : G.2.2 50 ≤ vb) (h_tb : zO G tb 10 [.ref vb, .int (nI 0), .int ml, .int (nI cn)] H0) (h_vb : zI G vb 2 cap fv H0) : zM l G yJ7_append_2 cJ7_append_2 2 (some (.object "java/lang/AbstractStringBuilder")) rmJ7_append_2_no H0 [.ref tb, .int (nI ch)] (fun v H1 => v = some (.ref tb) ∧ zO G tb 10 [.ref vb, .int (nI 0), .int ml, .int (nI (cn + 1))] H1 ∧ zI G vb 2 cap (upd fv cn (vp_nar .byte (nI ch))) H1) (fun q => q = tb ∨ q = vb) := by
  refine zM.start (own := RJ7) (by decide) rfl (Nat.le_of_ble_eq_true rfl) ?_
  intro p e s m args below meth c ls Q hx hb hml hr hlk hnm hown hts hK hH hQ hl hS
  have hl : lv_has ls 2 [(0, .ref tb), (1, .int (nI ch))] := hl
  refine lv_aload_n hx hb dJ7_append_2_0 rfl (lv_at hl 0 rfl) ?_
  refine lv_aload_n hx hb dJ7_append_2_1 rfl (lv_at hl 0 rfl) ?_
  refine zget hx hb hts hown hK h_tb rfl in_J8 3 (by decide) q420 (fun _ h => h) (v := .int (nI cn)) rfl dJ7_append_2_2 ?_
  refine lv_iconst (v := (nI 1)) hx hb dJ7_append_2_5 (by decide) ?_
  refine lv_iadd hx hb dJ7_append_2_6 ?_
  refine zTop (y := nI (cn + 1)) (zadd (by omega)) ?_
  refine zcP 1 ⟨hx, hb, hml, hown, hts, hK⟩ (kJ7_ensureCapacityInternal_no l tb vb cn cap ml fv (cn + 1) (by omega) (by omega)  h_tb h_vb) q512 q514 q1487 q60 q515 (hK.df 3 rfl) (by decide +kernel) ⟨Nat.le_of_ble_eq_true rfl, Nat.le_of_ble_eq_true rfl⟩ (zrecv hK h_tb rfl) rfl hl.1 (rest := []) rfl (Nat.le_of_ble_eq_true rfl) dJ7_append_2_7 ⟨by first | decide | omega, by first | decide | omega⟩ hS (fun _ h => h.elim) (fun v_c H1 locs hp_c hz_c hk_c hS => ?_)
  obtain ⟨rfl, rfl⟩ := hp_c
  refine lv_aload_n hx hb dJ7_append_2_10 rfl (lv_at hl 0 rfl) ?_
  refine zcU 0 ⟨hx, hb, hml, hown, hts, hK⟩ (kJ7_isLatin1 l tb vb cn ml hC h_tb) q547 q548 q550 q549 q60 q551 (by decide +kernel) ⟨Nat.le_of_ble_eq_true rfl, Nat.le_of_ble_eq_true rfl⟩ (zrecv hK h_tb rfl) rfl hl.1 (rest := []) rfl (Nat.le_of_ble_eq_true rfl) dJ7_append_2_11 ⟨by first | decide | omega, by first | decide | omega⟩ hS (fun _ h => h.elim) (fun v_c H2 locs hp_c hz_c hk_c hS => ?_)
  obtain ⟨rfl, rfl⟩ := hp_c
  refine lv_if_eq (tgt := 45) hx hb dJ7_append_2_14 (by decide) (fun z => absurd z (by decide)) (fun _ => ?_)
  refine lv_iload_n hx hb dJ7_append_2_17 rfl (lv_at hl 1 rfl) ?_
  refine zcS 1 ⟨hx, hb, hml, hown, hts, hK⟩ (kJ1_canEncode l ch (by omega)  ) q675 q676 q48 q677 (by decide +kernel) ⟨Nat.le_of_ble_eq_true rfl, Nat.le_of_ble_eq_true rfl⟩ rfl hl.1 (rest := []) rfl (Nat.le_of_ble_eq_true rfl) dJ7_append_2_18 ⟨by first | decide | omega, by first | decide | omega⟩ hS (fun _ h => h.elim) (fun v_c H3 locs hp_c hz_c hk_c hS => ?_)
  obtain ⟨rfl, rfl⟩ := hp_c
  refine lv_if_eq (tgt := 45) hx hb dJ7_append_2_21 (by decide) (fun z => absurd z (by decide)) (fun _ => ?_)
  refine lv_aload_n hx hb dJ7_append_2_24 rfl (lv_at hl 0 rfl) ?_
  refine zget hx hb hts hown hK h_tb rfl in_J8 0 (by decide) q416 (fun _ h => h) (v := .ref vb) rfl dJ7_append_2_25 ?_
  refine lv_aload_n hx hb dJ7_append_2_28 rfl (lv_at hl 0 rfl) ?_
  refine lv_dup hx hb dJ7_append_2_29 rfl ?_
  refine zget hx hb hts hown hK h_tb rfl in_J8 3 (by decide) q420 (fun _ h => h) (v := .int (nI cn)) rfl dJ7_append_2_30 ?_
  refine lv_dup_x1 hx hb dJ7_append_2_33 rfl rfl ?_
  refine lv_iconst (v := (nI 1)) hx hb dJ7_append_2_34 (by decide) ?_
  refine lv_iadd hx hb dJ7_append_2_35 ?_
  refine zTop (y := nI (cn + 1)) (zadd (by omega)) ?_
  refine zput hx hb hts hown hK h_tb hS (Or.inl (rfl)) rfl in_J8 tyJ8_ok nmJ8 3 (by decide) q420 (fun _ h => h) rfl rfl rfl (Nat.le_of_ble_eq_true rfl) dJ7_append_2_36 (fun H4 locs h_o hz_o hq_o hS => ?_)
  have hC := hC.kept (Nat.le_of_eq hz_o.symm) (fun q hq => hq_o q (fun e => absurd hq (by rw [e]; exact Nat.not_lt.mpr g_tb)))
  have h_vb := h_vb.kept (hq_o _ hne_vb_tb)
  have h_tb : zO G tb 10 [.ref vb, .int (nI 0), .int ml, .int (nI (cn + 1))] H4 := h_o
  refine lv_iload_n hx hb dJ7_append_2_39 rfl (lv_at hl 1 rfl) ?_
  refine lv_i2b (v := (nI ch)) hx hb dJ7_append_2_40 (zi2b _ (by omega)) ?_
  refine zbast hx hb hK h_vb hS (Or.inr (rfl)) cn (by omega) (by omega) dJ7_append_2_41 (fun H5 locs h_o hz_o hq_o hS => ?_)
  have hC := hC.kept (Nat.le_of_eq hz_o.symm) (fun q hq => hq_o q (fun e => absurd hq (by rw [e]; exact Nat.not_lt.mpr g_vb)))
  have h_tb := h_tb.kept (hq_o _ (Ne.symm hne_vb_tb))
  have h_vb : zI G vb 2 cap (upd fv cn (vp_nar .byte (nI ch))) H5 := h_o
  refine lv_goto (tgt := 75) hx hb dJ7_append_2_42 (by decide) ?_
  refine lv_aload_n hx hb dJ7_append_2_75 rfl (lv_at hl 0 rfl) ?_
  exact zra hx hb hr (Or.inl ⟨_, rfl⟩) hlk hH hQ hS ⟨rfl, h_tb, h_vb⟩ (Nat.le_of_ble_eq_true rfl) (Nat.le_of_ble_eq_true rfl) dJ7_append_2_76
abbrev rmJ8_append_2_no : Room := ({ frames := 2, cells := 0, slots := 0, locals := 43 } : Room)
set_option maxHeartbeats 1000000 in
theorem kJ8_append_2_no (l : Launch) {G : zG} {H0 : Heap} (tb vb cn cap : Nat) (ml : Int32) (fv : Nat → Int32) (ch : Nat) (h1 : cn < cap) (h2 : cap ≤ 1000) (hch : ch < 128) (hcn : cn ≤ cap) (hne_vb_tb : vb ≠ tb) (hC : zC G H0) (g_tb : G.2.2 50 ≤ tb) (g_vb : G.2.2 50 ≤ vb) (h_tb : zO G tb 10 [.ref vb, .int (nI 0), .int ml, .int (nI cn)] H0) (h_vb : zI G vb 2 cap fv H0) : zM l G yJ8_append_2 cJ8_append_2 2 (some (.object "java/lang/StringBuilder")) rmJ8_append_2_no H0 [.ref tb, .int (nI ch)] (fun v H1 => v = some (.ref tb) ∧ zO G tb 10 [.ref vb, .int (nI 0), .int ml, .int (nI (cn + 1))] H1 ∧ zI G vb 2 cap (upd fv cn (vp_nar .byte (nI ch))) H1) (fun q => q = tb ∨ q = vb) := by
  refine zM.start (own := RJ8) (by decide) rfl (Nat.le_of_ble_eq_true rfl) ?_
  intro p e s m args below meth c ls Q hx hb hml hr hlk hnm hown hts hK hH hQ hl hS
  have hl : lv_has ls 2 [(0, .ref tb), (1, .int (nI ch))] := hl
  refine lv_aload_n hx hb dJ8_append_2_0 rfl (lv_at hl 0 rfl) ?_
  refine lv_iload_n hx hb dJ8_append_2_1 rfl (lv_at hl 1 rfl) ?_
  refine zcSU 1 ⟨hx, hb, hml, hown, hts, hK⟩ (kJ7_append_2_no l tb vb cn cap ml fv ch (by omega) (by omega) (by omega) (by omega) hne_vb_tb hC g_tb g_vb h_tb h_vb) q672 q673 q1494 q429 q60 q674 (by decide +kernel) ⟨Nat.le_of_ble_eq_true rfl, Nat.le_of_ble_eq_true rfl⟩ h_tb rfl rfl hl.1 (rest := []) rfl (Nat.le_of_ble_eq_true rfl) dJ8_append_2_2 ⟨by first | decide | omega, by first | decide | omega⟩ hS (fun q h => h.elim (fun e => by rw [e]; first | done | exact (Or.inl (rfl))) (fun h => (fun e => by rw [e]; first | done | exact (Or.inr (rfl))) h)) (fun v_c H1 locs hp_c hz_c hk_c hS => ?_)
  obtain ⟨rfl, ho0_1, ho1_1⟩ := hp_c
  have hC := hC.kept hz_c (fun q hq => hk_c q (Nat.lt_of_lt_of_le hq hC.size) (fun h => h.elim (fun e => absurd hq (by rw [e]; exact Nat.not_lt.mpr g_tb)) (fun h => (fun e => absurd hq (by rw [e]; exact Nat.not_lt.mpr g_vb)) h)))
  have h_tb : zO G tb 10 [.ref vb, .int (nI 0), .int ml, .int (nI (cn + 1))] H1 := ho0_1
  have h_vb : zI G vb 2 cap (upd fv cn (vp_nar .byte (nI ch))) H1 := ho1_1
  refine lv_pop hx hb dJ8_append_2_5 rfl ?_
  refine lv_aload_n hx hb dJ8_append_2_6 rfl (lv_at hl 0 rfl) ?_
  exact zra hx hb hr (Or.inl ⟨_, rfl⟩) hlk hH hQ hS ⟨rfl, h_tb, h_vb⟩ (Nat.le_of_ble_eq_true rfl) (Nat.le_of_ble_eq_true rfl) dJ8_append_2_7
abbrev rmJ7_append_2_grow : Room := ({ frames := 5, cells := 1, slots := 1000, locals := 123 } : Room)
set_option maxHeartbeats 1000000 in
theorem kJ7_append_2_grow (l : Launch) {G : zG} {H0 : Heap} (tb vb cn cap : Nat) (ml : Int32) (fv : Nat → Int32) (ch : Nat) (h1 : cap < cn + 1) (h2 : cn < 199) (hch : ch < 128) (hcn : cn ≤ cap) (hfv : ∀ j, j < cap → ∃ k : Nat, k ≤ 127 ∧ fv j = nI k) (hC : zC G H0) (g_tb : G.2.2 50 ≤ tb) (h_tb : zO G tb 10 [.ref vb, .int (nI 0), .int ml, .int (nI cn)] H0) (h_vb : zI G vb 2 cap fv H0) : zM l G yJ7_append_2 cJ7_append_2 2 (some (.object "java/lang/AbstractStringBuilder")) rmJ7_append_2_grow H0 [.ref tb, .int (nI ch)] (fun v H1 => ∃ (vb2 : Nat), v = some (.ref tb) ∧ zO G tb 10 [.ref vb2, .int (nI 0), .int ml, .int (nI (cn + 1))] H1 ∧ zI G vb2 2 (cap + max (cn + 1 - cap) (cap + 2)) (upd (va_cpy fv (fun _ => 0) 0 0 cap) cn (vp_nar .byte (nI ch))) H1 ∧ H0.size ≤ vb2) (fun q => q = tb ∨ H0.size ≤ q) := by
  refine zM.start (own := RJ7) (by decide) rfl (Nat.le_of_ble_eq_true rfl) ?_
  intro p e s m args below meth c ls Q hx hb hml hr hlk hnm hown hts hK hH hQ hl hS
  have hl : lv_has ls 2 [(0, .ref tb), (1, .int (nI ch))] := hl
  refine lv_aload_n hx hb dJ7_append_2_0 rfl (lv_at hl 0 rfl) ?_
  refine lv_aload_n hx hb dJ7_append_2_1 rfl (lv_at hl 0 rfl) ?_
  refine zget hx hb hts hown hK h_tb rfl in_J8 3 (by decide) q420 (fun _ h => h) (v := .int (nI cn)) rfl dJ7_append_2_2 ?_
  refine lv_iconst (v := (nI 1)) hx hb dJ7_append_2_5 (by decide) ?_
  refine lv_iadd hx hb dJ7_append_2_6 ?_
  refine zTop (y := nI (cn + 1)) (zadd (by omega)) ?_
  have f_o := hS.1
  refine zcP 1 ⟨hx, hb, hml, hown, hts, hK⟩ (kJ7_ensureCapacityInternal_grow l tb vb cn cap ml fv (cn + 1) (by omega) (by omega) hfv  h_tb h_vb) q512 q514 q1487 q60 q515 (hK.df 3 rfl) (by decide +kernel) ⟨Nat.le_of_ble_eq_true rfl, Nat.le_of_ble_eq_true rfl⟩ (zrecv hK h_tb rfl) rfl hl.1 (rest := []) rfl (Nat.le_of_ble_eq_true rfl) dJ7_append_2_7 ⟨by first | decide | (show _ ≤ 1; omega), by first | decide | (show _ ≤ 1000; omega)⟩ hS (fun q h => h.elim (fun e => by rw [e]; first | done | exact (Or.inl (rfl))) (fun h => (fun e => (Or.inr (Nat.le_trans f_o e))) h)) (fun v_c H1 locs hp_c hz_c hk_c hS => ?_)
  obtain ⟨vb2_1, rfl, ho0_1, ho1_1, hp0_1⟩ := hp_c
  have l_tb_vb2_1 : tb < vb2_1 := Nat.lt_of_lt_of_le h_tb.lt hp0_1
  have l_vb_vb2_1 : vb < vb2_1 := Nat.lt_of_lt_of_le h_vb.lt hp0_1
  have f_vb2_1 : H0.size ≤ vb2_1 := Nat.le_trans f_o hp0_1
  have g_vb2_1 : G.2.2 50 ≤ vb2_1 := Nat.le_trans hC.size hp0_1
  have hC := hC.kept hz_c (fun q hq => hk_c q (Nat.lt_of_lt_of_le hq hC.size) (fun h => h.elim (fun e => absurd hq (by rw [e]; exact Nat.not_lt.mpr g_tb)) (fun h => (fun e => absurd (Nat.lt_of_lt_of_le hq hC.size) (Nat.not_lt.mpr e)) h)))
  have h_tb : zO G tb 10 [.ref vb2_1, .int (nI 0), .int ml, .int (nI cn)] H1 := ho0_1
  refine lv_aload_n hx hb dJ7_append_2_10 rfl (lv_at hl 0 rfl) ?_
  have f_o := hS.1
  refine zcU 0 ⟨hx, hb, hml, hown, hts, hK⟩ (kJ7_isLatin1 l tb vb2_1 cn ml hC h_tb) q547 q548 q550 q549 q60 q551 (by decide +kernel) ⟨Nat.le_of_ble_eq_true rfl, Nat.le_of_ble_eq_true rfl⟩ (zrecv hK h_tb rfl) rfl hl.1 (rest := []) rfl (Nat.le_of_ble_eq_true rfl) dJ7_append_2_11 ⟨by first | decide | (show _ ≤ 1; omega), by first | decide | (show _ ≤ 1000; omega)⟩ hS (fun _ h => h.elim) (fun v_c H2 locs hp_c hz_c hk_c hS => ?_)
  obtain ⟨rfl, rfl⟩ := hp_c
  refine lv_if_eq (tgt := 45) hx hb dJ7_append_2_14 (by decide) (fun z => absurd z (by decide)) (fun _ => ?_)
  refine lv_iload_n hx hb dJ7_append_2_17 rfl (lv_at hl 1 rfl) ?_
  have f_o := hS.1
  refine zcS 1 ⟨hx, hb, hml, hown, hts, hK⟩ (kJ1_canEncode l ch (by omega)  ) q675 q676 q48 q677 (by decide +kernel) ⟨Nat.le_of_ble_eq_true rfl, Nat.le_of_ble_eq_true rfl⟩ rfl hl.1 (rest := []) rfl (Nat.le_of_ble_eq_true rfl) dJ7_append_2_18 ⟨by first | decide | (show _ ≤ 1; omega), by first | decide | (show _ ≤ 1000; omega)⟩ hS (fun _ h => h.elim) (fun v_c H3 locs hp_c hz_c hk_c hS => ?_)
  obtain ⟨rfl, rfl⟩ := hp_c
  refine lv_if_eq (tgt := 45) hx hb dJ7_append_2_21 (by decide) (fun z => absurd z (by decide)) (fun _ => ?_)
  refine lv_aload_n hx hb dJ7_append_2_24 rfl (lv_at hl 0 rfl) ?_
  refine zget hx hb hts hown hK h_tb rfl in_J8 0 (by decide) q416 (fun _ h => h) (v := .ref vb2_1) rfl dJ7_append_2_25 ?_
  refine lv_aload_n hx hb dJ7_append_2_28 rfl (lv_at hl 0 rfl) ?_
  refine lv_dup hx hb dJ7_append_2_29 rfl ?_
  refine zget hx hb hts hown hK h_tb rfl in_J8 3 (by decide) q420 (fun _ h => h) (v := .int (nI cn)) rfl dJ7_append_2_30 ?_
  refine lv_dup_x1 hx hb dJ7_append_2_33 rfl rfl ?_
  refine lv_iconst (v := (nI 1)) hx hb dJ7_append_2_34 (by decide) ?_
  refine lv_iadd hx hb dJ7_append_2_35 ?_
  refine zTop (y := nI (cn + 1)) (zadd (by omega)) ?_
  refine zput hx hb hts hown hK h_tb hS (Or.inl (rfl)) rfl in_J8 tyJ8_ok nmJ8 3 (by decide) q420 (fun _ h => h) rfl rfl rfl (Nat.le_of_ble_eq_true rfl) dJ7_append_2_36 (fun H4 locs h_o hz_o hq_o hS => ?_)
  have hC := hC.kept (Nat.le_of_eq hz_o.symm) (fun q hq => hq_o q (fun e => absurd hq (by rw [e]; exact Nat.not_lt.mpr g_tb)))
  have ho1_1 := ho1_1.kept (hq_o _ (Nat.ne_of_gt l_tb_vb2_1))
  have h_tb : zO G tb 10 [.ref vb2_1, .int (nI 0), .int ml, .int (nI (cn + 1))] H4 := h_o
  refine lv_iload_n hx hb dJ7_append_2_39 rfl (lv_at hl 1 rfl) ?_
  refine lv_i2b (v := (nI ch)) hx hb dJ7_append_2_40 (zi2b _ (by omega)) ?_
  refine zbast hx hb hK ho1_1 hS (Or.inr (f_vb2_1)) cn (by omega) (by omega) dJ7_append_2_41 (fun H5 locs h_o hz_o hq_o hS => ?_)
  have hC := hC.kept (Nat.le_of_eq hz_o.symm) (fun q hq => hq_o q (fun e => absurd hq (by rw [e]; exact Nat.not_lt.mpr g_vb2_1)))
  have h_tb := h_tb.kept (hq_o _ (Nat.ne_of_lt l_tb_vb2_1))
  have ho1_1 : zI G vb2_1 2 (cap + max ((cn + 1) - cap) (cap + 2)) (upd (va_cpy fv (fun _ => 0) 0 0 cap) cn (vp_nar .byte (nI ch))) H5 := h_o
  refine lv_goto (tgt := 75) hx hb dJ7_append_2_42 (by decide) ?_
  refine lv_aload_n hx hb dJ7_append_2_75 rfl (lv_at hl 0 rfl) ?_
  exact zra hx hb hr (Or.inl ⟨_, rfl⟩) hlk hH hQ hS ⟨vb2_1, rfl, h_tb, ho1_1, f_vb2_1⟩ (by first | exact Nat.le_of_ble_eq_true rfl | (show _ ≤ 1; omega)) (by first | exact Nat.le_of_ble_eq_true rfl | (show _ ≤ 1000; omega)) dJ7_append_2_76
abbrev rmJ8_append_2_grow : Room := ({ frames := 6, cells := 1, slots := 1000, locals := 144 } : Room)
set_option maxHeartbeats 1000000 in
theorem kJ8_append_2_grow (l : Launch) {G : zG} {H0 : Heap} (tb vb cn cap : Nat) (ml : Int32) (fv : Nat → Int32) (ch : Nat) (h1 : cap < cn + 1) (h2 : cn < 199) (hch : ch < 128) (hcn : cn ≤ cap) (hfv : ∀ j, j < cap → ∃ k : Nat, k ≤ 127 ∧ fv j = nI k) (hC : zC G H0) (g_tb : G.2.2 50 ≤ tb) (h_tb : zO G tb 10 [.ref vb, .int (nI 0), .int ml, .int (nI cn)] H0) (h_vb : zI G vb 2 cap fv H0) : zM l G yJ8_append_2 cJ8_append_2 2 (some (.object "java/lang/StringBuilder")) rmJ8_append_2_grow H0 [.ref tb, .int (nI ch)] (fun v H1 => ∃ (vb2 : Nat), v = some (.ref tb) ∧ zO G tb 10 [.ref vb2, .int (nI 0), .int ml, .int (nI (cn + 1))] H1 ∧ zI G vb2 2 (cap + max (cn + 1 - cap) (cap + 2)) (upd (va_cpy fv (fun _ => 0) 0 0 cap) cn (vp_nar .byte (nI ch))) H1 ∧ H0.size ≤ vb2) (fun q => q = tb ∨ H0.size ≤ q) := by
  refine zM.start (own := RJ8) (by decide) rfl (Nat.le_of_ble_eq_true rfl) ?_
  intro p e s m args below meth c ls Q hx hb hml hr hlk hnm hown hts hK hH hQ hl hS
  have hl : lv_has ls 2 [(0, .ref tb), (1, .int (nI ch))] := hl
  refine lv_aload_n hx hb dJ8_append_2_0 rfl (lv_at hl 0 rfl) ?_
  refine lv_iload_n hx hb dJ8_append_2_1 rfl (lv_at hl 1 rfl) ?_
  have f_o := hS.1
  refine zcSU 1 ⟨hx, hb, hml, hown, hts, hK⟩ (kJ7_append_2_grow l tb vb cn cap ml fv ch (by omega) (by omega) (by omega) (by omega) hfv hC g_tb h_tb h_vb) q672 q673 q1494 q429 q60 q674 (by decide +kernel) ⟨Nat.le_of_ble_eq_true rfl, Nat.le_of_ble_eq_true rfl⟩ h_tb rfl rfl hl.1 (rest := []) rfl (Nat.le_of_ble_eq_true rfl) dJ8_append_2_2 ⟨by first | decide | (show _ ≤ 1; omega), by first | decide | (show _ ≤ 1000; omega)⟩ hS (fun q h => h.elim (fun e => by rw [e]; first | done | exact (Or.inl (rfl))) (fun h => (fun e => (Or.inr (Nat.le_trans f_o e))) h)) (fun v_c H1 locs hp_c hz_c hk_c hS => ?_)
  obtain ⟨vb2_1, rfl, ho0_1, ho1_1, hp0_1⟩ := hp_c
  have l_tb_vb2_1 : tb < vb2_1 := Nat.lt_of_lt_of_le h_tb.lt hp0_1
  have l_vb_vb2_1 : vb < vb2_1 := Nat.lt_of_lt_of_le h_vb.lt hp0_1
  have f_vb2_1 : H0.size ≤ vb2_1 := Nat.le_trans f_o hp0_1
  have g_vb2_1 : G.2.2 50 ≤ vb2_1 := Nat.le_trans hC.size hp0_1
  have hC := hC.kept hz_c (fun q hq => hk_c q (Nat.lt_of_lt_of_le hq hC.size) (fun h => h.elim (fun e => absurd hq (by rw [e]; exact Nat.not_lt.mpr g_tb)) (fun h => (fun e => absurd (Nat.lt_of_lt_of_le hq hC.size) (Nat.not_lt.mpr e)) h)))
  have h_tb : zO G tb 10 [.ref vb2_1, .int (nI 0), .int ml, .int (nI (cn + 1))] H1 := ho0_1
  refine lv_pop hx hb dJ8_append_2_5 rfl ?_
  refine lv_aload_n hx hb dJ8_append_2_6 rfl (lv_at hl 0 rfl) ?_
  exact zra hx hb hr (Or.inl ⟨_, rfl⟩) hlk hH hQ hS ⟨vb2_1, rfl, h_tb, ho1_1, f_vb2_1⟩ (by first | exact Nat.le_of_ble_eq_true rfl | (show _ ≤ 1; omega)) (by first | exact Nat.le_of_ble_eq_true rfl | (show _ ≤ 1000; omega)) dJ8_append_2_7
