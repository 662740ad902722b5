/-! the JDK's methods, III: charAt, setLength, new StringBuilder -/
set_option maxRecDepth 100000
theorem zand255 : ∀ k : Nat, k < 128 → nI k &&& nI 255 = nI k := by decide +kernel
theorem zi2cN : ∀ k : Nat, k < 128 → ((nI k).toUInt32 % 65536).toInt32 = nI k := by decide +kernel
theorem znarC {k : Nat} (h : k < 128) : narrow .char (.int (nI k)) = .int (nI k) := congrArg Value.int (zi2cN k h)
abbrev rmJ7_charAt : Room := ({ frames := 2, cells := 0, slots := 0, locals := 49 } : Room)
set_option maxHeartbeats 1000000 in
theorem kJ7_charAt (l : Launch) {G : zG} {H0 : Heap} (tb vb cn cap : Nat) (ml : Int32) (fv : Nat → Int32) (k1 ti : Nat) (h1 : k1 < cn) (h2 : cn ≤ cap) (h3 : cap ≤ 1000) (eti : fv k1 = nI ti) (hti : ti < 128) (hC : zC G H0) (h_tb : zO G tb 10 [.ref vb, .int (nI 0), .int ml, .int (nI cn)] H0) (h_vb : zI G vb 2 cap fv H0) : zM l G yJ7_charAt cJ7_charAt 5 (some .char) rmJ7_charAt H0 [.ref tb, .int (nI k1)] (fun v H1 => H0 = H1 ∧ v = some (.int (nI ti))) (zN) := by
  refine zM.start (own := RJ7) (by decide) rfl (Nat.le_of_ble_eq_true rfl) ?_
  intro p e s m args below meth c ls Q hx hb hml hr hlk hnm hown hts hK hH hQ hl hS
  have hl : lv_has ls 5 [(0, .ref tb), (1, .int (nI k1))] := hl
  refine lv_aload_n hx hb dJ7_charAt_0 rfl (lv_at hl 0 rfl) ?_
  refine zget hx hb hts hown hK h_tb rfl in_J8 1 (by decide) q417 (fun _ h => h) (v := .int (nI 0)) rfl dJ7_charAt_1 ?_
  refine lv_istore_n (lv' := [(2, .int (nI 0)), (0, .ref tb), (1, .int (nI k1))]) hx hb dJ7_charAt_4 rfl hl (by decide) rfl (fun ls hl => ?_)
  refine lv_aload_n hx hb dJ7_charAt_5 rfl (lv_at hl 1 rfl) ?_
  refine zget hx hb hts hown hK h_tb rfl in_J8 0 (by decide) q416 (fun _ h => h) (v := .ref vb) rfl dJ7_charAt_6 ?_
  refine lv_astore_n (lv' := [(3, .ref vb), (2, .int (nI 0)), (0, .ref tb), (1, .int (nI k1))]) hx hb dJ7_charAt_9 rfl hl (by decide) rfl (fun ls hl => ?_)
  refine lv_aload_n hx hb dJ7_charAt_10 rfl (lv_at hl 2 rfl) ?_
  refine zget hx hb hts hown hK h_tb rfl in_J8 3 (by decide) q420 (fun _ h => h) (v := .int (nI cn)) rfl dJ7_charAt_11 ?_
  refine lv_aload_n hx hb dJ7_charAt_14 rfl (lv_at hl 0 rfl) ?_
  refine zalenI hx hb hK h_vb (by decide) dJ7_charAt_15 ?_
  refine lv_iload_n hx hb dJ7_charAt_16 rfl (lv_at hl 1 rfl) ?_
  refine lv_ishr hx hb dJ7_charAt_17 ?_
  refine zTop (y := (nI cap)) (zshr0 _) ?_
  refine va_mmin hx hb (by rw [hml]; exact hl.1.symm) hown (hts _ q665) (hts _ q542) (hts _ q64) (hts _ q543) (Nat.le_of_ble_eq_true rfl) (Nat.le_of_ble_eq_true rfl) (by first | decide | omega) (by first | decide | omega) dJ7_charAt_18 ?_
  refine zTop (y := nI (min cn cap)) (zminN (by omega) (by omega)) ?_
  refine zTop (y := (nI cn)) (congrArg nI (by omega)) ?_
  refine lv_istore (lv' := [(4, .int (nI cn)), (3, .ref vb), (2, .int (nI 0)), (0, .ref tb), (1, .int (nI k1))]) hx hb dJ7_charAt_21 hl (by decide) rfl (fun ls hl => ?_)
  refine lv_iload_n hx hb dJ7_charAt_23 rfl (lv_at hl 4 rfl) ?_
  refine lv_iload hx hb dJ7_charAt_24 (lv_at hl 0 rfl) ?_
  refine zcS 2 ⟨hx, hb, hml, hown, hts, hK⟩ (kJ0_checkIndex l k1 cn (by omega) (by omega) hC ) q666 q645 q47 q646 (by decide +kernel) ⟨Nat.le_of_ble_eq_true rfl, Nat.le_of_ble_eq_true rfl⟩ rfl hl.1 (rest := []) rfl (Nat.le_of_ble_eq_true rfl) dJ7_charAt_26 ⟨by first | decide | omega, by first | decide | omega⟩ hS (fun _ h => h.elim) (fun v_c H1 locs hp_c hz_c hk_c hS => ?_)
  obtain ⟨rfl, rfl⟩ := hp_c
  refine lv_iload_n hx hb dJ7_charAt_29 rfl (lv_at hl 2 rfl) ?_
  refine lv_if_ne (tgt := 42) hx hb dJ7_charAt_30 (by decide) (fun z => absurd (by decide) z) (fun _ => ?_)
  refine lv_aload_n hx hb dJ7_charAt_33 rfl (lv_at hl 1 rfl) ?_
  refine lv_iload_n hx hb dJ7_charAt_34 rfl (lv_at hl 4 rfl) ?_
  refine zbald hx hb hK h_vb k1 (by omega) (by omega) dJ7_charAt_35 ?_
  refine zTop (y := (nI ti)) eti ?_
  refine lv_sipush (v := (nI 255)) hx hb dJ7_charAt_36 (by decide) ?_
  refine lv_iand hx hb dJ7_charAt_39 ?_
  refine zTop (y := (nI ti)) (zand255 _ hti) ?_
  refine lv_i2c (v := (nI ti)) hx hb dJ7_charAt_40 (zi2cN _ hti) ?_
  exact zri hx hb hr hlk hH hQ (znarC hti) hS ⟨rfl, rfl⟩ (Nat.le_of_ble_eq_true rfl) (Nat.le_of_ble_eq_true rfl) dJ7_charAt_41
abbrev rmJ8_charAt : Room := ({ frames := 3, cells := 0, slots := 0, locals := 73 } : Room)
set_option maxHeartbeats 1000000 in
theorem kJ8_charAt (l : Launch) {G : zG} {H0 : Heap} (tb vb cn cap : Nat) (ml : Int32) (fv : Nat → Int32) (k1 ti : Nat) (h1 : k1 < cn) (h2 : cn ≤ cap) (h3 : cap ≤ 1000) (eti : fv k1 = nI ti) (hti : ti < 128) (hC : zC G H0) (h_tb : zO G tb 10 [.ref vb, .int (nI 0), .int ml, .int (nI cn)] H0) (h_vb : zI G vb 2 cap fv H0) : zM l G yJ8_charAt cJ8_charAt 2 (some .char) rmJ8_charAt H0 [.ref tb, .int (nI k1)] (fun v H1 => H0 = H1 ∧ v = some (.int (nI ti))) (zN) := by
  refine zM.start (own := RJ8) (by decide) rfl (Nat.le_of_ble_eq_true rfl) ?_
  intro p e s m args below meth c ls Q hx hb hml hr hlk hnm hown hts hK hH hQ hl hS
  have hl : lv_has ls 2 [(0, .ref tb), (1, .int (nI k1))] := hl
  refine lv_aload_n hx hb dJ8_charAt_0 rfl (lv_at hl 0 rfl) ?_
  refine lv_iload_n hx hb dJ8_charAt_1 rfl (lv_at hl 1 rfl) ?_
  refine zcSU 1 ⟨hx, hb, hml, hown, hts, hK⟩ (kJ7_charAt l tb vb cn cap ml fv k1 ti (by omega) (by omega) (by omega) eti (by omega) hC h_tb h_vb) q662 q663 q1493 q429 q60 q664 (by decide +kernel) ⟨Nat.le_of_ble_eq_true rfl, Nat.le_of_ble_eq_true rfl⟩ h_tb rfl rfl hl.1 (rest := []) rfl (Nat.le_of_ble_eq_true rfl) dJ8_charAt_2 ⟨by first | decide | omega, by first | decide | omega⟩ hS (fun _ h => h.elim) (fun v_c H1 locs hp_c hz_c hk_c hS => ?_)
  obtain ⟨rfl, rfl⟩ := hp_c
  exact zri hx hb hr hlk hH hQ (znarC hti) hS ⟨rfl, rfl⟩ (Nat.le_of_ble_eq_true rfl) (Nat.le_of_ble_eq_true rfl) dJ8_charAt_5
abbrev rmJ7_setLength : Room := ({ frames := 1, cells := 0, slots := 0, locals := 22 } : Room)
set_option maxHeartbeats 1000000 in
theorem kJ7_setLength (l : Launch) {G : zG} {H0 : Heap} (tb vb cn cap : Nat) (ml : Int32) (fv : Nat → Int32) (h2 : cap ≤ 1000) (h3 : cn ≤ cap) (hne_vb_tb : vb ≠ tb) (hC : zC G H0) (g_tb : G.2.2 50 ≤ tb) (h_tb : zO G tb 10 [.ref vb, .int (nI 0), .int ml, .int (nI cn)] H0) (h_vb : zI G vb 2 cap fv H0) : zM l G yJ7_setLength cJ7_setLength 2 none rmJ7_setLength H0 [.ref tb, .int (nI 0)] (fun v H1 => ∃ (ml2 : Int32), v = none ∧ zO G tb 10 [.ref vb, .int (nI 0), .int ml2, .int (nI 0)] H1 ∧ zI G vb 2 cap fv H1) (fun q => q = tb) := by
  refine zM.start (own := RJ7) (by decide) rfl (Nat.le_of_ble_eq_true rfl) ?_
  intro p e s m args below meth c ls Q hx hb hml hr hlk hnm hown hts hK hH hQ hl hS
  have hl : lv_has ls 2 [(0, .ref tb), (1, .int (nI 0))] := hl
  refine lv_iload_n hx hb dJ7_setLength_0 rfl (lv_at hl 1 rfl) ?_
  refine lv_if_ge (tgt := 13) hx hb dJ7_setLength_1 (by decide) (fun _ => ?_) (fun z => absurd (by decide) z)
  refine lv_aload_n hx hb dJ7_setLength_13 rfl (lv_at hl 0 rfl) ?_
  refine lv_iload_n hx hb dJ7_setLength_14 rfl (lv_at hl 1 rfl) ?_
  refine zcP 1 ⟨hx, hb, hml, hown, hts, hK⟩ (kJ7_ensureCapacityInternal_no l tb vb cn cap ml fv 0 (by omega) (by omega)  h_tb h_vb) q512 q514 q1487 q60 q515 (hK.df 3 rfl) (by decide +kernel) ⟨Nat.le_of_ble_eq_true rfl, Nat.le_of_ble_eq_true rfl⟩ (zrecv hK h_tb rfl) rfl hl.1 (rest := []) rfl (Nat.le_of_ble_eq_true rfl) dJ7_setLength_15 ⟨by first | decide | omega, by first | decide | omega⟩ hS (fun _ h => h.elim) (fun v_c H1 locs hp_c hz_c hk_c hS => ?_)
  obtain ⟨rfl, rfl⟩ := hp_c
  refine lv_aload_n hx hb dJ7_setLength_18 rfl (lv_at hl 0 rfl) ?_
  refine zget hx hb hts hown hK h_tb rfl in_J8 3 (by decide) q420 (fun _ h => h) (v := .int (nI cn)) rfl dJ7_setLength_19 ?_
  refine lv_iload_n hx hb dJ7_setLength_22 rfl (lv_at hl 1 rfl) ?_
  refine lv_icmp_ge (tgt := 63) hx hb dJ7_setLength_23 (by decide) (fun c_23 => ?_) (fun c_23 => ?_)
  · have c_23 : 0 ≤ cn := (nI_leI (by omega) (by omega)).mp c_23
    refine lv_aload_n hx hb dJ7_setLength_63 rfl (lv_at hl 0 rfl) ?_
    refine zget hx hb hts hown hK h_tb rfl in_J8 3 (by decide) q420 (fun _ h => h) (v := .int (nI cn)) rfl dJ7_setLength_64 ?_
    refine lv_iload_n hx hb dJ7_setLength_67 rfl (lv_at hl 1 rfl) ?_
    refine lv_icmp_le (tgt := 76) hx hb dJ7_setLength_68 (by decide) (fun c_68 => ?_) (fun c_68 => ?_)
    · have c_68 : cn ≤ 0 := (nI_leI (by omega) (by omega)).mp c_68
      refine lv_aload_n hx hb dJ7_setLength_76 rfl (lv_at hl 0 rfl) ?_
      refine lv_iload_n hx hb dJ7_setLength_77 rfl (lv_at hl 1 rfl) ?_
      refine zput hx hb hts hown hK h_tb hS (rfl) rfl in_J8 tyJ8_ok nmJ8 3 (by decide) q420 (fun _ h => h) rfl rfl rfl (Nat.le_of_ble_eq_true rfl) dJ7_setLength_78 (fun H2 locs h_o hz_o hq_o hS => ?_)
      have hC := hC.kept (Nat.le_of_eq hz_o.symm) (fun q hq => hq_o q (fun e => absurd hq (by rw [e]; exact Nat.not_lt.mpr g_tb)))
      have h_vb := h_vb.kept (hq_o _ hne_vb_tb)
      have h_tb : zO G tb 10 [.ref vb, .int (nI 0), .int ml, .int (nI 0)] H2 := h_o
      exact zrv hx hb hr hlk hH hQ hS ⟨ml, rfl, h_tb, h_vb⟩ (Nat.le_of_ble_eq_true rfl) (Nat.le_of_ble_eq_true rfl) dJ7_setLength_81
    · have c_68 : ¬ (cn ≤ 0) := fun z => c_68 ((nI_leI (by omega) (by omega)).mpr z)
      refine lv_aload_n hx hb dJ7_setLength_71 rfl (lv_at hl 0 rfl) ?_
      refine lv_iconst (v := (nI 1)) hx hb dJ7_setLength_72 (by decide) ?_
      refine zput hx hb hts hown hK h_tb hS (rfl) rfl in_J8 tyJ8_ok nmJ8 2 (by decide) q418 (fun _ h => h) rfl rfl rfl (Nat.le_of_ble_eq_true rfl) dJ7_setLength_73 (fun H2 locs h_o hz_o hq_o hS => ?_)
      have hC := hC.kept (Nat.le_of_eq hz_o.symm) (fun q hq => hq_o q (fun e => absurd hq (by rw [e]; exact Nat.not_lt.mpr g_tb)))
      have h_vb := h_vb.kept (hq_o _ hne_vb_tb)
      have h_tb : zO G tb 10 [.ref vb, .int (nI 0), .int (nI 1), .int (nI cn)] H2 := h_o
      refine lv_aload_n hx hb dJ7_setLength_76 rfl (lv_at hl 0 rfl) ?_
      refine lv_iload_n hx hb dJ7_setLength_77 rfl (lv_at hl 1 rfl) ?_
      refine zput hx hb hts hown hK h_tb hS (rfl) rfl in_J8 tyJ8_ok nmJ8 3 (by decide) q420 (fun _ h => h) rfl rfl rfl (Nat.le_of_ble_eq_true rfl) dJ7_setLength_78 (fun H3 locs h_o hz_o hq_o hS => ?_)
      have hC := hC.kept (Nat.le_of_eq hz_o.symm) (fun q hq => hq_o q (fun e => absurd hq (by rw [e]; exact Nat.not_lt.mpr g_tb)))
      have h_vb := h_vb.kept (hq_o _ hne_vb_tb)
      have h_tb : zO G tb 10 [.ref vb, .int (nI 0), .int (nI 1), .int (nI 0)] H3 := h_o
      exact zrv hx hb hr hlk hH hQ hS ⟨(nI 1), rfl, h_tb, h_vb⟩ (Nat.le_of_ble_eq_true rfl) (Nat.le_of_ble_eq_true rfl) dJ7_setLength_81
  · have c_23 : ¬ (0 ≤ cn) := fun z => c_23 ((nI_leI (by omega) (by omega)).mpr z)
    exact absurd (Nat.zero_le _) c_23
abbrev rmJ8_setLength : Room := ({ frames := 2, cells := 0, slots := 0, locals := 43 } : Room)
set_option maxHeartbeats 1000000 in
theorem kJ8_setLength (l : Launch) {G : zG} {H0 : Heap} (tb vb cn cap : Nat) (ml : Int32) (fv : Nat → Int32) (h2 : cap ≤ 1000) (h3 : cn ≤ cap) (hne_vb_tb : vb ≠ tb) (hC : zC G H0) (g_tb : G.2.2 50 ≤ tb) (h_tb : zO G tb 10 [.ref vb, .int (nI 0), .int ml, .int (nI cn)] H0) (h_vb : zI G vb 2 cap fv H0) : zM l G yJ8_setLength cJ8_setLength 2 none rmJ8_setLength H0 [.ref tb, .int (nI 0)] (fun v H1 => ∃ (ml2 : Int32), v = none ∧ zO G tb 10 [.ref vb, .int (nI 0), .int ml2, .int (nI 0)] H1 ∧ zI G vb 2 cap fv H1) (fun q => q = tb) := by
  refine zM.start (own := RJ8) (by decide) rfl (Nat.le_of_ble_eq_true rfl) ?_
  intro p e s m args below meth c ls Q hx hb hml hr hlk hnm hown hts hK hH hQ hl hS
  have hl : lv_has ls 2 [(0, .ref tb), (1, .int (nI 0))] := hl
  refine lv_aload_n hx hb dJ8_setLength_0 rfl (lv_at hl 0 rfl) ?_
  refine lv_iload_n hx hb dJ8_setLength_1 rfl (lv_at hl 1 rfl) ?_
  refine zcSU 1 ⟨hx, hb, hml, hown, hts, hK⟩ (kJ7_setLength l tb vb cn cap ml fv (by omega) (by omega) hne_vb_tb hC g_tb h_tb h_vb) q1054 q1055 q1497 q429 q60 q1056 (by decide +kernel) ⟨Nat.le_of_ble_eq_true rfl, Nat.le_of_ble_eq_true rfl⟩ h_tb rfl rfl hl.1 (rest := []) rfl (Nat.le_of_ble_eq_true rfl) dJ8_setLength_2 ⟨by first | decide | omega, by first | decide | omega⟩ hS (fun q h => (fun e => by rw [e]; first | done | exact (rfl)) h) (fun v_c H1 locs hp_c hz_c hk_c hS => ?_)
  obtain ⟨ml2_1, rfl, ho0_1, ho1_1⟩ := hp_c
  have hC := hC.kept hz_c (fun q hq => hk_c q (Nat.lt_of_lt_of_le hq hC.size) (fun h => (fun e => absurd hq (by rw [e]; exact Nat.not_lt.mpr g_tb)) h))
  have h_tb : zO G tb 10 [.ref vb, .int (nI 0), .int ml2_1, .int (nI 0)] H1 := ho0_1
  have h_vb : zI G vb 2 cap fv H1 := ho1_1
  exact zrv hx hb hr hlk hH hQ hS ⟨ml2_1, rfl, h_tb, h_vb⟩ (Nat.le_of_ble_eq_true rfl) (Nat.le_of_ble_eq_true rfl) dJ8_setLength_5
abbrev rmJ7_init : Room := ({ frames := 2, cells := 1, slots := 16, locals := 23 } : Room)
set_option maxHeartbeats 1000000 in
theorem kJ7_init (l : Launch) {G : zG} {H0 : Heap} (tb : Nat) (hC : zC G H0) (g_tb : G.2.2 50 ≤ tb) (h_tb : zO G tb 10 [.null, .int (nI 0), .int (nI 0), .int (nI 0)] H0) : zM l G yJ7_init cJ7_init 2 none rmJ7_init H0 [.ref tb, .int (nI 16)] (fun v H1 => ∃ (vb2 : Nat), v = none ∧ zO G tb 10 [.ref vb2, .int (nI 0), .int (nI 0), .int (nI 0)] H1 ∧ zI G vb2 2 16 (fun _ => 0) H1 ∧ H0.size ≤ vb2) (fun q => q = tb ∨ H0.size ≤ q) := by
  refine zM.start (own := RJ7) (by decide) rfl (Nat.le_of_ble_eq_true rfl) ?_
  intro p e s m args below meth c ls Q hx hb hml hr hlk hnm hown hts hK hH hQ hl hS
  have hl : lv_has ls 2 [(0, .ref tb), (1, .int (nI 16))] := hl
  refine lv_aload_n hx hb dJ7_init_0 rfl (lv_at hl 0 rfl) ?_
  refine W.objInit hx hb hown (hts _ q407) (hts _ q75) (hts _ q76) rfl (by rw [hml]; exact hl.1) rfl dJ7_init_1 (Nat.le_of_ble_eq_true rfl) (Nat.le_of_ble_eq_true rfl) ?_
  show W _ _ _ _ _ _ _ _ _ _ _ _ _ _ _ (F0 _ 4 _ [])
  refine zgets hx hb hts hown hK.st.1 hC.cs q408 (fun _ h => h) dJ7_init_4 ?_
  refine lv_if_eq (tgt := 25) hx hb dJ7_init_7 (by decide) (fun z => absurd z (by decide)) (fun _ => ?_)
  refine lv_aload_n hx hb dJ7_init_10 rfl (lv_at hl 0 rfl) ?_
  refine lv_iload_n hx hb dJ7_init_11 rfl (lv_at hl 1 rfl) ?_
  have f_o := hS.1
  refine znewa (t := 2) hx hb hts hK (by decide) rfl q213 hS 16 (by first | decide | omega) (by first | decide | (show _ ≤ 1; omega)) (by first | decide | (show _ ≤ 16; omega)) dJ7_init_12 (fun H1 h_o hz_o ho_o hS => ?_)
  obtain ⟨b1, e_b1⟩ : ∃ z : Nat, H0.size = z := ⟨_, rfl⟩
  rw [e_b1] at h_o hz_o ho_o ⊢
  have z_b1 : H1.size = b1 + 1 := hz_o
  have l_tb_b1 : tb < b1 := e_b1 ▸ h_tb.lt
  have g_b1 : G.2.2 50 ≤ b1 := by rw [← e_b1]; exact hC.size
  have hC := hC.kept (by rw [e_b1, z_b1]; exact Nat.le_succ _) (fun q hq => ho_o q (Nat.lt_of_lt_of_le hq g_b1))
  have h_tb := h_tb.kept (ho_o _ (e_b1 ▸ h_tb.lt))
  have f_b1 : H0.size ≤ b1 := Nat.le_trans f_o (Nat.le_of_eq e_b1)
  have hb1 : zI G b1 2 16 (fun _ => 0) H1 := h_o
  refine zput hx hb hts hown hK h_tb hS (Or.inl (rfl)) rfl in_J8 tyJ8_ok nmJ8 0 (by decide) q416 (fun _ h => h) rfl rfl rfl (Nat.le_of_ble_eq_true rfl) dJ7_init_14 (fun H2 locs h_o hz_o hq_o hS => ?_)
  have hC := hC.kept (Nat.le_of_eq hz_o.symm) (fun q hq => hq_o q (fun e => absurd hq (by rw [e]; exact Nat.not_lt.mpr g_tb)))
  have hb1 := hb1.kept (hq_o _ (Nat.ne_of_gt l_tb_b1))
  have h_tb : zO G tb 10 [.ref b1, .int (nI 0), .int (nI 0), .int (nI 0)] H2 := h_o
  refine lv_aload_n hx hb dJ7_init_17 rfl (lv_at hl 0 rfl) ?_
  refine lv_iconst (v := (nI 0)) hx hb dJ7_init_18 (by decide) ?_
  refine zput hx hb hts hown hK h_tb hS (Or.inl (rfl)) rfl in_J8 tyJ8_ok nmJ8 1 (by decide) q417 (fun _ h => h) rfl rfl rfl (Nat.le_of_ble_eq_true rfl) dJ7_init_19 (fun H3 locs h_o hz_o hq_o hS => ?_)
  have hC := hC.kept (Nat.le_of_eq hz_o.symm) (fun q hq => hq_o q (fun e => absurd hq (by rw [e]; exact Nat.not_lt.mpr g_tb)))
  have hb1 := hb1.kept (hq_o _ (Nat.ne_of_gt l_tb_b1))
  have h_tb : zO G tb 10 [.ref b1, .int (nI 0), .int (nI 0), .int (nI 0)] H3 := h_o
  refine lv_goto (tgt := 38) hx hb dJ7_init_22 (by decide) ?_
  exact zrv hx hb hr hlk hH hQ hS ⟨b1, rfl, h_tb, hb1, f_b1⟩ (by first | exact Nat.le_of_ble_eq_true rfl | (show _ ≤ 1; omega)) (by first | exact Nat.le_of_ble_eq_true rfl | (show _ ≤ 16; omega)) dJ7_init_38
abbrev rmJ8_init : Room := ({ frames := 3, cells := 1, slots := 16, locals := 44 } : Room)
set_option maxHeartbeats 1000000 in
theorem kJ8_init (l : Launch) {G : zG} {H0 : Heap} (tb : Nat) (hC : zC G H0) (g_tb : G.2.2 50 ≤ tb) (h_tb : zO G tb 10 [.null, .int (nI 0), .int (nI 0), .int (nI 0)] H0) : zM l G yJ8_init cJ8_init 1 none rmJ8_init H0 [.ref tb] (fun v H1 => ∃ (vb2 : Nat), v = none ∧ zO G tb 10 [.ref vb2, .int (nI 0), .int (nI 0), .int (nI 0)] H1 ∧ zI G vb2 2 16 (fun _ => 0) H1 ∧ H0.size ≤ vb2) (fun q => q = tb ∨ H0.size ≤ q) := by
  refine zM.start (own := RJ8) (by decide) rfl (Nat.le_of_ble_eq_true rfl) ?_
  intro p e s m args below meth c ls Q hx hb hml hr hlk hnm hown hts hK hH hQ hl hS
  have hl : lv_has ls 1 [(0, .ref tb)] := hl
  refine lv_aload_n hx hb dJ8_init_0 rfl (lv_at hl 0 rfl) ?_
  refine lv_bipush (v := (nI 16)) hx hb dJ8_init_1 (by decide) ?_
  have f_o := hS.1
  refine zcI 1 ⟨hx, hb, hml, hown, hts, hK⟩ (kJ7_init l tb hC g_tb h_tb) q404 q405 q60 q406 rfl (by decide +kernel) ⟨Nat.le_of_ble_eq_true rfl, Nat.le_of_ble_eq_true rfl⟩ rfl hl.1 (rest := []) rfl (Nat.le_of_ble_eq_true rfl) dJ8_init_3 ⟨by first | decide | (show _ ≤ 1; omega), by first | decide | (show _ ≤ 16; omega)⟩ hS (fun q h => h.elim (fun e => by rw [e]; first | done | exact (Or.inl (rfl))) (fun h => (fun e => (Or.inr (Nat.le_trans f_o e))) h)) (fun v_c H1 locs hp_c hz_c hk_c hS => ?_)
  obtain ⟨vb2_1, rfl, ho0_1, ho1_1, hp0_1⟩ := hp_c
  have l_tb_vb2_1 : tb < vb2_1 := Nat.lt_of_lt_of_le h_tb.lt hp0_1
  have f_vb2_1 : H0.size ≤ vb2_1 := Nat.le_trans f_o hp0_1
  have g_vb2_1 : G.2.2 50 ≤ vb2_1 := Nat.le_trans hC.size hp0_1
  have hC := hC.kept hz_c (fun q hq => hk_c q (Nat.lt_of_lt_of_le hq hC.size) (fun h => h.elim (fun e => absurd hq (by rw [e]; exact Nat.not_lt.mpr g_tb)) (fun h => (fun e => absurd (Nat.lt_of_lt_of_le hq hC.size) (Nat.not_lt.mpr e)) h)))
  have h_tb : zO G tb 10 [.ref vb2_1, .int (nI 0), .int (nI 0), .int (nI 0)] H1 := ho0_1
  exact zrv hx hb hr hlk hH hQ hS ⟨vb2_1, rfl, h_tb, ho1_1, f_vb2_1⟩ (by first | exact Nat.le_of_ble_eq_true rfl | (show _ ≤ 1; omega)) (by first | exact Nat.le_of_ble_eq_true rfl | (show _ ≤ 16; omega)) dJ8_init_6
abbrev rmJ4_init : Room := ({ frames := 2, cells := 0, slots := 0, locals := 23 } : Room)
set_option maxHeartbeats 1000000 in
theorem kJ4_init (l : Launch) {G : zG} {H0 : Heap} (tb : Nat) : zM l G yJ4_init cJ4_init 1 none rmJ4_init H0 [.ref tb] (fun v H1 => H0 = H1 ∧ v = none) (zN) := by
  refine zM.start (own := RJ4) (by decide) rfl (Nat.le_of_ble_eq_true rfl) ?_
  intro p e s m args below meth c ls Q hx hb hml hr hlk hnm hown hts hK hH hQ hl hS
  have hl : lv_has ls 1 [(0, .ref tb)] := hl
  refine lv_aload_n hx hb dJ4_init_0 rfl (lv_at hl 0 rfl) ?_
  refine W.objInit hx hb hown (hts _ q384) (hts _ q75) (hts _ q76) rfl (by rw [hml]; exact hl.1) rfl dJ4_init_1 (Nat.le_of_ble_eq_true rfl) (Nat.le_of_ble_eq_true rfl) ?_
  show W _ _ _ _ _ _ _ _ _ _ _ _ _ _ _ (F0 _ 4 _ [])
  exact zrv hx hb hr hlk hH hQ hS ⟨rfl, rfl⟩ (Nat.le_of_ble_eq_true rfl) (Nat.le_of_ble_eq_true rfl) dJ4_init_4
abbrev rmJ5_init : Room := ({ frames := 3, cells := 0, slots := 0, locals := 43 } : Room)
set_option maxHeartbeats 1000000 in
theorem kJ5_init (l : Launch) {G : zG} {H0 : Heap} (tb : Nat) (hC : zC G H0) (g_tb : G.2.2 50 ≤ tb) (h_tb : zO G tb 9 [.int (nI 0), .null, .int (nI 0)] H0) : zM l G yJ5_init cJ5_init 1 none rmJ5_init H0 [.ref tb] (fun v H1 => v = none ∧ zO G tb 9 [.int (nI 0), .null, .int (nI 0)] H1) (fun q => q = tb) := by
  refine zM.start (own := RJ5) (by decide) rfl (Nat.le_of_ble_eq_true rfl) ?_
  intro p e s m args below meth c ls Q hx hb hml hr hlk hnm hown hts hK hH hQ hl hS
  have hl : lv_has ls 1 [(0, .ref tb)] := hl
  refine lv_aload_n hx hb dJ5_init_0 rfl (lv_at hl 0 rfl) ?_
  refine zcI 0 ⟨hx, hb, hml, hown, hts, hK⟩ (kJ4_init l tb  ) q381 q382 q57 q383 rfl (by decide +kernel) ⟨Nat.le_of_ble_eq_true rfl, Nat.le_of_ble_eq_true rfl⟩ rfl hl.1 (rest := []) rfl (Nat.le_of_ble_eq_true rfl) dJ5_init_1 ⟨by first | decide | omega, by first | decide | omega⟩ hS (fun _ h => h.elim) (fun v_c H1 locs hp_c hz_c hk_c hS => ?_)
  obtain ⟨rfl, rfl⟩ := hp_c
  refine lv_aload_n hx hb dJ5_init_4 rfl (lv_at hl 0 rfl) ?_
  refine lv_iconst (v := (nI 0)) hx hb dJ5_init_5 (by decide) ?_
  refine zput hx hb hts hown hK h_tb hS (rfl) rfl in_J6 tyJ6_ok nmJ6 0 (by decide) q389 (fun _ h => h) rfl rfl rfl (Nat.le_of_ble_eq_true rfl) dJ5_init_6 (fun H2 locs h_o hz_o hq_o hS => ?_)
  have hC := hC.kept (Nat.le_of_eq hz_o.symm) (fun q hq => hq_o q (fun e => absurd hq (by rw [e]; exact Nat.not_lt.mpr g_tb)))
  have h_tb : zO G tb 9 [.int (nI 0), .null, .int (nI 0)] H2 := h_o
  exact zrv hx hb hr hlk hH hQ hS ⟨rfl, h_tb⟩ (Nat.le_of_ble_eq_true rfl) (Nat.le_of_ble_eq_true rfl) dJ5_init_9
abbrev rmJ6_init : Room := ({ frames := 4, cells := 0, slots := 0, locals := 63 } : Room)
set_option maxHeartbeats 1000000 in
theorem kJ6_init (l : Launch) {G : zG} {H0 : Heap} (tb : Nat) (hC : zC G H0) (g_tb : G.2.2 50 ≤ tb) (h_tb : zO G tb 9 [.int (nI 0), .null, .int (nI 0)] H0) : zM l G yJ6_init cJ6_init 1 none rmJ6_init H0 [.ref tb] (fun v H1 => v = none ∧ zO G tb 9 [.int (nI 0), .ref (G.2.2 48), .int (nI 0)] H1) (fun q => q = tb) := by
  refine zM.start (own := RJ6) (by decide) rfl (Nat.le_of_ble_eq_true rfl) ?_
  intro p e s m args below meth c ls Q hx hb hml hr hlk hnm hown hts hK hH hQ hl hS
  have hl : lv_has ls 1 [(0, .ref tb)] := hl
  refine lv_aload_n hx hb dJ6_init_0 rfl (lv_at hl 0 rfl) ?_
  refine zcI 0 ⟨hx, hb, hml, hown, hts, hK⟩ (kJ5_init l tb hC g_tb h_tb) q378 q379 q58 q380 rfl (by decide +kernel) ⟨Nat.le_of_ble_eq_true rfl, Nat.le_of_ble_eq_true rfl⟩ rfl hl.1 (rest := []) rfl (Nat.le_of_ble_eq_true rfl) dJ6_init_1 ⟨by first | decide | omega, by first | decide | omega⟩ hS (fun q h => (fun e => by rw [e]; first | done | exact (rfl)) h) (fun v_c H1 locs hp_c hz_c hk_c hS => ?_)
  obtain ⟨rfl, ho0_1⟩ := hp_c
  have hC := hC.kept hz_c (fun q hq => hk_c q (Nat.lt_of_lt_of_le hq hC.size) (fun h => (fun e => absurd hq (by rw [e]; exact Nat.not_lt.mpr g_tb)) h))
  have h_tb : zO G tb 9 [.int (nI 0), .null, .int (nI 0)] H1 := ho0_1
  refine lv_aload_n hx hb dJ6_init_4 rfl (lv_at hl 0 rfl) ?_
  refine zgets hx hb hts hown hK.st.2.1 hC.el q385 (fun _ h => h) dJ6_init_5 ?_
  refine zput hx hb hts hown hK h_tb hS (rfl) rfl in_J6 tyJ6_ok nmJ6 1 (by decide) q387 (fun _ h => h) rfl rfl rfl (Nat.le_of_ble_eq_true rfl) dJ6_init_8 (fun H2 locs h_o hz_o hq_o hS => ?_)
  have hC := hC.kept (Nat.le_of_eq hz_o.symm) (fun q hq => hq_o q (fun e => absurd hq (by rw [e]; exact Nat.not_lt.mpr g_tb)))
  have h_tb : zO G tb 9 [.int (nI 0), .ref (G.2.2 48), .int (nI 0)] H2 := h_o
  exact zrv hx hb hr hlk hH hQ hS ⟨rfl, h_tb⟩ (Nat.le_of_ble_eq_true rfl) (Nat.le_of_ble_eq_true rfl) dJ6_init_11
abbrev rmJ6_size : Room := ({ frames := 0, cells := 0, slots := 0, locals := 0 } : Room)
set_option maxHeartbeats 1000000 in
theorem kJ6_size (l : Launch) {G : zG} {H0 : Heap} (tb va cn : Nat) (mc : Int32) (h_tb : zO G tb 9 [.int mc, .ref va, .int (nI cn)] H0) : zM l G yJ6_size cJ6_size 1 (some .int) rmJ6_size H0 [.ref tb] (fun v H1 => H0 = H1 ∧ v = some (.int (nI cn))) (zN) := by
  refine zM.start (own := RJ6) (by decide) rfl (Nat.le_of_ble_eq_true rfl) ?_
  intro p e s m args below meth c ls Q hx hb hml hr hlk hnm hown hts hK hH hQ hl hS
  have hl : lv_has ls 1 [(0, .ref tb)] := hl
  refine lv_aload_n hx hb dJ6_size_0 rfl (lv_at hl 0 rfl) ?_
  refine zget hx hb hts hown hK h_tb rfl in_J6 2 (by decide) q388 (fun _ h => h) (v := .int (nI cn)) rfl dJ6_size_1 ?_
  exact zri hx hb hr hlk hH hQ rfl hS ⟨rfl, rfl⟩ (Nat.le_of_ble_eq_true rfl) (Nat.le_of_ble_eq_true rfl) dJ6_size_4
abbrev rmJ6_isEmpty : Room := ({ frames := 0, cells := 0, slots := 0, locals := 0 } : Room)
set_option maxHeartbeats 1000000 in
theorem kJ6_isEmpty (l : Launch) {G : zG} {H0 : Heap} (tb va cn : Nat) (mc : Int32) (h1 : cn < 2147483648) (h_tb : zO G tb 9 [.int mc, .ref va, .int (nI cn)] H0) : zM l G yJ6_isEmpty cJ6_isEmpty 1 (some .boolean) rmJ6_isEmpty H0 [.ref tb] (fun v H1 => H0 = H1 ∧ v = some (.int (zb (cn = 0)))) (zN) := by
  refine zM.start (own := RJ6) (by decide) rfl (Nat.le_of_ble_eq_true rfl) ?_
  intro p e s m args below meth c ls Q hx hb hml hr hlk hnm hown hts hK hH hQ hl hS
  have hl : lv_has ls 1 [(0, .ref tb)] := hl
  refine lv_aload_n hx hb dJ6_isEmpty_0 rfl (lv_at hl 0 rfl) ?_
  refine zget hx hb hts hown hK h_tb rfl in_J6 2 (by decide) q388 (fun _ h => h) (v := .int (nI cn)) rfl dJ6_isEmpty_1 ?_
  refine lv_if_ne (tgt := 11) hx hb dJ6_isEmpty_4 (by decide) (fun c_4 => ?_) (fun c_4 => ?_)
  · have c_4 : ¬ cn = 0 := fun z => c_4 (by rw [z]; rfl)
    refine lv_iconst (v := (nI 0)) hx hb dJ6_isEmpty_11 (by decide) ?_
    exact zri hx hb hr hlk hH hQ rfl hS ⟨rfl, (congrArg (fun z => some (Value.int z)) (by first | exact zb_t c_4 | exact zb_f c_4))⟩ (Nat.le_of_ble_eq_true rfl) (Nat.le_of_ble_eq_true rfl) dJ6_isEmpty_12
  · have c_4 : cn = 0 := (z0_eq (by omega)).mp c_4
    refine lv_iconst (v := (nI 1)) hx hb dJ6_isEmpty_7 (by decide) ?_
    refine lv_goto (tgt := 12) hx hb dJ6_isEmpty_8 (by decide) ?_
    exact zri hx hb hr hlk hH hQ rfl hS ⟨rfl, (congrArg (fun z => some (Value.int z)) (by first | exact zb_t c_4 | exact zb_f c_4))⟩ (Nat.le_of_ble_eq_true rfl) (Nat.le_of_ble_eq_true rfl) dJ6_isEmpty_12
abbrev rmJ6_elementData : Room := ({ frames := 0, cells := 0, slots := 0, locals := 0 } : Room)
set_option maxHeartbeats 1000000 in
theorem kJ6_elementData (l : Launch) {G : zG} {H0 : Heap} (tb va cn cap : Nat) (mc : Int32) (fl : Nat → Option Nat) (k1 rr : Nat) (h1 : k1 < cap) (h2 : cap ≤ 100000) (erl : fl k1 = some rr) (h_tb : zO G tb 9 [.int mc, .ref va, .int (nI cn)] H0) (h_va : zR G va 3 cap fl H0) : zM l G yJ6_elementData cJ6_elementData 2 (some (.object "java/lang/Object")) rmJ6_elementData H0 [.ref tb, .int (nI k1)] (fun v H1 => H0 = H1 ∧ v = some (.ref rr)) (zN) := by
  refine zM.start (own := RJ6) (by decide) rfl (Nat.le_of_ble_eq_true rfl) ?_
  intro p e s m args below meth c ls Q hx hb hml hr hlk hnm hown hts hK hH hQ hl hS
  have hl : lv_has ls 2 [(0, .ref tb), (1, .int (nI k1))] := hl
  refine lv_aload_n hx hb dJ6_elementData_0 rfl (lv_at hl 0 rfl) ?_
  refine zget hx hb hts hown hK h_tb rfl in_J6 1 (by decide) q387 (fun _ h => h) (v := .ref va) rfl dJ6_elementData_1 ?_
  refine lv_iload_n hx hb dJ6_elementData_4 rfl (lv_at hl 1 rfl) ?_
  refine zaald (t := 3) hx hb hK (by decide) rfl h_va k1 (by omega) (by omega) dJ6_elementData_5 ?_
  refine zTopV (y := .ref rr) (by rw [erl]; rfl) ?_
  exact zra hx hb hr (Or.inl ⟨_, rfl⟩) hlk hH hQ hS ⟨rfl, rfl⟩ (Nat.le_of_ble_eq_true rfl) (Nat.le_of_ble_eq_true rfl) dJ6_elementData_6
abbrev rmJ6_get : Room := ({ frames := 2, cells := 0, slots := 0, locals := 43 } : Room)
set_option maxHeartbeats 1000000 in
theorem kJ6_get (l : Launch) {G : zG} {H0 : Heap} (tb va cn cap : Nat) (mc : Int32) (fl : Nat → Option Nat) (k1 rr : Nat) (h0 : k1 < cn) (h1 : cn ≤ cap) (h2 : cap ≤ 100000) (erl : fl k1 = some rr) (h_tb : zO G tb 9 [.int mc, .ref va, .int (nI cn)] H0) (h_va : zR G va 3 cap fl H0) : zM l G yJ6_get cJ6_get 2 (some (.object "java/lang/Object")) rmJ6_get H0 [.ref tb, .int (nI k1)] (fun v H1 => H0 = H1 ∧ v = some (.ref rr)) (zN) := by
  refine zM.start (own := RJ6) (by decide) rfl (Nat.le_of_ble_eq_true rfl) ?_
  intro p e s m args below meth c ls Q hx hb hml hr hlk hnm hown hts hK hH hQ hl hS
  have hl : lv_has ls 2 [(0, .ref tb), (1, .int (nI k1))] := hl
  refine lv_iload_n hx hb dJ6_get_0 rfl (lv_at hl 1 rfl) ?_
  refine lv_aload_n hx hb dJ6_get_1 rfl (lv_at hl 0 rfl) ?_
  refine zget hx hb hts hown hK h_tb rfl in_J6 2 (by decide) q388 (fun _ h => h) (v := .int (nI cn)) rfl dJ6_get_2 ?_
  refine zcS 2 ⟨hx, hb, hml, hown, hts, hK⟩ (kJ12_checkIndex l k1 cn (by omega) (by omega)  ) q854 q855 q68 q856 (by decide +kernel) ⟨Nat.le_of_ble_eq_true rfl, Nat.le_of_ble_eq_true rfl⟩ rfl hl.1 (rest := []) rfl (Nat.le_of_ble_eq_true rfl) dJ6_get_5 ⟨by first | decide | omega, by first | decide | omega⟩ hS (fun _ h => h.elim) (fun v_c H1 locs hp_c hz_c hk_c hS => ?_)
  obtain ⟨rfl, rfl⟩ := hp_c
  refine lv_pop hx hb dJ6_get_8 rfl ?_
  refine lv_aload_n hx hb dJ6_get_9 rfl (lv_at hl 0 rfl) ?_
  refine lv_iload_n hx hb dJ6_get_10 rfl (lv_at hl 1 rfl) ?_
  refine zcV 1 ⟨hx, hb, hml, hown, hts, hK⟩ (kJ6_elementData l tb va cn cap mc fl k1 rr (by omega) (by omega) erl  h_tb h_va) q896 q897 q898 q59 q899 (by decide +kernel) ⟨Nat.le_of_ble_eq_true rfl, Nat.le_of_ble_eq_true rfl⟩ (zrecv hK h_tb rfl) rfl hl.1 (rest := []) rfl (Nat.le_of_ble_eq_true rfl) dJ6_get_11 ⟨by first | decide | omega, by first | decide | omega⟩ hS (fun _ h => h.elim) (fun v_c H2 locs hp_c hz_c hk_c hS => ?_)
  obtain ⟨rfl, rfl⟩ := hp_c
  exact zra hx hb hr (Or.inl ⟨_, rfl⟩) hlk hH hQ hS ⟨rfl, rfl⟩ (Nat.le_of_ble_eq_true rfl) (Nat.le_of_ble_eq_true rfl) dJ6_get_14
abbrev rmJ6_add_2_X5 : Room := ({ frames := 0, cells := 0, slots := 0, locals := 0 } : Room)
set_option maxHeartbeats 1000000 in
theorem kJ6_add_2_X5 (l : Launch) {G : zG} {H0 : Heap} (tb va cn cap : Nat) (mc : Int32) (fl : Nat → Option Nat) (rr : Nat) (fe : List Value) (h1 : cn < cap) (h2 : cap ≤ 100000) (hne_va_tb : va ≠ tb) (hne_rr_tb : rr ≠ tb) (hne_rr_va : rr ≠ va) (hC : zC G H0) (g_tb : G.2.2 50 ≤ tb) (g_va : G.2.2 50 ≤ va) (h_tb : zO G tb 9 [.int mc, .ref va, .int (nI cn)] H0) (h_va : zR G va 3 cap fl H0) (h_rr : zO G rr 3 fe H0) : zM l G yJ6_add_2 cJ6_add_2 4 none rmJ6_add_2_X5 H0 [.ref tb, .ref rr, .ref va, .int (nI cn)] (fun v H1 => v = none ∧ zO G tb 9 [.int mc, .ref va, .int (nI (cn + 1))] H1 ∧ zR G va 3 cap (va_up fl cn (some rr)) H1) (fun q => q = tb ∨ q = va) := by
  refine zM.start (own := RJ6) (by decide) rfl (Nat.le_of_ble_eq_true rfl) ?_
  intro p e s m args below meth c ls Q hx hb hml hr hlk hnm hown hts hK hH hQ hl hS
  have hl : lv_has ls 4 [(0, .ref tb), (1, .ref rr), (2, .ref va), (3, .int (nI cn))] := hl
  refine lv_iload_n hx hb dJ6_add_2_0 rfl (lv_at hl 3 rfl) ?_
  refine lv_aload_n hx hb dJ6_add_2_1 rfl (lv_at hl 2 rfl) ?_
  refine zalenR hx hb hK h_va (by decide) dJ6_add_2_2 ?_
  refine lv_icmp_ne (tgt := 11) hx hb dJ6_add_2_3 (by decide) (fun c_3 => ?_) (fun c_3 => ?_)
  · have c_3 : ¬ cn = cap := fun z => c_3 ((nI_eq (by omega) (by omega)).mpr z)
    refine lv_aload_n hx hb dJ6_add_2_11 rfl (lv_at hl 2 rfl) ?_
    refine lv_iload_n hx hb dJ6_add_2_12 rfl (lv_at hl 3 rfl) ?_
    refine lv_aload_n hx hb dJ6_add_2_13 rfl (lv_at hl 1 rfl) ?_
    refine zaast (t := 3) hx hb hK (by decide) rfl h_va (zanyK hK h_rr rfl (hK.c 16 rfl)) hS (Or.inr (rfl)) cn (by omega) (by omega) dJ6_add_2_14 (fun H1 locs h_o hz_o hq_o hS => ?_)
    have hC := hC.kept (Nat.le_of_eq hz_o.symm) (fun q hq => hq_o q (fun e => absurd hq (by rw [e]; exact Nat.not_lt.mpr g_va)))
    have h_tb := h_tb.kept (hq_o _ (Ne.symm hne_va_tb))
    have h_rr := h_rr.kept (hq_o _ hne_rr_va)
    have h_va : zR G va 3 cap (va_up fl cn (some rr)) H1 := h_o
    refine lv_aload_n hx hb dJ6_add_2_15 rfl (lv_at hl 0 rfl) ?_
    refine lv_iload_n hx hb dJ6_add_2_16 rfl (lv_at hl 3 rfl) ?_
    refine lv_iconst (v := (nI 1)) hx hb dJ6_add_2_17 (by decide) ?_
    refine lv_iadd hx hb dJ6_add_2_18 ?_
    refine zTop (y := nI (cn + 1)) (zadd (by omega)) ?_
    refine zput hx hb hts hown hK h_tb hS (Or.inl (rfl)) rfl in_J6 tyJ6_ok nmJ6 2 (by decide) q388 (fun _ h => h) rfl rfl rfl (Nat.le_of_ble_eq_true rfl) dJ6_add_2_19 (fun H2 locs h_o hz_o hq_o hS => ?_)
    have hC := hC.kept (Nat.le_of_eq hz_o.symm) (fun q hq => hq_o q (fun e => absurd hq (by rw [e]; exact Nat.not_lt.mpr g_tb)))
    have h_va := h_va.kept (hq_o _ hne_va_tb)
    have h_rr := h_rr.kept (hq_o _ hne_rr_tb)
    have h_tb : zO G tb 9 [.int mc, .ref va, .int (nI (cn + 1))] H2 := h_o
    exact zrv hx hb hr hlk hH hQ hS ⟨rfl, h_tb, h_va⟩ (Nat.le_of_ble_eq_true rfl) (Nat.le_of_ble_eq_true rfl) dJ6_add_2_22
  · have c_3 : cn = cap := (nI_eq (by omega) (by omega)).mp c_3
    exact absurd c_3 (by omega)
abbrev rmJ6_add_X5 : Room := ({ frames := 1, cells := 0, slots := 0, locals := 23 } : Room)
set_option maxHeartbeats 1000000 in
theorem kJ6_add_X5 (l : Launch) {G : zG} {H0 : Heap} (tb va cn cap : Nat) (mc : Int32) (fl : Nat → Option Nat) (rr : Nat) (fe : List Value) (h1 : cn < cap) (h2 : cap ≤ 100000) (hne_va_tb : va ≠ tb) (hne_rr_tb : rr ≠ tb) (hne_rr_va : rr ≠ va) (hC : zC G H0) (g_tb : G.2.2 50 ≤ tb) (g_va : G.2.2 50 ≤ va) (h_tb : zO G tb 9 [.int mc, .ref va, .int (nI cn)] H0) (h_va : zR G va 3 cap fl H0) (h_rr : zO G rr 3 fe H0) : zM l G yJ6_add cJ6_add 2 (some .boolean) rmJ6_add_X5 H0 [.ref tb, .ref rr] (fun v H1 => v = some (.int (nI 1)) ∧ zO G tb 9 [.int (mc + nI 1), .ref va, .int (nI (cn + 1))] H1 ∧ zR G va 3 cap (va_up fl cn (some rr)) H1) (fun q => q = tb ∨ q = va) := by
  refine zM.start (own := RJ6) (by decide) rfl (Nat.le_of_ble_eq_true rfl) ?_
  intro p e s m args below meth c ls Q hx hb hml hr hlk hnm hown hts hK hH hQ hl hS
  have hl : lv_has ls 2 [(0, .ref tb), (1, .ref rr)] := hl
  refine lv_aload_n hx hb dJ6_add_0 rfl (lv_at hl 0 rfl) ?_
  refine lv_dup hx hb dJ6_add_1 rfl ?_
  refine zget hx hb hts hown hK h_tb rfl in_J6 0 (by decide) q390 (fun x h => u_same (hts _ q391) x h) (v := .int mc) rfl dJ6_add_2 ?_
  refine lv_iconst (v := (nI 1)) hx hb dJ6_add_5 (by decide) ?_
  refine lv_iadd hx hb dJ6_add_6 ?_
  refine zput hx hb hts hown hK h_tb hS (Or.inl (rfl)) rfl in_J6 tyJ6_ok nmJ6 0 (by decide) q390 (fun x h => u_same (hts _ q391) x h) rfl rfl rfl (Nat.le_of_ble_eq_true rfl) dJ6_add_7 (fun H1 locs h_o hz_o hq_o hS => ?_)
  have hC := hC.kept (Nat.le_of_eq hz_o.symm) (fun q hq => hq_o q (fun e => absurd hq (by rw [e]; exact Nat.not_lt.mpr g_tb)))
  have h_va := h_va.kept (hq_o _ hne_va_tb)
  have h_rr := h_rr.kept (hq_o _ hne_rr_tb)
  have h_tb : zO G tb 9 [.int (mc + (nI 1)), .ref va, .int (nI cn)] H1 := h_o
  refine lv_aload_n hx hb dJ6_add_10 rfl (lv_at hl 0 rfl) ?_
  refine lv_aload_n hx hb dJ6_add_11 rfl (lv_at hl 1 rfl) ?_
  refine lv_aload_n hx hb dJ6_add_12 rfl (lv_at hl 0 rfl) ?_
  refine zget hx hb hts hown hK h_tb rfl in_J6 1 (by decide) q387 (fun _ h => h) (v := .ref va) rfl dJ6_add_13 ?_
  refine lv_aload_n hx hb dJ6_add_16 rfl (lv_at hl 0 rfl) ?_
  refine zget hx hb hts hown hK h_tb rfl in_J6 2 (by decide) q388 (fun _ h => h) (v := .int (nI cn)) rfl dJ6_add_17 ?_
  refine zcV 3 ⟨hx, hb, hml, hown, hts, hK⟩ (kJ6_add_2_X5 l tb va cn cap (mc + (nI 1)) fl rr fe (by omega) (by omega) hne_va_tb hne_rr_tb hne_rr_va hC g_tb g_va h_tb h_va h_rr) q789 q791 qs9 q59 q792 (by decide +kernel) ⟨Nat.le_of_ble_eq_true rfl, Nat.le_of_ble_eq_true rfl⟩ (zrecv hK h_tb rfl) rfl hl.1 (rest := []) rfl (Nat.le_of_ble_eq_true rfl) dJ6_add_20 ⟨by first | decide | omega, by first | decide | omega⟩ hS (fun q h => h.elim (fun e => by rw [e]; first | done | exact (Or.inl (rfl))) (fun h => (fun e => by rw [e]; first | done | exact (Or.inr (rfl))) h)) (fun v_c H2 locs hp_c hz_c hk_c hS => ?_)
  obtain ⟨rfl, ho0_1, ho1_1⟩ := hp_c
  have hC := hC.kept hz_c (fun q hq => hk_c q (Nat.lt_of_lt_of_le hq hC.size) (fun h => h.elim (fun e => absurd hq (by rw [e]; exact Nat.not_lt.mpr g_tb)) (fun h => (fun e => absurd hq (by rw [e]; exact Nat.not_lt.mpr g_va)) h)))
  have h_rr := h_rr.kept (hk_c _ h_rr.lt (fun h => h.elim (fun e => absurd e hne_rr_tb) (fun h => (fun e => absurd e hne_rr_va) h)))
  have h_tb : zO G tb 9 [.int (mc + (nI 1)), .ref va, .int (nI (cn + 1))] H2 := ho0_1
  have h_va : zR G va 3 cap (va_up fl cn (some rr)) H2 := ho1_1
  refine lv_iconst (v := (nI 1)) hx hb dJ6_add_23 (by decide) ?_
  exact zri hx hb hr hlk hH hQ rfl hS ⟨rfl, h_tb, h_va⟩ (Nat.le_of_ble_eq_true rfl) (Nat.le_of_ble_eq_true rfl) dJ6_add_24
abbrev rmJ6_add_2_X6 : Room := ({ frames := 0, cells := 0, slots := 0, locals := 0 } : Room)
set_option maxHeartbeats 1000000 in
theorem kJ6_add_2_X6 (l : Launch) {G : zG} {H0 : Heap} (tb va cn cap : Nat) (mc : Int32) (fl : Nat → Option Nat) (rr : Nat) (fe : List Value) (h1 : cn < cap) (h2 : cap ≤ 100000) (hne_va_tb : va ≠ tb) (hne_rr_tb : rr ≠ tb) (hne_rr_va : rr ≠ va) (hC : zC G H0) (g_tb : G.2.2 50 ≤ tb) (g_va : G.2.2 50 ≤ va) (h_tb : zO G tb 9 [.int mc, .ref va, .int (nI cn)] H0) (h_va : zR G va 3 cap fl H0) (h_rr : zO G rr 1 fe H0) : zM l G yJ6_add_2 cJ6_add_2 4 none rmJ6_add_2_X6 H0 [.ref tb, .ref rr, .ref va, .int (nI cn)] (fun v H1 => v = none ∧ zO G tb 9 [.int mc, .ref va, .int (nI (cn + 1))] H1 ∧ zR G va 3 cap (va_up fl cn (some rr)) H1) (fun q => q = tb ∨ q = va) := by
  refine zM.start (own := RJ6) (by decide) rfl (Nat.le_of_ble_eq_true rfl) ?_
  intro p e s m args below meth c ls Q hx hb hml hr hlk hnm hown hts hK hH hQ hl hS
  have hl : lv_has ls 4 [(0, .ref tb), (1, .ref rr), (2, .ref va), (3, .int (nI cn))] := hl
  refine lv_iload_n hx hb dJ6_add_2_0 rfl (lv_at hl 3 rfl) ?_
  refine lv_aload_n hx hb dJ6_add_2_1 rfl (lv_at hl 2 rfl) ?_
  refine zalenR hx hb hK h_va (by decide) dJ6_add_2_2 ?_
  refine lv_icmp_ne (tgt := 11) hx hb dJ6_add_2_3 (by decide) (fun c_3 => ?_) (fun c_3 => ?_)
  · have c_3 : ¬ cn = cap := fun z => c_3 ((nI_eq (by omega) (by omega)).mpr z)
    refine lv_aload_n hx hb dJ6_add_2_11 rfl (lv_at hl 2 rfl) ?_
    refine lv_iload_n hx hb dJ6_add_2_12 rfl (lv_at hl 3 rfl) ?_
    refine lv_aload_n hx hb dJ6_add_2_13 rfl (lv_at hl 1 rfl) ?_
    refine zaast (t := 3) hx hb hK (by decide) rfl h_va (zanyK hK h_rr rfl (hK.c 17 rfl)) hS (Or.inr (rfl)) cn (by omega) (by omega) dJ6_add_2_14 (fun H1 locs h_o hz_o hq_o hS => ?_)
    have hC := hC.kept (Nat.le_of_eq hz_o.symm) (fun q hq => hq_o q (fun e => absurd hq (by rw [e]; exact Nat.not_lt.mpr g_va)))
    have h_tb := h_tb.kept (hq_o _ (Ne.symm hne_va_tb))
    have h_rr := h_rr.kept (hq_o _ hne_rr_va)
    have h_va : zR G va 3 cap (va_up fl cn (some rr)) H1 := h_o
    refine lv_aload_n hx hb dJ6_add_2_15 rfl (lv_at hl 0 rfl) ?_
    refine lv_iload_n hx hb dJ6_add_2_16 rfl (lv_at hl 3 rfl) ?_
    refine lv_iconst (v := (nI 1)) hx hb dJ6_add_2_17 (by decide) ?_
    refine lv_iadd hx hb dJ6_add_2_18 ?_
    refine zTop (y := nI (cn + 1)) (zadd (by omega)) ?_
    refine zput hx hb hts hown hK h_tb hS (Or.inl (rfl)) rfl in_J6 tyJ6_ok nmJ6 2 (by decide) q388 (fun _ h => h) rfl rfl rfl (Nat.le_of_ble_eq_true rfl) dJ6_add_2_19 (fun H2 locs h_o hz_o hq_o hS => ?_)
    have hC := hC.kept (Nat.le_of_eq hz_o.symm) (fun q hq => hq_o q (fun e => absurd hq (by rw [e]; exact Nat.not_lt.mpr g_tb)))
    have h_va := h_va.kept (hq_o _ hne_va_tb)
    have h_rr := h_rr.kept (hq_o _ hne_rr_tb)
    have h_tb : zO G tb 9 [.int mc, .ref va, .int (nI (cn + 1))] H2 := h_o
    exact zrv hx hb hr hlk hH hQ hS ⟨rfl, h_tb, h_va⟩ (Nat.le_of_ble_eq_true rfl) (Nat.le_of_ble_eq_true rfl) dJ6_add_2_22
  · have c_3 : cn = cap := (nI_eq (by omega) (by omega)).mp c_3
    exact absurd c_3 (by omega)
abbrev rmJ6_add_X6 : Room := ({ frames := 1, cells := 0, slots := 0, locals := 23 } : Room)
set_option maxHeartbeats 1000000 in
theorem kJ6_add_X6 (l : Launch) {G : zG} {H0 : Heap} (tb va cn cap : Nat) (mc : Int32) (fl : Nat → Option Nat) (rr : Nat) (fe : List Value) (h1 : cn < cap) (h2 : cap ≤ 100000) (hne_va_tb : va ≠ tb) (hne_rr_tb : rr ≠ tb) (hne_rr_va : rr ≠ va) (hC : zC G H0) (g_tb : G.2.2 50 ≤ tb) (g_va : G.2.2 50 ≤ va) (h_tb : zO G tb 9 [.int mc, .ref va, .int (nI cn)] H0) (h_va : zR G va 3 cap fl H0) (h_rr : zO G rr 1 fe H0) : zM l G yJ6_add cJ6_add 2 (some .boolean) rmJ6_add_X6 H0 [.ref tb, .ref rr] (fun v H1 => v = some (.int (nI 1)) ∧ zO G tb 9 [.int (mc + nI 1), .ref va, .int (nI (cn + 1))] H1 ∧ zR G va 3 cap (va_up fl cn (some rr)) H1) (fun q => q = tb ∨ q = va) := by
  refine zM.start (own := RJ6) (by decide) rfl (Nat.le_of_ble_eq_true rfl) ?_
  intro p e s m args below meth c ls Q hx hb hml hr hlk hnm hown hts hK hH hQ hl hS
  have hl : lv_has ls 2 [(0, .ref tb), (1, .ref rr)] := hl
  refine lv_aload_n hx hb dJ6_add_0 rfl (lv_at hl 0 rfl) ?_
  refine lv_dup hx hb dJ6_add_1 rfl ?_
  refine zget hx hb hts hown hK h_tb rfl in_J6 0 (by decide) q390 (fun x h => u_same (hts _ q391) x h) (v := .int mc) rfl dJ6_add_2 ?_
  refine lv_iconst (v := (nI 1)) hx hb dJ6_add_5 (by decide) ?_
  refine lv_iadd hx hb dJ6_add_6 ?_
  refine zput hx hb hts hown hK h_tb hS (Or.inl (rfl)) rfl in_J6 tyJ6_ok nmJ6 0 (by decide) q390 (fun x h => u_same (hts _ q391) x h) rfl rfl rfl (Nat.le_of_ble_eq_true rfl) dJ6_add_7 (fun H1 locs h_o hz_o hq_o hS => ?_)
  have hC := hC.kept (Nat.le_of_eq hz_o.symm) (fun q hq => hq_o q (fun e => absurd hq (by rw [e]; exact Nat.not_lt.mpr g_tb)))
  have h_va := h_va.kept (hq_o _ hne_va_tb)
  have h_rr := h_rr.kept (hq_o _ hne_rr_tb)
  have h_tb : zO G tb 9 [.int (mc + (nI 1)), .ref va, .int (nI cn)] H1 := h_o
  refine lv_aload_n hx hb dJ6_add_10 rfl (lv_at hl 0 rfl) ?_
  refine lv_aload_n hx hb dJ6_add_11 rfl (lv_at hl 1 rfl) ?_
  refine lv_aload_n hx hb dJ6_add_12 rfl (lv_at hl 0 rfl) ?_
  refine zget hx hb hts hown hK h_tb rfl in_J6 1 (by decide) q387 (fun _ h => h) (v := .ref va) rfl dJ6_add_13 ?_
  refine lv_aload_n hx hb dJ6_add_16 rfl (lv_at hl 0 rfl) ?_
  refine zget hx hb hts hown hK h_tb rfl in_J6 2 (by decide) q388 (fun _ h => h) (v := .int (nI cn)) rfl dJ6_add_17 ?_
  refine zcV 3 ⟨hx, hb, hml, hown, hts, hK⟩ (kJ6_add_2_X6 l tb va cn cap (mc + (nI 1)) fl rr fe (by omega) (by omega) hne_va_tb hne_rr_tb hne_rr_va hC g_tb g_va h_tb h_va h_rr) q789 q791 qs9 q59 q792 (by decide +kernel) ⟨Nat.le_of_ble_eq_true rfl, Nat.le_of_ble_eq_true rfl⟩ (zrecv hK h_tb rfl) rfl hl.1 (rest := []) rfl (Nat.le_of_ble_eq_true rfl) dJ6_add_20 ⟨by first | decide | omega, by first | decide | omega⟩ hS (fun q h => h.elim (fun e => by rw [e]; first | done | exact (Or.inl (rfl))) (fun h => (fun e => by rw [e]; first | done | exact (Or.inr (rfl))) h)) (fun v_c H2 locs hp_c hz_c hk_c hS => ?_)
  obtain ⟨rfl, ho0_1, ho1_1⟩ := hp_c
  have hC := hC.kept hz_c (fun q hq => hk_c q (Nat.lt_of_lt_of_le hq hC.size) (fun h => h.elim (fun e => absurd hq (by rw [e]; exact Nat.not_lt.mpr g_tb)) (fun h => (fun e => absurd hq (by rw [e]; exact Nat.not_lt.mpr g_va)) h)))
  have h_rr := h_rr.kept (hk_c _ h_rr.lt (fun h => h.elim (fun e => absurd e hne_rr_tb) (fun h => (fun e => absurd e hne_rr_va) h)))
  have h_tb : zO G tb 9 [.int (mc + (nI 1)), .ref va, .int (nI (cn + 1))] H2 := ho0_1
  have h_va : zR G va 3 cap (va_up fl cn (some rr)) H2 := ho1_1
  refine lv_iconst (v := (nI 1)) hx hb dJ6_add_23 (by decide) ?_
  exact zri hx hb hr hlk hH hQ rfl hS ⟨rfl, h_tb, h_va⟩ (Nat.le_of_ble_eq_true rfl) (Nat.le_of_ble_eq_true rfl) dJ6_add_24
abbrev rmJ6_fastRemove_last : Room := ({ frames := 0, cells := 0, slots := 0, locals := 0 } : Room)
set_option maxHeartbeats 1000000 in
theorem kJ6_fastRemove_last (l : Launch) {G : zG} {H0 : Heap} (tb va k1 cap : Nat) (mc : Int32) (fl : Nat → Option Nat) (h1 : k1 + 1 ≤ cap) (h2 : cap ≤ 100000) (hne_va_tb : va ≠ tb) (hC : zC G H0) (g_tb : G.2.2 50 ≤ tb) (g_va : G.2.2 50 ≤ va) (h_tb : zO G tb 9 [.int mc, .ref va, .int (nI (k1 + 1))] H0) (h_va : zR G va 3 cap fl H0) : zM l G yJ6_fastRemove cJ6_fastRemove 4 none rmJ6_fastRemove_last H0 [.ref tb, .ref va, .int (nI k1)] (fun v H1 => v = none ∧ zO G tb 9 [.int (mc + nI 1), .ref va, .int (nI k1)] H1 ∧ zR G va 3 cap (va_up fl k1 none) H1) (fun q => q = tb ∨ q = va) := by
  refine zM.start (own := RJ6) (by decide) rfl (Nat.le_of_ble_eq_true rfl) ?_
  intro p e s m args below meth c ls Q hx hb hml hr hlk hnm hown hts hK hH hQ hl hS
  have hl : lv_has ls 4 [(0, .ref tb), (1, .ref va), (2, .int (nI k1))] := hl
  refine lv_aload_n hx hb dJ6_fastRemove_0 rfl (lv_at hl 0 rfl) ?_
  refine lv_dup hx hb dJ6_fastRemove_1 rfl ?_
  refine zget hx hb hts hown hK h_tb rfl in_J6 0 (by decide) q390 (fun x h => u_same (hts _ q391) x h) (v := .int mc) rfl dJ6_fastRemove_2 ?_
  refine lv_iconst (v := (nI 1)) hx hb dJ6_fastRemove_5 (by decide) ?_
  refine lv_iadd hx hb dJ6_fastRemove_6 ?_
  refine zput hx hb hts hown hK h_tb hS (Or.inl (rfl)) rfl in_J6 tyJ6_ok nmJ6 0 (by decide) q390 (fun x h => u_same (hts _ q391) x h) rfl rfl rfl (Nat.le_of_ble_eq_true rfl) dJ6_fastRemove_7 (fun H1 locs h_o hz_o hq_o hS => ?_)
  have hC := hC.kept (Nat.le_of_eq hz_o.symm) (fun q hq => hq_o q (fun e => absurd hq (by rw [e]; exact Nat.not_lt.mpr g_tb)))
  have h_va := h_va.kept (hq_o _ hne_va_tb)
  have h_tb : zO G tb 9 [.int (mc + (nI 1)), .ref va, .int (nI (k1 + 1))] H1 := h_o
  refine lv_aload_n hx hb dJ6_fastRemove_10 rfl (lv_at hl 0 rfl) ?_
  refine zget hx hb hts hown hK h_tb rfl in_J6 2 (by decide) q388 (fun _ h => h) (v := .int (nI (k1 + 1))) rfl dJ6_fastRemove_11 ?_
  refine lv_iconst (v := (nI 1)) hx hb dJ6_fastRemove_14 (by decide) ?_
  refine lv_isub hx hb dJ6_fastRemove_15 ?_
  refine zTop (y := nI k1) (zsub (by omega) (by omega)) ?_
  refine lv_dup hx hb dJ6_fastRemove_16 rfl ?_
  refine lv_istore_n (lv' := [(3, .int (nI k1)), (0, .ref tb), (1, .ref va), (2, .int (nI k1))]) hx hb dJ6_fastRemove_17 rfl hl (by decide) rfl (fun ls hl => ?_)
  refine lv_iload_n hx hb dJ6_fastRemove_18 rfl (lv_at hl 3 rfl) ?_
  refine lv_icmp_le (tgt := 34) hx hb dJ6_fastRemove_19 (by decide) (fun c_19 => ?_) (fun c_19 => ?_)
  · have c_19 : k1 ≤ k1 := (nI_leI (by omega) (by omega)).mp c_19
    refine lv_aload_n hx hb dJ6_fastRemove_34 rfl (lv_at hl 2 rfl) ?_
    refine lv_aload_n hx hb dJ6_fastRemove_35 rfl (lv_at hl 1 rfl) ?_
    refine lv_iload_n hx hb dJ6_fastRemove_36 rfl (lv_at hl 0 rfl) ?_
    refine lv_dup_x1 hx hb dJ6_fastRemove_37 rfl rfl ?_
    refine zput hx hb hts hown hK h_tb hS (Or.inl (rfl)) rfl in_J6 tyJ6_ok nmJ6 2 (by decide) q388 (fun _ h => h) rfl rfl rfl (Nat.le_of_ble_eq_true rfl) dJ6_fastRemove_38 (fun H2 locs h_o hz_o hq_o hS => ?_)
    have hC := hC.kept (Nat.le_of_eq hz_o.symm) (fun q hq => hq_o q (fun e => absurd hq (by rw [e]; exact Nat.not_lt.mpr g_tb)))
    have h_va := h_va.kept (hq_o _ hne_va_tb)
    have h_tb : zO G tb 9 [.int (mc + (nI 1)), .ref va, .int (nI k1)] H2 := h_o
    refine lv_null hx hb dJ6_fastRemove_41 ?_
    refine zaastN (t := 3) hx hb hK (by decide) rfl h_va hS (Or.inr (rfl)) k1 (by omega) (by omega) dJ6_fastRemove_42 (fun H3 locs h_o hz_o hq_o hS => ?_)
    have hC := hC.kept (Nat.le_of_eq hz_o.symm) (fun q hq => hq_o q (fun e => absurd hq (by rw [e]; exact Nat.not_lt.mpr g_va)))
    have h_tb := h_tb.kept (hq_o _ (Ne.symm hne_va_tb))
    have h_va : zR G va 3 cap (va_up fl k1 none) H3 := h_o
    exact zrv hx hb hr hlk hH hQ hS ⟨rfl, h_tb, h_va⟩ (Nat.le_of_ble_eq_true rfl) (Nat.le_of_ble_eq_true rfl) dJ6_fastRemove_43
  · have c_19 : ¬ (k1 ≤ k1) := fun z => c_19 ((nI_leI (by omega) (by omega)).mpr z)
    exact absurd (Nat.le_refl _) c_19
abbrev rmJ6_remove_last : Room := ({ frames := 2, cells := 0, slots := 0, locals := 43 } : Room)
set_option maxHeartbeats 1000000 in
theorem kJ6_remove_last (l : Launch) {G : zG} {H0 : Heap} (tb va k1 cap rr : Nat) (mc : Int32) (fl : Nat → Option Nat) (h1 : k1 + 1 ≤ cap) (h2 : cap ≤ 100000) (erl : fl k1 = some rr) (hne_va_tb : va ≠ tb) (hC : zC G H0) (g_tb : G.2.2 50 ≤ tb) (g_va : G.2.2 50 ≤ va) (h_tb : zO G tb 9 [.int mc, .ref va, .int (nI (k1 + 1))] H0) (h_va : zR G va 3 cap fl H0) : zM l G yJ6_remove cJ6_remove 4 (some (.object "java/lang/Object")) rmJ6_remove_last H0 [.ref tb, .int (nI k1)] (fun v H1 => v = some (.ref rr) ∧ zO G tb 9 [.int (mc + nI 1), .ref va, .int (nI k1)] H1 ∧ zR G va 3 cap (va_up fl k1 none) H1) (fun q => q = tb ∨ q = va) := by
  refine zM.start (own := RJ6) (by decide) rfl (Nat.le_of_ble_eq_true rfl) ?_
  intro p e s m args below meth c ls Q hx hb hml hr hlk hnm hown hts hK hH hQ hl hS
  have hl : lv_has ls 4 [(0, .ref tb), (1, .int (nI k1))] := hl
  refine lv_iload_n hx hb dJ6_remove_0 rfl (lv_at hl 1 rfl) ?_
  refine lv_aload_n hx hb dJ6_remove_1 rfl (lv_at hl 0 rfl) ?_
  refine zget hx hb hts hown hK h_tb rfl in_J6 2 (by decide) q388 (fun _ h => h) (v := .int (nI (k1 + 1))) rfl dJ6_remove_2 ?_
  refine zcS 2 ⟨hx, hb, hml, hown, hts, hK⟩ (kJ12_checkIndex l k1 (k1 + 1) (by omega) (by omega)  ) q854 q855 q68 q856 (by decide +kernel) ⟨Nat.le_of_ble_eq_true rfl, Nat.le_of_ble_eq_true rfl⟩ rfl hl.1 (rest := []) rfl (Nat.le_of_ble_eq_true rfl) dJ6_remove_5 ⟨by first | decide | omega, by first | decide | omega⟩ hS (fun _ h => h.elim) (fun v_c H1 locs hp_c hz_c hk_c hS => ?_)
  obtain ⟨rfl, rfl⟩ := hp_c
  refine lv_pop hx hb dJ6_remove_8 rfl ?_
  refine lv_aload_n hx hb dJ6_remove_9 rfl (lv_at hl 0 rfl) ?_
  refine zget hx hb hts hown hK h_tb rfl in_J6 1 (by decide) q387 (fun _ h => h) (v := .ref va) rfl dJ6_remove_10 ?_
  refine lv_astore_n (lv' := [(2, .ref va), (0, .ref tb), (1, .int (nI k1))]) hx hb dJ6_remove_13 rfl hl (by decide) rfl (fun ls hl => ?_)
  refine lv_aload_n hx hb dJ6_remove_14 rfl (lv_at hl 0 rfl) ?_
  refine lv_iload_n hx hb dJ6_remove_15 rfl (lv_at hl 2 rfl) ?_
  refine zaald (t := 3) hx hb hK (by decide) rfl h_va k1 (by omega) (by omega) dJ6_remove_16 ?_
  refine zTopV (y := .ref rr) (by rw [erl]; rfl) ?_
  refine lv_astore_n (lv' := [(3, .ref rr), (2, .ref va), (0, .ref tb), (1, .int (nI k1))]) hx hb dJ6_remove_17 rfl hl (by decide) rfl (fun ls hl => ?_)
  refine lv_aload_n hx hb dJ6_remove_18 rfl (lv_at hl 2 rfl) ?_
  refine lv_aload_n hx hb dJ6_remove_19 rfl (lv_at hl 1 rfl) ?_
  refine lv_iload_n hx hb dJ6_remove_20 rfl (lv_at hl 3 rfl) ?_
  refine zcV 2 ⟨hx, hb, hml, hown, hts, hK⟩ (kJ6_fastRemove_last l tb va k1 cap mc fl (by omega) (by omega) hne_va_tb hC g_tb g_va h_tb h_va) q858 q860 qs13 q59 q861 (by decide +kernel) ⟨Nat.le_of_ble_eq_true rfl, Nat.le_of_ble_eq_true rfl⟩ (zrecv hK h_tb rfl) rfl hl.1 (rest := []) rfl (Nat.le_of_ble_eq_true rfl) dJ6_remove_21 ⟨by first | decide | omega, by first | decide | omega⟩ hS (fun q h => h.elim (fun e => by rw [e]; first | done | exact (Or.inl (rfl))) (fun h => (fun e => by rw [e]; first | done | exact (Or.inr (rfl))) h)) (fun v_c H2 locs hp_c hz_c hk_c hS => ?_)
  obtain ⟨rfl, ho0_1, ho1_1⟩ := hp_c
  have hC := hC.kept hz_c (fun q hq => hk_c q (Nat.lt_of_lt_of_le hq hC.size) (fun h => h.elim (fun e => absurd hq (by rw [e]; exact Nat.not_lt.mpr g_tb)) (fun h => (fun e => absurd hq (by rw [e]; exact Nat.not_lt.mpr g_va)) h)))
  have h_tb : zO G tb 9 [.int (mc + nI 1), .ref va, .int (nI k1)] H2 := ho0_1
  have h_va : zR G va 3 cap (va_up fl k1 none) H2 := ho1_1
  refine lv_aload_n hx hb dJ6_remove_24 rfl (lv_at hl 0 rfl) ?_
  exact zra hx hb hr (Or.inl ⟨_, rfl⟩) hlk hH hQ hS ⟨rfl, h_tb, h_va⟩ (Nat.le_of_ble_eq_true rfl) (Nat.le_of_ble_eq_true rfl) dJ6_remove_25
abbrev rmJ6_fastRemove_mv : Room := ({ frames := 2, cells := 0, slots := 0, locals := 79 } : Room)
set_option maxHeartbeats 1000000 in
theorem kJ6_fastRemove_mv (l : Launch) {G : zG} {H0 : Heap} (tb va n1 cap : Nat) (mc : Int32) (fl : Nat → Option Nat) (h1 : n1 + 2 ≤ cap) (h2 : cap ≤ 100000) (hel : ∀ j, j < n1 + 2 → ∀ y : Nat, fl j = some y → y ≠ tb ∧ ∃ fe : List Value, zO G y 1 fe H0) (hne_va_tb : va ≠ tb) (hC : zC G H0) (g_tb : G.2.2 50 ≤ tb) (g_va : G.2.2 50 ≤ va) (h_tb : zO G tb 9 [.int mc, .ref va, .int (nI (n1 + 2))] H0) (h_va : zR G va 3 cap fl H0) : zM l G yJ6_fastRemove cJ6_fastRemove 4 none rmJ6_fastRemove_mv H0 [.ref tb, .ref va, .int (nI 0)] (fun v H1 => v = none ∧ zO G tb 9 [.int (mc + nI 1), .ref va, .int (nI (n1 + 1))] H1 ∧ zR G va 3 cap (va_up (va_cpy fl fl 1 0 (n1 + 1)) (n1 + 1) none) H1) (fun q => q = tb ∨ q = va) := by
  refine zM.start (own := RJ6) (by decide) rfl (Nat.le_of_ble_eq_true rfl) ?_
  intro p e s m args below meth c ls Q hx hb hml hr hlk hnm hown hts hK hH hQ hl hS
  have hl : lv_has ls 4 [(0, .ref tb), (1, .ref va), (2, .int (nI 0))] := hl
  refine lv_aload_n hx hb dJ6_fastRemove_0 rfl (lv_at hl 0 rfl) ?_
  refine lv_dup hx hb dJ6_fastRemove_1 rfl ?_
  refine zget hx hb hts hown hK h_tb rfl in_J6 0 (by decide) q390 (fun x h => u_same (hts _ q391) x h) (v := .int mc) rfl dJ6_fastRemove_2 ?_
  refine lv_iconst (v := (nI 1)) hx hb dJ6_fastRemove_5 (by decide) ?_
  refine lv_iadd hx hb dJ6_fastRemove_6 ?_
  refine zput hx hb hts hown hK h_tb hS (Or.inl (rfl)) rfl in_J6 tyJ6_ok nmJ6 0 (by decide) q390 (fun x h => u_same (hts _ q391) x h) rfl rfl rfl (Nat.le_of_ble_eq_true rfl) dJ6_fastRemove_7 (fun H1 locs h_o hz_o hq_o hS => ?_)
  have hC := hC.kept (Nat.le_of_eq hz_o.symm) (fun q hq => hq_o q (fun e => absurd hq (by rw [e]; exact Nat.not_lt.mpr g_tb)))
  have h_va := h_va.kept (hq_o _ hne_va_tb)
  have h_tb : zO G tb 9 [.int (mc + (nI 1)), .ref va, .int (nI (n1 + 2))] H1 := h_o
  refine lv_aload_n hx hb dJ6_fastRemove_10 rfl (lv_at hl 0 rfl) ?_
  refine zget hx hb hts hown hK h_tb rfl in_J6 2 (by decide) q388 (fun _ h => h) (v := .int (nI (n1 + 2))) rfl dJ6_fastRemove_11 ?_
  refine lv_iconst (v := (nI 1)) hx hb dJ6_fastRemove_14 (by decide) ?_
  refine lv_isub hx hb dJ6_fastRemove_15 ?_
  refine zTop (y := nI (n1 + 1)) (zsub (by omega) (by omega)) ?_
  refine lv_dup hx hb dJ6_fastRemove_16 rfl ?_
  refine lv_istore_n (lv' := [(3, .int (nI (n1 + 1))), (0, .ref tb), (1, .ref va), (2, .int (nI 0))]) hx hb dJ6_fastRemove_17 rfl hl (by decide) rfl (fun ls hl => ?_)
  refine lv_iload_n hx hb dJ6_fastRemove_18 rfl (lv_at hl 3 rfl) ?_
  refine lv_icmp_le (tgt := 34) hx hb dJ6_fastRemove_19 (by decide) (fun c_19 => ?_) (fun c_19 => ?_)
  · have c_19 : (n1 + 1) ≤ 0 := (nI_leI (by omega) (by omega)).mp c_19
    exact absurd c_19 (by omega)
  · have c_19 : ¬ ((n1 + 1) ≤ 0) := fun z => c_19 ((nI_leI (by omega) (by omega)).mpr z)
    refine lv_aload_n hx hb dJ6_fastRemove_22 rfl (lv_at hl 2 rfl) ?_
    refine lv_iload_n hx hb dJ6_fastRemove_23 rfl (lv_at hl 3 rfl) ?_
    refine lv_iconst (v := (nI 1)) hx hb dJ6_fastRemove_24 (by decide) ?_
    refine lv_iadd hx hb dJ6_fastRemove_25 ?_
    refine zTop (y := nI 1) (zadd (by omega)) ?_
    refine lv_aload_n hx hb dJ6_fastRemove_26 rfl (lv_at hl 2 rfl) ?_
    refine lv_iload_n hx hb dJ6_fastRemove_27 rfl (lv_at hl 3 rfl) ?_
    refine lv_iload_n hx hb dJ6_fastRemove_28 rfl (lv_at hl 0 rfl) ?_
    refine lv_iload_n hx hb dJ6_fastRemove_29 rfl (lv_at hl 3 rfl) ?_
    refine lv_isub hx hb dJ6_fastRemove_30 ?_
    refine zTop (y := nI (n1 + 1)) (zsub (by omega) (by omega)) ?_
    refine zcopyR (t := 3) hx hb (by rw [hml]; exact hl.1.symm) hts hown hK q862 q546 q545 q66 (by decide) rfl h_va h_va hS (Or.inr (rfl)) 1 0 (n1 + 1) (by omega) (by omega) (by omega) (by omega) (fun i hi y hy => by obtain ⟨z1, fe, z2⟩ := hel _ (by omega) y hy; exact zanyK hK (z2.kept (hq_o _ z1)) rfl (hK.c 17 rfl)) (by decide) (Nat.le_of_ble_eq_true rfl) dJ6_fastRemove_31 (fun H2 locs h_o hz_o hq_o hS => ?_)
    have hC := hC.kept (Nat.le_of_eq hz_o.symm) (fun q hq => hq_o q (fun e => absurd hq (by rw [e]; exact Nat.not_lt.mpr g_va)))
    have h_tb := h_tb.kept (hq_o _ (Ne.symm hne_va_tb))
    have h_va : zR G va 3 cap (va_cpy fl fl 1 0 (n1 + 1)) H2 := h_o
    refine lv_aload_n hx hb dJ6_fastRemove_34 rfl (lv_at hl 2 rfl) ?_
    refine lv_aload_n hx hb dJ6_fastRemove_35 rfl (lv_at hl 1 rfl) ?_
    refine lv_iload_n hx hb dJ6_fastRemove_36 rfl (lv_at hl 0 rfl) ?_
    refine lv_dup_x1 hx hb dJ6_fastRemove_37 rfl rfl ?_
    refine zput hx hb hts hown hK h_tb hS (Or.inl (rfl)) rfl in_J6 tyJ6_ok nmJ6 2 (by decide) q388 (fun _ h => h) rfl rfl rfl (Nat.le_of_ble_eq_true rfl) dJ6_fastRemove_38 (fun H3 locs h_o hz_o hq_o hS => ?_)
    have hC := hC.kept (Nat.le_of_eq hz_o.symm) (fun q hq => hq_o q (fun e => absurd hq (by rw [e]; exact Nat.not_lt.mpr g_tb)))
    have h_va := h_va.kept (hq_o _ hne_va_tb)
    have h_tb : zO G tb 9 [.int (mc + (nI 1)), .ref va, .int (nI (n1 + 1))] H3 := h_o
    refine lv_null hx hb dJ6_fastRemove_41 ?_
    refine zaastN (t := 3) hx hb hK (by decide) rfl h_va hS (Or.inr (rfl)) (n1 + 1) (by omega) (by omega) dJ6_fastRemove_42 (fun H4 locs h_o hz_o hq_o hS => ?_)
    have hC := hC.kept (Nat.le_of_eq hz_o.symm) (fun q hq => hq_o q (fun e => absurd hq (by rw [e]; exact Nat.not_lt.mpr g_va)))
    have h_tb := h_tb.kept (hq_o _ (Ne.symm hne_va_tb))
    have h_va : zR G va 3 cap (va_up (va_cpy fl fl 1 0 (n1 + 1)) (n1 + 1) none) H4 := h_o
    exact zrv hx hb hr hlk hH hQ hS ⟨rfl, h_tb, h_va⟩ (Nat.le_of_ble_eq_true rfl) (Nat.le_of_ble_eq_true rfl) dJ6_fastRemove_43
abbrev rmJ6_remove_mv : Room := ({ frames := 3, cells := 0, slots := 0, locals := 102 } : Room)
set_option maxHeartbeats 1000000 in
theorem kJ6_remove_mv (l : Launch) {G : zG} {H0 : Heap} (tb va n1 cap rr : Nat) (mc : Int32) (fl : Nat → Option Nat) (h1 : n1 + 2 ≤ cap) (h2 : cap ≤ 100000) (erl : fl 0 = some rr) (hel : ∀ j, j < n1 + 2 → ∀ y : Nat, fl j = some y → y ≠ tb ∧ ∃ fe : List Value, zO G y 1 fe H0) (hne_va_tb : va ≠ tb) (hC : zC G H0) (g_tb : G.2.2 50 ≤ tb) (g_va : G.2.2 50 ≤ va) (h_tb : zO G tb 9 [.int mc, .ref va, .int (nI (n1 + 2))] H0) (h_va : zR G va 3 cap fl H0) : zM l G yJ6_remove cJ6_remove 4 (some (.object "java/lang/Object")) rmJ6_remove_mv H0 [.ref tb, .int (nI 0)] (fun v H1 => v = some (.ref rr) ∧ zO G tb 9 [.int (mc + nI 1), .ref va, .int (nI (n1 + 1))] H1 ∧ zR G va 3 cap (va_up (va_cpy fl fl 1 0 (n1 + 1)) (n1 + 1) none) H1) (fun q => q = tb ∨ q = va) := by
  refine zM.start (own := RJ6) (by decide) rfl (Nat.le_of_ble_eq_true rfl) ?_
  intro p e s m args below meth c ls Q hx hb hml hr hlk hnm hown hts hK hH hQ hl hS
  have hl : lv_has ls 4 [(0, .ref tb), (1, .int (nI 0))] := hl
  refine lv_iload_n hx hb dJ6_remove_0 rfl (lv_at hl 1 rfl) ?_
  refine lv_aload_n hx hb dJ6_remove_1 rfl (lv_at hl 0 rfl) ?_
  refine zget hx hb hts hown hK h_tb rfl in_J6 2 (by decide) q388 (fun _ h => h) (v := .int (nI (n1 + 2))) rfl dJ6_remove_2 ?_
  refine zcS 2 ⟨hx, hb, hml, hown, hts, hK⟩ (kJ12_checkIndex l 0 (n1 + 2) (by omega) (by omega)  ) q854 q855 q68 q856 (by decide +kernel) ⟨Nat.le_of_ble_eq_true rfl, Nat.le_of_ble_eq_true rfl⟩ rfl hl.1 (rest := []) rfl (Nat.le_of_ble_eq_true rfl) dJ6_remove_5 ⟨by first | decide | omega, by first | decide | omega⟩ hS (fun _ h => h.elim) (fun v_c H1 locs hp_c hz_c hk_c hS => ?_)
  obtain ⟨rfl, rfl⟩ := hp_c
  refine lv_pop hx hb dJ6_remove_8 rfl ?_
  refine lv_aload_n hx hb dJ6_remove_9 rfl (lv_at hl 0 rfl) ?_
  refine zget hx hb hts hown hK h_tb rfl in_J6 1 (by decide) q387 (fun _ h => h) (v := .ref va) rfl dJ6_remove_10 ?_
  refine lv_astore_n (lv' := [(2, .ref va), (0, .ref tb), (1, .int (nI 0))]) hx hb dJ6_remove_13 rfl hl (by decide) rfl (fun ls hl => ?_)
  refine lv_aload_n hx hb dJ6_remove_14 rfl (lv_at hl 0 rfl) ?_
  refine lv_iload_n hx hb dJ6_remove_15 rfl (lv_at hl 2 rfl) ?_
  refine zaald (t := 3) hx hb hK (by decide) rfl h_va 0 (by omega) (by omega) dJ6_remove_16 ?_
  refine zTopV (y := .ref rr) (by rw [erl]; rfl) ?_
  refine lv_astore_n (lv' := [(3, .ref rr), (2, .ref va), (0, .ref tb), (1, .int (nI 0))]) hx hb dJ6_remove_17 rfl hl (by decide) rfl (fun ls hl => ?_)
  refine lv_aload_n hx hb dJ6_remove_18 rfl (lv_at hl 2 rfl) ?_
  refine lv_aload_n hx hb dJ6_remove_19 rfl (lv_at hl 1 rfl) ?_
  refine lv_iload_n hx hb dJ6_remove_20 rfl (lv_at hl 3 rfl) ?_
  refine zcV 2 ⟨hx, hb, hml, hown, hts, hK⟩ (kJ6_fastRemove_mv l tb va n1 cap mc fl (by omega) (by omega) hel hne_va_tb hC g_tb g_va h_tb h_va) q858 q860 qs13 q59 q861 (by decide +kernel) ⟨Nat.le_of_ble_eq_true rfl, Nat.le_of_ble_eq_true rfl⟩ (zrecv hK h_tb rfl) rfl hl.1 (rest := []) rfl (Nat.le_of_ble_eq_true rfl) dJ6_remove_21 ⟨by first | decide | omega, by first | decide | omega⟩ hS (fun q h => h.elim (fun e => by rw [e]; first | done | exact (Or.inl (rfl))) (fun h => (fun e => by rw [e]; first | done | exact (Or.inr (rfl))) h)) (fun v_c H2 locs hp_c hz_c hk_c hS => ?_)
  obtain ⟨rfl, ho0_1, ho1_1⟩ := hp_c
  have hC := hC.kept hz_c (fun q hq => hk_c q (Nat.lt_of_lt_of_le hq hC.size) (fun h => h.elim (fun e => absurd hq (by rw [e]; exact Nat.not_lt.mpr g_tb)) (fun h => (fun e => absurd hq (by rw [e]; exact Nat.not_lt.mpr g_va)) h)))
  have h_tb : zO G tb 9 [.int (mc + nI 1), .ref va, .int (nI (n1 + 1))] H2 := ho0_1
  have h_va : zR G va 3 cap (va_up (va_cpy fl fl 1 0 (n1 + 1)) (n1 + 1) none) H2 := ho1_1
  refine lv_aload_n hx hb dJ6_remove_24 rfl (lv_at hl 0 rfl) ?_
  exact zra hx hb hr (Or.inl ⟨_, rfl⟩) hlk hH hQ hS ⟨rfl, h_tb, h_va⟩ (Nat.le_of_ble_eq_true rfl) (Nat.le_of_ble_eq_true rfl) dJ6_remove_25
