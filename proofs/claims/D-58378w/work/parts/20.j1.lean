/-! the JDK's methods, I: Math, checks, the StringBuilder's own -/
set_option maxRecDepth 100000
abbrev rmJ11_checkIndex_n : Room := ({ frames := 0, cells := 0, slots := 0, locals := 0 } : Room)
set_option maxHeartbeats 1000000 in
theorem kJ11_checkIndex_n (l : Launch) {G : zG} {H0 : Heap} (k1 k2 : Nat) (h1 : k1 < k2) (h2 : k2 < 2147483648) : zM l G yJ11_checkIndex cJ11_checkIndex 3 (some .int) rmJ11_checkIndex_n H0 [.int (nI k1), .int (nI k2), .null] (fun v H1 => H0 = H1 ∧ v = some (.int (nI k1))) (zN) := by
  refine zM.start (own := RJ11) (by decide) rfl (Nat.le_of_ble_eq_true rfl) ?_
  intro p e s m args below meth c ls Q hx hb hml hr hlk hnm hown hts hK hH hQ hl hS
  have hl : lv_has ls 3 [(0, .int (nI k1)), (1, .int (nI k2)), (2, .null)] := hl
  refine lv_iload_n hx hb dJ11_checkIndex_0 rfl (lv_at hl 0 rfl) ?_
  refine lv_if_lt (tgt := 9) hx hb dJ11_checkIndex_1 (by decide) (fun c_1 => ?_) (fun c_1 => ?_)
  · exact absurd c_1 (nI_pos (by omega))
  · refine lv_iload_n hx hb dJ11_checkIndex_4 rfl (lv_at hl 0 rfl) ?_
    refine lv_iload_n hx hb dJ11_checkIndex_5 rfl (lv_at hl 1 rfl) ?_
    refine lv_icmp_lt (tgt := 16) hx hb dJ11_checkIndex_6 (by decide) (fun c_6 => ?_) (fun c_6 => ?_)
    · have c_6 : k1 < k2 := (nI_ltI (by omega) (by omega)).mp c_6
      refine lv_iload_n hx hb dJ11_checkIndex_16 rfl (lv_at hl 0 rfl) ?_
      exact zri hx hb hr hlk hH hQ rfl hS ⟨rfl, rfl⟩ (Nat.le_of_ble_eq_true rfl) (Nat.le_of_ble_eq_true rfl) dJ11_checkIndex_17
    · have c_6 : ¬ (k1 < k2) := fun z => c_6 ((nI_ltI (by omega) (by omega)).mpr z)
      exact absurd h1 c_6
abbrev rmJ11_checkIndex_r : Room := ({ frames := 0, cells := 0, slots := 0, locals := 0 } : Room)
set_option maxHeartbeats 1000000 in
theorem kJ11_checkIndex_r (l : Launch) {G : zG} {H0 : Heap} (k1 k2 r1 : Nat) (h1 : k1 < k2) (h2 : k2 < 2147483648) : zM l G yJ11_checkIndex cJ11_checkIndex 3 (some .int) rmJ11_checkIndex_r H0 [.int (nI k1), .int (nI k2), .ref r1] (fun v H1 => H0 = H1 ∧ v = some (.int (nI k1))) (zN) := by
  refine zM.start (own := RJ11) (by decide) rfl (Nat.le_of_ble_eq_true rfl) ?_
  intro p e s m args below meth c ls Q hx hb hml hr hlk hnm hown hts hK hH hQ hl hS
  have hl : lv_has ls 3 [(0, .int (nI k1)), (1, .int (nI k2)), (2, .ref r1)] := hl
  refine lv_iload_n hx hb dJ11_checkIndex_0 rfl (lv_at hl 0 rfl) ?_
  refine lv_if_lt (tgt := 9) hx hb dJ11_checkIndex_1 (by decide) (fun c_1 => ?_) (fun c_1 => ?_)
  · exact absurd c_1 (nI_pos (by omega))
  · refine lv_iload_n hx hb dJ11_checkIndex_4 rfl (lv_at hl 0 rfl) ?_
    refine lv_iload_n hx hb dJ11_checkIndex_5 rfl (lv_at hl 1 rfl) ?_
    refine lv_icmp_lt (tgt := 16) hx hb dJ11_checkIndex_6 (by decide) (fun c_6 => ?_) (fun c_6 => ?_)
    · have c_6 : k1 < k2 := (nI_ltI (by omega) (by omega)).mp c_6
      refine lv_iload_n hx hb dJ11_checkIndex_16 rfl (lv_at hl 0 rfl) ?_
      exact zri hx hb hr hlk hH hQ rfl hS ⟨rfl, rfl⟩ (Nat.le_of_ble_eq_true rfl) (Nat.le_of_ble_eq_true rfl) dJ11_checkIndex_17
    · have c_6 : ¬ (k1 < k2) := fun z => c_6 ((nI_ltI (by omega) (by omega)).mpr z)
      exact absurd h1 c_6
abbrev rmJ12_checkIndex : Room := ({ frames := 1, cells := 0, slots := 0, locals := 22 } : Room)
set_option maxHeartbeats 1000000 in
theorem kJ12_checkIndex (l : Launch) {G : zG} {H0 : Heap} (k1 k2 : Nat) (h1 : k1 < k2) (h2 : k2 < 2147483648) : zM l G yJ12_checkIndex cJ12_checkIndex 2 (some .int) rmJ12_checkIndex H0 [.int (nI k1), .int (nI k2)] (fun v H1 => H0 = H1 ∧ v = some (.int (nI k1))) (zN) := by
  refine zM.start (own := RJ12) (by decide) rfl (Nat.le_of_ble_eq_true rfl) ?_
  intro p e s m args below meth c ls Q hx hb hml hr hlk hnm hown hts hK hH hQ hl hS
  have hl : lv_has ls 2 [(0, .int (nI k1)), (1, .int (nI k2))] := hl
  refine lv_iload_n hx hb dJ12_checkIndex_0 rfl (lv_at hl 0 rfl) ?_
  refine lv_iload_n hx hb dJ12_checkIndex_1 rfl (lv_at hl 1 rfl) ?_
  refine lv_null hx hb dJ12_checkIndex_2 ?_
  refine zcS 3 ⟨hx, hb, hml, hown, hts, hK⟩ (kJ11_checkIndex_n l k1 k2 (by omega) (by omega)  ) q857 q648 q67 q649 (by decide +kernel) ⟨Nat.le_of_ble_eq_true rfl, Nat.le_of_ble_eq_true rfl⟩ rfl hl.1 (rest := []) rfl (Nat.le_of_ble_eq_true rfl) dJ12_checkIndex_3 ⟨by first | decide | omega, by first | decide | omega⟩ hS (fun _ h => h.elim) (fun v_c H1 locs hp_c hz_c hk_c hS => ?_)
  obtain ⟨rfl, rfl⟩ := hp_c
  exact zri hx hb hr hlk hH hQ rfl hS ⟨rfl, rfl⟩ (Nat.le_of_ble_eq_true rfl) (Nat.le_of_ble_eq_true rfl) dJ12_checkIndex_6
abbrev rmJ0_checkIndex : Room := ({ frames := 1, cells := 0, slots := 0, locals := 22 } : Room)
set_option maxHeartbeats 1000000 in
theorem kJ0_checkIndex (l : Launch) {G : zG} {H0 : Heap} (k1 k2 : Nat) (h1 : k1 < k2) (h2 : k2 < 2147483648) (hC : zC G H0)  : zM l G yJ0_checkIndex cJ0_checkIndex 2 none rmJ0_checkIndex H0 [.int (nI k1), .int (nI k2)] (fun v H1 => H0 = H1 ∧ v = none) (zN) := by
  refine zM.start (own := RJ0) (by decide) rfl (Nat.le_of_ble_eq_true rfl) ?_
  intro p e s m args below meth c ls Q hx hb hml hr hlk hnm hown hts hK hH hQ hl hS
  have hl : lv_has ls 2 [(0, .int (nI k1)), (1, .int (nI k2))] := hl
  refine lv_iload_n hx hb dJ0_checkIndex_0 rfl (lv_at hl 0 rfl) ?_
  refine lv_iload_n hx hb dJ0_checkIndex_1 rfl (lv_at hl 1 rfl) ?_
  refine zgets hx hb hts hown hK.st.2.2 hC.fm q561 (fun _ h => h) dJ0_checkIndex_2 ?_
  refine zcS 3 ⟨hx, hb, hml, hown, hts, hK⟩ (kJ11_checkIndex_r l k1 k2 (G.2.2 49) (by omega) (by omega)  ) q647 q648 q67 q649 (by decide +kernel) ⟨Nat.le_of_ble_eq_true rfl, Nat.le_of_ble_eq_true rfl⟩ rfl hl.1 (rest := []) rfl (Nat.le_of_ble_eq_true rfl) dJ0_checkIndex_5 ⟨by first | decide | omega, by first | decide | omega⟩ hS (fun _ h => h.elim) (fun v_c H1 locs hp_c hz_c hk_c hS => ?_)
  obtain ⟨rfl, rfl⟩ := hp_c
  refine lv_pop hx hb dJ0_checkIndex_8 rfl ?_
  exact zrv hx hb hr hlk hH hQ hS ⟨rfl, rfl⟩ (Nat.le_of_ble_eq_true rfl) (Nat.le_of_ble_eq_true rfl) dJ0_checkIndex_9
abbrev rmJ0_coder : Room := ({ frames := 0, cells := 0, slots := 0, locals := 0 } : Room)
set_option maxHeartbeats 1000000 in
theorem kJ0_coder (l : Launch) {G : zG} {H0 : Heap} (st vs : Nat) (hh hz : Int32) (hC : zC G H0) (h_st : zOw G st 11 [.ref vs, .int (nI 0), .int hh, .int hz] H0) : zM l G yJ0_coder cJ0_coder 1 (some .byte) rmJ0_coder H0 [.ref st] (fun v H1 => H0 = H1 ∧ v = some (.int (nI 0))) (zN) := by
  refine zM.start (own := RJ0) (by decide) rfl (Nat.le_of_ble_eq_true rfl) ?_
  intro p e s m args below meth c ls Q hx hb hml hr hlk hnm hown hts hK hH hQ hl hS
  have hl : lv_has ls 1 [(0, .ref st)] := hl
  refine zgets hx hb hts hown hK.st.1 hC.cs q137 (fun _ h => h) dJ0_coder_0 ?_
  refine lv_if_eq (tgt := 13) hx hb dJ0_coder_3 (by decide) (fun z => absurd z (by decide)) (fun _ => ?_)
  refine lv_aload_n hx hb dJ0_coder_6 rfl (lv_at hl 0 rfl) ?_
  refine zgetW hx hb hts hown hK h_st rfl in_J0 1 (by decide) q721 (fun _ h => h) (v := .int (nI 0)) rfl dJ0_coder_7 ?_
  refine lv_goto (tgt := 14) hx hb dJ0_coder_10 (by decide) ?_
  exact zri hx hb hr hlk hH hQ rfl hS ⟨rfl, rfl⟩ (Nat.le_of_ble_eq_true rfl) (Nat.le_of_ble_eq_true rfl) dJ0_coder_14
abbrev rmJ0_isLatin1 : Room := ({ frames := 0, cells := 0, slots := 0, locals := 0 } : Room)
set_option maxHeartbeats 1000000 in
theorem kJ0_isLatin1 (l : Launch) {G : zG} {H0 : Heap} (st vs : Nat) (hh hz : Int32) (hC : zC G H0) (h_st : zOw G st 11 [.ref vs, .int (nI 0), .int hh, .int hz] H0) : zM l G yJ0_isLatin1 cJ0_isLatin1 1 (some .boolean) rmJ0_isLatin1 H0 [.ref st] (fun v H1 => H0 = H1 ∧ v = some (.int (nI 1))) (zN) := by
  refine zM.start (own := RJ0) (by decide) rfl (Nat.le_of_ble_eq_true rfl) ?_
  intro p e s m args below meth c ls Q hx hb hml hr hlk hnm hown hts hK hH hQ hl hS
  have hl : lv_has ls 1 [(0, .ref st)] := hl
  refine zgets hx hb hts hown hK.st.1 hC.cs q137 (fun _ h => h) dJ0_isLatin1_0 ?_
  refine lv_if_eq (tgt := 17) hx hb dJ0_isLatin1_3 (by decide) (fun z => absurd z (by decide)) (fun _ => ?_)
  refine lv_aload_n hx hb dJ0_isLatin1_6 rfl (lv_at hl 0 rfl) ?_
  refine zgetW hx hb hts hown hK h_st rfl in_J0 1 (by decide) q721 (fun _ h => h) (v := .int (nI 0)) rfl dJ0_isLatin1_7 ?_
  refine lv_if_ne (tgt := 17) hx hb dJ0_isLatin1_10 (by decide) (fun z => absurd (by decide) z) (fun _ => ?_)
  refine lv_iconst (v := (nI 1)) hx hb dJ0_isLatin1_13 (by decide) ?_
  refine lv_goto (tgt := 18) hx hb dJ0_isLatin1_14 (by decide) ?_
  exact zri hx hb hr hlk hH hQ rfl hS ⟨rfl, rfl⟩ (Nat.le_of_ble_eq_true rfl) (Nat.le_of_ble_eq_true rfl) dJ0_isLatin1_18
abbrev rmJ0_length : Room := ({ frames := 1, cells := 0, slots := 0, locals := 20 } : Room)
set_option maxHeartbeats 1000000 in
theorem kJ0_length (l : Launch) {G : zG} {H0 : Heap} (st vs len : Nat) (hh hz : Int32) (fv : Nat → Int32) (hlen : len < 2147483648) (hC : zC G H0) (h_st : zOw G st 11 [.ref vs, .int (nI 0), .int hh, .int hz] H0) (h_vs : zTw G vs 2 len fv H0) : zM l G yJ0_length cJ0_length 1 (some .int) rmJ0_length H0 [.ref st] (fun v H1 => H0 = H1 ∧ v = some (.int (nI len))) (zN) := by
  refine zM.start (own := RJ0) (by decide) rfl (Nat.le_of_ble_eq_true rfl) ?_
  intro p e s m args below meth c ls Q hx hb hml hr hlk hnm hown hts hK hH hQ hl hS
  have hl : lv_has ls 1 [(0, .ref st)] := hl
  refine lv_aload_n hx hb dJ0_length_0 rfl (lv_at hl 0 rfl) ?_
  refine zgetW hx hb hts hown hK h_st rfl in_J0 0 (by decide) q720 (fun _ h => h) (v := .ref vs) rfl dJ0_length_1 ?_
  refine zalenW hx hb hK h_vs (by decide) dJ0_length_4 ?_
  refine lv_aload_n hx hb dJ0_length_5 rfl (lv_at hl 0 rfl) ?_
  refine zcV 0 ⟨hx, hb, hml, hown, hts, hK⟩ (kJ0_coder l st vs hh hz hC h_st) q573 q574 q575 q47 q576 (by decide +kernel) ⟨Nat.le_of_ble_eq_true rfl, Nat.le_of_ble_eq_true rfl⟩ (zrecvW hK h_st rfl) rfl hl.1 (rest := [.int (nI len)]) rfl (Nat.le_of_ble_eq_true rfl) dJ0_length_6 ⟨by first | decide | omega, by first | decide | omega⟩ hS (fun _ h => h.elim) (fun v_c H1 locs hp_c hz_c hk_c hS => ?_)
  obtain ⟨rfl, rfl⟩ := hp_c
  refine lv_ishr hx hb dJ0_length_9 ?_
  refine zTop (y := (nI len)) (zshr0 _) ?_
  exact zri hx hb hr hlk hH hQ rfl hS ⟨rfl, rfl⟩ (Nat.le_of_ble_eq_true rfl) (Nat.le_of_ble_eq_true rfl) dJ0_length_10
abbrev rmJ1_canEncode : Room := ({ frames := 0, cells := 0, slots := 0, locals := 0 } : Room)
set_option maxHeartbeats 1000000 in
theorem kJ1_canEncode (l : Launch) {G : zG} {H0 : Heap} (ch : Nat) (hch : ch ≤ 255) : zM l G yJ1_canEncode cJ1_canEncode 1 (some .boolean) rmJ1_canEncode H0 [.int (nI ch)] (fun v H1 => H0 = H1 ∧ v = some (.int (nI 1))) (zN) := by
  refine zM.start (own := RJ1) (by decide) rfl (Nat.le_of_ble_eq_true rfl) ?_
  intro p e s m args below meth c ls Q hx hb hml hr hlk hnm hown hts hK hH hQ hl hS
  have hl : lv_has ls 1 [(0, .int (nI ch))] := hl
  refine lv_iload_n hx hb dJ1_canEncode_0 rfl (lv_at hl 0 rfl) ?_
  refine lv_sipush (v := (nI 255)) hx hb dJ1_canEncode_1 (by decide) ?_
  refine lv_icmp_gt (tgt := 11) hx hb dJ1_canEncode_4 (by decide) (fun c_4 => ?_) (fun c_4 => ?_)
  · have c_4 : 255 < ch := (nI_ltI (by omega) (by omega)).mp c_4
    exact absurd hch (by omega)
  · have c_4 : ¬ (255 < ch) := fun z => c_4 ((nI_ltI (by omega) (by omega)).mpr z)
    refine lv_iconst (v := (nI 1)) hx hb dJ1_canEncode_7 (by decide) ?_
    refine lv_goto (tgt := 12) hx hb dJ1_canEncode_8 (by decide) ?_
    exact zri hx hb hr hlk hH hQ rfl hS ⟨rfl, rfl⟩ (Nat.le_of_ble_eq_true rfl) (Nat.le_of_ble_eq_true rfl) dJ1_canEncode_12
abbrev rmJ7_isLatin1 : Room := ({ frames := 0, cells := 0, slots := 0, locals := 0 } : Room)
set_option maxHeartbeats 1000000 in
theorem kJ7_isLatin1 (l : Launch) {G : zG} {H0 : Heap} (tb vb cn : Nat) (ml : Int32) (hC : zC G H0) (h_tb : zO G tb 10 [.ref vb, .int (nI 0), .int ml, .int (nI cn)] H0) : zM l G yJ7_isLatin1 cJ7_isLatin1 1 (some .boolean) rmJ7_isLatin1 H0 [.ref tb] (fun v H1 => H0 = H1 ∧ v = some (.int (nI 1))) (zN) := by
  refine zM.start (own := RJ7) (by decide) rfl (Nat.le_of_ble_eq_true rfl) ?_
  intro p e s m args below meth c ls Q hx hb hml hr hlk hnm hown hts hK hH hQ hl hS
  have hl : lv_has ls 1 [(0, .ref tb)] := hl
  refine zgets hx hb hts hown hK.st.1 hC.cs q408 (fun _ h => h) dJ7_isLatin1_0 ?_
  refine lv_if_eq (tgt := 17) hx hb dJ7_isLatin1_3 (by decide) (fun z => absurd z (by decide)) (fun _ => ?_)
  refine lv_aload_n hx hb dJ7_isLatin1_6 rfl (lv_at hl 0 rfl) ?_
  refine zget hx hb hts hown hK h_tb rfl in_J8 1 (by decide) q417 (fun _ h => h) (v := .int (nI 0)) rfl dJ7_isLatin1_7 ?_
  refine lv_if_ne (tgt := 17) hx hb dJ7_isLatin1_10 (by decide) (fun z => absurd (by decide) z) (fun _ => ?_)
  refine lv_iconst (v := (nI 1)) hx hb dJ7_isLatin1_13 (by decide) ?_
  refine lv_goto (tgt := 18) hx hb dJ7_isLatin1_14 (by decide) ?_
  exact zri hx hb hr hlk hH hQ rfl hS ⟨rfl, rfl⟩ (Nat.le_of_ble_eq_true rfl) (Nat.le_of_ble_eq_true rfl) dJ7_isLatin1_18
abbrev rmJ7_getValue : Room := ({ frames := 0, cells := 0, slots := 0, locals := 0 } : Room)
set_option maxHeartbeats 1000000 in
theorem kJ7_getValue (l : Launch) {G : zG} {H0 : Heap} (tb vb cn : Nat) (ml : Int32) (h_tb : zO G tb 10 [.ref vb, .int (nI 0), .int ml, .int (nI cn)] H0) : zM l G yJ7_getValue cJ7_getValue 1 (some (.array .byte)) rmJ7_getValue H0 [.ref tb] (fun v H1 => H0 = H1 ∧ v = some (.ref vb)) (zN) := by
  refine zM.start (own := RJ7) (by decide) rfl (Nat.le_of_ble_eq_true rfl) ?_
  intro p e s m args below meth c ls Q hx hb hml hr hlk hnm hown hts hK hH hQ hl hS
  have hl : lv_has ls 1 [(0, .ref tb)] := hl
  refine lv_aload_n hx hb dJ7_getValue_0 rfl (lv_at hl 0 rfl) ?_
  refine zget hx hb hts hown hK h_tb rfl in_J8 0 (by decide) q416 (fun _ h => h) (v := .ref vb) rfl dJ7_getValue_1 ?_
  exact zra hx hb hr (Or.inr ⟨_, rfl⟩) hlk hH hQ hS ⟨rfl, rfl⟩ (Nat.le_of_ble_eq_true rfl) (Nat.le_of_ble_eq_true rfl) dJ7_getValue_4
abbrev rmJ7_length : Room := ({ frames := 0, cells := 0, slots := 0, locals := 0 } : Room)
set_option maxHeartbeats 1000000 in
theorem kJ7_length (l : Launch) {G : zG} {H0 : Heap} (tb vb cn : Nat) (ml : Int32) (h_tb : zO G tb 10 [.ref vb, .int (nI 0), .int ml, .int (nI cn)] H0) : zM l G yJ7_length cJ7_length 1 (some .int) rmJ7_length H0 [.ref tb] (fun v H1 => H0 = H1 ∧ v = some (.int (nI cn))) (zN) := by
  refine zM.start (own := RJ7) (by decide) rfl (Nat.le_of_ble_eq_true rfl) ?_
  intro p e s m args below meth c ls Q hx hb hml hr hlk hnm hown hts hK hH hQ hl hS
  have hl : lv_has ls 1 [(0, .ref tb)] := hl
  refine lv_aload_n hx hb dJ7_length_0 rfl (lv_at hl 0 rfl) ?_
  refine zget hx hb hts hown hK h_tb rfl in_J8 3 (by decide) q420 (fun _ h => h) (v := .int (nI cn)) rfl dJ7_length_1 ?_
  exact zri hx hb hr hlk hH hQ rfl hS ⟨rfl, rfl⟩ (Nat.le_of_ble_eq_true rfl) (Nat.le_of_ble_eq_true rfl) dJ7_length_4
abbrev rmJ8_length : Room := ({ frames := 1, cells := 0, slots := 0, locals := 20 } : Room)
set_option maxHeartbeats 1000000 in
theorem kJ8_length (l : Launch) {G : zG} {H0 : Heap} (tb vb cn : Nat) (ml : Int32) (h_tb : zO G tb 10 [.ref vb, .int (nI 0), .int ml, .int (nI cn)] H0) : zM l G yJ8_length cJ8_length 1 (some .int) rmJ8_length H0 [.ref tb] (fun v H1 => H0 = H1 ∧ v = some (.int (nI cn))) (zN) := by
  refine zM.start (own := RJ8) (by decide) rfl (Nat.le_of_ble_eq_true rfl) ?_
  intro p e s m args below meth c ls Q hx hb hml hr hlk hnm hown hts hK hH hQ hl hS
  have hl : lv_has ls 1 [(0, .ref tb)] := hl
  refine lv_aload_n hx hb dJ8_length_0 rfl (lv_at hl 0 rfl) ?_
  refine zcSU 0 ⟨hx, hb, hml, hown, hts, hK⟩ (kJ7_length l tb vb cn ml  h_tb) q629 q630 q1492 q429 q60 q631 (by decide +kernel) ⟨Nat.le_of_ble_eq_true rfl, Nat.le_of_ble_eq_true rfl⟩ h_tb rfl rfl hl.1 (rest := []) rfl (Nat.le_of_ble_eq_true rfl) dJ8_length_1 ⟨by first | decide | omega, by first | decide | omega⟩ hS (fun _ h => h.elim) (fun v_c H1 locs hp_c hz_c hk_c hS => ?_)
  obtain ⟨rfl, rfl⟩ := hp_c
  exact zri hx hb hr hlk hH hQ rfl hS ⟨rfl, rfl⟩ (Nat.le_of_ble_eq_true rfl) (Nat.le_of_ble_eq_true rfl) dJ8_length_4
abbrev rmJ2_newLength : Room := ({ frames := 2, cells := 0, slots := 0, locals := 49 } : Room)
set_option maxHeartbeats 1000000 in
theorem kJ2_newLength (l : Launch) {G : zG} {H0 : Heap} (k1 k2 k3 : Nat) (h1 : k1 ≤ 1000) (h2 : k2 ≤ 10000) (h3 : k3 ≤ 10000) (h4 : 0 < k2) : zM l G yJ2_newLength cJ2_newLength 4 (some .int) rmJ2_newLength H0 [.int (nI k1), .int (nI k2), .int (nI k3)] (fun v H1 => H0 = H1 ∧ v = some (.int (nI (k1 + max k2 k3)))) (zN) := by
  refine zM.start (own := RJ2) (by decide) rfl (Nat.le_of_ble_eq_true rfl) ?_
  intro p e s m args below meth c ls Q hx hb hml hr hlk hnm hown hts hK hH hQ hl hS
  have hl : lv_has ls 4 [(0, .int (nI k1)), (1, .int (nI k2)), (2, .int (nI k3))] := hl
  refine lv_iload_n hx hb dJ2_newLength_0 rfl (lv_at hl 0 rfl) ?_
  refine lv_iload_n hx hb dJ2_newLength_1 rfl (lv_at hl 1 rfl) ?_
  refine lv_iload_n hx hb dJ2_newLength_2 rfl (lv_at hl 2 rfl) ?_
  refine va_mmax hx hb (by rw [hml]; exact hl.1.symm) hown (hts _ q523) (hts _ q524) (hts _ q64) (hts _ q525) (Nat.le_of_ble_eq_true rfl) (Nat.le_of_ble_eq_true rfl) (by first | decide | omega) (by first | decide | omega) dJ2_newLength_3 ?_
  refine zTop (y := nI (max k2 k3)) (zmaxN (by omega) (by omega)) ?_
  refine lv_iadd hx hb dJ2_newLength_6 ?_
  refine zTop (y := nI (k1 + (max k2 k3))) (zadd (by omega)) ?_
  refine lv_istore_n (lv' := [(3, .int (nI (k1 + (max k2 k3)))), (0, .int (nI k1)), (1, .int (nI k2)), (2, .int (nI k3))]) hx hb dJ2_newLength_7 rfl hl (by decide) rfl (fun ls hl => ?_)
  refine lv_iconst (v := (nI 0)) hx hb dJ2_newLength_8 (by decide) ?_
  refine lv_iload_n hx hb dJ2_newLength_9 rfl (lv_at hl 0 rfl) ?_
  refine lv_icmp_ge (tgt := 21) hx hb dJ2_newLength_10 (by decide) (fun c_10 => ?_) (fun c_10 => ?_)
  · have c_10 : (k1 + (max k2 k3)) ≤ 0 := (nI_leI (by omega) (by omega)).mp c_10
    exact absurd c_10 (by omega)
  · have c_10 : ¬ ((k1 + (max k2 k3)) ≤ 0) := fun z => c_10 ((nI_leI (by omega) (by omega)).mpr z)
    refine lv_iload_n hx hb dJ2_newLength_13 rfl (lv_at hl 0 rfl) ?_
    refine lv_ldc (v := (nI 2147483639)) hx hb hown (hts _ q526) dJ2_newLength_14 ?_
    refine lv_icmp_gt (tgt := 21) hx hb dJ2_newLength_16 (by decide) (fun c_16 => ?_) (fun c_16 => ?_)
    · have c_16 : 2147483639 < (k1 + (max k2 k3)) := (nI_ltI (by omega) (by omega)).mp c_16
      exact absurd c_16 (by omega)
    · have c_16 : ¬ (2147483639 < (k1 + (max k2 k3))) := fun z => c_16 ((nI_ltI (by omega) (by omega)).mpr z)
      refine lv_iload_n hx hb dJ2_newLength_19 rfl (lv_at hl 0 rfl) ?_
      exact zri hx hb hr hlk hH hQ rfl hS ⟨rfl, congrArg (fun z => some (Value.int z)) (by first | rfl | simp [*])⟩ (Nat.le_of_ble_eq_true rfl) (Nat.le_of_ble_eq_true rfl) dJ2_newLength_20
