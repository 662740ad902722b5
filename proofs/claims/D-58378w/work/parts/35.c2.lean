/-! the component's methods, II: the operations, a cycle -/
set_option maxRecDepth 100000
abbrev rmX6_beginLoad : Room := ({ frames := 0, cells := 0, slots := 0, locals := 0 } : Room)
set_option maxHeartbeats 1000000 in
theorem kX6_beginLoad (l : Launch) {G : zG} {H0 : Heap} {own y pr : Nat → Nat} {x tr : Nat} {S C D E : Nat → Int32} (t r w1 : Nat) (ht : t < 4) (hr : r < 4) (hw1 : w1 < 32) (hM : PM G own y x pr S C D E tr H0) : zM l G yX6_beginLoad cX6_beginLoad 4 none rmX6_beginLoad H0 [.ref (y 17), .ref (y (9 + t)), .int (nI r), .int (nI w1)] (fun v H1 => v = none ∧ PM G own y x pr (upd (upd (upd (upd S (14 * t) (nI 2)) (14 * t + 6) (nI r)) (14 * t + 7) (nI (200 + w1))) (14 * t + 8) (S 232 + nI 1 + S 242)) C D E tr H1) (pA own y) := by
  refine zM.start (own := RX6) (by decide) rfl (Nat.le_of_ble_eq_true rfl) ?_
  intro p e s m args below meth c ls Q hx hb hml hr hlk hnm hown hts hK hH hQ hl hS
  have hl : lv_has ls 4 [(0, .ref (y 17)), (1, .ref (y (9 + t))), (2, .int (nI r)), (3, .int (nI w1))] := hl
  refine lv_aload_n hx hb dX6_beginLoad_0 rfl (lv_at hl 1 rfl) ?_
  refine lv_iconst (v := (nI 2)) hx hb dX6_beginLoad_1 (by decide) ?_
  refine zputN hx hb hts hown hK (hM.l (t := t) (by omega)) hS (hM.w (by omega)) rfl in_X7 tyX7_ok nmX7 2 (by decide) (hK.f 30 rfl) (fun _ h => h) rfl rfl rfl (Nat.le_of_ble_eq_true rfl) dX6_beginLoad_2 (fun H1 locs h_o hz_o hq_o hS => ?_)
  have hM := hM.putSt (t := t) (by omega) h_o hq_o
  refine lv_aload_n hx hb dX6_beginLoad_5 rfl (lv_at hl 1 rfl) ?_
  refine lv_iload_n hx hb dX6_beginLoad_6 rfl (lv_at hl 2 rfl) ?_
  refine zputN hx hb hts hown hK (hM.l (t := t) (by omega)) hS (hM.w (by omega)) rfl in_X7 tyX7_ok nmX7 3 (by decide) (hK.f 31 rfl) (fun _ h => h) rfl rfl rfl (Nat.le_of_ble_eq_true rfl) dX6_beginLoad_7 (fun H2 locs h_o hz_o hq_o hS => ?_)
  have hM := hM.putLr (t := t) (by omega) h_o hq_o
  refine lv_aload_n hx hb dX6_beginLoad_10 rfl (lv_at hl 1 rfl) ?_
  refine lv_iload_n hx hb dX6_beginLoad_11 rfl (lv_at hl 3 rfl) ?_
  refine zputN hx hb hts hown hK (hM.l (t := t) (by omega)) hS (hM.w (by omega)) rfl in_X7 tyX7_ok nmX7 4 (by decide) (hK.f 32 rfl) (fun _ h => h) rfl rfl rfl (Nat.le_of_ble_eq_true rfl) dX6_beginLoad_12 (fun H3 locs h_o hz_o hq_o hS => ?_)
  have hM := hM.putLw (t := t) (v1 := w1) (by omega) (by omega) h_o hq_o
  refine lv_aload_n hx hb dX6_beginLoad_15 rfl (lv_at hl 1 rfl) ?_
  refine lv_aload_n hx hb dX6_beginLoad_16 rfl (lv_at hl 0 rfl) ?_
  refine zget hx hb hts hown hK hM.o rfl in_X6 6 (by decide) q333 (fun _ h => h) (v := .int ((upd (upd (upd S (14 * t) (nI 2)) (14 * t + 6) (nI r)) (14 * t + 7) (nI (200 + w1))) 232)) rfl dX6_beginLoad_17 ?_
  refine zTop (y := (S 232)) ((upd_n (by omega)).trans ((upd_n (by omega)).trans (upd_n (by omega)))) ?_
  refine lv_iconst (v := (nI 1)) hx hb dX6_beginLoad_20 (by decide) ?_
  refine lv_iadd hx hb dX6_beginLoad_21 ?_
  refine lv_aload_n hx hb dX6_beginLoad_22 rfl (lv_at hl 0 rfl) ?_
  refine zget hx hb hts hown hK hM.o rfl in_X6 4 (by decide) q329 (fun _ h => h) (v := .ref (y 4)) rfl dX6_beginLoad_23 ?_
  refine lv_iconst (v := (nI 0)) hx hb dX6_beginLoad_26 (by decide) ?_
  refine ziald hx hb hK hM.a4 0 (by omega) (by decide) dX6_beginLoad_27 ?_
  refine zTop (y := (S (242 + 0))) ((upd_n (by omega)).trans ((upd_n (by omega)).trans (upd_n (by omega)))) ?_
  refine lv_iadd hx hb dX6_beginLoad_28 ?_
  refine zputN hx hb hts hown hK (hM.l (t := t) (by omega)) hS (hM.w (by omega)) rfl in_X7 tyX7_ok nmX7 5 (by decide) (hK.f 33 rfl) (fun _ h => h) rfl rfl rfl (Nat.le_of_ble_eq_true rfl) dX6_beginLoad_29 (fun H4 locs h_o hz_o hq_o hS => ?_)
  have hM := hM.putLc (t := t) (by omega) h_o hq_o
  exact zrv hx hb hr hlk hH hQ hS ⟨rfl, hM⟩ (Nat.le_of_ble_eq_true rfl) (Nat.le_of_ble_eq_true rfl) dX6_beginLoad_32
abbrev rmX6_swap : Room := ({ frames := 0, cells := 0, slots := 0, locals := 0 } : Room)
set_option maxHeartbeats 1000000 in
theorem kX6_swap (l : Launch) {G : zG} {H0 : Heap} {own y pr : Nat → Nat} {x tr : Nat} {S C D E : Nat → Int32} (t r w1 : Nat) (ht : t < 4) (hr : r < 4) (hw1 : w1 < 32) (hM : PM G own y x pr S C D E tr H0) : zM l G yX6_swap cX6_swap 5 none rmX6_swap H0 [.ref (y 17), .ref (y (9 + t)), .int (nI r), .int (nI w1)] (fun v H1 => v = none ∧ PM G own y x pr (upd (upd S (200 + w1) (S (14 * t + (2 + r)))) (14 * t + (2 + r)) (S (200 + w1))) C D E tr H1) (pA own y) := by
  refine zM.start (own := RX6) (by decide) rfl (Nat.le_of_ble_eq_true rfl) ?_
  intro p e s m args below meth c ls Q hx hb hml hr hlk hnm hown hts hK hH hQ hl hS
  have hl : lv_has ls 5 [(0, .ref (y 17)), (1, .ref (y (9 + t))), (2, .int (nI r)), (3, .int (nI w1))] := hl
  refine lv_aload_n hx hb dX6_swap_0 rfl (lv_at hl 0 rfl) ?_
  refine zget hx hb hts hown hK hM.o rfl in_X6 2 (by decide) q325 (fun _ h => h) (v := .ref (y 2)) rfl dX6_swap_1 ?_
  refine lv_iload_n hx hb dX6_swap_4 rfl (lv_at hl 3 rfl) ?_
  refine ziald hx hb hK hM.a2 w1 (by omega) (by decide) dX6_swap_5 ?_
  refine zTop (y := (S (200 + w1))) rfl ?_
  refine lv_istore (lv' := [(4, .int (S (200 + w1))), (0, .ref (y 17)), (1, .ref (y (9 + t))), (2, .int (nI r)), (3, .int (nI w1))]) hx hb dX6_swap_6 hl (by decide) rfl (fun ls hl => ?_)
  refine lv_aload_n hx hb dX6_swap_8 rfl (lv_at hl 1 rfl) ?_
  refine zget hx hb hts hown hK hM.o rfl in_X6 2 (by decide) q325 (fun _ h => h) (v := .ref (y 2)) rfl dX6_swap_9 ?_
  refine lv_iload_n hx hb dX6_swap_12 rfl (lv_at hl 4 rfl) ?_
  refine lv_aload_n hx hb dX6_swap_13 rfl (lv_at hl 2 rfl) ?_
  refine zgetN hx hb hts hown hK (hM.l (t := t) (by omega)) rfl in_X7 0 (by decide) (hK.f 28 rfl) (fun _ h => h) (v := .ref (y (13 + t))) rfl dX6_swap_14 ?_
  refine lv_iload_n hx hb dX6_swap_17 rfl (lv_at hl 3 rfl) ?_
  refine ziald hx hb hK (hM.r (t := t) (by omega)) r (by omega) (by decide) dX6_swap_18 ?_
  refine zTop (y := (S (14 * t + (2 + r)))) rfl ?_
  refine ziast hx hb hK hM.a2 hS (hM.w (by decide)) w1 (by omega) (by decide) dX6_swap_19 (fun H1 locs h_o hz_o hq_o hS => ?_)
  have hM := hM.put2 (i := w1) (by omega) h_o hq_o
  refine lv_aload_n hx hb dX6_swap_20 rfl (lv_at hl 2 rfl) ?_
  refine zgetN hx hb hts hown hK (hM.l (t := t) (by omega)) rfl in_X7 0 (by decide) (hK.f 28 rfl) (fun _ h => h) (v := .ref (y (13 + t))) rfl dX6_swap_21 ?_
  refine lv_iload_n hx hb dX6_swap_24 rfl (lv_at hl 3 rfl) ?_
  refine lv_iload hx hb dX6_swap_25 (lv_at hl 0 rfl) ?_
  refine ziast hx hb hK (hM.r (t := t) (by omega)) hS (hM.w (by omega)) r (by omega) (by decide) dX6_swap_27 (fun H2 locs h_o hz_o hq_o hS => ?_)
  have hM := hM.putR (t := t) (i := r) (by omega) (by omega) h_o hq_o
  exact zrv hx hb hr hlk hH hQ hS ⟨rfl, hM⟩ (Nat.le_of_ble_eq_true rfl) (Nat.le_of_ble_eq_true rfl) dX6_swap_28
abbrev rmX0_lambda_new_0 : Room := ({ frames := 1, cells := 0, slots := 0, locals := 22 } : Room)
set_option maxHeartbeats 1000000 in
theorem kX0_lambda_new_0 (l : Launch) {G : zG} {H0 : Heap} {own y pr : Nat → Nat} {x tr : Nat} {S C D E : Nat → Int32} (t r : Nat) (xx : Int32) (ht : t < 4) (hr : r < 4)  (hM : PM G own y x pr S C D E tr H0) : zM l G yX0_lambda_new_0 cX0_lambda_new_0 4 none rmX0_lambda_new_0 H0 [.ref (y 17), .ref (y (9 + t)), .int (nI r), .int xx] (fun v H1 => v = none ∧ PM G own y x pr (mDoes S t 0 r xx) C D E tr H1) (pA own y) := by
  refine zM.start (own := RX0) (by decide) rfl (Nat.le_of_ble_eq_true rfl) ?_
  intro p e s m args below meth c ls Q hx hb hml hr hlk hnm hown hts hK hH hQ hl hS
  have hl : lv_has ls 4 [(0, .ref (y 17)), (1, .ref (y (9 + t))), (2, .int (nI r)), (3, .int xx)] := hl
  refine lv_aload_n hx hb dX0_lambda_new_0_0 rfl (lv_at hl 1 rfl) ?_
  refine lv_iload_n hx hb dX0_lambda_new_0_1 rfl (lv_at hl 2 rfl) ?_
  refine lv_iload_n hx hb dX0_lambda_new_0_2 rfl (lv_at hl 3 rfl) ?_
  refine zcV 2 ⟨hx, hb, hml, hown, hts, hK⟩ (kX7_set l t r xx (by omega) (by omega) hM) q81 q82 q83 q56 q84 (by decide +kernel) ⟨Nat.le_of_ble_eq_true rfl, Nat.le_of_ble_eq_true rfl⟩ (zrecv hK (hM.l (t := t) (by omega)) rfl) rfl hl.1 (rest := []) rfl (Nat.le_of_ble_eq_true rfl) dX0_lambda_new_0_3 ⟨by first | decide | omega, by first | decide | omega⟩ hS (fun _ h => h) (fun v_c H1 locs hp_c hz_c hk_c hS => ?_)
  obtain ⟨rfl, hM⟩ := hp_c
  exact zrv hx hb hr hlk hH hQ hS ⟨rfl, hM⟩ (Nat.le_of_ble_eq_true rfl) (Nat.le_of_ble_eq_true rfl) dX0_lambda_new_0_6
abbrev rmX0_lambda_new_1 : Room := ({ frames := 1, cells := 0, slots := 0, locals := 22 } : Room)
set_option maxHeartbeats 1000000 in
theorem kX0_lambda_new_1 (l : Launch) {G : zG} {H0 : Heap} {own y pr : Nat → Nat} {x tr : Nat} {S C D E : Nat → Int32} (t r q : Nat) (ht : t < 4) (hr : r < 4) (hq4 : q < 4) (hM : PM G own y x pr S C D E tr H0) : zM l G yX0_lambda_new_1 cX0_lambda_new_1 4 none rmX0_lambda_new_1 H0 [.ref (y 17), .ref (y (9 + t)), .int (nI r), .int (nI q)] (fun v H1 => v = none ∧ PM G own y x pr (mDoes S t 1 r (nI q)) C D E tr H1) (pA own y) := by
  refine zM.start (own := RX0) (by decide) rfl (Nat.le_of_ble_eq_true rfl) ?_
  intro p e s m args below meth c ls Q hx hb hml hr hlk hnm hown hts hK hH hQ hl hS
  have hl : lv_has ls 4 [(0, .ref (y 17)), (1, .ref (y (9 + t))), (2, .int (nI r)), (3, .int (nI q))] := hl
  refine lv_aload_n hx hb dX0_lambda_new_1_0 rfl (lv_at hl 1 rfl) ?_
  refine lv_iload_n hx hb dX0_lambda_new_1_1 rfl (lv_at hl 2 rfl) ?_
  refine lv_aload_n hx hb dX0_lambda_new_1_2 rfl (lv_at hl 1 rfl) ?_
  refine zgetN hx hb hts hown hK (hM.l (t := t) (by omega)) rfl in_X7 0 (by decide) (hK.f 3 rfl) (fun _ h => h) (v := .ref (y (13 + t))) rfl dX0_lambda_new_1_3 ?_
  refine lv_iload_n hx hb dX0_lambda_new_1_6 rfl (lv_at hl 2 rfl) ?_
  refine ziald hx hb hK (hM.r (t := t) (by omega)) r (by omega) (by decide) dX0_lambda_new_1_7 ?_
  refine zTop (y := (S (14 * t + (2 + r)))) rfl ?_
  refine lv_aload_n hx hb dX0_lambda_new_1_8 rfl (lv_at hl 1 rfl) ?_
  refine zgetN hx hb hts hown hK (hM.l (t := t) (by omega)) rfl in_X7 0 (by decide) (hK.f 3 rfl) (fun _ h => h) (v := .ref (y (13 + t))) rfl dX0_lambda_new_1_9 ?_
  refine lv_iload_n hx hb dX0_lambda_new_1_12 rfl (lv_at hl 3 rfl) ?_
  refine ziald hx hb hK (hM.r (t := t) (by omega)) q (by omega) (by decide) dX0_lambda_new_1_13 ?_
  refine zTop (y := (S (14 * t + (2 + q)))) rfl ?_
  refine lv_iadd hx hb dX0_lambda_new_1_14 ?_
  refine zcV 2 ⟨hx, hb, hml, hown, hts, hK⟩ (kX7_set l t r ((S (14 * t + (2 + r))) + (S (14 * t + (2 + q)))) (by omega) (by omega) hM) q81 q82 q83 q56 q84 (by decide +kernel) ⟨Nat.le_of_ble_eq_true rfl, Nat.le_of_ble_eq_true rfl⟩ (zrecv hK (hM.l (t := t) (by omega)) rfl) rfl hl.1 (rest := []) rfl (Nat.le_of_ble_eq_true rfl) dX0_lambda_new_1_15 ⟨by first | decide | omega, by first | decide | omega⟩ hS (fun _ h => h) (fun v_c H1 locs hp_c hz_c hk_c hS => ?_)
  obtain ⟨rfl, hM⟩ := hp_c
  exact zrv hx hb hr hlk hH hQ hS ⟨rfl, (by rw [mDoes_1 hq4]; exact hM)⟩ (Nat.le_of_ble_eq_true rfl) (Nat.le_of_ble_eq_true rfl) dX0_lambda_new_1_18
abbrev rmX0_lambda_new_2 : Room := ({ frames := 1, cells := 0, slots := 0, locals := 22 } : Room)
set_option maxHeartbeats 1000000 in
theorem kX0_lambda_new_2 (l : Launch) {G : zG} {H0 : Heap} {own y pr : Nat → Nat} {x tr : Nat} {S C D E : Nat → Int32} (t r q : Nat) (ht : t < 4) (hr : r < 4) (hq4 : q < 4) (hM : PM G own y x pr S C D E tr H0) : zM l G yX0_lambda_new_2 cX0_lambda_new_2 4 none rmX0_lambda_new_2 H0 [.ref (y 17), .ref (y (9 + t)), .int (nI r), .int (nI q)] (fun v H1 => v = none ∧ PM G own y x pr (mDoes S t 2 r (nI q)) C D E tr H1) (pA own y) := by
  refine zM.start (own := RX0) (by decide) rfl (Nat.le_of_ble_eq_true rfl) ?_
  intro p e s m args below meth c ls Q hx hb hml hr hlk hnm hown hts hK hH hQ hl hS
  have hl : lv_has ls 4 [(0, .ref (y 17)), (1, .ref (y (9 + t))), (2, .int (nI r)), (3, .int (nI q))] := hl
  refine lv_aload_n hx hb dX0_lambda_new_2_0 rfl (lv_at hl 1 rfl) ?_
  refine lv_iload_n hx hb dX0_lambda_new_2_1 rfl (lv_at hl 2 rfl) ?_
  refine lv_aload_n hx hb dX0_lambda_new_2_2 rfl (lv_at hl 1 rfl) ?_
  refine zgetN hx hb hts hown hK (hM.l (t := t) (by omega)) rfl in_X7 0 (by decide) (hK.f 3 rfl) (fun _ h => h) (v := .ref (y (13 + t))) rfl dX0_lambda_new_2_3 ?_
  refine lv_iload_n hx hb dX0_lambda_new_2_6 rfl (lv_at hl 2 rfl) ?_
  refine ziald hx hb hK (hM.r (t := t) (by omega)) r (by omega) (by decide) dX0_lambda_new_2_7 ?_
  refine zTop (y := (S (14 * t + (2 + r)))) rfl ?_
  refine lv_aload_n hx hb dX0_lambda_new_2_8 rfl (lv_at hl 1 rfl) ?_
  refine zgetN hx hb hts hown hK (hM.l (t := t) (by omega)) rfl in_X7 0 (by decide) (hK.f 3 rfl) (fun _ h => h) (v := .ref (y (13 + t))) rfl dX0_lambda_new_2_9 ?_
  refine lv_iload_n hx hb dX0_lambda_new_2_12 rfl (lv_at hl 3 rfl) ?_
  refine ziald hx hb hK (hM.r (t := t) (by omega)) q (by omega) (by decide) dX0_lambda_new_2_13 ?_
  refine zTop (y := (S (14 * t + (2 + q)))) rfl ?_
  refine lv_isub hx hb dX0_lambda_new_2_14 ?_
  refine zcV 2 ⟨hx, hb, hml, hown, hts, hK⟩ (kX7_set l t r ((S (14 * t + (2 + r))) - (S (14 * t + (2 + q)))) (by omega) (by omega) hM) q81 q82 q83 q56 q84 (by decide +kernel) ⟨Nat.le_of_ble_eq_true rfl, Nat.le_of_ble_eq_true rfl⟩ (zrecv hK (hM.l (t := t) (by omega)) rfl) rfl hl.1 (rest := []) rfl (Nat.le_of_ble_eq_true rfl) dX0_lambda_new_2_15 ⟨by first | decide | omega, by first | decide | omega⟩ hS (fun _ h => h) (fun v_c H1 locs hp_c hz_c hk_c hS => ?_)
  obtain ⟨rfl, hM⟩ := hp_c
  exact zrv hx hb hr hlk hH hQ hS ⟨rfl, (by rw [mDoes_2 hq4]; exact hM)⟩ (Nat.le_of_ble_eq_true rfl) (Nat.le_of_ble_eq_true rfl) dX0_lambda_new_2_18
abbrev rmX0_lambda_new_3 : Room := ({ frames := 1, cells := 0, slots := 0, locals := 22 } : Room)
set_option maxHeartbeats 1000000 in
theorem kX0_lambda_new_3 (l : Launch) {G : zG} {H0 : Heap} {own y pr : Nat → Nat} {x tr : Nat} {S C D E : Nat → Int32} (t r q : Nat) (ht : t < 4) (hr : r < 4) (hq4 : q < 4) (hM : PM G own y x pr S C D E tr H0) : zM l G yX0_lambda_new_3 cX0_lambda_new_3 4 none rmX0_lambda_new_3 H0 [.ref (y 17), .ref (y (9 + t)), .int (nI r), .int (nI q)] (fun v H1 => v = none ∧ PM G own y x pr (mDoes S t 3 r (nI q)) C D E tr H1) (pA own y) := by
  refine zM.start (own := RX0) (by decide) rfl (Nat.le_of_ble_eq_true rfl) ?_
  intro p e s m args below meth c ls Q hx hb hml hr hlk hnm hown hts hK hH hQ hl hS
  have hl : lv_has ls 4 [(0, .ref (y 17)), (1, .ref (y (9 + t))), (2, .int (nI r)), (3, .int (nI q))] := hl
  refine lv_aload_n hx hb dX0_lambda_new_3_0 rfl (lv_at hl 1 rfl) ?_
  refine lv_iload_n hx hb dX0_lambda_new_3_1 rfl (lv_at hl 2 rfl) ?_
  refine lv_aload_n hx hb dX0_lambda_new_3_2 rfl (lv_at hl 1 rfl) ?_
  refine zgetN hx hb hts hown hK (hM.l (t := t) (by omega)) rfl in_X7 0 (by decide) (hK.f 3 rfl) (fun _ h => h) (v := .ref (y (13 + t))) rfl dX0_lambda_new_3_3 ?_
  refine lv_iload_n hx hb dX0_lambda_new_3_6 rfl (lv_at hl 2 rfl) ?_
  refine ziald hx hb hK (hM.r (t := t) (by omega)) r (by omega) (by decide) dX0_lambda_new_3_7 ?_
  refine zTop (y := (S (14 * t + (2 + r)))) rfl ?_
  refine lv_aload_n hx hb dX0_lambda_new_3_8 rfl (lv_at hl 1 rfl) ?_
  refine zgetN hx hb hts hown hK (hM.l (t := t) (by omega)) rfl in_X7 0 (by decide) (hK.f 3 rfl) (fun _ h => h) (v := .ref (y (13 + t))) rfl dX0_lambda_new_3_9 ?_
  refine lv_iload_n hx hb dX0_lambda_new_3_12 rfl (lv_at hl 3 rfl) ?_
  refine ziald hx hb hK (hM.r (t := t) (by omega)) q (by omega) (by decide) dX0_lambda_new_3_13 ?_
  refine zTop (y := (S (14 * t + (2 + q)))) rfl ?_
  refine lv_imul hx hb dX0_lambda_new_3_14 ?_
  refine zcV 2 ⟨hx, hb, hml, hown, hts, hK⟩ (kX7_set l t r ((S (14 * t + (2 + r))) * (S (14 * t + (2 + q)))) (by omega) (by omega) hM) q81 q82 q83 q56 q84 (by decide +kernel) ⟨Nat.le_of_ble_eq_true rfl, Nat.le_of_ble_eq_true rfl⟩ (zrecv hK (hM.l (t := t) (by omega)) rfl) rfl hl.1 (rest := []) rfl (Nat.le_of_ble_eq_true rfl) dX0_lambda_new_3_15 ⟨by first | decide | omega, by first | decide | omega⟩ hS (fun _ h => h) (fun v_c H1 locs hp_c hz_c hk_c hS => ?_)
  obtain ⟨rfl, hM⟩ := hp_c
  exact zrv hx hb hr hlk hH hQ hS ⟨rfl, (by rw [mDoes_3 hq4]; exact hM)⟩ (Nat.le_of_ble_eq_true rfl) (Nat.le_of_ble_eq_true rfl) dX0_lambda_new_3_18
abbrev rmX0_lambda_new_4 : Room := ({ frames := 1, cells := 0, slots := 0, locals := 23 } : Room)
set_option maxHeartbeats 1000000 in
theorem kX0_lambda_new_4 (l : Launch) {G : zG} {H0 : Heap} {own y pr : Nat → Nat} {x tr : Nat} {S C D E : Nat → Int32} (t r q : Nat) (ht : t < 4) (hr : r < 4) (hq4 : q < 4) (hM : PM G own y x pr S C D E tr H0) : zM l G yX0_lambda_new_4 cX0_lambda_new_4 4 none rmX0_lambda_new_4 H0 [.ref (y 17), .ref (y (9 + t)), .int (nI r), .int (nI q)] (fun v H1 => v = none ∧ PM G own y x pr (mDoes S t 4 r (nI q)) C D E tr H1) (pA own y) := by
  refine zM.start (own := RX0) (by decide) rfl (Nat.le_of_ble_eq_true rfl) ?_
  intro p e s m args below meth c ls Q hx hb hml hr hlk hnm hown hts hK hH hQ hl hS
  have hl : lv_has ls 4 [(0, .ref (y 17)), (1, .ref (y (9 + t))), (2, .int (nI r)), (3, .int (nI q))] := hl
  refine lv_aload_n hx hb dX0_lambda_new_4_0 rfl (lv_at hl 0 rfl) ?_
  refine lv_aload_n hx hb dX0_lambda_new_4_1 rfl (lv_at hl 1 rfl) ?_
  refine lv_iload_n hx hb dX0_lambda_new_4_2 rfl (lv_at hl 2 rfl) ?_
  refine lv_aload_n hx hb dX0_lambda_new_4_3 rfl (lv_at hl 1 rfl) ?_
  refine lv_iload_n hx hb dX0_lambda_new_4_4 rfl (lv_at hl 3 rfl) ?_
  refine zcV 1 ⟨hx, hb, hml, hown, hts, hK⟩ (kX7_address l t q (by omega) (by omega) hM) q93 q94 q95 q56 q96 (by decide +kernel) ⟨Nat.le_of_ble_eq_true rfl, Nat.le_of_ble_eq_true rfl⟩ (zrecv hK (hM.l (t := t) (by omega)) rfl) rfl hl.1 (rest := [.int (nI r), .ref (y (9 + t)), .ref (y 17)]) rfl (Nat.le_of_ble_eq_true rfl) dX0_lambda_new_4_5 ⟨by first | decide | omega, by first | decide | omega⟩ hS (fun _ h => h.elim) (fun v_c H1 locs hp_c hz_c hk_c hS => ?_)
  obtain ⟨rfl, rfl⟩ := hp_c
  obtain ⟨w, ew⟩ : ∃ w, w = zw (S (14 * t + (2 + q))) := ⟨_, rfl⟩
  have hw : w < 32 := by rw [ew]; exact zw_lt _
  refine zTop (y := (nI w)) (by rw [ew]) ?_
  refine zcV 3 ⟨hx, hb, hml, hown, hts, hK⟩ (kX6_beginLoad l t r w (by omega) (by omega) (by omega) hM) q97 q98 q99 q55 q100 (by decide +kernel) ⟨Nat.le_of_ble_eq_true rfl, Nat.le_of_ble_eq_true rfl⟩ (zrecv hK hM.o rfl) rfl hl.1 (rest := []) rfl (Nat.le_of_ble_eq_true rfl) dX0_lambda_new_4_8 ⟨by first | decide | omega, by first | decide | omega⟩ hS (fun _ h => h) (fun v_c H2 locs hp_c hz_c hk_c hS => ?_)
  obtain ⟨rfl, hM⟩ := hp_c
  exact zrv hx hb hr hlk hH hQ hS ⟨rfl, (by rw [mDoes_4, mWd_q hq4, ← ew]; exact hM)⟩ (Nat.le_of_ble_eq_true rfl) (Nat.le_of_ble_eq_true rfl) dX0_lambda_new_4_11
abbrev rmX0_lambda_new_5 : Room := ({ frames := 1, cells := 0, slots := 0, locals := 21 } : Room)
set_option maxHeartbeats 1000000 in
theorem kX0_lambda_new_5 (l : Launch) {G : zG} {H0 : Heap} {own y pr : Nat → Nat} {x tr : Nat} {S C D E : Nat → Int32} (t r q : Nat) (ht : t < 4) (hr : r < 4) (hq4 : q < 4) (hM : PM G own y x pr S C D E tr H0) : zM l G yX0_lambda_new_5 cX0_lambda_new_5 4 none rmX0_lambda_new_5 H0 [.ref (y 17), .ref (y (9 + t)), .int (nI r), .int (nI q)] (fun v H1 => v = none ∧ PM G own y x pr (mDoes S t 5 r (nI q)) C D E tr H1) (pA own y) := by
  refine zM.start (own := RX0) (by decide) rfl (Nat.le_of_ble_eq_true rfl) ?_
  intro p e s m args below meth c ls Q hx hb hml hr hlk hnm hown hts hK hH hQ hl hS
  have hl : lv_has ls 4 [(0, .ref (y 17)), (1, .ref (y (9 + t))), (2, .int (nI r)), (3, .int (nI q))] := hl
  refine lv_aload_n hx hb dX0_lambda_new_5_0 rfl (lv_at hl 0 rfl) ?_
  refine zgetN hx hb hts hown hK hM.o rfl in_X6 2 (by decide) (hK.f 11 rfl) (fun _ h => h) (v := .ref (y 2)) rfl dX0_lambda_new_5_1 ?_
  refine lv_aload_n hx hb dX0_lambda_new_5_4 rfl (lv_at hl 1 rfl) ?_
  refine lv_iload_n hx hb dX0_lambda_new_5_5 rfl (lv_at hl 3 rfl) ?_
  refine zcV 1 ⟨hx, hb, hml, hown, hts, hK⟩ (kX7_address l t q (by omega) (by omega) hM) q93 q94 q95 q56 q96 (by decide +kernel) ⟨Nat.le_of_ble_eq_true rfl, Nat.le_of_ble_eq_true rfl⟩ (zrecv hK (hM.l (t := t) (by omega)) rfl) rfl hl.1 (rest := [.ref (y 2)]) rfl (Nat.le_of_ble_eq_true rfl) dX0_lambda_new_5_6 ⟨by first | decide | omega, by first | decide | omega⟩ hS (fun _ h => h.elim) (fun v_c H1 locs hp_c hz_c hk_c hS => ?_)
  obtain ⟨rfl, rfl⟩ := hp_c
  obtain ⟨w, ew⟩ : ∃ w, w = zw (S (14 * t + (2 + q))) := ⟨_, rfl⟩
  have hw : w < 32 := by rw [ew]; exact zw_lt _
  refine zTop (y := (nI w)) (by rw [ew]) ?_
  refine lv_aload_n hx hb dX0_lambda_new_5_9 rfl (lv_at hl 1 rfl) ?_
  refine zgetN hx hb hts hown hK (hM.l (t := t) (by omega)) rfl in_X7 0 (by decide) (hK.f 3 rfl) (fun _ h => h) (v := .ref (y (13 + t))) rfl dX0_lambda_new_5_10 ?_
  refine lv_iload_n hx hb dX0_lambda_new_5_13 rfl (lv_at hl 2 rfl) ?_
  refine ziald hx hb hK (hM.r (t := t) (by omega)) r (by omega) (by decide) dX0_lambda_new_5_14 ?_
  refine zTop (y := (S (14 * t + (2 + r)))) rfl ?_
  refine ziast hx hb hK hM.a2 hS (hM.w (by decide)) w (by omega) (by decide) dX0_lambda_new_5_15 (fun H2 locs h_o hz_o hq_o hS => ?_)
  have hM := hM.put2 (i := w) (by omega) h_o hq_o
  exact zrv hx hb hr hlk hH hQ hS ⟨rfl, (by rw [mDoes_5, mWd_q hq4, ← ew]; exact hM)⟩ (Nat.le_of_ble_eq_true rfl) (Nat.le_of_ble_eq_true rfl) dX0_lambda_new_5_16
abbrev rmX0_lambda_new_6 : Room := ({ frames := 1, cells := 0, slots := 0, locals := 24 } : Room)
set_option maxHeartbeats 1000000 in
theorem kX0_lambda_new_6 (l : Launch) {G : zG} {H0 : Heap} {own y pr : Nat → Nat} {x tr : Nat} {S C D E : Nat → Int32} (t r q B : Nat) (ht : t < 4) (hr : r < 4) (hq4 : q < 4) (hI : InvS S B) (hM : PM G own y x pr S C D E tr H0) : zM l G yX0_lambda_new_6 cX0_lambda_new_6 4 none rmX0_lambda_new_6 H0 [.ref (y 17), .ref (y (9 + t)), .int (nI r), .int (nI q)] (fun v H1 => v = none ∧ PM G own y x pr (mDoes S t 6 r (nI q)) C D E tr H1) (pA own y) := by
  refine zM.start (own := RX0) (by decide) rfl (Nat.le_of_ble_eq_true rfl) ?_
  intro p e s m args below meth c ls Q hx hb hml hr hlk hnm hown hts hK hH hQ hl hS
  have hl : lv_has ls 4 [(0, .ref (y 17)), (1, .ref (y (9 + t))), (2, .int (nI r)), (3, .int (nI q))] := hl
  refine lv_aload_n hx hb dX0_lambda_new_6_0 rfl (lv_at hl 0 rfl) ?_
  refine lv_aload_n hx hb dX0_lambda_new_6_1 rfl (lv_at hl 1 rfl) ?_
  refine lv_iload_n hx hb dX0_lambda_new_6_2 rfl (lv_at hl 2 rfl) ?_
  refine lv_aload_n hx hb dX0_lambda_new_6_3 rfl (lv_at hl 1 rfl) ?_
  refine lv_iload_n hx hb dX0_lambda_new_6_4 rfl (lv_at hl 3 rfl) ?_
  refine zcV 1 ⟨hx, hb, hml, hown, hts, hK⟩ (kX7_address l t q (by omega) (by omega) hM) q93 q94 q95 q56 q96 (by decide +kernel) ⟨Nat.le_of_ble_eq_true rfl, Nat.le_of_ble_eq_true rfl⟩ (zrecv hK (hM.l (t := t) (by omega)) rfl) rfl hl.1 (rest := [.int (nI r), .ref (y (9 + t)), .ref (y 17)]) rfl (Nat.le_of_ble_eq_true rfl) dX0_lambda_new_6_5 ⟨by first | decide | omega, by first | decide | omega⟩ hS (fun _ h => h.elim) (fun v_c H1 locs hp_c hz_c hk_c hS => ?_)
  obtain ⟨rfl, rfl⟩ := hp_c
  obtain ⟨w, ew⟩ : ∃ w, w = zw (S (14 * t + (2 + q))) := ⟨_, rfl⟩
  have hw : w < 32 := by rw [ew]; exact zw_lt _
  refine zTop (y := (nI w)) (by rw [ew]) ?_
  refine zcV 3 ⟨hx, hb, hml, hown, hts, hK⟩ (kX6_swap l t r w (by omega) (by omega) (by omega) hM) q105 q106 q107 q55 q108 (by decide +kernel) ⟨Nat.le_of_ble_eq_true rfl, Nat.le_of_ble_eq_true rfl⟩ (zrecv hK hM.o rfl) rfl hl.1 (rest := []) rfl (Nat.le_of_ble_eq_true rfl) dX0_lambda_new_6_8 ⟨by first | decide | omega, by first | decide | omega⟩ hS (fun _ h => h) (fun v_c H2 locs hp_c hz_c hk_c hS => ?_)
  obtain ⟨rfl, hM⟩ := hp_c
  exact zrv hx hb hr hlk hH hQ hS ⟨rfl, (by rw [mDoes_6, mWd_q hq4, ← ew, upd_c (by omega), InvS_sh hI (by omega)]; exact hM)⟩ (Nat.le_of_ble_eq_true rfl) (Nat.le_of_ble_eq_true rfl) dX0_lambda_new_6_11
abbrev rmX0_lambda_new_7 : Room := ({ frames := 0, cells := 0, slots := 0, locals := 0 } : Room)
set_option maxHeartbeats 1000000 in
theorem kX0_lambda_new_7 (l : Launch) {G : zG} {H0 : Heap} {own y pr : Nat → Nat} {x tr : Nat} {S C D E : Nat → Int32} (t r : Nat) (xx : Int32) (ht : t < 4) (hM : PM G own y x pr S C D E tr H0) : zM l G yX0_lambda_new_7 cX0_lambda_new_7 4 none rmX0_lambda_new_7 H0 [.ref (y 17), .ref (y (9 + t)), .int (nI r), .int xx] (fun v H1 => v = none ∧ PM G own y x pr (mDoes S t 7 r xx) C D E tr H1) (pA own y) := by
  refine zM.start (own := RX0) (by decide) rfl (Nat.le_of_ble_eq_true rfl) ?_
  intro p e s m args below meth c ls Q hx hb hml hr hlk hnm hown hts hK hH hQ hl hS
  have hl : lv_has ls 4 [(0, .ref (y 17)), (1, .ref (y (9 + t))), (2, .int (nI r)), (3, .int xx)] := hl
  refine lv_aload_n hx hb dX0_lambda_new_7_0 rfl (lv_at hl 1 rfl) ?_
  refine lv_iload_n hx hb dX0_lambda_new_7_1 rfl (lv_at hl 2 rfl) ?_
  refine zputN hx hb hts hown hK (hM.l (t := t) (by omega)) hS (hM.w (by omega)) rfl in_X7 tyX7_ok nmX7 1 (by decide) (hK.f 4 rfl) (fun _ h => h) rfl rfl rfl (Nat.le_of_ble_eq_true rfl) dX0_lambda_new_7_2 (fun H1 locs h_o hz_o hq_o hS => ?_)
  have hM := hM.putCn (t := t) (by omega) h_o hq_o
  exact zrv hx hb hr hlk hH hQ hS ⟨rfl, hM⟩ (Nat.le_of_ble_eq_true rfl) (Nat.le_of_ble_eq_true rfl) dX0_lambda_new_7_5
abbrev rmX0_lambda_new_8 : Room := ({ frames := 1, cells := 0, slots := 0, locals := 22 } : Room)
set_option maxHeartbeats 1000000 in
theorem kX0_lambda_new_8 (l : Launch) {G : zG} {H0 : Heap} {own y pr : Nat → Nat} {x tr : Nat} {S C D E : Nat → Int32} (t r : Nat) (xx : Int32) (ht : t < 4) (hr : r < 4)  (hM : PM G own y x pr S C D E tr H0) : zM l G yX0_lambda_new_8 cX0_lambda_new_8 4 none rmX0_lambda_new_8 H0 [.ref (y 17), .ref (y (9 + t)), .int (nI r), .int xx] (fun v H1 => v = none ∧ PM G own y x pr (mDoes S t 8 r xx) C D E tr H1) (pA own y) := by
  refine zM.start (own := RX0) (by decide) rfl (Nat.le_of_ble_eq_true rfl) ?_
  intro p e s m args below meth c ls Q hx hb hml hr hlk hnm hown hts hK hH hQ hl hS
  have hl : lv_has ls 4 [(0, .ref (y 17)), (1, .ref (y (9 + t))), (2, .int (nI r)), (3, .int xx)] := hl
  refine lv_aload_n hx hb dX0_lambda_new_8_0 rfl (lv_at hl 1 rfl) ?_
  refine lv_aload_n hx hb dX0_lambda_new_8_1 rfl (lv_at hl 1 rfl) ?_
  refine zgetN hx hb hts hown hK (hM.l (t := t) (by omega)) rfl in_X7 0 (by decide) (hK.f 3 rfl) (fun _ h => h) (v := .ref (y (13 + t))) rfl dX0_lambda_new_8_2 ?_
  refine lv_iload_n hx hb dX0_lambda_new_8_5 rfl (lv_at hl 2 rfl) ?_
  refine ziald hx hb hK (hM.r (t := t) (by omega)) r (by omega) (by decide) dX0_lambda_new_8_6 ?_
  refine zTop (y := (S (14 * t + (2 + r)))) rfl ?_
  refine lv_if_ne (tgt := 14) hx hb dX0_lambda_new_8_7 (by decide) (fun c_7 => ?_) (fun c_7 => ?_)
  · have c_7 : ¬ (S (14 * t + (2 + r))) = (nI 0) := c_7
    refine lv_iconst (v := (nI 0)) hx hb dX0_lambda_new_8_14 (by decide) ?_
    refine lv_iload_n hx hb dX0_lambda_new_8_15 rfl (lv_at hl 3 rfl) ?_
    refine zcV 2 ⟨hx, hb, hml, hown, hts, hK⟩ (kX7_jumpIf_0 l t xx (by omega) hM) q113 q114 q115 q56 q116 (by decide +kernel) ⟨Nat.le_of_ble_eq_true rfl, Nat.le_of_ble_eq_true rfl⟩ (zrecv hK (hM.l (t := t) (by omega)) rfl) rfl hl.1 (rest := []) rfl (Nat.le_of_ble_eq_true rfl) dX0_lambda_new_8_16 ⟨by first | decide | omega, by first | decide | omega⟩ hS (fun _ h => h) (fun v_c H1 locs hp_c hz_c hk_c hS => ?_)
    obtain ⟨rfl, hM⟩ := hp_c
    exact zrv hx hb hr hlk hH hQ hS ⟨rfl, (by rw [mDoes_8]; first | (rw [if_pos c_7]; exact hM) | (rw [if_neg c_7]; exact hM))⟩ (Nat.le_of_ble_eq_true rfl) (Nat.le_of_ble_eq_true rfl) dX0_lambda_new_8_19
  · have c_7 : (S (14 * t + (2 + r))) = (nI 0) := c_7
    refine lv_iconst (v := (nI 1)) hx hb dX0_lambda_new_8_10 (by decide) ?_
    refine lv_goto (tgt := 15) hx hb dX0_lambda_new_8_11 (by decide) ?_
    refine lv_iload_n hx hb dX0_lambda_new_8_15 rfl (lv_at hl 3 rfl) ?_
    refine zcV 2 ⟨hx, hb, hml, hown, hts, hK⟩ (kX7_jumpIf_1 l t xx (by omega) hM) q113 q114 q115 q56 q116 (by decide +kernel) ⟨Nat.le_of_ble_eq_true rfl, Nat.le_of_ble_eq_true rfl⟩ (zrecv hK (hM.l (t := t) (by omega)) rfl) rfl hl.1 (rest := []) rfl (Nat.le_of_ble_eq_true rfl) dX0_lambda_new_8_16 ⟨by first | decide | omega, by first | decide | omega⟩ hS (fun _ h => h) (fun v_c H1 locs hp_c hz_c hk_c hS => ?_)
    obtain ⟨rfl, hM⟩ := hp_c
    exact zrv hx hb hr hlk hH hQ hS ⟨rfl, (by rw [mDoes_8]; first | (rw [if_pos c_7]; exact hM) | (rw [if_neg c_7]; exact hM))⟩ (Nat.le_of_ble_eq_true rfl) (Nat.le_of_ble_eq_true rfl) dX0_lambda_new_8_19
abbrev rmX0_lambda_new_9 : Room := ({ frames := 1, cells := 0, slots := 0, locals := 22 } : Room)
set_option maxHeartbeats 1000000 in
theorem kX0_lambda_new_9 (l : Launch) {G : zG} {H0 : Heap} {own y pr : Nat → Nat} {x tr : Nat} {S C D E : Nat → Int32} (t r : Nat) (xx : Int32) (ht : t < 4) (hr : r < 4)  (hM : PM G own y x pr S C D E tr H0) : zM l G yX0_lambda_new_9 cX0_lambda_new_9 4 none rmX0_lambda_new_9 H0 [.ref (y 17), .ref (y (9 + t)), .int (nI r), .int xx] (fun v H1 => v = none ∧ PM G own y x pr (mDoes S t 9 r xx) C D E tr H1) (pA own y) := by
  refine zM.start (own := RX0) (by decide) rfl (Nat.le_of_ble_eq_true rfl) ?_
  intro p e s m args below meth c ls Q hx hb hml hr hlk hnm hown hts hK hH hQ hl hS
  have hl : lv_has ls 4 [(0, .ref (y 17)), (1, .ref (y (9 + t))), (2, .int (nI r)), (3, .int xx)] := hl
  refine lv_aload_n hx hb dX0_lambda_new_9_0 rfl (lv_at hl 1 rfl) ?_
  refine lv_aload_n hx hb dX0_lambda_new_9_1 rfl (lv_at hl 1 rfl) ?_
  refine zgetN hx hb hts hown hK (hM.l (t := t) (by omega)) rfl in_X7 0 (by decide) (hK.f 3 rfl) (fun _ h => h) (v := .ref (y (13 + t))) rfl dX0_lambda_new_9_2 ?_
  refine lv_iload_n hx hb dX0_lambda_new_9_5 rfl (lv_at hl 2 rfl) ?_
  refine ziald hx hb hK (hM.r (t := t) (by omega)) r (by omega) (by decide) dX0_lambda_new_9_6 ?_
  refine zTop (y := (S (14 * t + (2 + r)))) rfl ?_
  refine lv_if_ge (tgt := 14) hx hb dX0_lambda_new_9_7 (by decide) (fun c_7 => ?_) (fun c_7 => ?_)
  · have c_7 : (nI 0) ≤ (S (14 * t + (2 + r))) := c_7
    refine lv_iconst (v := (nI 0)) hx hb dX0_lambda_new_9_14 (by decide) ?_
    refine lv_iload_n hx hb dX0_lambda_new_9_15 rfl (lv_at hl 3 rfl) ?_
    refine zcV 2 ⟨hx, hb, hml, hown, hts, hK⟩ (kX7_jumpIf_0 l t xx (by omega) hM) q113 q114 q115 q56 q116 (by decide +kernel) ⟨Nat.le_of_ble_eq_true rfl, Nat.le_of_ble_eq_true rfl⟩ (zrecv hK (hM.l (t := t) (by omega)) rfl) rfl hl.1 (rest := []) rfl (Nat.le_of_ble_eq_true rfl) dX0_lambda_new_9_16 ⟨by first | decide | omega, by first | decide | omega⟩ hS (fun _ h => h) (fun v_c H1 locs hp_c hz_c hk_c hS => ?_)
    obtain ⟨rfl, hM⟩ := hp_c
    exact zrv hx hb hr hlk hH hQ hS ⟨rfl, (by rw [mDoes_9]; first | (rw [if_pos (Int32.not_le.mp c_7)]; exact hM) | (rw [if_neg (Int32.not_lt.mpr c_7)]; exact hM))⟩ (Nat.le_of_ble_eq_true rfl) (Nat.le_of_ble_eq_true rfl) dX0_lambda_new_9_19
  · have c_7 : ¬ (nI 0) ≤ (S (14 * t + (2 + r))) := c_7
    refine lv_iconst (v := (nI 1)) hx hb dX0_lambda_new_9_10 (by decide) ?_
    refine lv_goto (tgt := 15) hx hb dX0_lambda_new_9_11 (by decide) ?_
    refine lv_iload_n hx hb dX0_lambda_new_9_15 rfl (lv_at hl 3 rfl) ?_
    refine zcV 2 ⟨hx, hb, hml, hown, hts, hK⟩ (kX7_jumpIf_1 l t xx (by omega) hM) q113 q114 q115 q56 q116 (by decide +kernel) ⟨Nat.le_of_ble_eq_true rfl, Nat.le_of_ble_eq_true rfl⟩ (zrecv hK (hM.l (t := t) (by omega)) rfl) rfl hl.1 (rest := []) rfl (Nat.le_of_ble_eq_true rfl) dX0_lambda_new_9_16 ⟨by first | decide | omega, by first | decide | omega⟩ hS (fun _ h => h) (fun v_c H1 locs hp_c hz_c hk_c hS => ?_)
    obtain ⟨rfl, hM⟩ := hp_c
    exact zrv hx hb hr hlk hH hQ hS ⟨rfl, (by rw [mDoes_9]; first | (rw [if_pos (Int32.not_le.mp c_7)]; exact hM) | (rw [if_neg (Int32.not_lt.mpr c_7)]; exact hM))⟩ (Nat.le_of_ble_eq_true rfl) (Nat.le_of_ble_eq_true rfl) dX0_lambda_new_9_19
abbrev rmX0_lambda_new_10 : Room := ({ frames := 0, cells := 0, slots := 0, locals := 0 } : Room)
set_option maxHeartbeats 1000000 in
theorem kX0_lambda_new_10 (l : Launch) {G : zG} {H0 : Heap} {own y pr : Nat → Nat} {x tr : Nat} {S C D E : Nat → Int32} (t rr : Nat) (xx1 xx : Int32) (ht : t < 4) (hM : PM G own y x pr S C D E tr H0) : zM l G yX0_lambda_new_10 cX0_lambda_new_10 4 none rmX0_lambda_new_10 H0 [.ref (y 17), .ref (y (9 + t)), .int xx1, .int xx] (fun v H1 => v = none ∧ PM G own y x pr (mDoes S t 10 rr xx) C D E tr H1) (pA own y) := by
  refine zM.start (own := RX0) (by decide) rfl (Nat.le_of_ble_eq_true rfl) ?_
  intro p e s m args below meth c ls Q hx hb hml hr hlk hnm hown hts hK hH hQ hl hS
  have hl : lv_has ls 4 [(0, .ref (y 17)), (1, .ref (y (9 + t))), (2, .int xx1), (3, .int xx)] := hl
  refine lv_aload_n hx hb dX0_lambda_new_10_0 rfl (lv_at hl 1 rfl) ?_
  refine lv_iconst (v := (nI 3)) hx hb dX0_lambda_new_10_1 (by decide) ?_
  refine zputN hx hb hts hown hK (hM.l (t := t) (by omega)) hS (hM.w (by omega)) rfl in_X7 tyX7_ok nmX7 2 (by decide) (hK.f 5 rfl) (fun _ h => h) rfl rfl rfl (Nat.le_of_ble_eq_true rfl) dX0_lambda_new_10_2 (fun H1 locs h_o hz_o hq_o hS => ?_)
  have hM := hM.putSt (t := t) (by omega) h_o hq_o
  exact zrv hx hb hr hlk hH hQ hS ⟨rfl, hM⟩ (Nat.le_of_ble_eq_true rfl) (Nat.le_of_ble_eq_true rfl) dX0_lambda_new_10_5
abbrev rmX0_lambda_new_11 : Room := ({ frames := 0, cells := 0, slots := 0, locals := 0 } : Room)
set_option maxHeartbeats 1000000 in
theorem kX0_lambda_new_11 (l : Launch) {G : zG} {H0 : Heap} {own y pr : Nat → Nat} {x tr : Nat} {S C D E : Nat → Int32} (t rr : Nat) (xx1 xx : Int32) (ht : t < 4) (hM : PM G own y x pr S C D E tr H0) : zM l G yX0_lambda_new_11 cX0_lambda_new_11 4 none rmX0_lambda_new_11 H0 [.ref (y 17), .ref (y (9 + t)), .int xx1, .int xx] (fun v H1 => v = none ∧ PM G own y x pr (mDoes S t 11 rr xx) C D E tr H1) (pA own y) := by
  refine zM.start (own := RX0) (by decide) rfl (Nat.le_of_ble_eq_true rfl) ?_
  intro p e s m args below meth c ls Q hx hb hml hr hlk hnm hown hts hK hH hQ hl hS
  have hl : lv_has ls 4 [(0, .ref (y 17)), (1, .ref (y (9 + t))), (2, .int xx1), (3, .int xx)] := hl
  refine lv_aload_n hx hb dX0_lambda_new_11_0 rfl (lv_at hl 1 rfl) ?_
  refine lv_iconst (v := (nI 0)) hx hb dX0_lambda_new_11_1 (by decide) ?_
  refine zputN hx hb hts hown hK (hM.l (t := t) (by omega)) hS (hM.w (by omega)) rfl in_X7 tyX7_ok nmX7 2 (by decide) (hK.f 5 rfl) (fun _ h => h) rfl rfl rfl (Nat.le_of_ble_eq_true rfl) dX0_lambda_new_11_2 (fun H1 locs h_o hz_o hq_o hS => ?_)
  have hM := hM.putSt (t := t) (by omega) h_o hq_o
  exact zrv hx hb hr hlk hH hQ hS ⟨rfl, hM⟩ (Nat.le_of_ble_eq_true rfl) (Nat.le_of_ble_eq_true rfl) dX0_lambda_new_11_5
abbrev rmX6_makeReady : Room := ({ frames := 1, cells := 0, slots := 0, locals := 24 } : Room)
set_option maxHeartbeats 1000000 in
theorem kX6_makeReady (l : Launch) {G : zG} {H0 : Heap} {own y pr : Nat → Nat} {x tr : Nat} {S C D E : Nat → Int32} (B : Nat) (hI : InvS S B)  (hM : PM G own y x pr S C D E tr H0) : zM l G yX6_makeReady cX6_makeReady 6 none rmX6_makeReady H0 [.ref (y 17)] (fun v H1 => v = none ∧ PM G own y x pr (mPrep S) C D E tr H1) (pA own y) := by
  refine zM.start (own := RX6) (by decide) rfl (Nat.le_of_ble_eq_true rfl) ?_
  intro p e s m args below meth c ls Q hx hb hml hr hlk hnm hown hts hK hH hQ hl hS
  have hl : lv_has ls 6 [(0, .ref (y 17))] := hl
  refine lv_aload_n hx hb dX6_makeReady_0 rfl (lv_at hl 0 rfl) ?_
  refine zcV 0 ⟨hx, hb, hml, hown, hts, hK⟩ (kX6_isBarrierOpen l  hM) q985 q987 qs14 q55 q988 (by decide +kernel) ⟨Nat.le_of_ble_eq_true rfl, Nat.le_of_ble_eq_true rfl⟩ (zrecv hK hM.o rfl) rfl hl.1 (rest := []) rfl (Nat.le_of_ble_eq_true rfl) dX6_makeReady_1 ⟨by first | decide | omega, by first | decide | omega⟩ hS (fun _ h => h.elim) (fun v_c H1 locs hp_c hz_c hk_c hS => ?_)
  obtain ⟨rfl, rfl⟩ := hp_c
  refine lv_istore_n (lv' := [(1, .int (zb (mBar S))), (0, .ref (y 17))]) hx hb dX6_makeReady_4 rfl hl (by decide) rfl (fun ls hl => ?_)
  refine lv_aload_n hx hb dX6_makeReady_5 rfl (lv_at hl 1 rfl) ?_
  refine zget hx hb hts hown hK hM.o rfl in_X6 0 (by decide) q320 (fun _ h => h) (v := .ref (y 0)) rfl dX6_makeReady_6 ?_
  refine lv_astore_n (lv' := [(2, .ref (y 0)), (1, .int (zb (mBar S))), (0, .ref (y 17))]) hx hb dX6_makeReady_9 rfl hl (by decide) rfl (fun ls hl => ?_)
  refine lv_aload_n hx hb dX6_makeReady_10 rfl (lv_at hl 0 rfl) ?_
  refine zalenR hx hb hK hM.ls (by decide) dX6_makeReady_11 ?_
  refine lv_istore_n (lv' := [(3, .int (nI 4)), (2, .ref (y 0)), (1, .int (zb (mBar S))), (0, .ref (y 17))]) hx hb dX6_makeReady_12 rfl hl (by decide) rfl (fun ls hl => ?_)
  refine lv_iconst (v := (nI 0)) hx hb dX6_makeReady_13 (by decide) ?_
  refine lv_istore (lv' := [(4, .int (nI 0)), (3, .int (nI 4)), (2, .ref (y 0)), (1, .int (zb (mBar S))), (0, .ref (y 17))]) hx hb dX6_makeReady_14 hl (by decide) rfl (fun ls hl => ?_)
  have loop : ∀ (nn : Nat) (n : Nat), 4 - n < nn → (n ≤ 4) → ∀ (H : Heap) (locs : List Loc) (ls : Array Slot), (PM G own y x pr (mMk S (mBar S) n) C D E tr H) → va_S (pA own y) H0 H locs → lv_has ls 6 [(0, .ref (y 17)), (1, .int (zb (mBar S))), (2, .ref (y 0)), (3, .int (nI 4)), (4, .int (nI n))] → W p l e rmX6_makeReady s m args below meth c H locs 0 0 Q (F0 m 16 ls []) := by
    intro nn
    induction nn with
    | zero => intro n hfu; exact absurd hfu (Nat.not_lt_zero _)
    | succ nn ih =>
      intro n hfu hn H locs ls hM hS hl
      have hJ := mMk_inv (b := mBar S) (n := n) hI hn
      have hX1 : mBr (mLd (mMk S (mBar S) n) n) (mBar S) n = mMk S (mBar S) (n + 1) := rfl
      obtain ⟨X, eX⟩ : ∃ X, X = mMk S (mBar S) n := ⟨_, rfl⟩
      rw [← eX] at hM hJ hX1
      refine lv_iload hx hb dX6_makeReady_16 (lv_at hl 4 rfl) ?_
      refine lv_iload_n hx hb dX6_makeReady_18 rfl (lv_at hl 3 rfl) ?_
      refine lv_icmp_ge (tgt := 101) hx hb dX6_makeReady_19 (by decide) (fun c_19 => ?_) (fun c_19 => ?_)
      · have c_19 : 4 ≤ n := (nI_leI (by omega) (by omega)).mp c_19
        obtain rfl : n = 4 := by omega
        rw [eX, mMk_prep hI] at hM
        exact zrv hx hb hr hlk hH hQ hS ⟨rfl, hM⟩ (Nat.le_of_ble_eq_true rfl) (Nat.le_of_ble_eq_true rfl) dX6_makeReady_101
      · have c_19 : ¬ (4 ≤ n) := fun z => c_19 ((nI_leI (by omega) (by omega)).mpr z)
        refine lv_aload_n hx hb dX6_makeReady_22 rfl (lv_at hl 2 rfl) ?_
        refine lv_iload hx hb dX6_makeReady_23 (lv_at hl 4 rfl) ?_
        refine zaald (t := 4) hx hb hK (by decide) rfl hM.ls n (by omega) (by decide) dX6_makeReady_25 ?_
        refine zTopV (y := .ref (y (9 + n))) rfl ?_
        refine lv_astore (lv' := [(5, .ref (y (9 + n))), (0, .ref (y 17)), (1, .int (zb (mBar S))), (2, .ref (y 0)), (3, .int (nI 4)), (4, .int (nI n))]) hx hb dX6_makeReady_26 hl (by decide) rfl (fun ls hl => ?_)
        refine lv_aload hx hb dX6_makeReady_28 (lv_at hl 0 rfl) ?_
        refine zgetN hx hb hts hown hK (hM.l (t := n) (by omega)) rfl in_X7 2 (by decide) (hK.f 30 rfl) (fun _ h => h) (v := .int (X (14 * n))) rfl dX6_makeReady_30 ?_
        refine lv_iconst (v := (nI 2)) hx hb dX6_makeReady_33 (by decide) ?_
        refine lv_icmp_ne (tgt := 76) hx hb dX6_makeReady_34 (by decide) (fun c_34 => ?_) (fun c_34 => ?_)
        · have c_34 : ¬ (X (14 * n)) = (nI 2) := c_34
          refine lv_aload hx hb dX6_makeReady_76 (lv_at hl 0 rfl) ?_
          refine zgetN hx hb hts hown hK (hM.l (t := n) (by omega)) rfl in_X7 2 (by decide) (hK.f 30 rfl) (fun _ h => h) (v := .int (X (14 * n))) rfl dX6_makeReady_78 ?_
          refine lv_iconst (v := (nI 3)) hx hb dX6_makeReady_81 (by decide) ?_
          refine lv_icmp_ne (tgt := 95) hx hb dX6_makeReady_82 (by decide) (fun c_82 => ?_) (fun c_82 => ?_)
          · have c_82 : ¬ (X (14 * n)) = (nI 3) := c_82
            have e9 : X = mMk S (mBar S) (n + 1) := (show X = mBr (mLd X n) (mBar S) n from by first | exact mk_a (fun z => c_34 z.1) (fun z => c_82 z.2) | exact mk_a (fun z => c_46 z.2) (fun z => c_82 z.2) | exact mk_a (fun z => c_34 z.1) (fun z => c_86 z.1) | exact mk_a (fun z => c_46 z.2) (fun z => c_86 z.1)).trans hX1
            rw [e9] at hM
            refine lv_iinc (v := (nI (n + 1))) (lv' := [(4, .int (nI (n + 1))), (5, .ref (y (9 + n))), (0, .ref (y 17)), (1, .int (zb (mBar S))), (2, .ref (y 0)), (3, .int (nI 4))]) hx hb dX6_makeReady_95 hl (k := 5) rfl (nI_1 _) (by decide) rfl (fun ls hl => ?_)
            refine lv_goto (tgt := 16) hx hb dX6_makeReady_98 (by decide) ?_
            exact ih (n + 1) (by omega) (by omega) _ _ ls hM hS (lv_sub hl [2, 3, 4, 5, 0] rfl)
          · have c_82 : (X (14 * n)) = (nI 3) := c_82
            refine lv_iload_n hx hb dX6_makeReady_85 rfl (lv_at hl 2 rfl) ?_
            refine lv_if_eq (tgt := 95) hx hb dX6_makeReady_86 (by decide) (fun c_86 => ?_) (fun c_86 => ?_)
            · have c_86 : ¬ (mBar S) := zb_eq.mp c_86
              have e9 : X = mMk S (mBar S) (n + 1) := (show X = mBr (mLd X n) (mBar S) n from by first | exact mk_a (fun z => c_34 z.1) (fun z => c_82 z.2) | exact mk_a (fun z => c_46 z.2) (fun z => c_82 z.2) | exact mk_a (fun z => c_34 z.1) (fun z => c_86 z.1) | exact mk_a (fun z => c_46 z.2) (fun z => c_86 z.1)).trans hX1
              rw [e9] at hM
              refine lv_iinc (v := (nI (n + 1))) (lv' := [(4, .int (nI (n + 1))), (5, .ref (y (9 + n))), (0, .ref (y 17)), (1, .int (zb (mBar S))), (2, .ref (y 0)), (3, .int (nI 4))]) hx hb dX6_makeReady_95 hl (k := 5) rfl (nI_1 _) (by decide) rfl (fun ls hl => ?_)
              refine lv_goto (tgt := 16) hx hb dX6_makeReady_98 (by decide) ?_
              exact ih (n + 1) (by omega) (by omega) _ _ ls hM hS (lv_sub hl [2, 3, 4, 5, 0] rfl)
            · have c_86 : (mBar S) := zb_ne.mp c_86
              refine lv_aload hx hb dX6_makeReady_89 (lv_at hl 0 rfl) ?_
              refine lv_iconst (v := (nI 1)) hx hb dX6_makeReady_91 (by decide) ?_
              refine zputN hx hb hts hown hK (hM.l (t := n) (by omega)) hS (hM.w (by omega)) rfl in_X7 tyX7_ok nmX7 2 (by decide) (hK.f 30 rfl) (fun _ h => h) rfl rfl rfl (Nat.le_of_ble_eq_true rfl) dX6_makeReady_92 (fun H2 locs h_o hz_o hq_o hS => ?_)
              have hM := hM.putSt (t := n) (by omega) h_o hq_o
              have e9 : upd X (14 * n) (nI 1) = mMk S (mBar S) (n + 1) := (show upd X (14 * n) (nI 1) = mBr (mLd X n) (mBar S) n from mk_b c_86 c_82).trans hX1
              rw [e9] at hM
              refine lv_iinc (v := (nI (n + 1))) (lv' := [(4, .int (nI (n + 1))), (5, .ref (y (9 + n))), (0, .ref (y 17)), (1, .int (zb (mBar S))), (2, .ref (y 0)), (3, .int (nI 4))]) hx hb dX6_makeReady_95 hl (k := 5) rfl (nI_1 _) (by decide) rfl (fun ls hl => ?_)
              refine lv_goto (tgt := 16) hx hb dX6_makeReady_98 (by decide) ?_
              exact ih (n + 1) (by omega) (by omega) _ _ ls hM hS (lv_sub hl [2, 3, 4, 5, 0] rfl)
        · have c_34 : (X (14 * n)) = (nI 2) := c_34
          obtain ⟨lk, hlk9, elk⟩ := (hJ.t (show n < 4 by omega)).2.2.1 c_34
          obtain ⟨lr, hlr, elr⟩ := (hJ.t (show n < 4 by omega)).2.1
          refine lv_aload_n hx hb dX6_makeReady_37 rfl (lv_at hl 1 rfl) ?_
          refine zget hx hb hts hown hK hM.o rfl in_X6 6 (by decide) q333 (fun _ h => h) (v := .int (X 232)) rfl dX6_makeReady_38 ?_
          refine lv_aload hx hb dX6_makeReady_41 (lv_at hl 0 rfl) ?_
          refine zgetN hx hb hts hown hK (hM.l (t := n) (by omega)) rfl in_X7 5 (by decide) (hK.f 33 rfl) (fun _ h => h) (v := .int (X (14 * n + 8))) rfl dX6_makeReady_43 ?_
          refine lv_icmp_lt (tgt := 76) hx hb dX6_makeReady_46 (by decide) (fun c_46 => ?_) (fun c_46 => ?_)
          · have c_46 : ¬ (X (14 * n + 8)) ≤ (X 232) := Int32.not_le.mpr c_46
            refine lv_aload hx hb dX6_makeReady_76 (lv_at hl 0 rfl) ?_
            refine zgetN hx hb hts hown hK (hM.l (t := n) (by omega)) rfl in_X7 2 (by decide) (hK.f 30 rfl) (fun _ h => h) (v := .int (X (14 * n))) rfl dX6_makeReady_78 ?_
            refine lv_iconst (v := (nI 3)) hx hb dX6_makeReady_81 (by decide) ?_
            refine lv_icmp_ne (tgt := 95) hx hb dX6_makeReady_82 (by decide) (fun c_82 => ?_) (fun c_82 => ?_)
            · have c_82 : ¬ (X (14 * n)) = (nI 3) := c_82
              have e9 : X = mMk S (mBar S) (n + 1) := (show X = mBr (mLd X n) (mBar S) n from by first | exact mk_a (fun z => c_34 z.1) (fun z => c_82 z.2) | exact mk_a (fun z => c_46 z.2) (fun z => c_82 z.2) | exact mk_a (fun z => c_34 z.1) (fun z => c_86 z.1) | exact mk_a (fun z => c_46 z.2) (fun z => c_86 z.1)).trans hX1
              rw [e9] at hM
              refine lv_iinc (v := (nI (n + 1))) (lv' := [(4, .int (nI (n + 1))), (5, .ref (y (9 + n))), (0, .ref (y 17)), (1, .int (zb (mBar S))), (2, .ref (y 0)), (3, .int (nI 4))]) hx hb dX6_makeReady_95 hl (k := 5) rfl (nI_1 _) (by decide) rfl (fun ls hl => ?_)
              refine lv_goto (tgt := 16) hx hb dX6_makeReady_98 (by decide) ?_
              exact ih (n + 1) (by omega) (by omega) _ _ ls hM hS (lv_sub hl [2, 3, 4, 5, 0] rfl)
            · have c_82 : (X (14 * n)) = (nI 3) := c_82
              refine lv_iload_n hx hb dX6_makeReady_85 rfl (lv_at hl 2 rfl) ?_
              refine lv_if_eq (tgt := 95) hx hb dX6_makeReady_86 (by decide) (fun c_86 => ?_) (fun c_86 => ?_)
              · have c_86 : ¬ (mBar S) := zb_eq.mp c_86
                have e9 : X = mMk S (mBar S) (n + 1) := (show X = mBr (mLd X n) (mBar S) n from by first | exact mk_a (fun z => c_34 z.1) (fun z => c_82 z.2) | exact mk_a (fun z => c_46 z.2) (fun z => c_82 z.2) | exact mk_a (fun z => c_34 z.1) (fun z => c_86 z.1) | exact mk_a (fun z => c_46 z.2) (fun z => c_86 z.1)).trans hX1
                rw [e9] at hM
                refine lv_iinc (v := (nI (n + 1))) (lv' := [(4, .int (nI (n + 1))), (5, .ref (y (9 + n))), (0, .ref (y 17)), (1, .int (zb (mBar S))), (2, .ref (y 0)), (3, .int (nI 4))]) hx hb dX6_makeReady_95 hl (k := 5) rfl (nI_1 _) (by decide) rfl (fun ls hl => ?_)
                refine lv_goto (tgt := 16) hx hb dX6_makeReady_98 (by decide) ?_
                exact ih (n + 1) (by omega) (by omega) _ _ ls hM hS (lv_sub hl [2, 3, 4, 5, 0] rfl)
              · have c_86 : (mBar S) := zb_ne.mp c_86
                refine lv_aload hx hb dX6_makeReady_89 (lv_at hl 0 rfl) ?_
                refine lv_iconst (v := (nI 1)) hx hb dX6_makeReady_91 (by decide) ?_
                refine zputN hx hb hts hown hK (hM.l (t := n) (by omega)) hS (hM.w (by omega)) rfl in_X7 tyX7_ok nmX7 2 (by decide) (hK.f 30 rfl) (fun _ h => h) rfl rfl rfl (Nat.le_of_ble_eq_true rfl) dX6_makeReady_92 (fun H2 locs h_o hz_o hq_o hS => ?_)
                have hM := hM.putSt (t := n) (by omega) h_o hq_o
                have e9 : upd X (14 * n) (nI 1) = mMk S (mBar S) (n + 1) := (show upd X (14 * n) (nI 1) = mBr (mLd X n) (mBar S) n from mk_b c_86 c_82).trans hX1
                rw [e9] at hM
                refine lv_iinc (v := (nI (n + 1))) (lv' := [(4, .int (nI (n + 1))), (5, .ref (y (9 + n))), (0, .ref (y 17)), (1, .int (zb (mBar S))), (2, .ref (y 0)), (3, .int (nI 4))]) hx hb dX6_makeReady_95 hl (k := 5) rfl (nI_1 _) (by decide) rfl (fun ls hl => ?_)
                refine lv_goto (tgt := 16) hx hb dX6_makeReady_98 (by decide) ?_
                exact ih (n + 1) (by omega) (by omega) _ _ ls hM hS (lv_sub hl [2, 3, 4, 5, 0] rfl)
          · have c_46 : (X (14 * n + 8)) ≤ (X 232) := Int32.not_lt.mp c_46
            refine lv_aload hx hb dX6_makeReady_49 (lv_at hl 0 rfl) ?_
            refine zgetN hx hb hts hown hK (hM.l (t := n) (by omega)) rfl in_X7 0 (by decide) (hK.f 28 rfl) (fun _ h => h) (v := .ref (y (13 + n))) rfl dX6_makeReady_51 ?_
            refine lv_aload hx hb dX6_makeReady_54 (lv_at hl 0 rfl) ?_
            refine zgetN hx hb hts hown hK (hM.l (t := n) (by omega)) rfl in_X7 3 (by decide) (hK.f 31 rfl) (fun _ h => h) (v := .int (X (14 * n + 6))) rfl dX6_makeReady_56 ?_
            refine zTop (y := (nI lr)) elr ?_
            refine lv_aload_n hx hb dX6_makeReady_59 rfl (lv_at hl 1 rfl) ?_
            refine zget hx hb hts hown hK hM.o rfl in_X6 2 (by decide) q325 (fun _ h => h) (v := .ref (y 2)) rfl dX6_makeReady_60 ?_
            refine lv_aload hx hb dX6_makeReady_63 (lv_at hl 0 rfl) ?_
            refine zgetN hx hb hts hown hK (hM.l (t := n) (by omega)) rfl in_X7 4 (by decide) (hK.f 32 rfl) (fun _ h => h) (v := .int (lw (X (14 * n + 7)))) rfl dX6_makeReady_65 ?_
            refine zTop (y := (nI lk)) (by rw [elk]; exact lw_k hlk9) ?_
            refine ziald hx hb hK hM.a2 lk (by omega) (by decide) dX6_makeReady_68 ?_
            refine zTop (y := (X (200 + lk))) rfl ?_
            refine ziast hx hb hK (hM.r (t := n) (by omega)) hS (hM.w (by omega)) lr (by omega) (by decide) dX6_makeReady_69 (fun H2 locs h_o hz_o hq_o hS => ?_)
            have hM := hM.putR (t := n) (i := lr) (by omega) (by omega) h_o hq_o
            refine lv_aload hx hb dX6_makeReady_70 (lv_at hl 0 rfl) ?_
            refine lv_iconst (v := (nI 1)) hx hb dX6_makeReady_72 (by decide) ?_
            refine zputN hx hb hts hown hK (hM.l (t := n) (by omega)) hS (hM.w (by omega)) rfl in_X7 tyX7_ok nmX7 2 (by decide) (hK.f 30 rfl) (fun _ h => h) rfl rfl rfl (Nat.le_of_ble_eq_true rfl) dX6_makeReady_73 (fun H3 locs h_o hz_o hq_o hS => ?_)
            have hM := hM.putSt (t := n) (by omega) h_o hq_o
            refine lv_aload hx hb dX6_makeReady_76 (lv_at hl 0 rfl) ?_
            refine zgetN hx hb hts hown hK (hM.l (t := n) (by omega)) rfl in_X7 2 (by decide) (hK.f 30 rfl) (fun _ h => h) (v := .int ((upd (upd X (14 * n + (2 + lr)) (X (200 + lk))) (14 * n) (nI 1)) (14 * n))) rfl dX6_makeReady_78 ?_
            refine zTop (y := (nI 1)) (upd_s rfl) ?_
            refine lv_iconst (v := (nI 3)) hx hb dX6_makeReady_81 (by decide) ?_
            refine lv_icmp_ne (tgt := 95) hx hb dX6_makeReady_82 (by decide) (fun _ => ?_) (fun z => absurd z (by decide))
            have e9 : upd (upd X (14 * n + (2 + lr)) (X (200 + lk))) (14 * n) (nI 1) = mMk S (mBar S) (n + 1) := (show upd (upd X (14 * n + (2 + lr)) (X (200 + lk))) (14 * n) (nI 1) = mBr (mLd X n) (mBar S) n from mk_c c_34 c_46 elr hlr elk hlk9 (InvS_sh hJ (by omega))).trans hX1
            rw [e9] at hM
            refine lv_iinc (v := (nI (n + 1))) (lv' := [(4, .int (nI (n + 1))), (5, .ref (y (9 + n))), (0, .ref (y 17)), (1, .int (zb (mBar S))), (2, .ref (y 0)), (3, .int (nI 4))]) hx hb dX6_makeReady_95 hl (k := 5) rfl (nI_1 _) (by decide) rfl (fun ls hl => ?_)
            refine lv_goto (tgt := 16) hx hb dX6_makeReady_98 (by decide) ?_
            exact ih (n + 1) (by omega) (by omega) _ _ ls hM hS (lv_sub hl [2, 3, 4, 5, 0] rfl)
  exact loop ((4 - 0) + 1) 0 (by first | exact Nat.lt_succ_self _ | omega) (by omega) _ _ ls hM hS (lv_sub hl [4, 3, 2, 1, 0] rfl)
abbrev rmX6_execute : Room := ({ frames := 3, cells := 0, slots := 0, locals := 71 } : Room)
set_option maxHeartbeats 4000000 in
theorem kX6_execute (l : Launch) {G : zG} {H0 : Heap} {own y pr u : Nat → Nat} {x tr : Nat} {S C D E : Nat → Int32} (t B : Nat) (ht : t < 4) (hI : InvS S B) (hB : B < 2147483000) (hT : TrR S C D E tr) (htr : tr ≤ B) (hM : PM G own y x pr S C D E tr H0) (hO : PO G own u x H0) (hxy : y 17 ≠ x) : zM l G yX6_execute cX6_execute 6 none rmX6_execute H0 [.ref (y 17), .int (nI t)] (fun v H1 => ∃ (C1 D1 E1 : Nat → Int32), v = none ∧ PM G own y x pr (mEx (upd (upd (upd S (14 * t + 9) (S 232)) (14 * t + 12) (S (14 * t + 12) + nI 1)) (14 * t + 13) (S (14 * t + 13) + (if nI t = nI (mOwn S) then nI 0 else nI 1))) t) C1 D1 E1 (tr + 1) H1 ∧ TrR (mEx (upd (upd (upd S (14 * t + 9) (S 232)) (14 * t + 12) (S (14 * t + 12) + nI 1)) (14 * t + 13) (S (14 * t + 13) + (if nI t = nI (mOwn S) then nI 0 else nI 1))) t) C1 D1 E1 (tr + 1)) (pA own y) := by
  refine zM.start (own := RX6) (by decide) rfl (Nat.le_of_ble_eq_true rfl) ?_
  intro p e s m args below meth c ls Q hx hb hml hr hlk hnm hown hts hK hH hQ hl hS
  obtain ⟨cn, hcn, ecn⟩ := (hI.t ht).1
  obtain ⟨ow, eow⟩ : ∃ ow, ow = mOwn S := ⟨_, rfl⟩
  have how : ow < 4 := by rw [eow]; exact InvS_own hI (by omega)
  have hl : lv_has ls 6 [(0, .ref (y 17)), (1, .int (nI t))] := hl
  refine lv_aload_n hx hb dX6_execute_0 rfl (lv_at hl 0 rfl) ?_
  refine zget hx hb hts hown hK hM.o rfl in_X6 0 (by decide) q320 (fun _ h => h) (v := .ref (y 0)) rfl dX6_execute_1 ?_
  refine lv_iload_n hx hb dX6_execute_4 rfl (lv_at hl 1 rfl) ?_
  refine zaald (t := 4) hx hb hK (by decide) rfl hM.ls t (by omega) (by decide) dX6_execute_5 ?_
  refine zTopV (y := .ref (y (9 + t))) rfl ?_
  refine lv_astore_n (lv' := [(2, .ref (y (9 + t))), (0, .ref (y 17)), (1, .int (nI t))]) hx hb dX6_execute_6 rfl hl (by decide) rfl (fun ls hl => ?_)
  refine lv_aload_n hx hb dX6_execute_7 rfl (lv_at hl 0 rfl) ?_
  refine zgetN hx hb hts hown hK (hM.l (t := t) (by omega)) rfl in_X7 1 (by decide) (hK.f 29 rfl) (fun _ h => h) (v := .int (S (14 * t + 1))) rfl dX6_execute_8 ?_
  refine zTop (y := (nI cn)) ecn ?_
  refine lv_istore_n (lv' := [(3, .int (nI cn)), (2, .ref (y (9 + t))), (0, .ref (y 17)), (1, .int (nI t))]) hx hb dX6_execute_11 rfl hl (by decide) rfl (fun ls hl => ?_)
  refine lv_aload_n hx hb dX6_execute_12 rfl (lv_at hl 2 rfl) ?_
  refine zget hx hb hts hown hK hM.o rfl in_X6 11 (by decide) q343 (fun _ h => h) (v := .int (nI tr)) rfl dX6_execute_13 ?_
  refine lv_bipush (v := (nI 16)) hx hb dX6_execute_16 (by decide) ?_
  refine lv_irem hx hb dX6_execute_18 (by decide) ?_
  refine zTop (y := nI (tr % 16)) (pk_rem (by omega) (by omega) (by omega)) ?_
  refine lv_istore (lv' := [(4, .int (nI (tr % 16))), (3, .int (nI cn)), (2, .ref (y (9 + t))), (0, .ref (y 17)), (1, .int (nI t))]) hx hb dX6_execute_19 hl (by decide) rfl (fun ls hl => ?_)
  refine lv_aload_n hx hb dX6_execute_21 rfl (lv_at hl 3 rfl) ?_
  refine zget hx hb hts hown hK hM.o rfl in_X6 8 (by decide) q337 (fun _ h => h) (v := .ref (y 6)) rfl dX6_execute_22 ?_
  refine lv_iload hx hb dX6_execute_25 (lv_at hl 0 rfl) ?_
  refine lv_aload_n hx hb dX6_execute_27 rfl (lv_at hl 3 rfl) ?_
  refine zget hx hb hts hown hK hM.o rfl in_X6 6 (by decide) q333 (fun _ h => h) (v := .int (S 232)) rfl dX6_execute_28 ?_
  refine ziast hx hb hK hM.a6 hS (hM.w (by decide)) (tr % 16) (by omega) (by decide) dX6_execute_31 (fun H1 locs h_o hz_o hq_o hS => ?_)
  have hO := hO.put1 (hM.w (by decide)) hM.z hxy hz_o hq_o
  have hM := hM.put6 h_o hq_o
  refine lv_aload_n hx hb dX6_execute_32 rfl (lv_at hl 3 rfl) ?_
  refine zget hx hb hts hown hK hM.o rfl in_X6 9 (by decide) q339 (fun _ h => h) (v := .ref (y 7)) rfl dX6_execute_33 ?_
  refine lv_iload hx hb dX6_execute_36 (lv_at hl 0 rfl) ?_
  refine lv_iload_n hx hb dX6_execute_38 rfl (lv_at hl 4 rfl) ?_
  refine ziast hx hb hK hM.a7 hS (hM.w (by decide)) (tr % 16) (by omega) (by decide) dX6_execute_39 (fun H2 locs h_o hz_o hq_o hS => ?_)
  have hO := hO.put1 (hM.w (by decide)) hM.z hxy hz_o hq_o
  have hM := hM.put7 h_o hq_o
  refine lv_aload_n hx hb dX6_execute_40 rfl (lv_at hl 3 rfl) ?_
  refine zget hx hb hts hown hK hM.o rfl in_X6 10 (by decide) q341 (fun _ h => h) (v := .ref (y 8)) rfl dX6_execute_41 ?_
  refine lv_iload hx hb dX6_execute_44 (lv_at hl 0 rfl) ?_
  refine lv_iload_n hx hb dX6_execute_46 rfl (lv_at hl 1 rfl) ?_
  refine ziast hx hb hK hM.a8 hS (hM.w (by decide)) (tr % 16) (by omega) (by decide) dX6_execute_47 (fun H3 locs h_o hz_o hq_o hS => ?_)
  have hO := hO.put1 (hM.w (by decide)) hM.z hxy hz_o hq_o
  have hM := hM.put8 h_o hq_o
  refine lv_aload_n hx hb dX6_execute_48 rfl (lv_at hl 3 rfl) ?_
  refine lv_dup hx hb dX6_execute_49 rfl ?_
  refine zget hx hb hts hown hK hM.o rfl in_X6 11 (by decide) q343 (fun _ h => h) (v := .int (nI tr)) rfl dX6_execute_50 ?_
  refine lv_iconst (v := (nI 1)) hx hb dX6_execute_53 (by decide) ?_
  refine lv_iadd hx hb dX6_execute_54 ?_
  refine zTop (y := nI (tr + 1)) (zadd (by omega)) ?_
  refine zput hx hb hts hown hK hM.o hS (hM.w (by decide)) rfl in_X6 tyX6_ok nmX6 11 (by decide) q343 (fun _ h => h) rfl rfl rfl (Nat.le_of_ble_eq_true rfl) dX6_execute_55 (fun H4 locs h_o hz_o hq_o hS => ?_)
  have hO := hO.put1 (hM.w (by decide)) hM.z hxy hz_o hq_o
  have hM := hM.putTr (tr' := (tr + 1)) h_o hq_o
  have hT := hT.push (nI t) (nI cn)
  have hM := hM.to (S' := mTr S (nI t) (nI cn)) (fun j hj => mTr_off hj)
  refine lv_aload_n hx hb dX6_execute_58 rfl (lv_at hl 2 rfl) ?_
  refine lv_aload_n hx hb dX6_execute_59 rfl (lv_at hl 3 rfl) ?_
  refine zget hx hb hts hown hK hM.o rfl in_X6 6 (by decide) q333 (fun _ h => h) (v := .int ((mTr S (nI t) (nI cn)) 232)) rfl dX6_execute_60 ?_
  refine zTop (y := (S 232)) (mTr_off (by omega)) ?_
  refine zputN hx hb hts hown hK (hM.l (t := t) (by omega)) hS (hM.w (by omega)) rfl in_X7 tyX7_ok nmX7 6 (by decide) (hK.f 34 rfl) (fun _ h => h) rfl rfl rfl (Nat.le_of_ble_eq_true rfl) dX6_execute_63 (fun H5 locs h_o hz_o hq_o hS => ?_)
  have hO := hO.put1 (hM.w (by omega)) hM.z hxy hz_o hq_o
  have hM := hM.putLi (t := t) (by omega) h_o hq_o
  refine lv_aload_n hx hb dX6_execute_66 rfl (lv_at hl 2 rfl) ?_
  refine lv_dup hx hb dX6_execute_67 rfl ?_
  refine zgetN hx hb hts hown hK (hM.l (t := t) (by omega)) rfl in_X7 7 (by decide) (hK.f 35 rfl) (fun _ h => h) (v := .int ((upd (mTr S (nI t) (nI cn)) (14 * t + 9) (S 232)) (14 * t + 12))) rfl dX6_execute_68 ?_
  refine zTop (y := (S (14 * t + 12))) ((upd_n (by omega)).trans (mTr_off (by omega))) ?_
  refine lv_iconst (v := (nI 1)) hx hb dX6_execute_71 (by decide) ?_
  refine lv_iadd hx hb dX6_execute_72 ?_
  refine zputN hx hb hts hown hK (hM.l (t := t) (by omega)) hS (hM.w (by omega)) rfl in_X7 tyX7_ok nmX7 7 (by decide) (hK.f 35 rfl) (fun _ h => h) rfl rfl rfl (Nat.le_of_ble_eq_true rfl) dX6_execute_73 (fun H6 locs h_o hz_o hq_o hS => ?_)
  have hO := hO.put1 (hM.w (by omega)) hM.z hxy hz_o hq_o
  have hM := hM.putEx (t := t) (by omega) h_o hq_o
  refine lv_aload_n hx hb dX6_execute_76 rfl (lv_at hl 2 rfl) ?_
  refine lv_dup hx hb dX6_execute_77 rfl ?_
  refine zgetN hx hb hts hown hK (hM.l (t := t) (by omega)) rfl in_X7 8 (by decide) (hK.f 36 rfl) (fun _ h => h) (v := .int ((upd (upd (mTr S (nI t) (nI cn)) (14 * t + 9) (S 232)) (14 * t + 12) ((S (14 * t + 12)) + (nI 1))) (14 * t + 13))) rfl dX6_execute_78 ?_
  refine zTop (y := (S (14 * t + 13))) ((upd_n (by omega)).trans ((upd_n (by omega)).trans (mTr_off (by omega)))) ?_
  refine lv_iload_n hx hb dX6_execute_81 rfl (lv_at hl 4 rfl) ?_
  refine lv_aload_n hx hb dX6_execute_82 rfl (lv_at hl 3 rfl) ?_
  refine zcV 0 ⟨hx, hb, hml, hown, hts, hK⟩ (kX6_owner l B (InvS_free (InvS_free (InvS_tr hI) (by omega)) (by omega)) hB hM) q968 q969 q970 q55 q971 (by decide +kernel) ⟨Nat.le_of_ble_eq_true rfl, Nat.le_of_ble_eq_true rfl⟩ (zrecv hK hM.o rfl) rfl hl.1 (rest := [.int (nI t), .int (S (14 * t + 13)), .ref (y (9 + t))]) rfl (Nat.le_of_ble_eq_true rfl) dX6_execute_83 ⟨by first | decide | omega, by first | decide | omega⟩ hS (fun _ h => h.elim) (fun v_c H7 locs hp_c hz_c hk_c hS => ?_)
  obtain ⟨rfl, rfl⟩ := hp_c
  refine zTop (y := (nI ow)) (congrArg nI (by rw [eow]; exact mOwn_c (fun j hj => (upd_n (by omega)).trans ((upd_n (by omega)).trans (mTr_off (by omega)))))) ?_
  have join_98 : ∀ (le : Int32) (H : Heap) (locs : List Loc) (ls : Array Slot), (le = if nI t = nI ow then nI 0 else nI 1) → (PM G own y x pr (upd (upd (upd (mTr S (nI t) (nI cn)) (14 * t + 9) (S 232)) (14 * t + 12) ((S (14 * t + 12)) + (nI 1))) (14 * t + 13) (S (14 * t + 13) + le)) (upd C (tr % 16) (S 232)) (upd D (tr % 16) (nI t)) (upd E (tr % 16) (nI cn)) (tr + 1) H ∧ PO G own u x H) → va_S (pA own y) H0 H locs → lv_has ls 6 [(0, .ref (y 17)), (1, .int (nI t)), (2, .ref (y (9 + t))), (3, .int (nI cn))] → W p l e rmX6_execute s m args below meth c H locs 0 0 Q (F0 m 98 ls []) := by
    intro le H locs ls hle hM hS hl
    obtain ⟨hM, hO⟩ := hM
    refine lv_iload_n hx hb dX6_execute_98 rfl (lv_at hl 3 rfl) ?_
    refine lv_bipush (v := (nI 48)) hx hb dX6_execute_99 (by decide) ?_
    refine lv_icmp_ne (tgt := 114) hx hb dX6_execute_101 (by decide) (fun c_101 => ?_) (fun c_101 => ?_)
    · have c_101 : ¬ cn = 48 := fun z => c_101 ((nI_eq (by omega) (by omega)).mpr z)
      have hcn48 : cn < 48 := by omega
      obtain ⟨o, r, hi⟩ := hI.ins hcn48
      obtain ⟨ho, eo, er, hr48, hrr, hxq, hx48, -⟩ := id hi
      refine lv_aload_n hx hb dX6_execute_114 rfl (lv_at hl 0 rfl) ?_
      refine zget hx hb hts hown hK hM.o rfl in_X6 1 (by decide) q323 (fun _ h => h) (v := .ref (y 1)) rfl dX6_execute_115 ?_
      refine lv_iload_n hx hb dX6_execute_118 rfl (lv_at hl 3 rfl) ?_
      refine zaald (t := 5) hx hb hK (by decide) rfl hM.p cn (by omega) (by decide) dX6_execute_119 ?_
      refine zTopV (y := .ref (pr cn)) rfl ?_
      refine lv_astore (lv' := [(5, .ref (pr cn)), (0, .ref (y 17)), (1, .int (nI t)), (2, .ref (y (9 + t))), (3, .int (nI cn))]) hx hb dX6_execute_120 hl (by decide) rfl (fun ls hl => ?_)
      refine lv_aload_n hx hb dX6_execute_122 rfl (lv_at hl 3 rfl) ?_
      refine lv_iload_n hx hb dX6_execute_123 rfl (lv_at hl 4 rfl) ?_
      refine lv_iconst (v := (nI 1)) hx hb dX6_execute_124 (by decide) ?_
      refine lv_iadd hx hb dX6_execute_125 ?_
      refine zTop (y := nI (cn + 1)) (zadd (by omega)) ?_
      refine lv_bipush (v := (nI 48)) hx hb dX6_execute_126 (by decide) ?_
      refine va_mmin hx hb (by rw [hml]; exact hl.1.symm) hown (hts _ q1035) (hts _ q542) (hts _ q64) (hts _ q543) (Nat.le_of_ble_eq_true rfl) (Nat.le_of_ble_eq_true rfl) (by first | decide | omega) (by first | decide | omega) dX6_execute_128 ?_
      refine zTop (y := nI (min (cn + 1) 48)) (zminN (by omega) (by omega)) ?_
      refine zTop (y := (nI (cn + 1))) (congrArg nI (by omega)) ?_
      refine zputN hx hb hts hown hK (hM.l (t := t) (by omega)) hS (hM.w (by omega)) rfl in_X7 tyX7_ok nmX7 1 (by decide) (hK.f 29 rfl) (fun _ h => h) rfl rfl rfl (Nat.le_of_ble_eq_true rfl) dX6_execute_131 (fun H8 locs h_o hz_o hq_o hS => ?_)
      have hO := hO.put1 (hM.w (by omega)) hM.z hxy hz_o hq_o
      have hM := hM.putCn (t := t) (by omega) h_o hq_o
      have hI9 : InvS (upd (upd (upd (upd (mTr S (nI t) (nI cn)) (14 * t + 9) (S 232)) (14 * t + 12) ((S (14 * t + 12)) + (nI 1))) (14 * t + 13) (S (14 * t + 13) + le)) (14 * t + 1) (nI (cn + 1))) B := InvS_counter (InvS_free (InvS_free (InvS_free (InvS_tr hI) (by omega)) (by omega)) (by omega)) ht ⟨_, (show cn + 1 ≤ 48 by omega), rfl⟩
      rcases (show o = 0 ∨ o = 1 ∨ o = 2 ∨ o = 3 ∨ o = 4 ∨ o = 5 ∨ o = 6 ∨ o = 7 ∨ o = 8 ∨ o = 9 ∨ o = 10 ∨ o = 11 by omega) with rfl | rfl | rfl | rfl | rfl | rfl | rfl | rfl | rfl | rfl | rfl | rfl
      · have hr5 := hrr (by omega)
        refine lv_aload_n hx hb dX6_execute_134 rfl (lv_at hl 1 rfl) ?_
        refine zget hx hb hts hown hK hM.o rfl in_X6 12 (by decide) q345 (fun _ h => h) (v := .ref x) rfl dX6_execute_135 ?_
        refine zgetN hx hb hts hown hK hO.o rfl in_X0 0 (by decide) (hK.f 37 rfl) (fun _ h => h) (v := .ref (u 0)) rfl dX6_execute_138 ?_
        refine lv_aload hx hb dX6_execute_141 (lv_at hl 0 rfl) ?_
        refine zgetN hx hb hts hown hK (hM.i (k := cn) (by omega)) rfl in_X5 0 (by decide) (hK.f 25 rfl) (fun _ h => h) (v := .int ((upd (upd (upd (upd (mTr S (nI t) (nI cn)) (14 * t + 9) (S 232)) (14 * t + 12) ((S (14 * t + 12)) + (nI 1))) (14 * t + 13) (S (14 * t + 13) + le)) (14 * t + 1) (nI (cn + 1))) (56 + 3 * cn))) rfl dX6_execute_143 ?_
        refine zTop (y := (nI 0)) ((upd_n (by omega)).trans ((upd_n (by omega)).trans ((upd_n (by omega)).trans ((upd_n (by omega)).trans ((mTr_off (by omega)).trans eo))))) ?_
        refine zaald (t := 6) hx hb hK (by decide) rfl hO.ops 0 (by omega) (by decide) dX6_execute_146 ?_
        refine zTopV (y := .ref (G.2.2 (20 + 0))) rfl ?_
        refine lv_aload_n hx hb dX6_execute_147 rfl (lv_at hl 1 rfl) ?_
        refine lv_aload_n hx hb dX6_execute_148 rfl (lv_at hl 3 rfl) ?_
        refine lv_aload hx hb dX6_execute_149 (lv_at hl 0 rfl) ?_
        refine zgetN hx hb hts hown hK (hM.i (k := cn) (by omega)) rfl in_X5 1 (by decide) (hK.f 26 rfl) (fun _ h => h) (v := .int (pF1 ((upd (upd (upd (upd (mTr S (nI t) (nI cn)) (14 * t + 9) (S 232)) (14 * t + 12) ((S (14 * t + 12)) + (nI 1))) (14 * t + 13) (S (14 * t + 13) + le)) (14 * t + 1) (nI (cn + 1))) (56 + 3 * cn)) ((upd (upd (upd (upd (mTr S (nI t) (nI cn)) (14 * t + 9) (S 232)) (14 * t + 12) ((S (14 * t + 12)) + (nI 1))) (14 * t + 13) (S (14 * t + 13) + le)) (14 * t + 1) (nI (cn + 1))) (56 + 3 * cn + 1)))) rfl dX6_execute_151 ?_
        refine zTop (y := (nI r)) ((pF1_v (k := 0) (by omega) ((upd_n (by omega)).trans ((upd_n (by omega)).trans ((upd_n (by omega)).trans ((upd_n (by omega)).trans ((mTr_off (by omega)).trans eo)))))).trans ((upd_n (by omega)).trans ((upd_n (by omega)).trans ((upd_n (by omega)).trans ((upd_n (by omega)).trans ((mTr_off (by omega)).trans er)))))) ?_
        refine lv_aload hx hb dX6_execute_154 (lv_at hl 0 rfl) ?_
        refine zgetN hx hb hts hown hK (hM.i (k := cn) (by omega)) rfl in_X5 2 (by decide) (hK.f 27 rfl) (fun _ h => h) (v := .int (pF2 ((upd (upd (upd (upd (mTr S (nI t) (nI cn)) (14 * t + 9) (S 232)) (14 * t + 12) ((S (14 * t + 12)) + (nI 1))) (14 * t + 13) (S (14 * t + 13) + le)) (14 * t + 1) (nI (cn + 1))) (56 + 3 * cn)) ((upd (upd (upd (upd (mTr S (nI t) (nI cn)) (14 * t + 9) (S 232)) (14 * t + 12) ((S (14 * t + 12)) + (nI 1))) (14 * t + 13) (S (14 * t + 13) + le)) (14 * t + 1) (nI (cn + 1))) (56 + 3 * cn + 2)))) rfl dX6_execute_156 ?_
        refine zTop (y := (S (56 + 3 * cn + 2))) ((pF2_v (k := 0) (by omega) (by omega) ((upd_n (by omega)).trans ((upd_n (by omega)).trans ((upd_n (by omega)).trans ((upd_n (by omega)).trans ((mTr_off (by omega)).trans eo)))))).trans ((upd_n (by omega)).trans ((upd_n (by omega)).trans ((upd_n (by omega)).trans ((upd_n (by omega)).trans (mTr_off (by omega))))))) ?_
        refine zcL (y := yX0_lambda_new_0) (i1 := (nI r)) (i2 := (S (56 + 3 * cn + 2))) ⟨hx, hb, hml, hown, hts, hK⟩ (kX0_lambda_new_0 l t r (S (56 + 3 * cn + 2)) (by omega) hr5 hM) (show zLs[0]? = some (12, 17, "lambda$new$0") from rfl) rfl q1037 q79 q45 q80 (by decide +kernel) (fun v H1 h => h.1) (hO.c.lo (by decide)) ⟨Nat.le_of_ble_eq_true rfl, Nat.le_of_ble_eq_true rfl⟩ hl.1 (rest := []) rfl (Nat.le_of_ble_eq_true rfl) dX6_execute_159 ⟨by first | decide | omega, by first | decide | omega⟩ hS (fun _ h => h) (fun v_c H9 locs hp_c hz_c hk_c hS => ?_)
        have hO := hO.call hM.z hxy hz_c hk_c
        obtain ⟨rfl, hM⟩ := hp_c
        have hM : PM G own y x pr (mEx (upd (upd (upd S (14 * t + 9) (S 232)) (14 * t + 12) (S (14 * t + 12) + nI 1)) (14 * t + 13) (S (14 * t + 13) + (if nI t = nI (mOwn S) then nI 0 else nI 1))) t) (upd C (tr % 16) (S 232)) (upd D (tr % 16) (nI t)) (upd E (tr % 16) (nI cn)) (tr + 1) H9 := by
          rw [← eow, ← hle]
          rw [← cEx_n ht ecn hcn48 hi]; exact hM
        have hI6 : InvS (upd (upd (upd S (14 * t + 9) (S 232)) (14 * t + 12) (S (14 * t + 12) + nI 1)) (14 * t + 13) (S (14 * t + 13) + (if nI t = nI (mOwn S) then nI 0 else nI 1))) B := InvS_free (InvS_free (InvS_free hI (by omega)) (by omega)) (by omega)
        have e61 : (upd (upd (upd S (14 * t + 9) (S 232)) (14 * t + 12) (S (14 * t + 12) + nI 1)) (14 * t + 13) (S (14 * t + 13) + (if nI t = nI (mOwn S) then nI 0 else nI 1))) (14 * t + 1) = nI cn := (upd_n (by omega)).trans ((upd_n (by omega)).trans ((upd_n (by omega)).trans ecn))
        have hT := hT.to (S' := mEx (upd (upd (upd S (14 * t + 9) (S 232)) (14 * t + 12) (S (14 * t + 12) + nI 1)) (14 * t + 13) (S (14 * t + 13) + (if nI t = nI (mOwn S) then nI 0 else nI 1))) t) (fun j h1 h2 => by
          rw [mEx_hi hI6 ht h1, e61, mTr_upd (by omega), mTr_upd (by omega), mTr_upd (by omega), upd_n (by omega), upd_n (by omega), upd_n (by omega)])
        exact zrv hx hb hr hlk hH hQ hS ⟨_, _, _, rfl, hM, hT⟩ (Nat.le_of_ble_eq_true rfl) (Nat.le_of_ble_eq_true rfl) dX6_execute_164
      · obtain ⟨q, hq4, eq⟩ := hxq (by omega) (by omega)
        have hr5 := hrr (by omega)
        refine lv_aload_n hx hb dX6_execute_134 rfl (lv_at hl 1 rfl) ?_
        refine zget hx hb hts hown hK hM.o rfl in_X6 12 (by decide) q345 (fun _ h => h) (v := .ref x) rfl dX6_execute_135 ?_
        refine zgetN hx hb hts hown hK hO.o rfl in_X0 0 (by decide) (hK.f 37 rfl) (fun _ h => h) (v := .ref (u 0)) rfl dX6_execute_138 ?_
        refine lv_aload hx hb dX6_execute_141 (lv_at hl 0 rfl) ?_
        refine zgetN hx hb hts hown hK (hM.i (k := cn) (by omega)) rfl in_X5 0 (by decide) (hK.f 25 rfl) (fun _ h => h) (v := .int ((upd (upd (upd (upd (mTr S (nI t) (nI cn)) (14 * t + 9) (S 232)) (14 * t + 12) ((S (14 * t + 12)) + (nI 1))) (14 * t + 13) (S (14 * t + 13) + le)) (14 * t + 1) (nI (cn + 1))) (56 + 3 * cn))) rfl dX6_execute_143 ?_
        refine zTop (y := (nI 1)) ((upd_n (by omega)).trans ((upd_n (by omega)).trans ((upd_n (by omega)).trans ((upd_n (by omega)).trans ((mTr_off (by omega)).trans eo))))) ?_
        refine zaald (t := 6) hx hb hK (by decide) rfl hO.ops 1 (by omega) (by decide) dX6_execute_146 ?_
        refine zTopV (y := .ref (G.2.2 (20 + 1))) rfl ?_
        refine lv_aload_n hx hb dX6_execute_147 rfl (lv_at hl 1 rfl) ?_
        refine lv_aload_n hx hb dX6_execute_148 rfl (lv_at hl 3 rfl) ?_
        refine lv_aload hx hb dX6_execute_149 (lv_at hl 0 rfl) ?_
        refine zgetN hx hb hts hown hK (hM.i (k := cn) (by omega)) rfl in_X5 1 (by decide) (hK.f 26 rfl) (fun _ h => h) (v := .int (pF1 ((upd (upd (upd (upd (mTr S (nI t) (nI cn)) (14 * t + 9) (S 232)) (14 * t + 12) ((S (14 * t + 12)) + (nI 1))) (14 * t + 13) (S (14 * t + 13) + le)) (14 * t + 1) (nI (cn + 1))) (56 + 3 * cn)) ((upd (upd (upd (upd (mTr S (nI t) (nI cn)) (14 * t + 9) (S 232)) (14 * t + 12) ((S (14 * t + 12)) + (nI 1))) (14 * t + 13) (S (14 * t + 13) + le)) (14 * t + 1) (nI (cn + 1))) (56 + 3 * cn + 1)))) rfl dX6_execute_151 ?_
        refine zTop (y := (nI r)) ((pF1_v (k := 1) (by omega) ((upd_n (by omega)).trans ((upd_n (by omega)).trans ((upd_n (by omega)).trans ((upd_n (by omega)).trans ((mTr_off (by omega)).trans eo)))))).trans ((upd_n (by omega)).trans ((upd_n (by omega)).trans ((upd_n (by omega)).trans ((upd_n (by omega)).trans ((mTr_off (by omega)).trans er)))))) ?_
        refine lv_aload hx hb dX6_execute_154 (lv_at hl 0 rfl) ?_
        refine zgetN hx hb hts hown hK (hM.i (k := cn) (by omega)) rfl in_X5 2 (by decide) (hK.f 27 rfl) (fun _ h => h) (v := .int (pF2 ((upd (upd (upd (upd (mTr S (nI t) (nI cn)) (14 * t + 9) (S 232)) (14 * t + 12) ((S (14 * t + 12)) + (nI 1))) (14 * t + 13) (S (14 * t + 13) + le)) (14 * t + 1) (nI (cn + 1))) (56 + 3 * cn)) ((upd (upd (upd (upd (mTr S (nI t) (nI cn)) (14 * t + 9) (S 232)) (14 * t + 12) ((S (14 * t + 12)) + (nI 1))) (14 * t + 13) (S (14 * t + 13) + le)) (14 * t + 1) (nI (cn + 1))) (56 + 3 * cn + 2)))) rfl dX6_execute_156 ?_
        refine zTop (y := (nI q)) ((pF2_v (k := 1) (by omega) (by omega) ((upd_n (by omega)).trans ((upd_n (by omega)).trans ((upd_n (by omega)).trans ((upd_n (by omega)).trans ((mTr_off (by omega)).trans eo)))))).trans ((upd_n (by omega)).trans ((upd_n (by omega)).trans ((upd_n (by omega)).trans ((upd_n (by omega)).trans ((mTr_off (by omega)).trans eq)))))) ?_
        refine zcL (y := yX0_lambda_new_1) (i1 := (nI r)) (i2 := (nI q)) ⟨hx, hb, hml, hown, hts, hK⟩ (kX0_lambda_new_1 l t r q (by omega) hr5 hq4 hM) (show zLs[1]? = some (20, 21, "lambda$new$1") from rfl) rfl q1037 q85 q45 q86 (by decide +kernel) (fun v H1 h => h.1) (hO.c.lo (by decide)) ⟨Nat.le_of_ble_eq_true rfl, Nat.le_of_ble_eq_true rfl⟩ hl.1 (rest := []) rfl (Nat.le_of_ble_eq_true rfl) dX6_execute_159 ⟨by first | decide | omega, by first | decide | omega⟩ hS (fun _ h => h) (fun v_c H9 locs hp_c hz_c hk_c hS => ?_)
        have hO := hO.call hM.z hxy hz_c hk_c
        obtain ⟨rfl, hM⟩ := hp_c
        have hM : PM G own y x pr (mEx (upd (upd (upd S (14 * t + 9) (S 232)) (14 * t + 12) (S (14 * t + 12) + nI 1)) (14 * t + 13) (S (14 * t + 13) + (if nI t = nI (mOwn S) then nI 0 else nI 1))) t) (upd C (tr % 16) (S 232)) (upd D (tr % 16) (nI t)) (upd E (tr % 16) (nI cn)) (tr + 1) H9 := by
          rw [← eow, ← hle]
          rw [← cEx_n ht ecn hcn48 hi]; rw [eq]; exact hM
        have hI6 : InvS (upd (upd (upd S (14 * t + 9) (S 232)) (14 * t + 12) (S (14 * t + 12) + nI 1)) (14 * t + 13) (S (14 * t + 13) + (if nI t = nI (mOwn S) then nI 0 else nI 1))) B := InvS_free (InvS_free (InvS_free hI (by omega)) (by omega)) (by omega)
        have e61 : (upd (upd (upd S (14 * t + 9) (S 232)) (14 * t + 12) (S (14 * t + 12) + nI 1)) (14 * t + 13) (S (14 * t + 13) + (if nI t = nI (mOwn S) then nI 0 else nI 1))) (14 * t + 1) = nI cn := (upd_n (by omega)).trans ((upd_n (by omega)).trans ((upd_n (by omega)).trans ecn))
        have hT := hT.to (S' := mEx (upd (upd (upd S (14 * t + 9) (S 232)) (14 * t + 12) (S (14 * t + 12) + nI 1)) (14 * t + 13) (S (14 * t + 13) + (if nI t = nI (mOwn S) then nI 0 else nI 1))) t) (fun j h1 h2 => by
          rw [mEx_hi hI6 ht h1, e61, mTr_upd (by omega), mTr_upd (by omega), mTr_upd (by omega), upd_n (by omega), upd_n (by omega), upd_n (by omega)])
        exact zrv hx hb hr hlk hH hQ hS ⟨_, _, _, rfl, hM, hT⟩ (Nat.le_of_ble_eq_true rfl) (Nat.le_of_ble_eq_true rfl) dX6_execute_164
      · obtain ⟨q, hq4, eq⟩ := hxq (by omega) (by omega)
        have hr5 := hrr (by omega)
        refine lv_aload_n hx hb dX6_execute_134 rfl (lv_at hl 1 rfl) ?_
        refine zget hx hb hts hown hK hM.o rfl in_X6 12 (by decide) q345 (fun _ h => h) (v := .ref x) rfl dX6_execute_135 ?_
        refine zgetN hx hb hts hown hK hO.o rfl in_X0 0 (by decide) (hK.f 37 rfl) (fun _ h => h) (v := .ref (u 0)) rfl dX6_execute_138 ?_
        refine lv_aload hx hb dX6_execute_141 (lv_at hl 0 rfl) ?_
        refine zgetN hx hb hts hown hK (hM.i (k := cn) (by omega)) rfl in_X5 0 (by decide) (hK.f 25 rfl) (fun _ h => h) (v := .int ((upd (upd (upd (upd (mTr S (nI t) (nI cn)) (14 * t + 9) (S 232)) (14 * t + 12) ((S (14 * t + 12)) + (nI 1))) (14 * t + 13) (S (14 * t + 13) + le)) (14 * t + 1) (nI (cn + 1))) (56 + 3 * cn))) rfl dX6_execute_143 ?_
        refine zTop (y := (nI 2)) ((upd_n (by omega)).trans ((upd_n (by omega)).trans ((upd_n (by omega)).trans ((upd_n (by omega)).trans ((mTr_off (by omega)).trans eo))))) ?_
        refine zaald (t := 6) hx hb hK (by decide) rfl hO.ops 2 (by omega) (by decide) dX6_execute_146 ?_
        refine zTopV (y := .ref (G.2.2 (20 + 2))) rfl ?_
        refine lv_aload_n hx hb dX6_execute_147 rfl (lv_at hl 1 rfl) ?_
        refine lv_aload_n hx hb dX6_execute_148 rfl (lv_at hl 3 rfl) ?_
        refine lv_aload hx hb dX6_execute_149 (lv_at hl 0 rfl) ?_
        refine zgetN hx hb hts hown hK (hM.i (k := cn) (by omega)) rfl in_X5 1 (by decide) (hK.f 26 rfl) (fun _ h => h) (v := .int (pF1 ((upd (upd (upd (upd (mTr S (nI t) (nI cn)) (14 * t + 9) (S 232)) (14 * t + 12) ((S (14 * t + 12)) + (nI 1))) (14 * t + 13) (S (14 * t + 13) + le)) (14 * t + 1) (nI (cn + 1))) (56 + 3 * cn)) ((upd (upd (upd (upd (mTr S (nI t) (nI cn)) (14 * t + 9) (S 232)) (14 * t + 12) ((S (14 * t + 12)) + (nI 1))) (14 * t + 13) (S (14 * t + 13) + le)) (14 * t + 1) (nI (cn + 1))) (56 + 3 * cn + 1)))) rfl dX6_execute_151 ?_
        refine zTop (y := (nI r)) ((pF1_v (k := 2) (by omega) ((upd_n (by omega)).trans ((upd_n (by omega)).trans ((upd_n (by omega)).trans ((upd_n (by omega)).trans ((mTr_off (by omega)).trans eo)))))).trans ((upd_n (by omega)).trans ((upd_n (by omega)).trans ((upd_n (by omega)).trans ((upd_n (by omega)).trans ((mTr_off (by omega)).trans er)))))) ?_
        refine lv_aload hx hb dX6_execute_154 (lv_at hl 0 rfl) ?_
        refine zgetN hx hb hts hown hK (hM.i (k := cn) (by omega)) rfl in_X5 2 (by decide) (hK.f 27 rfl) (fun _ h => h) (v := .int (pF2 ((upd (upd (upd (upd (mTr S (nI t) (nI cn)) (14 * t + 9) (S 232)) (14 * t + 12) ((S (14 * t + 12)) + (nI 1))) (14 * t + 13) (S (14 * t + 13) + le)) (14 * t + 1) (nI (cn + 1))) (56 + 3 * cn)) ((upd (upd (upd (upd (mTr S (nI t) (nI cn)) (14 * t + 9) (S 232)) (14 * t + 12) ((S (14 * t + 12)) + (nI 1))) (14 * t + 13) (S (14 * t + 13) + le)) (14 * t + 1) (nI (cn + 1))) (56 + 3 * cn + 2)))) rfl dX6_execute_156 ?_
        refine zTop (y := (nI q)) ((pF2_v (k := 2) (by omega) (by omega) ((upd_n (by omega)).trans ((upd_n (by omega)).trans ((upd_n (by omega)).trans ((upd_n (by omega)).trans ((mTr_off (by omega)).trans eo)))))).trans ((upd_n (by omega)).trans ((upd_n (by omega)).trans ((upd_n (by omega)).trans ((upd_n (by omega)).trans ((mTr_off (by omega)).trans eq)))))) ?_
        refine zcL (y := yX0_lambda_new_2) (i1 := (nI r)) (i2 := (nI q)) ⟨hx, hb, hml, hown, hts, hK⟩ (kX0_lambda_new_2 l t r q (by omega) hr5 hq4 hM) (show zLs[2]? = some (28, 22, "lambda$new$2") from rfl) rfl q1037 q87 q45 q88 (by decide +kernel) (fun v H1 h => h.1) (hO.c.lo (by decide)) ⟨Nat.le_of_ble_eq_true rfl, Nat.le_of_ble_eq_true rfl⟩ hl.1 (rest := []) rfl (Nat.le_of_ble_eq_true rfl) dX6_execute_159 ⟨by first | decide | omega, by first | decide | omega⟩ hS (fun _ h => h) (fun v_c H9 locs hp_c hz_c hk_c hS => ?_)
        have hO := hO.call hM.z hxy hz_c hk_c
        obtain ⟨rfl, hM⟩ := hp_c
        have hM : PM G own y x pr (mEx (upd (upd (upd S (14 * t + 9) (S 232)) (14 * t + 12) (S (14 * t + 12) + nI 1)) (14 * t + 13) (S (14 * t + 13) + (if nI t = nI (mOwn S) then nI 0 else nI 1))) t) (upd C (tr % 16) (S 232)) (upd D (tr % 16) (nI t)) (upd E (tr % 16) (nI cn)) (tr + 1) H9 := by
          rw [← eow, ← hle]
          rw [← cEx_n ht ecn hcn48 hi]; rw [eq]; exact hM
        have hI6 : InvS (upd (upd (upd S (14 * t + 9) (S 232)) (14 * t + 12) (S (14 * t + 12) + nI 1)) (14 * t + 13) (S (14 * t + 13) + (if nI t = nI (mOwn S) then nI 0 else nI 1))) B := InvS_free (InvS_free (InvS_free hI (by omega)) (by omega)) (by omega)
        have e61 : (upd (upd (upd S (14 * t + 9) (S 232)) (14 * t + 12) (S (14 * t + 12) + nI 1)) (14 * t + 13) (S (14 * t + 13) + (if nI t = nI (mOwn S) then nI 0 else nI 1))) (14 * t + 1) = nI cn := (upd_n (by omega)).trans ((upd_n (by omega)).trans ((upd_n (by omega)).trans ecn))
        have hT := hT.to (S' := mEx (upd (upd (upd S (14 * t + 9) (S 232)) (14 * t + 12) (S (14 * t + 12) + nI 1)) (14 * t + 13) (S (14 * t + 13) + (if nI t = nI (mOwn S) then nI 0 else nI 1))) t) (fun j h1 h2 => by
          rw [mEx_hi hI6 ht h1, e61, mTr_upd (by omega), mTr_upd (by omega), mTr_upd (by omega), upd_n (by omega), upd_n (by omega), upd_n (by omega)])
        exact zrv hx hb hr hlk hH hQ hS ⟨_, _, _, rfl, hM, hT⟩ (Nat.le_of_ble_eq_true rfl) (Nat.le_of_ble_eq_true rfl) dX6_execute_164
      · obtain ⟨q, hq4, eq⟩ := hxq (by omega) (by omega)
        have hr5 := hrr (by omega)
        refine lv_aload_n hx hb dX6_execute_134 rfl (lv_at hl 1 rfl) ?_
        refine zget hx hb hts hown hK hM.o rfl in_X6 12 (by decide) q345 (fun _ h => h) (v := .ref x) rfl dX6_execute_135 ?_
        refine zgetN hx hb hts hown hK hO.o rfl in_X0 0 (by decide) (hK.f 37 rfl) (fun _ h => h) (v := .ref (u 0)) rfl dX6_execute_138 ?_
        refine lv_aload hx hb dX6_execute_141 (lv_at hl 0 rfl) ?_
        refine zgetN hx hb hts hown hK (hM.i (k := cn) (by omega)) rfl in_X5 0 (by decide) (hK.f 25 rfl) (fun _ h => h) (v := .int ((upd (upd (upd (upd (mTr S (nI t) (nI cn)) (14 * t + 9) (S 232)) (14 * t + 12) ((S (14 * t + 12)) + (nI 1))) (14 * t + 13) (S (14 * t + 13) + le)) (14 * t + 1) (nI (cn + 1))) (56 + 3 * cn))) rfl dX6_execute_143 ?_
        refine zTop (y := (nI 3)) ((upd_n (by omega)).trans ((upd_n (by omega)).trans ((upd_n (by omega)).trans ((upd_n (by omega)).trans ((mTr_off (by omega)).trans eo))))) ?_
        refine zaald (t := 6) hx hb hK (by decide) rfl hO.ops 3 (by omega) (by decide) dX6_execute_146 ?_
        refine zTopV (y := .ref (G.2.2 (20 + 3))) rfl ?_
        refine lv_aload_n hx hb dX6_execute_147 rfl (lv_at hl 1 rfl) ?_
        refine lv_aload_n hx hb dX6_execute_148 rfl (lv_at hl 3 rfl) ?_
        refine lv_aload hx hb dX6_execute_149 (lv_at hl 0 rfl) ?_
        refine zgetN hx hb hts hown hK (hM.i (k := cn) (by omega)) rfl in_X5 1 (by decide) (hK.f 26 rfl) (fun _ h => h) (v := .int (pF1 ((upd (upd (upd (upd (mTr S (nI t) (nI cn)) (14 * t + 9) (S 232)) (14 * t + 12) ((S (14 * t + 12)) + (nI 1))) (14 * t + 13) (S (14 * t + 13) + le)) (14 * t + 1) (nI (cn + 1))) (56 + 3 * cn)) ((upd (upd (upd (upd (mTr S (nI t) (nI cn)) (14 * t + 9) (S 232)) (14 * t + 12) ((S (14 * t + 12)) + (nI 1))) (14 * t + 13) (S (14 * t + 13) + le)) (14 * t + 1) (nI (cn + 1))) (56 + 3 * cn + 1)))) rfl dX6_execute_151 ?_
        refine zTop (y := (nI r)) ((pF1_v (k := 3) (by omega) ((upd_n (by omega)).trans ((upd_n (by omega)).trans ((upd_n (by omega)).trans ((upd_n (by omega)).trans ((mTr_off (by omega)).trans eo)))))).trans ((upd_n (by omega)).trans ((upd_n (by omega)).trans ((upd_n (by omega)).trans ((upd_n (by omega)).trans ((mTr_off (by omega)).trans er)))))) ?_
        refine lv_aload hx hb dX6_execute_154 (lv_at hl 0 rfl) ?_
        refine zgetN hx hb hts hown hK (hM.i (k := cn) (by omega)) rfl in_X5 2 (by decide) (hK.f 27 rfl) (fun _ h => h) (v := .int (pF2 ((upd (upd (upd (upd (mTr S (nI t) (nI cn)) (14 * t + 9) (S 232)) (14 * t + 12) ((S (14 * t + 12)) + (nI 1))) (14 * t + 13) (S (14 * t + 13) + le)) (14 * t + 1) (nI (cn + 1))) (56 + 3 * cn)) ((upd (upd (upd (upd (mTr S (nI t) (nI cn)) (14 * t + 9) (S 232)) (14 * t + 12) ((S (14 * t + 12)) + (nI 1))) (14 * t + 13) (S (14 * t + 13) + le)) (14 * t + 1) (nI (cn + 1))) (56 + 3 * cn + 2)))) rfl dX6_execute_156 ?_
        refine zTop (y := (nI q)) ((pF2_v (k := 3) (by omega) (by omega) ((upd_n (by omega)).trans ((upd_n (by omega)).trans ((upd_n (by omega)).trans ((upd_n (by omega)).trans ((mTr_off (by omega)).trans eo)))))).trans ((upd_n (by omega)).trans ((upd_n (by omega)).trans ((upd_n (by omega)).trans ((upd_n (by omega)).trans ((mTr_off (by omega)).trans eq)))))) ?_
        refine zcL (y := yX0_lambda_new_3) (i1 := (nI r)) (i2 := (nI q)) ⟨hx, hb, hml, hown, hts, hK⟩ (kX0_lambda_new_3 l t r q (by omega) hr5 hq4 hM) (show zLs[3]? = some (36, 23, "lambda$new$3") from rfl) rfl q1037 q89 q45 q90 (by decide +kernel) (fun v H1 h => h.1) (hO.c.lo (by decide)) ⟨Nat.le_of_ble_eq_true rfl, Nat.le_of_ble_eq_true rfl⟩ hl.1 (rest := []) rfl (Nat.le_of_ble_eq_true rfl) dX6_execute_159 ⟨by first | decide | omega, by first | decide | omega⟩ hS (fun _ h => h) (fun v_c H9 locs hp_c hz_c hk_c hS => ?_)
        have hO := hO.call hM.z hxy hz_c hk_c
        obtain ⟨rfl, hM⟩ := hp_c
        have hM : PM G own y x pr (mEx (upd (upd (upd S (14 * t + 9) (S 232)) (14 * t + 12) (S (14 * t + 12) + nI 1)) (14 * t + 13) (S (14 * t + 13) + (if nI t = nI (mOwn S) then nI 0 else nI 1))) t) (upd C (tr % 16) (S 232)) (upd D (tr % 16) (nI t)) (upd E (tr % 16) (nI cn)) (tr + 1) H9 := by
          rw [← eow, ← hle]
          rw [← cEx_n ht ecn hcn48 hi]; rw [eq]; exact hM
        have hI6 : InvS (upd (upd (upd S (14 * t + 9) (S 232)) (14 * t + 12) (S (14 * t + 12) + nI 1)) (14 * t + 13) (S (14 * t + 13) + (if nI t = nI (mOwn S) then nI 0 else nI 1))) B := InvS_free (InvS_free (InvS_free hI (by omega)) (by omega)) (by omega)
        have e61 : (upd (upd (upd S (14 * t + 9) (S 232)) (14 * t + 12) (S (14 * t + 12) + nI 1)) (14 * t + 13) (S (14 * t + 13) + (if nI t = nI (mOwn S) then nI 0 else nI 1))) (14 * t + 1) = nI cn := (upd_n (by omega)).trans ((upd_n (by omega)).trans ((upd_n (by omega)).trans ecn))
        have hT := hT.to (S' := mEx (upd (upd (upd S (14 * t + 9) (S 232)) (14 * t + 12) (S (14 * t + 12) + nI 1)) (14 * t + 13) (S (14 * t + 13) + (if nI t = nI (mOwn S) then nI 0 else nI 1))) t) (fun j h1 h2 => by
          rw [mEx_hi hI6 ht h1, e61, mTr_upd (by omega), mTr_upd (by omega), mTr_upd (by omega), upd_n (by omega), upd_n (by omega), upd_n (by omega)])
        exact zrv hx hb hr hlk hH hQ hS ⟨_, _, _, rfl, hM, hT⟩ (Nat.le_of_ble_eq_true rfl) (Nat.le_of_ble_eq_true rfl) dX6_execute_164
      · obtain ⟨q, hq4, eq⟩ := hxq (by omega) (by omega)
        have hr5 := hrr (by omega)
        refine lv_aload_n hx hb dX6_execute_134 rfl (lv_at hl 1 rfl) ?_
        refine zget hx hb hts hown hK hM.o rfl in_X6 12 (by decide) q345 (fun _ h => h) (v := .ref x) rfl dX6_execute_135 ?_
        refine zgetN hx hb hts hown hK hO.o rfl in_X0 0 (by decide) (hK.f 37 rfl) (fun _ h => h) (v := .ref (u 0)) rfl dX6_execute_138 ?_
        refine lv_aload hx hb dX6_execute_141 (lv_at hl 0 rfl) ?_
        refine zgetN hx hb hts hown hK (hM.i (k := cn) (by omega)) rfl in_X5 0 (by decide) (hK.f 25 rfl) (fun _ h => h) (v := .int ((upd (upd (upd (upd (mTr S (nI t) (nI cn)) (14 * t + 9) (S 232)) (14 * t + 12) ((S (14 * t + 12)) + (nI 1))) (14 * t + 13) (S (14 * t + 13) + le)) (14 * t + 1) (nI (cn + 1))) (56 + 3 * cn))) rfl dX6_execute_143 ?_
        refine zTop (y := (nI 4)) ((upd_n (by omega)).trans ((upd_n (by omega)).trans ((upd_n (by omega)).trans ((upd_n (by omega)).trans ((mTr_off (by omega)).trans eo))))) ?_
        refine zaald (t := 6) hx hb hK (by decide) rfl hO.ops 4 (by omega) (by decide) dX6_execute_146 ?_
        refine zTopV (y := .ref (G.2.2 (20 + 4))) rfl ?_
        refine lv_aload_n hx hb dX6_execute_147 rfl (lv_at hl 1 rfl) ?_
        refine lv_aload_n hx hb dX6_execute_148 rfl (lv_at hl 3 rfl) ?_
        refine lv_aload hx hb dX6_execute_149 (lv_at hl 0 rfl) ?_
        refine zgetN hx hb hts hown hK (hM.i (k := cn) (by omega)) rfl in_X5 1 (by decide) (hK.f 26 rfl) (fun _ h => h) (v := .int (pF1 ((upd (upd (upd (upd (mTr S (nI t) (nI cn)) (14 * t + 9) (S 232)) (14 * t + 12) ((S (14 * t + 12)) + (nI 1))) (14 * t + 13) (S (14 * t + 13) + le)) (14 * t + 1) (nI (cn + 1))) (56 + 3 * cn)) ((upd (upd (upd (upd (mTr S (nI t) (nI cn)) (14 * t + 9) (S 232)) (14 * t + 12) ((S (14 * t + 12)) + (nI 1))) (14 * t + 13) (S (14 * t + 13) + le)) (14 * t + 1) (nI (cn + 1))) (56 + 3 * cn + 1)))) rfl dX6_execute_151 ?_
        refine zTop (y := (nI r)) ((pF1_v (k := 4) (by omega) ((upd_n (by omega)).trans ((upd_n (by omega)).trans ((upd_n (by omega)).trans ((upd_n (by omega)).trans ((mTr_off (by omega)).trans eo)))))).trans ((upd_n (by omega)).trans ((upd_n (by omega)).trans ((upd_n (by omega)).trans ((upd_n (by omega)).trans ((mTr_off (by omega)).trans er)))))) ?_
        refine lv_aload hx hb dX6_execute_154 (lv_at hl 0 rfl) ?_
        refine zgetN hx hb hts hown hK (hM.i (k := cn) (by omega)) rfl in_X5 2 (by decide) (hK.f 27 rfl) (fun _ h => h) (v := .int (pF2 ((upd (upd (upd (upd (mTr S (nI t) (nI cn)) (14 * t + 9) (S 232)) (14 * t + 12) ((S (14 * t + 12)) + (nI 1))) (14 * t + 13) (S (14 * t + 13) + le)) (14 * t + 1) (nI (cn + 1))) (56 + 3 * cn)) ((upd (upd (upd (upd (mTr S (nI t) (nI cn)) (14 * t + 9) (S 232)) (14 * t + 12) ((S (14 * t + 12)) + (nI 1))) (14 * t + 13) (S (14 * t + 13) + le)) (14 * t + 1) (nI (cn + 1))) (56 + 3 * cn + 2)))) rfl dX6_execute_156 ?_
        refine zTop (y := (nI q)) ((pF2_v (k := 4) (by omega) (by omega) ((upd_n (by omega)).trans ((upd_n (by omega)).trans ((upd_n (by omega)).trans ((upd_n (by omega)).trans ((mTr_off (by omega)).trans eo)))))).trans ((upd_n (by omega)).trans ((upd_n (by omega)).trans ((upd_n (by omega)).trans ((upd_n (by omega)).trans ((mTr_off (by omega)).trans eq)))))) ?_
        refine zcL (y := yX0_lambda_new_4) (i1 := (nI r)) (i2 := (nI q)) ⟨hx, hb, hml, hown, hts, hK⟩ (kX0_lambda_new_4 l t r q (by omega) hr5 hq4 hM) (show zLs[4]? = some (44, 24, "lambda$new$4") from rfl) rfl q1037 q91 q45 q92 (by decide +kernel) (fun v H1 h => h.1) (hO.c.lo (by decide)) ⟨Nat.le_of_ble_eq_true rfl, Nat.le_of_ble_eq_true rfl⟩ hl.1 (rest := []) rfl (Nat.le_of_ble_eq_true rfl) dX6_execute_159 ⟨by first | decide | omega, by first | decide | omega⟩ hS (fun _ h => h) (fun v_c H9 locs hp_c hz_c hk_c hS => ?_)
        have hO := hO.call hM.z hxy hz_c hk_c
        obtain ⟨rfl, hM⟩ := hp_c
        have hM : PM G own y x pr (mEx (upd (upd (upd S (14 * t + 9) (S 232)) (14 * t + 12) (S (14 * t + 12) + nI 1)) (14 * t + 13) (S (14 * t + 13) + (if nI t = nI (mOwn S) then nI 0 else nI 1))) t) (upd C (tr % 16) (S 232)) (upd D (tr % 16) (nI t)) (upd E (tr % 16) (nI cn)) (tr + 1) H9 := by
          rw [← eow, ← hle]
          rw [← cEx_n ht ecn hcn48 hi]; rw [eq]; exact hM
        have hI6 : InvS (upd (upd (upd S (14 * t + 9) (S 232)) (14 * t + 12) (S (14 * t + 12) + nI 1)) (14 * t + 13) (S (14 * t + 13) + (if nI t = nI (mOwn S) then nI 0 else nI 1))) B := InvS_free (InvS_free (InvS_free hI (by omega)) (by omega)) (by omega)
        have e61 : (upd (upd (upd S (14 * t + 9) (S 232)) (14 * t + 12) (S (14 * t + 12) + nI 1)) (14 * t + 13) (S (14 * t + 13) + (if nI t = nI (mOwn S) then nI 0 else nI 1))) (14 * t + 1) = nI cn := (upd_n (by omega)).trans ((upd_n (by omega)).trans ((upd_n (by omega)).trans ecn))
        have hT := hT.to (S' := mEx (upd (upd (upd S (14 * t + 9) (S 232)) (14 * t + 12) (S (14 * t + 12) + nI 1)) (14 * t + 13) (S (14 * t + 13) + (if nI t = nI (mOwn S) then nI 0 else nI 1))) t) (fun j h1 h2 => by
          rw [mEx_hi hI6 ht h1, e61, mTr_upd (by omega), mTr_upd (by omega), mTr_upd (by omega), upd_n (by omega), upd_n (by omega), upd_n (by omega)])
        exact zrv hx hb hr hlk hH hQ hS ⟨_, _, _, rfl, hM, hT⟩ (Nat.le_of_ble_eq_true rfl) (Nat.le_of_ble_eq_true rfl) dX6_execute_164
      · obtain ⟨q, hq4, eq⟩ := hxq (by omega) (by omega)
        have hr5 := hrr (by omega)
        refine lv_aload_n hx hb dX6_execute_134 rfl (lv_at hl 1 rfl) ?_
        refine zget hx hb hts hown hK hM.o rfl in_X6 12 (by decide) q345 (fun _ h => h) (v := .ref x) rfl dX6_execute_135 ?_
        refine zgetN hx hb hts hown hK hO.o rfl in_X0 0 (by decide) (hK.f 37 rfl) (fun _ h => h) (v := .ref (u 0)) rfl dX6_execute_138 ?_
        refine lv_aload hx hb dX6_execute_141 (lv_at hl 0 rfl) ?_
        refine zgetN hx hb hts hown hK (hM.i (k := cn) (by omega)) rfl in_X5 0 (by decide) (hK.f 25 rfl) (fun _ h => h) (v := .int ((upd (upd (upd (upd (mTr S (nI t) (nI cn)) (14 * t + 9) (S 232)) (14 * t + 12) ((S (14 * t + 12)) + (nI 1))) (14 * t + 13) (S (14 * t + 13) + le)) (14 * t + 1) (nI (cn + 1))) (56 + 3 * cn))) rfl dX6_execute_143 ?_
        refine zTop (y := (nI 5)) ((upd_n (by omega)).trans ((upd_n (by omega)).trans ((upd_n (by omega)).trans ((upd_n (by omega)).trans ((mTr_off (by omega)).trans eo))))) ?_
        refine zaald (t := 6) hx hb hK (by decide) rfl hO.ops 5 (by omega) (by decide) dX6_execute_146 ?_
        refine zTopV (y := .ref (G.2.2 (20 + 5))) rfl ?_
        refine lv_aload_n hx hb dX6_execute_147 rfl (lv_at hl 1 rfl) ?_
        refine lv_aload_n hx hb dX6_execute_148 rfl (lv_at hl 3 rfl) ?_
        refine lv_aload hx hb dX6_execute_149 (lv_at hl 0 rfl) ?_
        refine zgetN hx hb hts hown hK (hM.i (k := cn) (by omega)) rfl in_X5 1 (by decide) (hK.f 26 rfl) (fun _ h => h) (v := .int (pF1 ((upd (upd (upd (upd (mTr S (nI t) (nI cn)) (14 * t + 9) (S 232)) (14 * t + 12) ((S (14 * t + 12)) + (nI 1))) (14 * t + 13) (S (14 * t + 13) + le)) (14 * t + 1) (nI (cn + 1))) (56 + 3 * cn)) ((upd (upd (upd (upd (mTr S (nI t) (nI cn)) (14 * t + 9) (S 232)) (14 * t + 12) ((S (14 * t + 12)) + (nI 1))) (14 * t + 13) (S (14 * t + 13) + le)) (14 * t + 1) (nI (cn + 1))) (56 + 3 * cn + 1)))) rfl dX6_execute_151 ?_
        refine zTop (y := (nI r)) ((pF1_v (k := 5) (by omega) ((upd_n (by omega)).trans ((upd_n (by omega)).trans ((upd_n (by omega)).trans ((upd_n (by omega)).trans ((mTr_off (by omega)).trans eo)))))).trans ((upd_n (by omega)).trans ((upd_n (by omega)).trans ((upd_n (by omega)).trans ((upd_n (by omega)).trans ((mTr_off (by omega)).trans er)))))) ?_
        refine lv_aload hx hb dX6_execute_154 (lv_at hl 0 rfl) ?_
        refine zgetN hx hb hts hown hK (hM.i (k := cn) (by omega)) rfl in_X5 2 (by decide) (hK.f 27 rfl) (fun _ h => h) (v := .int (pF2 ((upd (upd (upd (upd (mTr S (nI t) (nI cn)) (14 * t + 9) (S 232)) (14 * t + 12) ((S (14 * t + 12)) + (nI 1))) (14 * t + 13) (S (14 * t + 13) + le)) (14 * t + 1) (nI (cn + 1))) (56 + 3 * cn)) ((upd (upd (upd (upd (mTr S (nI t) (nI cn)) (14 * t + 9) (S 232)) (14 * t + 12) ((S (14 * t + 12)) + (nI 1))) (14 * t + 13) (S (14 * t + 13) + le)) (14 * t + 1) (nI (cn + 1))) (56 + 3 * cn + 2)))) rfl dX6_execute_156 ?_
        refine zTop (y := (nI q)) ((pF2_v (k := 5) (by omega) (by omega) ((upd_n (by omega)).trans ((upd_n (by omega)).trans ((upd_n (by omega)).trans ((upd_n (by omega)).trans ((mTr_off (by omega)).trans eo)))))).trans ((upd_n (by omega)).trans ((upd_n (by omega)).trans ((upd_n (by omega)).trans ((upd_n (by omega)).trans ((mTr_off (by omega)).trans eq)))))) ?_
        refine zcL (y := yX0_lambda_new_5) (i1 := (nI r)) (i2 := (nI q)) ⟨hx, hb, hml, hown, hts, hK⟩ (kX0_lambda_new_5 l t r q (by omega) hr5 hq4 hM) (show zLs[5]? = some (52, 25, "lambda$new$5") from rfl) rfl q1037 q101 q45 q102 (by decide +kernel) (fun v H1 h => h.1) (hO.c.lo (by decide)) ⟨Nat.le_of_ble_eq_true rfl, Nat.le_of_ble_eq_true rfl⟩ hl.1 (rest := []) rfl (Nat.le_of_ble_eq_true rfl) dX6_execute_159 ⟨by first | decide | omega, by first | decide | omega⟩ hS (fun _ h => h) (fun v_c H9 locs hp_c hz_c hk_c hS => ?_)
        have hO := hO.call hM.z hxy hz_c hk_c
        obtain ⟨rfl, hM⟩ := hp_c
        have hM : PM G own y x pr (mEx (upd (upd (upd S (14 * t + 9) (S 232)) (14 * t + 12) (S (14 * t + 12) + nI 1)) (14 * t + 13) (S (14 * t + 13) + (if nI t = nI (mOwn S) then nI 0 else nI 1))) t) (upd C (tr % 16) (S 232)) (upd D (tr % 16) (nI t)) (upd E (tr % 16) (nI cn)) (tr + 1) H9 := by
          rw [← eow, ← hle]
          rw [← cEx_n ht ecn hcn48 hi]; rw [eq]; exact hM
        have hI6 : InvS (upd (upd (upd S (14 * t + 9) (S 232)) (14 * t + 12) (S (14 * t + 12) + nI 1)) (14 * t + 13) (S (14 * t + 13) + (if nI t = nI (mOwn S) then nI 0 else nI 1))) B := InvS_free (InvS_free (InvS_free hI (by omega)) (by omega)) (by omega)
        have e61 : (upd (upd (upd S (14 * t + 9) (S 232)) (14 * t + 12) (S (14 * t + 12) + nI 1)) (14 * t + 13) (S (14 * t + 13) + (if nI t = nI (mOwn S) then nI 0 else nI 1))) (14 * t + 1) = nI cn := (upd_n (by omega)).trans ((upd_n (by omega)).trans ((upd_n (by omega)).trans ecn))
        have hT := hT.to (S' := mEx (upd (upd (upd S (14 * t + 9) (S 232)) (14 * t + 12) (S (14 * t + 12) + nI 1)) (14 * t + 13) (S (14 * t + 13) + (if nI t = nI (mOwn S) then nI 0 else nI 1))) t) (fun j h1 h2 => by
          rw [mEx_hi hI6 ht h1, e61, mTr_upd (by omega), mTr_upd (by omega), mTr_upd (by omega), upd_n (by omega), upd_n (by omega), upd_n (by omega)])
        exact zrv hx hb hr hlk hH hQ hS ⟨_, _, _, rfl, hM, hT⟩ (Nat.le_of_ble_eq_true rfl) (Nat.le_of_ble_eq_true rfl) dX6_execute_164
      · obtain ⟨q, hq4, eq⟩ := hxq (by omega) (by omega)
        have hr5 := hrr (by omega)
        refine lv_aload_n hx hb dX6_execute_134 rfl (lv_at hl 1 rfl) ?_
        refine zget hx hb hts hown hK hM.o rfl in_X6 12 (by decide) q345 (fun _ h => h) (v := .ref x) rfl dX6_execute_135 ?_
        refine zgetN hx hb hts hown hK hO.o rfl in_X0 0 (by decide) (hK.f 37 rfl) (fun _ h => h) (v := .ref (u 0)) rfl dX6_execute_138 ?_
        refine lv_aload hx hb dX6_execute_141 (lv_at hl 0 rfl) ?_
        refine zgetN hx hb hts hown hK (hM.i (k := cn) (by omega)) rfl in_X5 0 (by decide) (hK.f 25 rfl) (fun _ h => h) (v := .int ((upd (upd (upd (upd (mTr S (nI t) (nI cn)) (14 * t + 9) (S 232)) (14 * t + 12) ((S (14 * t + 12)) + (nI 1))) (14 * t + 13) (S (14 * t + 13) + le)) (14 * t + 1) (nI (cn + 1))) (56 + 3 * cn))) rfl dX6_execute_143 ?_
        refine zTop (y := (nI 6)) ((upd_n (by omega)).trans ((upd_n (by omega)).trans ((upd_n (by omega)).trans ((upd_n (by omega)).trans ((mTr_off (by omega)).trans eo))))) ?_
        refine zaald (t := 6) hx hb hK (by decide) rfl hO.ops 6 (by omega) (by decide) dX6_execute_146 ?_
        refine zTopV (y := .ref (G.2.2 (20 + 6))) rfl ?_
        refine lv_aload_n hx hb dX6_execute_147 rfl (lv_at hl 1 rfl) ?_
        refine lv_aload_n hx hb dX6_execute_148 rfl (lv_at hl 3 rfl) ?_
        refine lv_aload hx hb dX6_execute_149 (lv_at hl 0 rfl) ?_
        refine zgetN hx hb hts hown hK (hM.i (k := cn) (by omega)) rfl in_X5 1 (by decide) (hK.f 26 rfl) (fun _ h => h) (v := .int (pF1 ((upd (upd (upd (upd (mTr S (nI t) (nI cn)) (14 * t + 9) (S 232)) (14 * t + 12) ((S (14 * t + 12)) + (nI 1))) (14 * t + 13) (S (14 * t + 13) + le)) (14 * t + 1) (nI (cn + 1))) (56 + 3 * cn)) ((upd (upd (upd (upd (mTr S (nI t) (nI cn)) (14 * t + 9) (S 232)) (14 * t + 12) ((S (14 * t + 12)) + (nI 1))) (14 * t + 13) (S (14 * t + 13) + le)) (14 * t + 1) (nI (cn + 1))) (56 + 3 * cn + 1)))) rfl dX6_execute_151 ?_
        refine zTop (y := (nI r)) ((pF1_v (k := 6) (by omega) ((upd_n (by omega)).trans ((upd_n (by omega)).trans ((upd_n (by omega)).trans ((upd_n (by omega)).trans ((mTr_off (by omega)).trans eo)))))).trans ((upd_n (by omega)).trans ((upd_n (by omega)).trans ((upd_n (by omega)).trans ((upd_n (by omega)).trans ((mTr_off (by omega)).trans er)))))) ?_
        refine lv_aload hx hb dX6_execute_154 (lv_at hl 0 rfl) ?_
        refine zgetN hx hb hts hown hK (hM.i (k := cn) (by omega)) rfl in_X5 2 (by decide) (hK.f 27 rfl) (fun _ h => h) (v := .int (pF2 ((upd (upd (upd (upd (mTr S (nI t) (nI cn)) (14 * t + 9) (S 232)) (14 * t + 12) ((S (14 * t + 12)) + (nI 1))) (14 * t + 13) (S (14 * t + 13) + le)) (14 * t + 1) (nI (cn + 1))) (56 + 3 * cn)) ((upd (upd (upd (upd (mTr S (nI t) (nI cn)) (14 * t + 9) (S 232)) (14 * t + 12) ((S (14 * t + 12)) + (nI 1))) (14 * t + 13) (S (14 * t + 13) + le)) (14 * t + 1) (nI (cn + 1))) (56 + 3 * cn + 2)))) rfl dX6_execute_156 ?_
        refine zTop (y := (nI q)) ((pF2_v (k := 6) (by omega) (by omega) ((upd_n (by omega)).trans ((upd_n (by omega)).trans ((upd_n (by omega)).trans ((upd_n (by omega)).trans ((mTr_off (by omega)).trans eo)))))).trans ((upd_n (by omega)).trans ((upd_n (by omega)).trans ((upd_n (by omega)).trans ((upd_n (by omega)).trans ((mTr_off (by omega)).trans eq)))))) ?_
        refine zcL (y := yX0_lambda_new_6) (i1 := (nI r)) (i2 := (nI q)) ⟨hx, hb, hml, hown, hts, hK⟩ (kX0_lambda_new_6 l t r q B (by omega) hr5 hq4 hI9 hM) (show zLs[6]? = some (61, 26, "lambda$new$6") from rfl) rfl q1037 q103 q45 q104 (by decide +kernel) (fun v H1 h => h.1) (hO.c.lo (by decide)) ⟨Nat.le_of_ble_eq_true rfl, Nat.le_of_ble_eq_true rfl⟩ hl.1 (rest := []) rfl (Nat.le_of_ble_eq_true rfl) dX6_execute_159 ⟨by first | decide | omega, by first | decide | omega⟩ hS (fun _ h => h) (fun v_c H9 locs hp_c hz_c hk_c hS => ?_)
        have hO := hO.call hM.z hxy hz_c hk_c
        obtain ⟨rfl, hM⟩ := hp_c
        have hM : PM G own y x pr (mEx (upd (upd (upd S (14 * t + 9) (S 232)) (14 * t + 12) (S (14 * t + 12) + nI 1)) (14 * t + 13) (S (14 * t + 13) + (if nI t = nI (mOwn S) then nI 0 else nI 1))) t) (upd C (tr % 16) (S 232)) (upd D (tr % 16) (nI t)) (upd E (tr % 16) (nI cn)) (tr + 1) H9 := by
          rw [← eow, ← hle]
          rw [← cEx_n ht ecn hcn48 hi]; rw [eq]; exact hM
        have hI6 : InvS (upd (upd (upd S (14 * t + 9) (S 232)) (14 * t + 12) (S (14 * t + 12) + nI 1)) (14 * t + 13) (S (14 * t + 13) + (if nI t = nI (mOwn S) then nI 0 else nI 1))) B := InvS_free (InvS_free (InvS_free hI (by omega)) (by omega)) (by omega)
        have e61 : (upd (upd (upd S (14 * t + 9) (S 232)) (14 * t + 12) (S (14 * t + 12) + nI 1)) (14 * t + 13) (S (14 * t + 13) + (if nI t = nI (mOwn S) then nI 0 else nI 1))) (14 * t + 1) = nI cn := (upd_n (by omega)).trans ((upd_n (by omega)).trans ((upd_n (by omega)).trans ecn))
        have hT := hT.to (S' := mEx (upd (upd (upd S (14 * t + 9) (S 232)) (14 * t + 12) (S (14 * t + 12) + nI 1)) (14 * t + 13) (S (14 * t + 13) + (if nI t = nI (mOwn S) then nI 0 else nI 1))) t) (fun j h1 h2 => by
          rw [mEx_hi hI6 ht h1, e61, mTr_upd (by omega), mTr_upd (by omega), mTr_upd (by omega), upd_n (by omega), upd_n (by omega), upd_n (by omega)])
        exact zrv hx hb hr hlk hH hQ hS ⟨_, _, _, rfl, hM, hT⟩ (Nat.le_of_ble_eq_true rfl) (Nat.le_of_ble_eq_true rfl) dX6_execute_164
      · refine lv_aload_n hx hb dX6_execute_134 rfl (lv_at hl 1 rfl) ?_
        refine zget hx hb hts hown hK hM.o rfl in_X6 12 (by decide) q345 (fun _ h => h) (v := .ref x) rfl dX6_execute_135 ?_
        refine zgetN hx hb hts hown hK hO.o rfl in_X0 0 (by decide) (hK.f 37 rfl) (fun _ h => h) (v := .ref (u 0)) rfl dX6_execute_138 ?_
        refine lv_aload hx hb dX6_execute_141 (lv_at hl 0 rfl) ?_
        refine zgetN hx hb hts hown hK (hM.i (k := cn) (by omega)) rfl in_X5 0 (by decide) (hK.f 25 rfl) (fun _ h => h) (v := .int ((upd (upd (upd (upd (mTr S (nI t) (nI cn)) (14 * t + 9) (S 232)) (14 * t + 12) ((S (14 * t + 12)) + (nI 1))) (14 * t + 13) (S (14 * t + 13) + le)) (14 * t + 1) (nI (cn + 1))) (56 + 3 * cn))) rfl dX6_execute_143 ?_
        refine zTop (y := (nI 7)) ((upd_n (by omega)).trans ((upd_n (by omega)).trans ((upd_n (by omega)).trans ((upd_n (by omega)).trans ((mTr_off (by omega)).trans eo))))) ?_
        refine zaald (t := 6) hx hb hK (by decide) rfl hO.ops 7 (by omega) (by decide) dX6_execute_146 ?_
        refine zTopV (y := .ref (G.2.2 (20 + 7))) rfl ?_
        refine lv_aload_n hx hb dX6_execute_147 rfl (lv_at hl 1 rfl) ?_
        refine lv_aload_n hx hb dX6_execute_148 rfl (lv_at hl 3 rfl) ?_
        refine lv_aload hx hb dX6_execute_149 (lv_at hl 0 rfl) ?_
        refine zgetN hx hb hts hown hK (hM.i (k := cn) (by omega)) rfl in_X5 1 (by decide) (hK.f 26 rfl) (fun _ h => h) (v := .int (pF1 ((upd (upd (upd (upd (mTr S (nI t) (nI cn)) (14 * t + 9) (S 232)) (14 * t + 12) ((S (14 * t + 12)) + (nI 1))) (14 * t + 13) (S (14 * t + 13) + le)) (14 * t + 1) (nI (cn + 1))) (56 + 3 * cn)) ((upd (upd (upd (upd (mTr S (nI t) (nI cn)) (14 * t + 9) (S 232)) (14 * t + 12) ((S (14 * t + 12)) + (nI 1))) (14 * t + 13) (S (14 * t + 13) + le)) (14 * t + 1) (nI (cn + 1))) (56 + 3 * cn + 1)))) rfl dX6_execute_151 ?_
        refine zTop (y := (nI r)) ((pF1_v (k := 7) (by omega) ((upd_n (by omega)).trans ((upd_n (by omega)).trans ((upd_n (by omega)).trans ((upd_n (by omega)).trans ((mTr_off (by omega)).trans eo)))))).trans ((upd_n (by omega)).trans ((upd_n (by omega)).trans ((upd_n (by omega)).trans ((upd_n (by omega)).trans ((mTr_off (by omega)).trans er)))))) ?_
        refine lv_aload hx hb dX6_execute_154 (lv_at hl 0 rfl) ?_
        refine zgetN hx hb hts hown hK (hM.i (k := cn) (by omega)) rfl in_X5 2 (by decide) (hK.f 27 rfl) (fun _ h => h) (v := .int (pF2 ((upd (upd (upd (upd (mTr S (nI t) (nI cn)) (14 * t + 9) (S 232)) (14 * t + 12) ((S (14 * t + 12)) + (nI 1))) (14 * t + 13) (S (14 * t + 13) + le)) (14 * t + 1) (nI (cn + 1))) (56 + 3 * cn)) ((upd (upd (upd (upd (mTr S (nI t) (nI cn)) (14 * t + 9) (S 232)) (14 * t + 12) ((S (14 * t + 12)) + (nI 1))) (14 * t + 13) (S (14 * t + 13) + le)) (14 * t + 1) (nI (cn + 1))) (56 + 3 * cn + 2)))) rfl dX6_execute_156 ?_
        refine zcL (y := yX0_lambda_new_7) (i1 := (nI r)) (i2 := (pF2 ((upd (upd (upd (upd (mTr S (nI t) (nI cn)) (14 * t + 9) (S 232)) (14 * t + 12) ((S (14 * t + 12)) + (nI 1))) (14 * t + 13) (S (14 * t + 13) + le)) (14 * t + 1) (nI (cn + 1))) (56 + 3 * cn)) ((upd (upd (upd (upd (mTr S (nI t) (nI cn)) (14 * t + 9) (S 232)) (14 * t + 12) ((S (14 * t + 12)) + (nI 1))) (14 * t + 13) (S (14 * t + 13) + le)) (14 * t + 1) (nI (cn + 1))) (56 + 3 * cn + 2)))) ⟨hx, hb, hml, hown, hts, hK⟩ (kX0_lambda_new_7 l t r (pF2 ((upd (upd (upd (upd (mTr S (nI t) (nI cn)) (14 * t + 9) (S 232)) (14 * t + 12) ((S (14 * t + 12)) + (nI 1))) (14 * t + 13) (S (14 * t + 13) + le)) (14 * t + 1) (nI (cn + 1))) (56 + 3 * cn)) ((upd (upd (upd (upd (mTr S (nI t) (nI cn)) (14 * t + 9) (S 232)) (14 * t + 12) ((S (14 * t + 12)) + (nI 1))) (14 * t + 13) (S (14 * t + 13) + le)) (14 * t + 1) (nI (cn + 1))) (56 + 3 * cn + 2))) (by omega) hM) (show zLs[7]? = some (70, 27, "lambda$new$7") from rfl) rfl q1037 q109 q45 q110 (by decide +kernel) (fun v H1 h => h.1) (hO.c.lo (by decide)) ⟨Nat.le_of_ble_eq_true rfl, Nat.le_of_ble_eq_true rfl⟩ hl.1 (rest := []) rfl (Nat.le_of_ble_eq_true rfl) dX6_execute_159 ⟨by first | decide | omega, by first | decide | omega⟩ hS (fun _ h => h) (fun v_c H9 locs hp_c hz_c hk_c hS => ?_)
        have hO := hO.call hM.z hxy hz_c hk_c
        obtain ⟨rfl, hM⟩ := hp_c
        have hM : PM G own y x pr (mEx (upd (upd (upd S (14 * t + 9) (S 232)) (14 * t + 12) (S (14 * t + 12) + nI 1)) (14 * t + 13) (S (14 * t + 13) + (if nI t = nI (mOwn S) then nI 0 else nI 1))) t) (upd C (tr % 16) (S 232)) (upd D (tr % 16) (nI t)) (upd E (tr % 16) (nI cn)) (tr + 1) H9 := by
          rw [← eow, ← hle]
          rw [← cEx_n ht ecn hcn48 hi, mDoes_7]; rw [mDoes_7] at hM; exact hM
        have hI6 : InvS (upd (upd (upd S (14 * t + 9) (S 232)) (14 * t + 12) (S (14 * t + 12) + nI 1)) (14 * t + 13) (S (14 * t + 13) + (if nI t = nI (mOwn S) then nI 0 else nI 1))) B := InvS_free (InvS_free (InvS_free hI (by omega)) (by omega)) (by omega)
        have e61 : (upd (upd (upd S (14 * t + 9) (S 232)) (14 * t + 12) (S (14 * t + 12) + nI 1)) (14 * t + 13) (S (14 * t + 13) + (if nI t = nI (mOwn S) then nI 0 else nI 1))) (14 * t + 1) = nI cn := (upd_n (by omega)).trans ((upd_n (by omega)).trans ((upd_n (by omega)).trans ecn))
        have hT := hT.to (S' := mEx (upd (upd (upd S (14 * t + 9) (S 232)) (14 * t + 12) (S (14 * t + 12) + nI 1)) (14 * t + 13) (S (14 * t + 13) + (if nI t = nI (mOwn S) then nI 0 else nI 1))) t) (fun j h1 h2 => by
          rw [mEx_hi hI6 ht h1, e61, mTr_upd (by omega), mTr_upd (by omega), mTr_upd (by omega), upd_n (by omega), upd_n (by omega), upd_n (by omega)])
        exact zrv hx hb hr hlk hH hQ hS ⟨_, _, _, rfl, hM, hT⟩ (Nat.le_of_ble_eq_true rfl) (Nat.le_of_ble_eq_true rfl) dX6_execute_164
      · have hr5 := hrr (by omega)
        refine lv_aload_n hx hb dX6_execute_134 rfl (lv_at hl 1 rfl) ?_
        refine zget hx hb hts hown hK hM.o rfl in_X6 12 (by decide) q345 (fun _ h => h) (v := .ref x) rfl dX6_execute_135 ?_
        refine zgetN hx hb hts hown hK hO.o rfl in_X0 0 (by decide) (hK.f 37 rfl) (fun _ h => h) (v := .ref (u 0)) rfl dX6_execute_138 ?_
        refine lv_aload hx hb dX6_execute_141 (lv_at hl 0 rfl) ?_
        refine zgetN hx hb hts hown hK (hM.i (k := cn) (by omega)) rfl in_X5 0 (by decide) (hK.f 25 rfl) (fun _ h => h) (v := .int ((upd (upd (upd (upd (mTr S (nI t) (nI cn)) (14 * t + 9) (S 232)) (14 * t + 12) ((S (14 * t + 12)) + (nI 1))) (14 * t + 13) (S (14 * t + 13) + le)) (14 * t + 1) (nI (cn + 1))) (56 + 3 * cn))) rfl dX6_execute_143 ?_
        refine zTop (y := (nI 8)) ((upd_n (by omega)).trans ((upd_n (by omega)).trans ((upd_n (by omega)).trans ((upd_n (by omega)).trans ((mTr_off (by omega)).trans eo))))) ?_
        refine zaald (t := 6) hx hb hK (by decide) rfl hO.ops 8 (by omega) (by decide) dX6_execute_146 ?_
        refine zTopV (y := .ref (G.2.2 (20 + 8))) rfl ?_
        refine lv_aload_n hx hb dX6_execute_147 rfl (lv_at hl 1 rfl) ?_
        refine lv_aload_n hx hb dX6_execute_148 rfl (lv_at hl 3 rfl) ?_
        refine lv_aload hx hb dX6_execute_149 (lv_at hl 0 rfl) ?_
        refine zgetN hx hb hts hown hK (hM.i (k := cn) (by omega)) rfl in_X5 1 (by decide) (hK.f 26 rfl) (fun _ h => h) (v := .int (pF1 ((upd (upd (upd (upd (mTr S (nI t) (nI cn)) (14 * t + 9) (S 232)) (14 * t + 12) ((S (14 * t + 12)) + (nI 1))) (14 * t + 13) (S (14 * t + 13) + le)) (14 * t + 1) (nI (cn + 1))) (56 + 3 * cn)) ((upd (upd (upd (upd (mTr S (nI t) (nI cn)) (14 * t + 9) (S 232)) (14 * t + 12) ((S (14 * t + 12)) + (nI 1))) (14 * t + 13) (S (14 * t + 13) + le)) (14 * t + 1) (nI (cn + 1))) (56 + 3 * cn + 1)))) rfl dX6_execute_151 ?_
        refine zTop (y := (nI r)) ((pF1_v (k := 8) (by omega) ((upd_n (by omega)).trans ((upd_n (by omega)).trans ((upd_n (by omega)).trans ((upd_n (by omega)).trans ((mTr_off (by omega)).trans eo)))))).trans ((upd_n (by omega)).trans ((upd_n (by omega)).trans ((upd_n (by omega)).trans ((upd_n (by omega)).trans ((mTr_off (by omega)).trans er)))))) ?_
        refine lv_aload hx hb dX6_execute_154 (lv_at hl 0 rfl) ?_
        refine zgetN hx hb hts hown hK (hM.i (k := cn) (by omega)) rfl in_X5 2 (by decide) (hK.f 27 rfl) (fun _ h => h) (v := .int (pF2 ((upd (upd (upd (upd (mTr S (nI t) (nI cn)) (14 * t + 9) (S 232)) (14 * t + 12) ((S (14 * t + 12)) + (nI 1))) (14 * t + 13) (S (14 * t + 13) + le)) (14 * t + 1) (nI (cn + 1))) (56 + 3 * cn)) ((upd (upd (upd (upd (mTr S (nI t) (nI cn)) (14 * t + 9) (S 232)) (14 * t + 12) ((S (14 * t + 12)) + (nI 1))) (14 * t + 13) (S (14 * t + 13) + le)) (14 * t + 1) (nI (cn + 1))) (56 + 3 * cn + 2)))) rfl dX6_execute_156 ?_
        refine zTop (y := (S (56 + 3 * cn + 2))) ((pF2_v (k := 8) (by omega) (by omega) ((upd_n (by omega)).trans ((upd_n (by omega)).trans ((upd_n (by omega)).trans ((upd_n (by omega)).trans ((mTr_off (by omega)).trans eo)))))).trans ((upd_n (by omega)).trans ((upd_n (by omega)).trans ((upd_n (by omega)).trans ((upd_n (by omega)).trans (mTr_off (by omega))))))) ?_
        refine zcL (y := yX0_lambda_new_8) (i1 := (nI r)) (i2 := (S (56 + 3 * cn + 2))) ⟨hx, hb, hml, hown, hts, hK⟩ (kX0_lambda_new_8 l t r (S (56 + 3 * cn + 2)) (by omega) hr5 hM) (show zLs[8]? = some (79, 28, "lambda$new$8") from rfl) rfl q1037 q111 q45 q112 (by decide +kernel) (fun v H1 h => h.1) (hO.c.lo (by decide)) ⟨Nat.le_of_ble_eq_true rfl, Nat.le_of_ble_eq_true rfl⟩ hl.1 (rest := []) rfl (Nat.le_of_ble_eq_true rfl) dX6_execute_159 ⟨by first | decide | omega, by first | decide | omega⟩ hS (fun _ h => h) (fun v_c H9 locs hp_c hz_c hk_c hS => ?_)
        have hO := hO.call hM.z hxy hz_c hk_c
        obtain ⟨rfl, hM⟩ := hp_c
        have hM : PM G own y x pr (mEx (upd (upd (upd S (14 * t + 9) (S 232)) (14 * t + 12) (S (14 * t + 12) + nI 1)) (14 * t + 13) (S (14 * t + 13) + (if nI t = nI (mOwn S) then nI 0 else nI 1))) t) (upd C (tr % 16) (S 232)) (upd D (tr % 16) (nI t)) (upd E (tr % 16) (nI cn)) (tr + 1) H9 := by
          rw [← eow, ← hle]
          rw [← cEx_n ht ecn hcn48 hi]; exact hM
        have hI6 : InvS (upd (upd (upd S (14 * t + 9) (S 232)) (14 * t + 12) (S (14 * t + 12) + nI 1)) (14 * t + 13) (S (14 * t + 13) + (if nI t = nI (mOwn S) then nI 0 else nI 1))) B := InvS_free (InvS_free (InvS_free hI (by omega)) (by omega)) (by omega)
        have e61 : (upd (upd (upd S (14 * t + 9) (S 232)) (14 * t + 12) (S (14 * t + 12) + nI 1)) (14 * t + 13) (S (14 * t + 13) + (if nI t = nI (mOwn S) then nI 0 else nI 1))) (14 * t + 1) = nI cn := (upd_n (by omega)).trans ((upd_n (by omega)).trans ((upd_n (by omega)).trans ecn))
        have hT := hT.to (S' := mEx (upd (upd (upd S (14 * t + 9) (S 232)) (14 * t + 12) (S (14 * t + 12) + nI 1)) (14 * t + 13) (S (14 * t + 13) + (if nI t = nI (mOwn S) then nI 0 else nI 1))) t) (fun j h1 h2 => by
          rw [mEx_hi hI6 ht h1, e61, mTr_upd (by omega), mTr_upd (by omega), mTr_upd (by omega), upd_n (by omega), upd_n (by omega), upd_n (by omega)])
        exact zrv hx hb hr hlk hH hQ hS ⟨_, _, _, rfl, hM, hT⟩ (Nat.le_of_ble_eq_true rfl) (Nat.le_of_ble_eq_true rfl) dX6_execute_164
      · have hr5 := hrr (by omega)
        refine lv_aload_n hx hb dX6_execute_134 rfl (lv_at hl 1 rfl) ?_
        refine zget hx hb hts hown hK hM.o rfl in_X6 12 (by decide) q345 (fun _ h => h) (v := .ref x) rfl dX6_execute_135 ?_
        refine zgetN hx hb hts hown hK hO.o rfl in_X0 0 (by decide) (hK.f 37 rfl) (fun _ h => h) (v := .ref (u 0)) rfl dX6_execute_138 ?_
        refine lv_aload hx hb dX6_execute_141 (lv_at hl 0 rfl) ?_
        refine zgetN hx hb hts hown hK (hM.i (k := cn) (by omega)) rfl in_X5 0 (by decide) (hK.f 25 rfl) (fun _ h => h) (v := .int ((upd (upd (upd (upd (mTr S (nI t) (nI cn)) (14 * t + 9) (S 232)) (14 * t + 12) ((S (14 * t + 12)) + (nI 1))) (14 * t + 13) (S (14 * t + 13) + le)) (14 * t + 1) (nI (cn + 1))) (56 + 3 * cn))) rfl dX6_execute_143 ?_
        refine zTop (y := (nI 9)) ((upd_n (by omega)).trans ((upd_n (by omega)).trans ((upd_n (by omega)).trans ((upd_n (by omega)).trans ((mTr_off (by omega)).trans eo))))) ?_
        refine zaald (t := 6) hx hb hK (by decide) rfl hO.ops 9 (by omega) (by decide) dX6_execute_146 ?_
        refine zTopV (y := .ref (G.2.2 (20 + 9))) rfl ?_
        refine lv_aload_n hx hb dX6_execute_147 rfl (lv_at hl 1 rfl) ?_
        refine lv_aload_n hx hb dX6_execute_148 rfl (lv_at hl 3 rfl) ?_
        refine lv_aload hx hb dX6_execute_149 (lv_at hl 0 rfl) ?_
        refine zgetN hx hb hts hown hK (hM.i (k := cn) (by omega)) rfl in_X5 1 (by decide) (hK.f 26 rfl) (fun _ h => h) (v := .int (pF1 ((upd (upd (upd (upd (mTr S (nI t) (nI cn)) (14 * t + 9) (S 232)) (14 * t + 12) ((S (14 * t + 12)) + (nI 1))) (14 * t + 13) (S (14 * t + 13) + le)) (14 * t + 1) (nI (cn + 1))) (56 + 3 * cn)) ((upd (upd (upd (upd (mTr S (nI t) (nI cn)) (14 * t + 9) (S 232)) (14 * t + 12) ((S (14 * t + 12)) + (nI 1))) (14 * t + 13) (S (14 * t + 13) + le)) (14 * t + 1) (nI (cn + 1))) (56 + 3 * cn + 1)))) rfl dX6_execute_151 ?_
        refine zTop (y := (nI r)) ((pF1_v (k := 9) (by omega) ((upd_n (by omega)).trans ((upd_n (by omega)).trans ((upd_n (by omega)).trans ((upd_n (by omega)).trans ((mTr_off (by omega)).trans eo)))))).trans ((upd_n (by omega)).trans ((upd_n (by omega)).trans ((upd_n (by omega)).trans ((upd_n (by omega)).trans ((mTr_off (by omega)).trans er)))))) ?_
        refine lv_aload hx hb dX6_execute_154 (lv_at hl 0 rfl) ?_
        refine zgetN hx hb hts hown hK (hM.i (k := cn) (by omega)) rfl in_X5 2 (by decide) (hK.f 27 rfl) (fun _ h => h) (v := .int (pF2 ((upd (upd (upd (upd (mTr S (nI t) (nI cn)) (14 * t + 9) (S 232)) (14 * t + 12) ((S (14 * t + 12)) + (nI 1))) (14 * t + 13) (S (14 * t + 13) + le)) (14 * t + 1) (nI (cn + 1))) (56 + 3 * cn)) ((upd (upd (upd (upd (mTr S (nI t) (nI cn)) (14 * t + 9) (S 232)) (14 * t + 12) ((S (14 * t + 12)) + (nI 1))) (14 * t + 13) (S (14 * t + 13) + le)) (14 * t + 1) (nI (cn + 1))) (56 + 3 * cn + 2)))) rfl dX6_execute_156 ?_
        refine zTop (y := (S (56 + 3 * cn + 2))) ((pF2_v (k := 9) (by omega) (by omega) ((upd_n (by omega)).trans ((upd_n (by omega)).trans ((upd_n (by omega)).trans ((upd_n (by omega)).trans ((mTr_off (by omega)).trans eo)))))).trans ((upd_n (by omega)).trans ((upd_n (by omega)).trans ((upd_n (by omega)).trans ((upd_n (by omega)).trans (mTr_off (by omega))))))) ?_
        refine zcL (y := yX0_lambda_new_9) (i1 := (nI r)) (i2 := (S (56 + 3 * cn + 2))) ⟨hx, hb, hml, hown, hts, hK⟩ (kX0_lambda_new_9 l t r (S (56 + 3 * cn + 2)) (by omega) hr5 hM) (show zLs[9]? = some (88, 29, "lambda$new$9") from rfl) rfl q1037 q117 q45 q118 (by decide +kernel) (fun v H1 h => h.1) (hO.c.lo (by decide)) ⟨Nat.le_of_ble_eq_true rfl, Nat.le_of_ble_eq_true rfl⟩ hl.1 (rest := []) rfl (Nat.le_of_ble_eq_true rfl) dX6_execute_159 ⟨by first | decide | omega, by first | decide | omega⟩ hS (fun _ h => h) (fun v_c H9 locs hp_c hz_c hk_c hS => ?_)
        have hO := hO.call hM.z hxy hz_c hk_c
        obtain ⟨rfl, hM⟩ := hp_c
        have hM : PM G own y x pr (mEx (upd (upd (upd S (14 * t + 9) (S 232)) (14 * t + 12) (S (14 * t + 12) + nI 1)) (14 * t + 13) (S (14 * t + 13) + (if nI t = nI (mOwn S) then nI 0 else nI 1))) t) (upd C (tr % 16) (S 232)) (upd D (tr % 16) (nI t)) (upd E (tr % 16) (nI cn)) (tr + 1) H9 := by
          rw [← eow, ← hle]
          rw [← cEx_n ht ecn hcn48 hi]; exact hM
        have hI6 : InvS (upd (upd (upd S (14 * t + 9) (S 232)) (14 * t + 12) (S (14 * t + 12) + nI 1)) (14 * t + 13) (S (14 * t + 13) + (if nI t = nI (mOwn S) then nI 0 else nI 1))) B := InvS_free (InvS_free (InvS_free hI (by omega)) (by omega)) (by omega)
        have e61 : (upd (upd (upd S (14 * t + 9) (S 232)) (14 * t + 12) (S (14 * t + 12) + nI 1)) (14 * t + 13) (S (14 * t + 13) + (if nI t = nI (mOwn S) then nI 0 else nI 1))) (14 * t + 1) = nI cn := (upd_n (by omega)).trans ((upd_n (by omega)).trans ((upd_n (by omega)).trans ecn))
        have hT := hT.to (S' := mEx (upd (upd (upd S (14 * t + 9) (S 232)) (14 * t + 12) (S (14 * t + 12) + nI 1)) (14 * t + 13) (S (14 * t + 13) + (if nI t = nI (mOwn S) then nI 0 else nI 1))) t) (fun j h1 h2 => by
          rw [mEx_hi hI6 ht h1, e61, mTr_upd (by omega), mTr_upd (by omega), mTr_upd (by omega), upd_n (by omega), upd_n (by omega), upd_n (by omega)])
        exact zrv hx hb hr hlk hH hQ hS ⟨_, _, _, rfl, hM, hT⟩ (Nat.le_of_ble_eq_true rfl) (Nat.le_of_ble_eq_true rfl) dX6_execute_164
      · refine lv_aload_n hx hb dX6_execute_134 rfl (lv_at hl 1 rfl) ?_
        refine zget hx hb hts hown hK hM.o rfl in_X6 12 (by decide) q345 (fun _ h => h) (v := .ref x) rfl dX6_execute_135 ?_
        refine zgetN hx hb hts hown hK hO.o rfl in_X0 0 (by decide) (hK.f 37 rfl) (fun _ h => h) (v := .ref (u 0)) rfl dX6_execute_138 ?_
        refine lv_aload hx hb dX6_execute_141 (lv_at hl 0 rfl) ?_
        refine zgetN hx hb hts hown hK (hM.i (k := cn) (by omega)) rfl in_X5 0 (by decide) (hK.f 25 rfl) (fun _ h => h) (v := .int ((upd (upd (upd (upd (mTr S (nI t) (nI cn)) (14 * t + 9) (S 232)) (14 * t + 12) ((S (14 * t + 12)) + (nI 1))) (14 * t + 13) (S (14 * t + 13) + le)) (14 * t + 1) (nI (cn + 1))) (56 + 3 * cn))) rfl dX6_execute_143 ?_
        refine zTop (y := (nI 10)) ((upd_n (by omega)).trans ((upd_n (by omega)).trans ((upd_n (by omega)).trans ((upd_n (by omega)).trans ((mTr_off (by omega)).trans eo))))) ?_
        refine zaald (t := 6) hx hb hK (by decide) rfl hO.ops 10 (by omega) (by decide) dX6_execute_146 ?_
        refine zTopV (y := .ref (G.2.2 (20 + 10))) rfl ?_
        refine lv_aload_n hx hb dX6_execute_147 rfl (lv_at hl 1 rfl) ?_
        refine lv_aload_n hx hb dX6_execute_148 rfl (lv_at hl 3 rfl) ?_
        refine lv_aload hx hb dX6_execute_149 (lv_at hl 0 rfl) ?_
        refine zgetN hx hb hts hown hK (hM.i (k := cn) (by omega)) rfl in_X5 1 (by decide) (hK.f 26 rfl) (fun _ h => h) (v := .int (pF1 ((upd (upd (upd (upd (mTr S (nI t) (nI cn)) (14 * t + 9) (S 232)) (14 * t + 12) ((S (14 * t + 12)) + (nI 1))) (14 * t + 13) (S (14 * t + 13) + le)) (14 * t + 1) (nI (cn + 1))) (56 + 3 * cn)) ((upd (upd (upd (upd (mTr S (nI t) (nI cn)) (14 * t + 9) (S 232)) (14 * t + 12) ((S (14 * t + 12)) + (nI 1))) (14 * t + 13) (S (14 * t + 13) + le)) (14 * t + 1) (nI (cn + 1))) (56 + 3 * cn + 1)))) rfl dX6_execute_151 ?_
        refine lv_aload hx hb dX6_execute_154 (lv_at hl 0 rfl) ?_
        refine zgetN hx hb hts hown hK (hM.i (k := cn) (by omega)) rfl in_X5 2 (by decide) (hK.f 27 rfl) (fun _ h => h) (v := .int (pF2 ((upd (upd (upd (upd (mTr S (nI t) (nI cn)) (14 * t + 9) (S 232)) (14 * t + 12) ((S (14 * t + 12)) + (nI 1))) (14 * t + 13) (S (14 * t + 13) + le)) (14 * t + 1) (nI (cn + 1))) (56 + 3 * cn)) ((upd (upd (upd (upd (mTr S (nI t) (nI cn)) (14 * t + 9) (S 232)) (14 * t + 12) ((S (14 * t + 12)) + (nI 1))) (14 * t + 13) (S (14 * t + 13) + le)) (14 * t + 1) (nI (cn + 1))) (56 + 3 * cn + 2)))) rfl dX6_execute_156 ?_
        refine zcL (y := yX0_lambda_new_10) (i1 := (pF1 ((upd (upd (upd (upd (mTr S (nI t) (nI cn)) (14 * t + 9) (S 232)) (14 * t + 12) ((S (14 * t + 12)) + (nI 1))) (14 * t + 13) (S (14 * t + 13) + le)) (14 * t + 1) (nI (cn + 1))) (56 + 3 * cn)) ((upd (upd (upd (upd (mTr S (nI t) (nI cn)) (14 * t + 9) (S 232)) (14 * t + 12) ((S (14 * t + 12)) + (nI 1))) (14 * t + 13) (S (14 * t + 13) + le)) (14 * t + 1) (nI (cn + 1))) (56 + 3 * cn + 1)))) (i2 := (pF2 ((upd (upd (upd (upd (mTr S (nI t) (nI cn)) (14 * t + 9) (S 232)) (14 * t + 12) ((S (14 * t + 12)) + (nI 1))) (14 * t + 13) (S (14 * t + 13) + le)) (14 * t + 1) (nI (cn + 1))) (56 + 3 * cn)) ((upd (upd (upd (upd (mTr S (nI t) (nI cn)) (14 * t + 9) (S 232)) (14 * t + 12) ((S (14 * t + 12)) + (nI 1))) (14 * t + 13) (S (14 * t + 13) + le)) (14 * t + 1) (nI (cn + 1))) (56 + 3 * cn + 2)))) ⟨hx, hb, hml, hown, hts, hK⟩ (kX0_lambda_new_10 l t r (pF1 ((upd (upd (upd (upd (mTr S (nI t) (nI cn)) (14 * t + 9) (S 232)) (14 * t + 12) ((S (14 * t + 12)) + (nI 1))) (14 * t + 13) (S (14 * t + 13) + le)) (14 * t + 1) (nI (cn + 1))) (56 + 3 * cn)) ((upd (upd (upd (upd (mTr S (nI t) (nI cn)) (14 * t + 9) (S 232)) (14 * t + 12) ((S (14 * t + 12)) + (nI 1))) (14 * t + 13) (S (14 * t + 13) + le)) (14 * t + 1) (nI (cn + 1))) (56 + 3 * cn + 1))) (pF2 ((upd (upd (upd (upd (mTr S (nI t) (nI cn)) (14 * t + 9) (S 232)) (14 * t + 12) ((S (14 * t + 12)) + (nI 1))) (14 * t + 13) (S (14 * t + 13) + le)) (14 * t + 1) (nI (cn + 1))) (56 + 3 * cn)) ((upd (upd (upd (upd (mTr S (nI t) (nI cn)) (14 * t + 9) (S 232)) (14 * t + 12) ((S (14 * t + 12)) + (nI 1))) (14 * t + 13) (S (14 * t + 13) + le)) (14 * t + 1) (nI (cn + 1))) (56 + 3 * cn + 2))) (by omega) hM) (show zLs[10]? = some (97, 30, "lambda$new$10") from rfl) rfl q1037 q119 q45 q120 (by decide +kernel) (fun v H1 h => h.1) (hO.c.lo (by decide)) ⟨Nat.le_of_ble_eq_true rfl, Nat.le_of_ble_eq_true rfl⟩ hl.1 (rest := []) rfl (Nat.le_of_ble_eq_true rfl) dX6_execute_159 ⟨by first | decide | omega, by first | decide | omega⟩ hS (fun _ h => h) (fun v_c H9 locs hp_c hz_c hk_c hS => ?_)
        have hO := hO.call hM.z hxy hz_c hk_c
        obtain ⟨rfl, hM⟩ := hp_c
        have hM : PM G own y x pr (mEx (upd (upd (upd S (14 * t + 9) (S 232)) (14 * t + 12) (S (14 * t + 12) + nI 1)) (14 * t + 13) (S (14 * t + 13) + (if nI t = nI (mOwn S) then nI 0 else nI 1))) t) (upd C (tr % 16) (S 232)) (upd D (tr % 16) (nI t)) (upd E (tr % 16) (nI cn)) (tr + 1) H9 := by
          rw [← eow, ← hle]
          rw [← cEx_n ht ecn hcn48 hi, mDoes_10]; rw [mDoes_10] at hM; exact hM
        have hI6 : InvS (upd (upd (upd S (14 * t + 9) (S 232)) (14 * t + 12) (S (14 * t + 12) + nI 1)) (14 * t + 13) (S (14 * t + 13) + (if nI t = nI (mOwn S) then nI 0 else nI 1))) B := InvS_free (InvS_free (InvS_free hI (by omega)) (by omega)) (by omega)
        have e61 : (upd (upd (upd S (14 * t + 9) (S 232)) (14 * t + 12) (S (14 * t + 12) + nI 1)) (14 * t + 13) (S (14 * t + 13) + (if nI t = nI (mOwn S) then nI 0 else nI 1))) (14 * t + 1) = nI cn := (upd_n (by omega)).trans ((upd_n (by omega)).trans ((upd_n (by omega)).trans ecn))
        have hT := hT.to (S' := mEx (upd (upd (upd S (14 * t + 9) (S 232)) (14 * t + 12) (S (14 * t + 12) + nI 1)) (14 * t + 13) (S (14 * t + 13) + (if nI t = nI (mOwn S) then nI 0 else nI 1))) t) (fun j h1 h2 => by
          rw [mEx_hi hI6 ht h1, e61, mTr_upd (by omega), mTr_upd (by omega), mTr_upd (by omega), upd_n (by omega), upd_n (by omega), upd_n (by omega)])
        exact zrv hx hb hr hlk hH hQ hS ⟨_, _, _, rfl, hM, hT⟩ (Nat.le_of_ble_eq_true rfl) (Nat.le_of_ble_eq_true rfl) dX6_execute_164
      · refine lv_aload_n hx hb dX6_execute_134 rfl (lv_at hl 1 rfl) ?_
        refine zget hx hb hts hown hK hM.o rfl in_X6 12 (by decide) q345 (fun _ h => h) (v := .ref x) rfl dX6_execute_135 ?_
        refine zgetN hx hb hts hown hK hO.o rfl in_X0 0 (by decide) (hK.f 37 rfl) (fun _ h => h) (v := .ref (u 0)) rfl dX6_execute_138 ?_
        refine lv_aload hx hb dX6_execute_141 (lv_at hl 0 rfl) ?_
        refine zgetN hx hb hts hown hK (hM.i (k := cn) (by omega)) rfl in_X5 0 (by decide) (hK.f 25 rfl) (fun _ h => h) (v := .int ((upd (upd (upd (upd (mTr S (nI t) (nI cn)) (14 * t + 9) (S 232)) (14 * t + 12) ((S (14 * t + 12)) + (nI 1))) (14 * t + 13) (S (14 * t + 13) + le)) (14 * t + 1) (nI (cn + 1))) (56 + 3 * cn))) rfl dX6_execute_143 ?_
        refine zTop (y := (nI 11)) ((upd_n (by omega)).trans ((upd_n (by omega)).trans ((upd_n (by omega)).trans ((upd_n (by omega)).trans ((mTr_off (by omega)).trans eo))))) ?_
        refine zaald (t := 6) hx hb hK (by decide) rfl hO.ops 11 (by omega) (by decide) dX6_execute_146 ?_
        refine zTopV (y := .ref (G.2.2 (20 + 11))) rfl ?_
        refine lv_aload_n hx hb dX6_execute_147 rfl (lv_at hl 1 rfl) ?_
        refine lv_aload_n hx hb dX6_execute_148 rfl (lv_at hl 3 rfl) ?_
        refine lv_aload hx hb dX6_execute_149 (lv_at hl 0 rfl) ?_
        refine zgetN hx hb hts hown hK (hM.i (k := cn) (by omega)) rfl in_X5 1 (by decide) (hK.f 26 rfl) (fun _ h => h) (v := .int (pF1 ((upd (upd (upd (upd (mTr S (nI t) (nI cn)) (14 * t + 9) (S 232)) (14 * t + 12) ((S (14 * t + 12)) + (nI 1))) (14 * t + 13) (S (14 * t + 13) + le)) (14 * t + 1) (nI (cn + 1))) (56 + 3 * cn)) ((upd (upd (upd (upd (mTr S (nI t) (nI cn)) (14 * t + 9) (S 232)) (14 * t + 12) ((S (14 * t + 12)) + (nI 1))) (14 * t + 13) (S (14 * t + 13) + le)) (14 * t + 1) (nI (cn + 1))) (56 + 3 * cn + 1)))) rfl dX6_execute_151 ?_
        refine lv_aload hx hb dX6_execute_154 (lv_at hl 0 rfl) ?_
        refine zgetN hx hb hts hown hK (hM.i (k := cn) (by omega)) rfl in_X5 2 (by decide) (hK.f 27 rfl) (fun _ h => h) (v := .int (pF2 ((upd (upd (upd (upd (mTr S (nI t) (nI cn)) (14 * t + 9) (S 232)) (14 * t + 12) ((S (14 * t + 12)) + (nI 1))) (14 * t + 13) (S (14 * t + 13) + le)) (14 * t + 1) (nI (cn + 1))) (56 + 3 * cn)) ((upd (upd (upd (upd (mTr S (nI t) (nI cn)) (14 * t + 9) (S 232)) (14 * t + 12) ((S (14 * t + 12)) + (nI 1))) (14 * t + 13) (S (14 * t + 13) + le)) (14 * t + 1) (nI (cn + 1))) (56 + 3 * cn + 2)))) rfl dX6_execute_156 ?_
        refine zcL (y := yX0_lambda_new_11) (i1 := (pF1 ((upd (upd (upd (upd (mTr S (nI t) (nI cn)) (14 * t + 9) (S 232)) (14 * t + 12) ((S (14 * t + 12)) + (nI 1))) (14 * t + 13) (S (14 * t + 13) + le)) (14 * t + 1) (nI (cn + 1))) (56 + 3 * cn)) ((upd (upd (upd (upd (mTr S (nI t) (nI cn)) (14 * t + 9) (S 232)) (14 * t + 12) ((S (14 * t + 12)) + (nI 1))) (14 * t + 13) (S (14 * t + 13) + le)) (14 * t + 1) (nI (cn + 1))) (56 + 3 * cn + 1)))) (i2 := (pF2 ((upd (upd (upd (upd (mTr S (nI t) (nI cn)) (14 * t + 9) (S 232)) (14 * t + 12) ((S (14 * t + 12)) + (nI 1))) (14 * t + 13) (S (14 * t + 13) + le)) (14 * t + 1) (nI (cn + 1))) (56 + 3 * cn)) ((upd (upd (upd (upd (mTr S (nI t) (nI cn)) (14 * t + 9) (S 232)) (14 * t + 12) ((S (14 * t + 12)) + (nI 1))) (14 * t + 13) (S (14 * t + 13) + le)) (14 * t + 1) (nI (cn + 1))) (56 + 3 * cn + 2)))) ⟨hx, hb, hml, hown, hts, hK⟩ (kX0_lambda_new_11 l t r (pF1 ((upd (upd (upd (upd (mTr S (nI t) (nI cn)) (14 * t + 9) (S 232)) (14 * t + 12) ((S (14 * t + 12)) + (nI 1))) (14 * t + 13) (S (14 * t + 13) + le)) (14 * t + 1) (nI (cn + 1))) (56 + 3 * cn)) ((upd (upd (upd (upd (mTr S (nI t) (nI cn)) (14 * t + 9) (S 232)) (14 * t + 12) ((S (14 * t + 12)) + (nI 1))) (14 * t + 13) (S (14 * t + 13) + le)) (14 * t + 1) (nI (cn + 1))) (56 + 3 * cn + 1))) (pF2 ((upd (upd (upd (upd (mTr S (nI t) (nI cn)) (14 * t + 9) (S 232)) (14 * t + 12) ((S (14 * t + 12)) + (nI 1))) (14 * t + 13) (S (14 * t + 13) + le)) (14 * t + 1) (nI (cn + 1))) (56 + 3 * cn)) ((upd (upd (upd (upd (mTr S (nI t) (nI cn)) (14 * t + 9) (S 232)) (14 * t + 12) ((S (14 * t + 12)) + (nI 1))) (14 * t + 13) (S (14 * t + 13) + le)) (14 * t + 1) (nI (cn + 1))) (56 + 3 * cn + 2))) (by omega) hM) (show zLs[11]? = some (106, 31, "lambda$new$11") from rfl) rfl q1037 q121 q45 q122 (by decide +kernel) (fun v H1 h => h.1) (hO.c.lo (by decide)) ⟨Nat.le_of_ble_eq_true rfl, Nat.le_of_ble_eq_true rfl⟩ hl.1 (rest := []) rfl (Nat.le_of_ble_eq_true rfl) dX6_execute_159 ⟨by first | decide | omega, by first | decide | omega⟩ hS (fun _ h => h) (fun v_c H9 locs hp_c hz_c hk_c hS => ?_)
        have hO := hO.call hM.z hxy hz_c hk_c
        obtain ⟨rfl, hM⟩ := hp_c
        have hM : PM G own y x pr (mEx (upd (upd (upd S (14 * t + 9) (S 232)) (14 * t + 12) (S (14 * t + 12) + nI 1)) (14 * t + 13) (S (14 * t + 13) + (if nI t = nI (mOwn S) then nI 0 else nI 1))) t) (upd C (tr % 16) (S 232)) (upd D (tr % 16) (nI t)) (upd E (tr % 16) (nI cn)) (tr + 1) H9 := by
          rw [← eow, ← hle]
          rw [← cEx_n ht ecn hcn48 hi, mDoes_11]; rw [mDoes_11] at hM; exact hM
        have hI6 : InvS (upd (upd (upd S (14 * t + 9) (S 232)) (14 * t + 12) (S (14 * t + 12) + nI 1)) (14 * t + 13) (S (14 * t + 13) + (if nI t = nI (mOwn S) then nI 0 else nI 1))) B := InvS_free (InvS_free (InvS_free hI (by omega)) (by omega)) (by omega)
        have e61 : (upd (upd (upd S (14 * t + 9) (S 232)) (14 * t + 12) (S (14 * t + 12) + nI 1)) (14 * t + 13) (S (14 * t + 13) + (if nI t = nI (mOwn S) then nI 0 else nI 1))) (14 * t + 1) = nI cn := (upd_n (by omega)).trans ((upd_n (by omega)).trans ((upd_n (by omega)).trans ecn))
        have hT := hT.to (S' := mEx (upd (upd (upd S (14 * t + 9) (S 232)) (14 * t + 12) (S (14 * t + 12) + nI 1)) (14 * t + 13) (S (14 * t + 13) + (if nI t = nI (mOwn S) then nI 0 else nI 1))) t) (fun j h1 h2 => by
          rw [mEx_hi hI6 ht h1, e61, mTr_upd (by omega), mTr_upd (by omega), mTr_upd (by omega), upd_n (by omega), upd_n (by omega), upd_n (by omega)])
        exact zrv hx hb hr hlk hH hQ hS ⟨_, _, _, rfl, hM, hT⟩ (Nat.le_of_ble_eq_true rfl) (Nat.le_of_ble_eq_true rfl) dX6_execute_164
    · have c_101 : cn = 48 := (nI_eq (by omega) (by omega)).mp c_101
      refine lv_aload_n hx hb dX6_execute_104 rfl (lv_at hl 0 rfl) ?_
      refine zget hx hb hts hown hK hM.o rfl in_X6 12 (by decide) q345 (fun _ h => h) (v := .ref x) rfl dX6_execute_105 ?_
      refine zgetN hx hb hts hown hK hO.o rfl in_X0 2 (by decide) (hK.f 39 rfl) (fun _ h => h) (v := .ref (u 2)) rfl dX6_execute_108 ?_
      refine lv_goto (tgt := 120) hx hb dX6_execute_111 (by decide) ?_
      refine lv_astore (lv' := [(5, .ref (u 2)), (0, .ref (y 17)), (1, .int (nI t)), (2, .ref (y (9 + t))), (3, .int (nI cn))]) hx hb dX6_execute_120 hl (by decide) rfl (fun ls hl => ?_)
      refine lv_aload_n hx hb dX6_execute_122 rfl (lv_at hl 3 rfl) ?_
      refine lv_iload_n hx hb dX6_execute_123 rfl (lv_at hl 4 rfl) ?_
      refine lv_iconst (v := (nI 1)) hx hb dX6_execute_124 (by decide) ?_
      refine lv_iadd hx hb dX6_execute_125 ?_
      refine zTop (y := nI (cn + 1)) (zadd (by omega)) ?_
      refine lv_bipush (v := (nI 48)) hx hb dX6_execute_126 (by decide) ?_
      refine va_mmin hx hb (by rw [hml]; exact hl.1.symm) hown (hts _ q1035) (hts _ q542) (hts _ q64) (hts _ q543) (Nat.le_of_ble_eq_true rfl) (Nat.le_of_ble_eq_true rfl) (by first | decide | omega) (by first | decide | omega) dX6_execute_128 ?_
      refine zTop (y := nI (min (cn + 1) 48)) (zminN (by omega) (by omega)) ?_
      refine zTop (y := (nI 48)) (congrArg nI (by omega)) ?_
      refine zputN hx hb hts hown hK (hM.l (t := t) (by omega)) hS (hM.w (by omega)) rfl in_X7 tyX7_ok nmX7 1 (by decide) (hK.f 29 rfl) (fun _ h => h) rfl rfl rfl (Nat.le_of_ble_eq_true rfl) dX6_execute_131 (fun H8 locs h_o hz_o hq_o hS => ?_)
      have hO := hO.put1 (hM.w (by omega)) hM.z hxy hz_o hq_o
      have hM := hM.putCn (t := t) (by omega) h_o hq_o
      refine lv_aload_n hx hb dX6_execute_134 rfl (lv_at hl 1 rfl) ?_
      refine zget hx hb hts hown hK hM.o rfl in_X6 12 (by decide) q345 (fun _ h => h) (v := .ref x) rfl dX6_execute_135 ?_
      refine zgetN hx hb hts hown hK hO.o rfl in_X0 0 (by decide) (hK.f 37 rfl) (fun _ h => h) (v := .ref (u 0)) rfl dX6_execute_138 ?_
      refine lv_aload hx hb dX6_execute_141 (lv_at hl 0 rfl) ?_
      refine zgetN hx hb hts hown hK hO.h rfl in_X5 0 (by decide) (hK.f 25 rfl) (fun _ h => h) (v := .int (nI 11)) rfl dX6_execute_143 ?_
      refine zaald (t := 6) hx hb hK (by decide) rfl hO.ops 11 (by omega) (by decide) dX6_execute_146 ?_
      refine zTopV (y := .ref (G.2.2 (20 + 11))) rfl ?_
      refine lv_aload_n hx hb dX6_execute_147 rfl (lv_at hl 1 rfl) ?_
      refine lv_aload_n hx hb dX6_execute_148 rfl (lv_at hl 3 rfl) ?_
      refine lv_aload hx hb dX6_execute_149 (lv_at hl 0 rfl) ?_
      refine zgetN hx hb hts hown hK hO.h rfl in_X5 1 (by decide) (hK.f 26 rfl) (fun _ h => h) (v := .int (-100005)) rfl dX6_execute_151 ?_
      refine lv_aload hx hb dX6_execute_154 (lv_at hl 0 rfl) ?_
      refine zgetN hx hb hts hown hK hO.h rfl in_X5 2 (by decide) (hK.f 27 rfl) (fun _ h => h) (v := .int (-100005)) rfl dX6_execute_156 ?_
      refine zcL (y := yX0_lambda_new_11) (i1 := (-100005)) (i2 := (-100005)) ⟨hx, hb, hml, hown, hts, hK⟩ (kX0_lambda_new_11 l t 0 (-100005) (-100005) (by omega) hM) (show zLs[11]? = some (106, 31, "lambda$new$11") from rfl) rfl q1037 q121 q45 q122 (by decide +kernel) (fun v H1 h => h.1) (hO.c.lo (by decide)) ⟨Nat.le_of_ble_eq_true rfl, Nat.le_of_ble_eq_true rfl⟩ hl.1 (rest := []) rfl (Nat.le_of_ble_eq_true rfl) dX6_execute_159 ⟨by first | decide | omega, by first | decide | omega⟩ hS (fun _ h => h) (fun v_c H9 locs hp_c hz_c hk_c hS => ?_)
      have hO := hO.call hM.z hxy hz_c hk_c
      obtain ⟨rfl, hM⟩ := hp_c
      have hM : PM G own y x pr (mEx (upd (upd (upd S (14 * t + 9) (S 232)) (14 * t + 12) (S (14 * t + 12) + nI 1)) (14 * t + 13) (S (14 * t + 13) + (if nI t = nI (mOwn S) then nI 0 else nI 1))) t) (upd C (tr % 16) (S 232)) (upd D (tr % 16) (nI t)) (upd E (tr % 16) (nI cn)) (tr + 1) H9 := by
        rw [← eow, ← hle]
        rw [← cEx_48 (r := 0) (x := (-100005)) ht ecn c_101]; exact hM
      have hI6 : InvS (upd (upd (upd S (14 * t + 9) (S 232)) (14 * t + 12) (S (14 * t + 12) + nI 1)) (14 * t + 13) (S (14 * t + 13) + (if nI t = nI (mOwn S) then nI 0 else nI 1))) B := InvS_free (InvS_free (InvS_free hI (by omega)) (by omega)) (by omega)
      have e61 : (upd (upd (upd S (14 * t + 9) (S 232)) (14 * t + 12) (S (14 * t + 12) + nI 1)) (14 * t + 13) (S (14 * t + 13) + (if nI t = nI (mOwn S) then nI 0 else nI 1))) (14 * t + 1) = nI cn := (upd_n (by omega)).trans ((upd_n (by omega)).trans ((upd_n (by omega)).trans ecn))
      have hT := hT.to (S' := mEx (upd (upd (upd S (14 * t + 9) (S 232)) (14 * t + 12) (S (14 * t + 12) + nI 1)) (14 * t + 13) (S (14 * t + 13) + (if nI t = nI (mOwn S) then nI 0 else nI 1))) t) (fun j h1 h2 => by
        rw [mEx_hi hI6 ht h1, e61, mTr_upd (by omega), mTr_upd (by omega), mTr_upd (by omega), upd_n (by omega), upd_n (by omega), upd_n (by omega)])
      exact zrv hx hb hr hlk hH hQ hS ⟨_, _, _, rfl, hM, hT⟩ (Nat.le_of_ble_eq_true rfl) (Nat.le_of_ble_eq_true rfl) dX6_execute_164
  refine lv_icmp_ne (tgt := 93) hx hb dX6_execute_86 (by decide) (fun c_86 => ?_) (fun c_86 => ?_)
  · have c_86 : ¬ t = ow := fun z => c_86 ((nI_eq (by omega) (by omega)).mpr z)
    refine lv_iconst (v := (nI 1)) hx hb dX6_execute_93 (by decide) ?_
    refine lv_iadd hx hb dX6_execute_94 ?_
    refine zputN hx hb hts hown hK (hM.l (t := t) (by omega)) hS (hM.w (by omega)) rfl in_X7 tyX7_ok nmX7 8 (by decide) (hK.f 36 rfl) (fun _ h => h) rfl rfl rfl (Nat.le_of_ble_eq_true rfl) dX6_execute_95 (fun H8 locs h_o hz_o hq_o hS => ?_)
    have hO := hO.put1 (hM.w (by omega)) hM.z hxy hz_o hq_o
    have hM := hM.putLe (t := t) (by omega) h_o hq_o
    exact join_98 (nI 1) _ _ ls (by first | exact (if_pos (congrArg nI c_86)).symm | exact (if_neg (fun z => c_86 ((nI_eq (by omega) (by omega)).mp z))).symm) ⟨hM, hO⟩ hS (lv_sub hl [3, 4, 2, 1] rfl)
  · have c_86 : t = ow := (nI_eq (by omega) (by omega)).mp c_86
    refine lv_iconst (v := (nI 0)) hx hb dX6_execute_89 (by decide) ?_
    refine lv_goto (tgt := 94) hx hb dX6_execute_90 (by decide) ?_
    refine lv_iadd hx hb dX6_execute_94 ?_
    refine zputN hx hb hts hown hK (hM.l (t := t) (by omega)) hS (hM.w (by omega)) rfl in_X7 tyX7_ok nmX7 8 (by decide) (hK.f 36 rfl) (fun _ h => h) rfl rfl rfl (Nat.le_of_ble_eq_true rfl) dX6_execute_95 (fun H8 locs h_o hz_o hq_o hS => ?_)
    have hO := hO.put1 (hM.w (by omega)) hM.z hxy hz_o hq_o
    have hM := hM.putLe (t := t) (by omega) h_o hq_o
    exact join_98 (nI 0) _ _ ls (by first | exact (if_pos (congrArg nI c_86)).symm | exact (if_neg (fun z => c_86 ((nI_eq (by omega) (by omega)).mp z))).symm) ⟨hM, hO⟩ hS (lv_sub hl [3, 4, 2, 1] rfl)
