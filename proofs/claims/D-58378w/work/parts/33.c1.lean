/-! the component's methods, I: lanes, readiness, the rules -/
set_option maxRecDepth 100000
abbrev rmX7_set : Room := ({ frames := 0, cells := 0, slots := 0, locals := 0 } : Room)
set_option maxHeartbeats 1000000 in
theorem kX7_set (l : Launch) {G : zG} {H0 : Heap} {own y pr : Nat → Nat} {x tr : Nat} {S C D E : Nat → Int32} (t r : Nat) (vv : Int32) (ht : t < 4) (hr : r < 4) (hM : PM G own y x pr S C D E tr H0) : zM l G yX7_set cX7_set 3 none rmX7_set H0 [.ref (y (9 + t)), .int (nI r), .int vv] (fun v H1 => v = none ∧ PM G own y x pr (upd S (14 * t + (2 + r)) (sh vv)) C D E tr H1) (pA own y) := by
  refine zM.start (own := RX7) (by decide) rfl (Nat.le_of_ble_eq_true rfl) ?_
  intro p e s m args below meth c ls Q hx hb hml hr hlk hnm hown hts hK hH hQ hl hS
  have hl : lv_has ls 3 [(0, .ref (y (9 + t))), (1, .int (nI r)), (2, .int vv)] := hl
  refine lv_aload_n hx hb dX7_set_0 rfl (lv_at hl 0 rfl) ?_
  refine zget hx hb hts hown hK (hM.l (t := t) (by omega)) rfl in_X7 0 (by decide) q268 (fun _ h => h) (v := .ref (y (13 + t))) rfl dX7_set_1 ?_
  refine lv_iload_n hx hb dX7_set_4 rfl (lv_at hl 1 rfl) ?_
  refine lv_iload_n hx hb dX7_set_5 rfl (lv_at hl 2 rfl) ?_
  refine lv_i2s (v := (sh vv)) hx hb dX7_set_6 rfl ?_
  refine ziast hx hb hK (hM.r (t := t) (by omega)) hS (hM.w (by omega)) r (by omega) (by decide) dX7_set_7 (fun H1 locs h_o hz_o hq_o hS => ?_)
  have hM := hM.putR (t := t) (i := r) (by omega) (by omega) h_o hq_o
  exact zrv hx hb hr hlk hH hQ hS ⟨rfl, hM⟩ (Nat.le_of_ble_eq_true rfl) (Nat.le_of_ble_eq_true rfl) dX7_set_8
abbrev rmX7_address : Room := ({ frames := 0, cells := 0, slots := 0, locals := 0 } : Room)
set_option maxHeartbeats 1000000 in
theorem kX7_address (l : Launch) {G : zG} {H0 : Heap} {own y pr : Nat → Nat} {x tr : Nat} {S C D E : Nat → Int32} (t q : Nat) (ht : t < 4) (hq4 : q < 4) (hM : PM G own y x pr S C D E tr H0) : zM l G yX7_address cX7_address 2 (some .int) rmX7_address H0 [.ref (y (9 + t)), .int (nI q)] (fun v H1 => H0 = H1 ∧ v = some (.int (nI (zw (S (14 * t + (2 + q))))))) (zN) := by
  refine zM.start (own := RX7) (by decide) rfl (Nat.le_of_ble_eq_true rfl) ?_
  intro p e s m args below meth c ls Q hx hb hml hr hlk hnm hown hts hK hH hQ hl hS
  have hl : lv_has ls 2 [(0, .ref (y (9 + t))), (1, .int (nI q))] := hl
  refine lv_aload_n hx hb dX7_address_0 rfl (lv_at hl 0 rfl) ?_
  refine zget hx hb hts hown hK (hM.l (t := t) (by omega)) rfl in_X7 0 (by decide) q268 (fun _ h => h) (v := .ref (y (13 + t))) rfl dX7_address_1 ?_
  refine lv_iload_n hx hb dX7_address_4 rfl (lv_at hl 1 rfl) ?_
  refine ziald hx hb hK (hM.r (t := t) (by omega)) q (by omega) (by decide) dX7_address_5 ?_
  refine zTop (y := (S (14 * t + (2 + q)))) rfl ?_
  refine lv_bipush (v := (nI 31)) hx hb dX7_address_6 (by decide) ?_
  refine lv_iand hx hb dX7_address_8 ?_
  refine zTop (y := (nI (zw (S (14 * t + (2 + q)))))) (zw_and _) ?_
  exact zri hx hb hr hlk hH hQ rfl hS ⟨rfl, rfl⟩ (Nat.le_of_ble_eq_true rfl) (Nat.le_of_ble_eq_true rfl) dX7_address_9
abbrev rmX7_jumpIf_1 : Room := ({ frames := 0, cells := 0, slots := 0, locals := 0 } : Room)
set_option maxHeartbeats 1000000 in
theorem kX7_jumpIf_1 (l : Launch) {G : zG} {H0 : Heap} {own y pr : Nat → Nat} {x tr : Nat} {S C D E : Nat → Int32} (t : Nat) (vv : Int32) (ht : t < 4) (hM : PM G own y x pr S C D E tr H0) : zM l G yX7_jumpIf cX7_jumpIf 3 none rmX7_jumpIf_1 H0 [.ref (y (9 + t)), .int (nI 1), .int vv] (fun v H1 => v = none ∧ PM G own y x pr (upd S (14 * t + 1) vv) C D E tr H1) (pA own y) := by
  refine zM.start (own := RX7) (by decide) rfl (Nat.le_of_ble_eq_true rfl) ?_
  intro p e s m args below meth c ls Q hx hb hml hr hlk hnm hown hts hK hH hQ hl hS
  have hl : lv_has ls 3 [(0, .ref (y (9 + t))), (1, .int (nI 1)), (2, .int vv)] := hl
  refine lv_aload_n hx hb dX7_jumpIf_0 rfl (lv_at hl 0 rfl) ?_
  refine lv_iload_n hx hb dX7_jumpIf_1 rfl (lv_at hl 1 rfl) ?_
  refine lv_if_eq (tgt := 9) hx hb dX7_jumpIf_2 (by decide) (fun z => absurd z (by decide)) (fun _ => ?_)
  refine lv_iload_n hx hb dX7_jumpIf_5 rfl (lv_at hl 2 rfl) ?_
  refine lv_goto (tgt := 13) hx hb dX7_jumpIf_6 (by decide) ?_
  refine zput hx hb hts hown hK (hM.l (t := t) (by omega)) hS (hM.w (by omega)) rfl in_X7 tyX7_ok nmX7 1 (by decide) q271 (fun _ h => h) rfl rfl rfl (Nat.le_of_ble_eq_true rfl) dX7_jumpIf_13 (fun H1 locs h_o hz_o hq_o hS => ?_)
  have hM := hM.putCn (t := t) (by omega) h_o hq_o
  exact zrv hx hb hr hlk hH hQ hS ⟨rfl, hM⟩ (Nat.le_of_ble_eq_true rfl) (Nat.le_of_ble_eq_true rfl) dX7_jumpIf_16
abbrev rmX7_jumpIf_0 : Room := ({ frames := 0, cells := 0, slots := 0, locals := 0 } : Room)
set_option maxHeartbeats 1000000 in
theorem kX7_jumpIf_0 (l : Launch) {G : zG} {H0 : Heap} {own y pr : Nat → Nat} {x tr : Nat} {S C D E : Nat → Int32} (t : Nat) (vv : Int32) (ht : t < 4) (hM : PM G own y x pr S C D E tr H0) : zM l G yX7_jumpIf cX7_jumpIf 3 none rmX7_jumpIf_0 H0 [.ref (y (9 + t)), .int (nI 0), .int vv] (fun v H1 => v = none ∧ PM G own y x pr (upd S (14 * t + 1) (S (14 * t + 1))) C D E tr H1) (pA own y) := by
  refine zM.start (own := RX7) (by decide) rfl (Nat.le_of_ble_eq_true rfl) ?_
  intro p e s m args below meth c ls Q hx hb hml hr hlk hnm hown hts hK hH hQ hl hS
  have hl : lv_has ls 3 [(0, .ref (y (9 + t))), (1, .int (nI 0)), (2, .int vv)] := hl
  refine lv_aload_n hx hb dX7_jumpIf_0 rfl (lv_at hl 0 rfl) ?_
  refine lv_iload_n hx hb dX7_jumpIf_1 rfl (lv_at hl 1 rfl) ?_
  refine lv_if_eq (tgt := 9) hx hb dX7_jumpIf_2 (by decide) (fun _ => ?_) (fun z => absurd (by decide) z)
  refine lv_aload_n hx hb dX7_jumpIf_9 rfl (lv_at hl 0 rfl) ?_
  refine zget hx hb hts hown hK (hM.l (t := t) (by omega)) rfl in_X7 1 (by decide) q271 (fun _ h => h) (v := .int (S (14 * t + 1))) rfl dX7_jumpIf_10 ?_
  refine zput hx hb hts hown hK (hM.l (t := t) (by omega)) hS (hM.w (by omega)) rfl in_X7 tyX7_ok nmX7 1 (by decide) q271 (fun _ h => h) rfl rfl rfl (Nat.le_of_ble_eq_true rfl) dX7_jumpIf_13 (fun H1 locs h_o hz_o hq_o hS => ?_)
  have hM := hM.putCn (t := t) (by omega) h_o hq_o
  exact zrv hx hb hr hlk hH hQ hS ⟨rfl, hM⟩ (Nat.le_of_ble_eq_true rfl) (Nat.le_of_ble_eq_true rfl) dX7_jumpIf_16
abbrev rmX7_starve_1 : Room := ({ frames := 2, cells := 0, slots := 0, locals := 49 } : Room)
set_option maxHeartbeats 1000000 in
theorem kX7_starve_1 (l : Launch) {G : zG} {H0 : Heap} {own y pr : Nat → Nat} {x tr : Nat} {S C D E : Nat → Int32} (t : Nat) (ht : t < 4) (hM : PM G own y x pr S C D E tr H0) : zM l G yX7_starve cX7_starve 2 none rmX7_starve_1 H0 [.ref (y (9 + t)), .int (nI 1)] (fun v H1 => v = none ∧ PM G own y x pr (cSt S t (S (14 * t + 10) + nI 1)) C D E tr H1) (pA own y) := by
  refine zM.start (own := RX7) (by decide) rfl (Nat.le_of_ble_eq_true rfl) ?_
  intro p e s m args below meth c ls Q hx hb hml hr hlk hnm hown hts hK hH hQ hl hS
  have hl : lv_has ls 2 [(0, .ref (y (9 + t))), (1, .int (nI 1))] := hl
  refine lv_aload_n hx hb dX7_starve_0 rfl (lv_at hl 0 rfl) ?_
  refine lv_iload_n hx hb dX7_starve_1 rfl (lv_at hl 1 rfl) ?_
  refine lv_if_eq (tgt := 14) hx hb dX7_starve_2 (by decide) (fun z => absurd z (by decide)) (fun _ => ?_)
  refine lv_aload_n hx hb dX7_starve_5 rfl (lv_at hl 0 rfl) ?_
  refine zget hx hb hts hown hK (hM.l (t := t) (by omega)) rfl in_X7 9 (by decide) q292 (fun _ h => h) (v := .int (S (14 * t + 10))) rfl dX7_starve_6 ?_
  refine lv_iconst (v := (nI 1)) hx hb dX7_starve_9 (by decide) ?_
  refine lv_iadd hx hb dX7_starve_10 ?_
  refine lv_goto (tgt := 15) hx hb dX7_starve_11 (by decide) ?_
  refine zput hx hb hts hown hK (hM.l (t := t) (by omega)) hS (hM.w (by omega)) rfl in_X7 tyX7_ok nmX7 9 (by decide) q292 (fun _ h => h) rfl rfl rfl (Nat.le_of_ble_eq_true rfl) dX7_starve_15 (fun H1 locs h_o hz_o hq_o hS => ?_)
  have hM := hM.putSn (t := t) (by omega) h_o hq_o
  refine lv_aload_n hx hb dX7_starve_18 rfl (lv_at hl 0 rfl) ?_
  refine lv_aload_n hx hb dX7_starve_19 rfl (lv_at hl 0 rfl) ?_
  refine zget hx hb hts hown hK (hM.l (t := t) (by omega)) rfl in_X7 10 (by decide) q293 (fun _ h => h) (v := .int ((upd S (14 * t + 10) ((S (14 * t + 10)) + (nI 1))) (14 * t + 11))) rfl dX7_starve_20 ?_
  refine zTop (y := (S (14 * t + 11))) (upd_n (by omega)) ?_
  refine lv_aload_n hx hb dX7_starve_23 rfl (lv_at hl 0 rfl) ?_
  refine zget hx hb hts hown hK (hM.l (t := t) (by omega)) rfl in_X7 9 (by decide) q292 (fun _ h => h) (v := .int ((upd S (14 * t + 10) ((S (14 * t + 10)) + (nI 1))) (14 * t + 10))) rfl dX7_starve_24 ?_
  refine zTop (y := ((S (14 * t + 10)) + (nI 1))) (upd_s rfl) ?_
  refine va_mmax hx hb (by rw [hml]; exact hl.1.symm) hown (hts _ q1030) (hts _ q524) (hts _ q64) (hts _ q525) (Nat.le_of_ble_eq_true rfl) (Nat.le_of_ble_eq_true rfl) (by first | decide | omega) (by first | decide | omega) dX7_starve_27 ?_
  refine zput hx hb hts hown hK (hM.l (t := t) (by omega)) hS (hM.w (by omega)) rfl in_X7 tyX7_ok nmX7 10 (by decide) q293 (fun _ h => h) rfl rfl rfl (Nat.le_of_ble_eq_true rfl) dX7_starve_30 (fun H2 locs h_o hz_o hq_o hS => ?_)
  have hM := hM.putMs (t := t) (by omega) h_o hq_o
  exact zrv hx hb hr hlk hH hQ hS ⟨rfl, hM⟩ (Nat.le_of_ble_eq_true rfl) (Nat.le_of_ble_eq_true rfl) dX7_starve_33
abbrev rmX7_starve_0 : Room := ({ frames := 2, cells := 0, slots := 0, locals := 49 } : Room)
set_option maxHeartbeats 1000000 in
theorem kX7_starve_0 (l : Launch) {G : zG} {H0 : Heap} {own y pr : Nat → Nat} {x tr : Nat} {S C D E : Nat → Int32} (t : Nat) (ht : t < 4) (hM : PM G own y x pr S C D E tr H0) : zM l G yX7_starve cX7_starve 2 none rmX7_starve_0 H0 [.ref (y (9 + t)), .int (nI 0)] (fun v H1 => v = none ∧ PM G own y x pr (cSt S t (nI 0)) C D E tr H1) (pA own y) := by
  refine zM.start (own := RX7) (by decide) rfl (Nat.le_of_ble_eq_true rfl) ?_
  intro p e s m args below meth c ls Q hx hb hml hr hlk hnm hown hts hK hH hQ hl hS
  have hl : lv_has ls 2 [(0, .ref (y (9 + t))), (1, .int (nI 0))] := hl
  refine lv_aload_n hx hb dX7_starve_0 rfl (lv_at hl 0 rfl) ?_
  refine lv_iload_n hx hb dX7_starve_1 rfl (lv_at hl 1 rfl) ?_
  refine lv_if_eq (tgt := 14) hx hb dX7_starve_2 (by decide) (fun _ => ?_) (fun z => absurd (by decide) z)
  refine lv_iconst (v := (nI 0)) hx hb dX7_starve_14 (by decide) ?_
  refine zput hx hb hts hown hK (hM.l (t := t) (by omega)) hS (hM.w (by omega)) rfl in_X7 tyX7_ok nmX7 9 (by decide) q292 (fun _ h => h) rfl rfl rfl (Nat.le_of_ble_eq_true rfl) dX7_starve_15 (fun H1 locs h_o hz_o hq_o hS => ?_)
  have hM := hM.putSn (t := t) (by omega) h_o hq_o
  refine lv_aload_n hx hb dX7_starve_18 rfl (lv_at hl 0 rfl) ?_
  refine lv_aload_n hx hb dX7_starve_19 rfl (lv_at hl 0 rfl) ?_
  refine zget hx hb hts hown hK (hM.l (t := t) (by omega)) rfl in_X7 10 (by decide) q293 (fun _ h => h) (v := .int ((upd S (14 * t + 10) (nI 0)) (14 * t + 11))) rfl dX7_starve_20 ?_
  refine zTop (y := (S (14 * t + 11))) (upd_n (by omega)) ?_
  refine lv_aload_n hx hb dX7_starve_23 rfl (lv_at hl 0 rfl) ?_
  refine zget hx hb hts hown hK (hM.l (t := t) (by omega)) rfl in_X7 9 (by decide) q292 (fun _ h => h) (v := .int ((upd S (14 * t + 10) (nI 0)) (14 * t + 10))) rfl dX7_starve_24 ?_
  refine zTop (y := (nI 0)) (upd_s rfl) ?_
  refine va_mmax hx hb (by rw [hml]; exact hl.1.symm) hown (hts _ q1030) (hts _ q524) (hts _ q64) (hts _ q525) (Nat.le_of_ble_eq_true rfl) (Nat.le_of_ble_eq_true rfl) (by first | decide | omega) (by first | decide | omega) dX7_starve_27 ?_
  refine zput hx hb hts hown hK (hM.l (t := t) (by omega)) hS (hM.w (by omega)) rfl in_X7 tyX7_ok nmX7 10 (by decide) q293 (fun _ h => h) rfl rfl rfl (Nat.le_of_ble_eq_true rfl) dX7_starve_30 (fun H2 locs h_o hz_o hq_o hS => ?_)
  have hM := hM.putMs (t := t) (by omega) h_o hq_o
  exact zrv hx hb hr hlk hH hQ hS ⟨rfl, hM⟩ (Nat.le_of_ble_eq_true rfl) (Nat.le_of_ble_eq_true rfl) dX7_starve_33
abbrev rmX7_halt : Room := ({ frames := 0, cells := 0, slots := 0, locals := 0 } : Room)
set_option maxHeartbeats 1000000 in
theorem kX7_halt (l : Launch) {G : zG} {H0 : Heap} {own y pr : Nat → Nat} {x tr : Nat} {S C D E : Nat → Int32} (t : Nat) (ht : t < 4) (hM : PM G own y x pr S C D E tr H0) : zM l G yX7_halt cX7_halt 1 none rmX7_halt H0 [.ref (y (9 + t))] (fun v H1 => v = none ∧ PM G own y x pr (upd (upd S (14 * t) (nI 0)) (14 * t + 10) (nI 0)) C D E tr H1) (pA own y) := by
  refine zM.start (own := RX7) (by decide) rfl (Nat.le_of_ble_eq_true rfl) ?_
  intro p e s m args below meth c ls Q hx hb hml hr hlk hnm hown hts hK hH hQ hl hS
  have hl : lv_has ls 1 [(0, .ref (y (9 + t)))] := hl
  refine lv_aload_n hx hb dX7_halt_0 rfl (lv_at hl 0 rfl) ?_
  refine lv_iconst (v := (nI 0)) hx hb dX7_halt_1 (by decide) ?_
  refine zput hx hb hts hown hK (hM.l (t := t) (by omega)) hS (hM.w (by omega)) rfl in_X7 tyX7_ok nmX7 2 (by decide) q274 (fun _ h => h) rfl rfl rfl (Nat.le_of_ble_eq_true rfl) dX7_halt_2 (fun H1 locs h_o hz_o hq_o hS => ?_)
  have hM := hM.putSt (t := t) (by omega) h_o hq_o
  refine lv_aload_n hx hb dX7_halt_5 rfl (lv_at hl 0 rfl) ?_
  refine lv_iconst (v := (nI 0)) hx hb dX7_halt_6 (by decide) ?_
  refine zput hx hb hts hown hK (hM.l (t := t) (by omega)) hS (hM.w (by omega)) rfl in_X7 tyX7_ok nmX7 9 (by decide) q292 (fun _ h => h) rfl rfl rfl (Nat.le_of_ble_eq_true rfl) dX7_halt_7 (fun H2 locs h_o hz_o hq_o hS => ?_)
  have hM := hM.putSn (t := t) (by omega) h_o hq_o
  exact zrv hx hb hr hlk hH hQ hS ⟨rfl, hM⟩ (Nat.le_of_ble_eq_true rfl) (Nat.le_of_ble_eq_true rfl) dX7_halt_10
abbrev rmX6_isBarrierOpen : Room := ({ frames := 0, cells := 0, slots := 0, locals := 0 } : Room)
set_option maxHeartbeats 1000000 in
theorem kX6_isBarrierOpen (l : Launch) {G : zG} {H0 : Heap} {own y pr : Nat → Nat} {x tr : Nat} {S C D E : Nat → Int32} (hM : PM G own y x pr S C D E tr H0) : zM l G yX6_isBarrierOpen cX6_isBarrierOpen 5 (some .boolean) rmX6_isBarrierOpen H0 [.ref (y 17)] (fun v H1 => H0 = H1 ∧ v = some (.int (zb (mBar S)))) (zN) := by
  refine zM.start (own := RX6) (by decide) rfl (Nat.le_of_ble_eq_true rfl) ?_
  intro p e s m args below meth c ls Q hx hb hml hr hlk hnm hown hts hK hH hQ hl hS
  have hl : lv_has ls 5 [(0, .ref (y 17))] := hl
  refine lv_aload_n hx hb dX6_isBarrierOpen_0 rfl (lv_at hl 0 rfl) ?_
  refine zget hx hb hts hown hK hM.o rfl in_X6 0 (by decide) q320 (fun _ h => h) (v := .ref (y 0)) rfl dX6_isBarrierOpen_1 ?_
  refine lv_astore_n (lv' := [(1, .ref (y 0)), (0, .ref (y 17))]) hx hb dX6_isBarrierOpen_4 rfl hl (by decide) rfl (fun ls hl => ?_)
  refine lv_aload_n hx hb dX6_isBarrierOpen_5 rfl (lv_at hl 0 rfl) ?_
  refine zalenR hx hb hK hM.ls (by decide) dX6_isBarrierOpen_6 ?_
  refine lv_istore_n (lv' := [(2, .int (nI 4)), (1, .ref (y 0)), (0, .ref (y 17))]) hx hb dX6_isBarrierOpen_7 rfl hl (by decide) rfl (fun ls hl => ?_)
  refine lv_iconst (v := (nI 0)) hx hb dX6_isBarrierOpen_8 (by decide) ?_
  refine lv_istore_n (lv' := [(3, .int (nI 0)), (2, .int (nI 4)), (1, .ref (y 0)), (0, .ref (y 17))]) hx hb dX6_isBarrierOpen_9 rfl hl (by decide) rfl (fun ls hl => ?_)
  have loop : ∀ (nn : Nat) (n : Nat), 4 - n < nn → (n ≤ 4) → (∀ t, t < n → S (14 * t) ≠ nI 1 ∧ S (14 * t) ≠ nI 2) → ∀ (locs : List Loc) (ls : Array Slot), va_S (zN) H0 H0 locs → lv_has ls 5 [(0, .ref (y 17)), (1, .ref (y 0)), (2, .int (nI 4)), (3, .int (nI n))] → W p l e rmX6_isBarrierOpen s m args below meth c H0 locs 0 0 Q (F0 m 10 ls []) := by
    intro nn
    induction nn with
    | zero => intro n hfu; exact absurd hfu (Nat.not_lt_zero _)
    | succ nn ih =>
      intro n hfu hn hb0 locs ls hS hl
      refine lv_iload_n hx hb dX6_isBarrierOpen_10 rfl (lv_at hl 3 rfl) ?_
      refine lv_iload_n hx hb dX6_isBarrierOpen_11 rfl (lv_at hl 2 rfl) ?_
      refine lv_icmp_ge (tgt := 46) hx hb dX6_isBarrierOpen_12 (by decide) (fun c_12 => ?_) (fun c_12 => ?_)
      · have c_12 : 4 ≤ n := (nI_leI (by omega) (by omega)).mp c_12
        refine lv_iconst (v := (nI 1)) hx hb dX6_isBarrierOpen_46 (by decide) ?_
        exact zri hx hb hr hlk hH hQ rfl hS ⟨rfl, (congrArg (fun z => some (Value.int z)) (zb_t (mBar_all.mpr (fun t ht => hb0 t (by omega)))))⟩ (Nat.le_of_ble_eq_true rfl) (Nat.le_of_ble_eq_true rfl) dX6_isBarrierOpen_47
      · have c_12 : ¬ (4 ≤ n) := fun z => c_12 ((nI_leI (by omega) (by omega)).mpr z)
        refine lv_aload_n hx hb dX6_isBarrierOpen_15 rfl (lv_at hl 1 rfl) ?_
        refine lv_iload_n hx hb dX6_isBarrierOpen_16 rfl (lv_at hl 3 rfl) ?_
        refine zaald (t := 4) hx hb hK (by decide) rfl hM.ls n (by omega) (by decide) dX6_isBarrierOpen_17 ?_
        refine zTopV (y := .ref (y (9 + n))) rfl ?_
        refine lv_astore (lv' := [(4, .ref (y (9 + n))), (0, .ref (y 17)), (1, .ref (y 0)), (2, .int (nI 4)), (3, .int (nI n))]) hx hb dX6_isBarrierOpen_18 hl (by decide) rfl (fun ls hl => ?_)
        refine lv_aload hx hb dX6_isBarrierOpen_20 (lv_at hl 0 rfl) ?_
        refine zgetN hx hb hts hown hK (hM.l (t := n) (by omega)) rfl in_X7 2 (by decide) (hK.f 30 rfl) (fun _ h => h) (v := .int (S (14 * n))) rfl dX6_isBarrierOpen_22 ?_
        refine lv_iconst (v := (nI 1)) hx hb dX6_isBarrierOpen_25 (by decide) ?_
        refine lv_icmp_eq (tgt := 38) hx hb dX6_isBarrierOpen_26 (by decide) (fun c_26 => ?_) (fun c_26 => ?_)
        · have c_26 : (S (14 * n)) = (nI 1) := c_26
          refine lv_iconst (v := (nI 0)) hx hb dX6_isBarrierOpen_38 (by decide) ?_
          exact zri hx hb hr hlk hH hQ rfl hS ⟨rfl, (congrArg (fun z => some (Value.int z)) (zb_f (fun z => by first | exact (mBar_all.mp z n (by omega)).1 c_26 | exact (mBar_all.mp z n (by omega)).2 c_35)))⟩ (Nat.le_of_ble_eq_true rfl) (Nat.le_of_ble_eq_true rfl) dX6_isBarrierOpen_39
        · have c_26 : ¬ (S (14 * n)) = (nI 1) := c_26
          refine lv_aload hx hb dX6_isBarrierOpen_29 (lv_at hl 0 rfl) ?_
          refine zgetN hx hb hts hown hK (hM.l (t := n) (by omega)) rfl in_X7 2 (by decide) (hK.f 30 rfl) (fun _ h => h) (v := .int (S (14 * n))) rfl dX6_isBarrierOpen_31 ?_
          refine lv_iconst (v := (nI 2)) hx hb dX6_isBarrierOpen_34 (by decide) ?_
          refine lv_icmp_ne (tgt := 40) hx hb dX6_isBarrierOpen_35 (by decide) (fun c_35 => ?_) (fun c_35 => ?_)
          · have c_35 : ¬ (S (14 * n)) = (nI 2) := c_35
            refine lv_iinc (v := (nI (n + 1))) (lv' := [(3, .int (nI (n + 1))), (4, .ref (y (9 + n))), (0, .ref (y 17)), (1, .ref (y 0)), (2, .int (nI 4))]) hx hb dX6_isBarrierOpen_40 hl (k := 4) rfl (nI_1 _) (by decide) rfl (fun ls hl => ?_)
            refine lv_goto (tgt := 10) hx hb dX6_isBarrierOpen_43 (by decide) ?_
            exact ih (n + 1) (by omega) (by omega) (fun t ht => by
                  by_cases e : t = n
                  · subst e; exact ⟨c_26, c_35⟩
                  · exact hb0 t (by omega)) _ ls hS (lv_sub hl [2, 3, 4, 0] rfl)
          · have c_35 : (S (14 * n)) = (nI 2) := c_35
            refine lv_iconst (v := (nI 0)) hx hb dX6_isBarrierOpen_38 (by decide) ?_
            exact zri hx hb hr hlk hH hQ rfl hS ⟨rfl, (congrArg (fun z => some (Value.int z)) (zb_f (fun z => by first | exact (mBar_all.mp z n (by omega)).1 c_26 | exact (mBar_all.mp z n (by omega)).2 c_35)))⟩ (Nat.le_of_ble_eq_true rfl) (Nat.le_of_ble_eq_true rfl) dX6_isBarrierOpen_39
  exact loop ((4 - 0) + 1) 0 (by first | exact Nat.lt_succ_self _ | omega) (by omega) (fun t ht => absurd ht (Nat.not_lt_zero _)) _ ls hS (lv_sub hl [3, 2, 1, 0] rfl)
abbrev rmX6_isOver : Room := ({ frames := 0, cells := 0, slots := 0, locals := 0 } : Room)
set_option maxHeartbeats 1000000 in
theorem kX6_isOver (l : Launch) {G : zG} {H0 : Heap} {own y pr : Nat → Nat} {x tr : Nat} {S C D E : Nat → Int32} (hM : PM G own y x pr S C D E tr H0) : zM l G yX6_isOver cX6_isOver 5 (some .boolean) rmX6_isOver H0 [.ref (y 17)] (fun v H1 => H0 = H1 ∧ v = some (.int (zb (mMany S (nI 0) 4 = 4)))) (zN) := by
  refine zM.start (own := RX6) (by decide) rfl (Nat.le_of_ble_eq_true rfl) ?_
  intro p e s m args below meth c ls Q hx hb hml hr hlk hnm hown hts hK hH hQ hl hS
  have hl : lv_has ls 5 [(0, .ref (y 17))] := hl
  refine lv_aload_n hx hb dX6_isOver_0 rfl (lv_at hl 0 rfl) ?_
  refine zget hx hb hts hown hK hM.o rfl in_X6 0 (by decide) q320 (fun _ h => h) (v := .ref (y 0)) rfl dX6_isOver_1 ?_
  refine lv_astore_n (lv' := [(1, .ref (y 0)), (0, .ref (y 17))]) hx hb dX6_isOver_4 rfl hl (by decide) rfl (fun ls hl => ?_)
  refine lv_aload_n hx hb dX6_isOver_5 rfl (lv_at hl 0 rfl) ?_
  refine zalenR hx hb hK hM.ls (by decide) dX6_isOver_6 ?_
  refine lv_istore_n (lv' := [(2, .int (nI 4)), (1, .ref (y 0)), (0, .ref (y 17))]) hx hb dX6_isOver_7 rfl hl (by decide) rfl (fun ls hl => ?_)
  refine lv_iconst (v := (nI 0)) hx hb dX6_isOver_8 (by decide) ?_
  refine lv_istore_n (lv' := [(3, .int (nI 0)), (2, .int (nI 4)), (1, .ref (y 0)), (0, .ref (y 17))]) hx hb dX6_isOver_9 rfl hl (by decide) rfl (fun ls hl => ?_)
  have loop : ∀ (nn : Nat) (n : Nat), 4 - n < nn → (n ≤ 4) → (∀ t, t < n → S (14 * t) = nI 0) → ∀ (locs : List Loc) (ls : Array Slot), va_S (zN) H0 H0 locs → lv_has ls 5 [(0, .ref (y 17)), (1, .ref (y 0)), (2, .int (nI 4)), (3, .int (nI n))] → W p l e rmX6_isOver s m args below meth c H0 locs 0 0 Q (F0 m 10 ls []) := by
    intro nn
    induction nn with
    | zero => intro n hfu; exact absurd hfu (Nat.not_lt_zero _)
    | succ nn ih =>
      intro n hfu hn hb0 locs ls hS hl
      refine lv_iload_n hx hb dX6_isOver_10 rfl (lv_at hl 3 rfl) ?_
      refine lv_iload_n hx hb dX6_isOver_11 rfl (lv_at hl 2 rfl) ?_
      refine lv_icmp_ge (tgt := 36) hx hb dX6_isOver_12 (by decide) (fun c_12 => ?_) (fun c_12 => ?_)
      · have c_12 : 4 ≤ n := (nI_leI (by omega) (by omega)).mp c_12
        refine lv_iconst (v := (nI 1)) hx hb dX6_isOver_36 (by decide) ?_
        exact zri hx hb hr hlk hH hQ rfl hS ⟨rfl, (congrArg (fun z => some (Value.int z)) (zb_t (mMany_all.mpr (fun t ht => hb0 t (by omega)))))⟩ (Nat.le_of_ble_eq_true rfl) (Nat.le_of_ble_eq_true rfl) dX6_isOver_37
      · have c_12 : ¬ (4 ≤ n) := fun z => c_12 ((nI_leI (by omega) (by omega)).mpr z)
        refine lv_aload_n hx hb dX6_isOver_15 rfl (lv_at hl 1 rfl) ?_
        refine lv_iload_n hx hb dX6_isOver_16 rfl (lv_at hl 3 rfl) ?_
        refine zaald (t := 4) hx hb hK (by decide) rfl hM.ls n (by omega) (by decide) dX6_isOver_17 ?_
        refine zTopV (y := .ref (y (9 + n))) rfl ?_
        refine lv_astore (lv' := [(4, .ref (y (9 + n))), (0, .ref (y 17)), (1, .ref (y 0)), (2, .int (nI 4)), (3, .int (nI n))]) hx hb dX6_isOver_18 hl (by decide) rfl (fun ls hl => ?_)
        refine lv_aload hx hb dX6_isOver_20 (lv_at hl 0 rfl) ?_
        refine zgetN hx hb hts hown hK (hM.l (t := n) (by omega)) rfl in_X7 2 (by decide) (hK.f 30 rfl) (fun _ h => h) (v := .int (S (14 * n))) rfl dX6_isOver_22 ?_
        refine lv_if_eq (tgt := 30) hx hb dX6_isOver_25 (by decide) (fun c_25 => ?_) (fun c_25 => ?_)
        · have c_25 : (S (14 * n)) = (nI 0) := c_25
          refine lv_iinc (v := (nI (n + 1))) (lv' := [(3, .int (nI (n + 1))), (4, .ref (y (9 + n))), (0, .ref (y 17)), (1, .ref (y 0)), (2, .int (nI 4))]) hx hb dX6_isOver_30 hl (k := 4) rfl (nI_1 _) (by decide) rfl (fun ls hl => ?_)
          refine lv_goto (tgt := 10) hx hb dX6_isOver_33 (by decide) ?_
          exact ih (n + 1) (by omega) (by omega) (fun t ht => by
                by_cases e : t = n
                · subst e; exact c_25
                · exact hb0 t (by omega)) _ ls hS (lv_sub hl [2, 3, 4, 0] rfl)
        · have c_25 : ¬ (S (14 * n)) = (nI 0) := c_25
          refine lv_iconst (v := (nI 0)) hx hb dX6_isOver_28 (by decide) ?_
          exact zri hx hb hr hlk hH hQ rfl hS ⟨rfl, (congrArg (fun z => some (Value.int z)) (zb_f (fun z => c_25 (mMany_all.mp z n (by omega)))))⟩ (Nat.le_of_ble_eq_true rfl) (Nat.le_of_ble_eq_true rfl) dX6_isOver_29
  exact loop ((4 - 0) + 1) 0 (by first | exact Nat.lt_succ_self _ | omega) (by omega) (fun t ht => absurd ht (Nat.not_lt_zero _)) _ ls hS (lv_sub hl [3, 2, 1, 0] rfl)
abbrev rmX6_isReady : Room := ({ frames := 1, cells := 0, slots := 0, locals := 24 } : Room)
set_option maxHeartbeats 1000000 in
theorem kX6_isReady (l : Launch) {G : zG} {H0 : Heap} {own y pr : Nat → Nat} {x tr : Nat} {S C D E : Nat → Int32} (t B : Nat) (ht : t < 4) (hI : InvS S B)  (hM : PM G own y x pr S C D E tr H0) : zM l G yX6_isReady cX6_isReady 3 (some .boolean) rmX6_isReady H0 [.ref (y 17), .int (nI t)] (fun v H1 => H0 = H1 ∧ v = some (.int (zb (mPrep S (14 * t) = nI 1)))) (zN) := by
  refine zM.start (own := RX6) (by decide) rfl (Nat.le_of_ble_eq_true rfl) ?_
  intro p e s m args below meth c ls Q hx hb hml hr hlk hnm hown hts hK hH hQ hl hS
  have hl : lv_has ls 3 [(0, .ref (y 17)), (1, .int (nI t))] := hl
  refine lv_aload_n hx hb dX6_isReady_0 rfl (lv_at hl 0 rfl) ?_
  refine zget hx hb hts hown hK hM.o rfl in_X6 0 (by decide) q320 (fun _ h => h) (v := .ref (y 0)) rfl dX6_isReady_1 ?_
  refine lv_iload_n hx hb dX6_isReady_4 rfl (lv_at hl 1 rfl) ?_
  refine zaald (t := 4) hx hb hK (by decide) rfl hM.ls t (by omega) (by decide) dX6_isReady_5 ?_
  refine zTopV (y := .ref (y (9 + t))) rfl ?_
  refine lv_astore_n (lv' := [(2, .ref (y (9 + t))), (0, .ref (y 17)), (1, .int (nI t))]) hx hb dX6_isReady_6 rfl hl (by decide) rfl (fun ls hl => ?_)
  refine lv_aload_n hx hb dX6_isReady_7 rfl (lv_at hl 0 rfl) ?_
  refine zgetN hx hb hts hown hK (hM.l (t := t) (by omega)) rfl in_X7 2 (by decide) (hK.f 30 rfl) (fun _ h => h) (v := .int (S (14 * t))) rfl dX6_isReady_8 ?_
  by_cases s_1 : S (14 * t) = nI 1
  · refine zTop (y := nI 1) s_1 ?_
    refine lv_tableIn (off := 25) (tgt := 36) hx hb dX6_isReady_11 (by decide) (by decide) rfl (by decide) ?_
    refine lv_iconst (v := (nI 1)) hx hb dX6_isReady_36 (by decide) ?_
    refine lv_goto (tgt := 67) hx hb dX6_isReady_37 (by decide) ?_
    exact zri hx hb hr hlk hH hQ rfl hS ⟨rfl, (congrArg (fun z => some (Value.int z)) (by first | exact zb_t ((cReady hI ht).mpr (Or.inl s_1)) | exact zb_t ((cReady hI ht).mpr (Or.inr (Or.inl ⟨s_2, c_48⟩))) | exact zb_f (fun z => ((cReady hI ht).mp z).elim (fun w => s_1 w) (fun w => w.elim (fun w => c_48 w.2) (fun w => absurd (s_2.symm.trans w.1) (by decide)))) | exact zb_f (fun z => ((cReady hI ht).mp z).elim (fun w => s_1 w) (fun w => w.elim (fun w => s_2 w.1) (fun w => s_3 w.1))) | exact zb_iff ⟨fun w => (cReady hI ht).mpr (Or.inr (Or.inr ⟨s_3, w⟩)), fun z => ((cReady hI ht).mp z).elim (fun w => absurd w s_1) (fun w => w.elim (fun w => absurd w.1 s_2) (fun w => w.2))⟩))⟩ (Nat.le_of_ble_eq_true rfl) (Nat.le_of_ble_eq_true rfl) dX6_isReady_67
  by_cases s_2 : S (14 * t) = nI 2
  · refine zTop (y := nI 2) s_2 ?_
    refine lv_tableIn (off := 29) (tgt := 40) hx hb dX6_isReady_11 (by decide) (by decide) rfl (by decide) ?_
    refine lv_aload_n hx hb dX6_isReady_40 rfl (lv_at hl 1 rfl) ?_
    refine zget hx hb hts hown hK hM.o rfl in_X6 6 (by decide) q333 (fun _ h => h) (v := .int (S 232)) rfl dX6_isReady_41 ?_
    refine lv_aload_n hx hb dX6_isReady_44 rfl (lv_at hl 0 rfl) ?_
    refine zgetN hx hb hts hown hK (hM.l (t := t) (by omega)) rfl in_X7 5 (by decide) (hK.f 33 rfl) (fun _ h => h) (v := .int (S (14 * t + 8))) rfl dX6_isReady_45 ?_
    refine lv_icmp_lt (tgt := 55) hx hb dX6_isReady_48 (by decide) (fun c_48 => ?_) (fun c_48 => ?_)
    · have c_48 : ¬ (S (14 * t + 8)) ≤ (S 232) := Int32.not_le.mpr c_48
      refine lv_iconst (v := (nI 0)) hx hb dX6_isReady_55 (by decide) ?_
      refine lv_goto (tgt := 67) hx hb dX6_isReady_56 (by decide) ?_
      exact zri hx hb hr hlk hH hQ rfl hS ⟨rfl, (congrArg (fun z => some (Value.int z)) (by first | exact zb_t ((cReady hI ht).mpr (Or.inl s_1)) | exact zb_t ((cReady hI ht).mpr (Or.inr (Or.inl ⟨s_2, c_48⟩))) | exact zb_f (fun z => ((cReady hI ht).mp z).elim (fun w => s_1 w) (fun w => w.elim (fun w => c_48 w.2) (fun w => absurd (s_2.symm.trans w.1) (by decide)))) | exact zb_f (fun z => ((cReady hI ht).mp z).elim (fun w => s_1 w) (fun w => w.elim (fun w => s_2 w.1) (fun w => s_3 w.1))) | exact zb_iff ⟨fun w => (cReady hI ht).mpr (Or.inr (Or.inr ⟨s_3, w⟩)), fun z => ((cReady hI ht).mp z).elim (fun w => absurd w s_1) (fun w => w.elim (fun w => absurd w.1 s_2) (fun w => w.2))⟩))⟩ (Nat.le_of_ble_eq_true rfl) (Nat.le_of_ble_eq_true rfl) dX6_isReady_67
    · have c_48 : (S (14 * t + 8)) ≤ (S 232) := Int32.not_lt.mp c_48
      refine lv_iconst (v := (nI 1)) hx hb dX6_isReady_51 (by decide) ?_
      refine lv_goto (tgt := 67) hx hb dX6_isReady_52 (by decide) ?_
      exact zri hx hb hr hlk hH hQ rfl hS ⟨rfl, (congrArg (fun z => some (Value.int z)) (by first | exact zb_t ((cReady hI ht).mpr (Or.inl s_1)) | exact zb_t ((cReady hI ht).mpr (Or.inr (Or.inl ⟨s_2, c_48⟩))) | exact zb_f (fun z => ((cReady hI ht).mp z).elim (fun w => s_1 w) (fun w => w.elim (fun w => c_48 w.2) (fun w => absurd (s_2.symm.trans w.1) (by decide)))) | exact zb_f (fun z => ((cReady hI ht).mp z).elim (fun w => s_1 w) (fun w => w.elim (fun w => s_2 w.1) (fun w => s_3 w.1))) | exact zb_iff ⟨fun w => (cReady hI ht).mpr (Or.inr (Or.inr ⟨s_3, w⟩)), fun z => ((cReady hI ht).mp z).elim (fun w => absurd w s_1) (fun w => w.elim (fun w => absurd w.1 s_2) (fun w => w.2))⟩))⟩ (Nat.le_of_ble_eq_true rfl) (Nat.le_of_ble_eq_true rfl) dX6_isReady_67
  by_cases s_3 : S (14 * t) = nI 3
  · refine zTop (y := nI 3) s_3 ?_
    refine lv_tableIn (off := 48) (tgt := 59) hx hb dX6_isReady_11 (by decide) (by decide) rfl (by decide) ?_
    refine lv_aload_n hx hb dX6_isReady_59 rfl (lv_at hl 1 rfl) ?_
    refine zcV 0 ⟨hx, hb, hml, hown, hts, hK⟩ (kX6_isBarrierOpen l  hM) q985 q987 qs14 q55 q988 (by decide +kernel) ⟨Nat.le_of_ble_eq_true rfl, Nat.le_of_ble_eq_true rfl⟩ (zrecv hK hM.o rfl) rfl hl.1 (rest := []) rfl (Nat.le_of_ble_eq_true rfl) dX6_isReady_60 ⟨by first | decide | omega, by first | decide | omega⟩ hS (fun _ h => h.elim) (fun v_c H1 locs hp_c hz_c hk_c hS => ?_)
    obtain ⟨rfl, rfl⟩ := hp_c
    refine lv_goto (tgt := 67) hx hb dX6_isReady_63 (by decide) ?_
    exact zri hx hb hr hlk hH hQ zb_nar hS ⟨rfl, (congrArg (fun z => some (Value.int z)) (by first | exact zb_t ((cReady hI ht).mpr (Or.inl s_1)) | exact zb_t ((cReady hI ht).mpr (Or.inr (Or.inl ⟨s_2, c_48⟩))) | exact zb_f (fun z => ((cReady hI ht).mp z).elim (fun w => s_1 w) (fun w => w.elim (fun w => c_48 w.2) (fun w => absurd (s_2.symm.trans w.1) (by decide)))) | exact zb_f (fun z => ((cReady hI ht).mp z).elim (fun w => s_1 w) (fun w => w.elim (fun w => s_2 w.1) (fun w => s_3 w.1))) | exact zb_iff ⟨fun w => (cReady hI ht).mpr (Or.inr (Or.inr ⟨s_3, w⟩)), fun z => ((cReady hI ht).mp z).elim (fun w => absurd w s_1) (fun w => w.elim (fun w => absurd w.1 s_2) (fun w => w.2))⟩))⟩ (Nat.le_of_ble_eq_true rfl) (Nat.le_of_ble_eq_true rfl) dX6_isReady_67
  refine lv_tableOut (tgt := 66) hx hb dX6_isReady_11 (zout3 s_1 s_2 s_3) (by decide) ?_
  refine lv_iconst (v := (nI 0)) hx hb dX6_isReady_66 (by decide) ?_
  exact zri hx hb hr hlk hH hQ rfl hS ⟨rfl, (congrArg (fun z => some (Value.int z)) (by first | exact zb_t ((cReady hI ht).mpr (Or.inl s_1)) | exact zb_t ((cReady hI ht).mpr (Or.inr (Or.inl ⟨s_2, c_48⟩))) | exact zb_f (fun z => ((cReady hI ht).mp z).elim (fun w => s_1 w) (fun w => w.elim (fun w => c_48 w.2) (fun w => absurd (s_2.symm.trans w.1) (by decide)))) | exact zb_f (fun z => ((cReady hI ht).mp z).elim (fun w => s_1 w) (fun w => w.elim (fun w => s_2 w.1) (fun w => s_3 w.1))) | exact zb_iff ⟨fun w => (cReady hI ht).mpr (Or.inr (Or.inr ⟨s_3, w⟩)), fun z => ((cReady hI ht).mp z).elim (fun w => absurd w s_1) (fun w => w.elim (fun w => absurd w.1 s_2) (fun w => w.2))⟩))⟩ (Nat.le_of_ble_eq_true rfl) (Nat.le_of_ble_eq_true rfl) dX6_isReady_67
abbrev rmX6_owner : Room := ({ frames := 0, cells := 0, slots := 0, locals := 0 } : Room)
set_option maxHeartbeats 1000000 in
theorem kX6_owner (l : Launch) {G : zG} {H0 : Heap} {own y pr : Nat → Nat} {x tr : Nat} {S C D E : Nat → Int32} (B : Nat) (hI : InvS S B) (hB : B < 2147483000)  (hM : PM G own y x pr S C D E tr H0) : zM l G yX6_owner cX6_owner 1 (some .int) rmX6_owner H0 [.ref (y 17)] (fun v H1 => H0 = H1 ∧ v = some (.int (nI (mOwn S)))) (zN) := by
  refine zM.start (own := RX6) (by decide) rfl (Nat.le_of_ble_eq_true rfl) ?_
  intro p e s m args below meth c ls Q hx hb hml hr hlk hnm hown hts hK hH hQ hl hS
  obtain ⟨cy, hcy, ecy⟩ := hI.1
  obtain ⟨ow, how, eow⟩ := hI.2.2.2.1 (cy % 8) (Nat.mod_lt _ (by decide))
  have eown : mOwn S = ow := by unfold mOwn; rw [ecy, nI_clamp (by omega), eow]; exact nI_clamp (by omega)
  have hl : lv_has ls 1 [(0, .ref (y 17))] := hl
  refine lv_aload_n hx hb dX6_owner_0 rfl (lv_at hl 0 rfl) ?_
  refine zget hx hb hts hown hK hM.o rfl in_X6 3 (by decide) q327 (fun _ h => h) (v := .ref (y 3)) rfl dX6_owner_1 ?_
  refine lv_aload_n hx hb dX6_owner_4 rfl (lv_at hl 0 rfl) ?_
  refine zget hx hb hts hown hK hM.o rfl in_X6 6 (by decide) q333 (fun _ h => h) (v := .int (S 232)) rfl dX6_owner_5 ?_
  refine zTop (y := (nI cy)) ecy ?_
  refine lv_bipush (v := (nI 8)) hx hb dX6_owner_8 (by decide) ?_
  refine lv_irem hx hb dX6_owner_10 (by decide) ?_
  refine zTop (y := nI (cy % 8)) (pk_rem (by omega) (by omega) (by omega)) ?_
  refine ziald hx hb hK hM.a3 (cy % 8) (by omega) (by decide) dX6_owner_11 ?_
  refine zTop (y := (S (234 + cy % 8))) rfl ?_
  refine zTop (y := (nI ow)) eow ?_
  exact zri hx hb hr hlk hH hQ rfl hS ⟨rfl, (congrArg (fun z => some (Value.int z)) (by rw [eown]))⟩ (Nat.le_of_ble_eq_true rfl) (Nat.le_of_ble_eq_true rfl) dX6_owner_12
abbrev rmX4_borrower : Room := ({ frames := 0, cells := 0, slots := 0, locals := 0 } : Room)
set_option maxHeartbeats 1000000 in
theorem kX4_borrower (l : Launch) {G : zG} {H0 : Heap} {own y pr : Nat → Nat} {x tr : Nat} {S C D E : Nat → Int32} (th o : Nat) (hM : PM G own y x pr S C D E tr H0) : zM l G yX4_borrower cX4_borrower 3 (some .int) rmX4_borrower H0 [.ref th, .ref (y 17), .int (nI o)] (fun v H1 => H0 = H1 ∧ v = some (.int (-100005))) (zN) := by
  refine zM.start (own := RX4) (by decide) rfl (Nat.le_of_ble_eq_true rfl) ?_
  intro p e s m args below meth c ls Q hx hb hml hr hlk hnm hown hts hK hH hQ hl hS
  have hl : lv_has ls 3 [(0, .ref th), (1, .ref (y 17)), (2, .int (nI o))] := hl
  refine lv_ldc (v := (-100005)) hx hb hown (hts _ q1014) dX4_borrower_0 ?_
  exact zri hx hb hr hlk hH hQ rfl hS ⟨rfl, rfl⟩ (Nat.le_of_ble_eq_true rfl) (Nat.le_of_ble_eq_true rfl) dX4_borrower_2
abbrev rmX2_borrower : Room := ({ frames := 2, cells := 0, slots := 0, locals := 46 } : Room)
set_option maxHeartbeats 1000000 in
theorem kX2_borrower (l : Launch) {G : zG} {H0 : Heap} {own y pr : Nat → Nat} {x tr : Nat} {S C D E : Nat → Int32} (th o B : Nat) (ho4 : o < 4) (hI : InvS S B)  (hM : PM G own y x pr S C D E tr H0) : zM l G yX2_borrower cX2_borrower 4 (some .int) rmX2_borrower H0 [.ref th, .ref (y 17), .int (nI o)] (fun v H1 => H0 = H1 ∧ v = some (.int (cN (mNx (mPrep S) o 3)))) (zN) := by
  refine zM.start (own := RX2) (by decide) rfl (Nat.le_of_ble_eq_true rfl) ?_
  intro p e s m args below meth c ls Q hx hb hml hr hlk hnm hown hts hK hH hQ hl hS
  have hl : lv_has ls 4 [(0, .ref th), (1, .ref (y 17)), (2, .int (nI o))] := hl
  refine lv_iconst (v := (nI 1)) hx hb dX2_borrower_0 (by decide) ?_
  refine lv_istore_n (lv' := [(3, .int (nI 1)), (0, .ref th), (1, .ref (y 17)), (2, .int (nI o))]) hx hb dX2_borrower_1 rfl hl (by decide) rfl (fun ls hl => ?_)
  refine lv_iload_n hx hb dX2_borrower_2 rfl (lv_at hl 0 rfl) ?_
  refine lv_iconst (v := (nI 4)) hx hb dX2_borrower_3 (by decide) ?_
  refine lv_icmp_ge (tgt := 31) hx hb dX2_borrower_4 (by decide) (fun z => absurd z (by decide)) (fun _ => ?_)
  refine lv_aload_n hx hb dX2_borrower_7 rfl (lv_at hl 2 rfl) ?_
  refine lv_iload_n hx hb dX2_borrower_8 rfl (lv_at hl 3 rfl) ?_
  refine lv_iload_n hx hb dX2_borrower_9 rfl (lv_at hl 0 rfl) ?_
  refine lv_iadd hx hb dX2_borrower_10 ?_
  refine zTop (y := nI (o + 1)) (zadd (by omega)) ?_
  refine lv_iconst (v := (nI 4)) hx hb dX2_borrower_11 (by decide) ?_
  refine lv_irem hx hb dX2_borrower_12 (by decide) ?_
  refine zTop (y := nI ((o + 1) % 4)) (pk_rem (by omega) (by omega) (by omega)) ?_
  refine zcV 1 ⟨hx, hb, hml, hown, hts, hK⟩ (kX6_isReady l ((o + 1) % 4) B (Nat.mod_lt _ (by decide)) hI hM) q1006 q982 q983 q55 q984 (by decide +kernel) ⟨Nat.le_of_ble_eq_true rfl, Nat.le_of_ble_eq_true rfl⟩ (zrecv hK hM.o rfl) rfl hl.1 (rest := []) rfl (Nat.le_of_ble_eq_true rfl) dX2_borrower_13 ⟨by first | decide | omega, by first | decide | omega⟩ hS (fun _ h => h.elim) (fun v_c H1 locs hp_c hz_c hk_c hS => ?_)
  obtain ⟨rfl, rfl⟩ := hp_c
  refine lv_if_eq (tgt := 25) hx hb dX2_borrower_16 (by decide) (fun c_16 => ?_) (fun c_16 => ?_)
  · have c_16 : ¬ (mPrep S (14 * ((o + 1) % 4)) = nI 1) := zb_eq.mp c_16
    have dn_1 := c_16
    refine lv_iinc (v := (nI 2)) (lv' := [(3, .int (nI 2)), (0, .ref th), (1, .ref (y 17)), (2, .int (nI o))]) hx hb dX2_borrower_25 hl (k := 0) rfl (nI_1 _) (by decide) rfl (fun ls hl => ?_)
    refine lv_goto (tgt := 2) hx hb dX2_borrower_28 (by decide) ?_
    refine lv_iload_n hx hb dX2_borrower_2 rfl (lv_at hl 0 rfl) ?_
    refine lv_iconst (v := (nI 4)) hx hb dX2_borrower_3 (by decide) ?_
    refine lv_icmp_ge (tgt := 31) hx hb dX2_borrower_4 (by decide) (fun z => absurd z (by decide)) (fun _ => ?_)
    refine lv_aload_n hx hb dX2_borrower_7 rfl (lv_at hl 2 rfl) ?_
    refine lv_iload_n hx hb dX2_borrower_8 rfl (lv_at hl 3 rfl) ?_
    refine lv_iload_n hx hb dX2_borrower_9 rfl (lv_at hl 0 rfl) ?_
    refine lv_iadd hx hb dX2_borrower_10 ?_
    refine zTop (y := nI (o + 2)) (zadd (by omega)) ?_
    refine lv_iconst (v := (nI 4)) hx hb dX2_borrower_11 (by decide) ?_
    refine lv_irem hx hb dX2_borrower_12 (by decide) ?_
    refine zTop (y := nI ((o + 2) % 4)) (pk_rem (by omega) (by omega) (by omega)) ?_
    refine zcV 1 ⟨hx, hb, hml, hown, hts, hK⟩ (kX6_isReady l ((o + 2) % 4) B (Nat.mod_lt _ (by decide)) hI hM) q1006 q982 q983 q55 q984 (by decide +kernel) ⟨Nat.le_of_ble_eq_true rfl, Nat.le_of_ble_eq_true rfl⟩ (zrecv hK hM.o rfl) rfl hl.1 (rest := []) rfl (Nat.le_of_ble_eq_true rfl) dX2_borrower_13 ⟨by first | decide | omega, by first | decide | omega⟩ hS (fun _ h => h.elim) (fun v_c H2 locs hp_c hz_c hk_c hS => ?_)
    obtain ⟨rfl, rfl⟩ := hp_c
    refine lv_if_eq (tgt := 25) hx hb dX2_borrower_16 (by decide) (fun c_16 => ?_) (fun c_16 => ?_)
    · have c_16 : ¬ (mPrep S (14 * ((o + 2) % 4)) = nI 1) := zb_eq.mp c_16
      have dn_2 := c_16
      refine lv_iinc (v := (nI 3)) (lv' := [(3, .int (nI 3)), (0, .ref th), (1, .ref (y 17)), (2, .int (nI o))]) hx hb dX2_borrower_25 hl (k := 0) rfl (nI_1 _) (by decide) rfl (fun ls hl => ?_)
      refine lv_goto (tgt := 2) hx hb dX2_borrower_28 (by decide) ?_
      refine lv_iload_n hx hb dX2_borrower_2 rfl (lv_at hl 0 rfl) ?_
      refine lv_iconst (v := (nI 4)) hx hb dX2_borrower_3 (by decide) ?_
      refine lv_icmp_ge (tgt := 31) hx hb dX2_borrower_4 (by decide) (fun z => absurd z (by decide)) (fun _ => ?_)
      refine lv_aload_n hx hb dX2_borrower_7 rfl (lv_at hl 2 rfl) ?_
      refine lv_iload_n hx hb dX2_borrower_8 rfl (lv_at hl 3 rfl) ?_
      refine lv_iload_n hx hb dX2_borrower_9 rfl (lv_at hl 0 rfl) ?_
      refine lv_iadd hx hb dX2_borrower_10 ?_
      refine zTop (y := nI (o + 3)) (zadd (by omega)) ?_
      refine lv_iconst (v := (nI 4)) hx hb dX2_borrower_11 (by decide) ?_
      refine lv_irem hx hb dX2_borrower_12 (by decide) ?_
      refine zTop (y := nI ((o + 3) % 4)) (pk_rem (by omega) (by omega) (by omega)) ?_
      refine zcV 1 ⟨hx, hb, hml, hown, hts, hK⟩ (kX6_isReady l ((o + 3) % 4) B (Nat.mod_lt _ (by decide)) hI hM) q1006 q982 q983 q55 q984 (by decide +kernel) ⟨Nat.le_of_ble_eq_true rfl, Nat.le_of_ble_eq_true rfl⟩ (zrecv hK hM.o rfl) rfl hl.1 (rest := []) rfl (Nat.le_of_ble_eq_true rfl) dX2_borrower_13 ⟨by first | decide | omega, by first | decide | omega⟩ hS (fun _ h => h.elim) (fun v_c H3 locs hp_c hz_c hk_c hS => ?_)
      obtain ⟨rfl, rfl⟩ := hp_c
      refine lv_if_eq (tgt := 25) hx hb dX2_borrower_16 (by decide) (fun c_16 => ?_) (fun c_16 => ?_)
      · have c_16 : ¬ (mPrep S (14 * ((o + 3) % 4)) = nI 1) := zb_eq.mp c_16
        have dn_3 := c_16
        refine lv_iinc (v := (nI 4)) (lv' := [(3, .int (nI 4)), (0, .ref th), (1, .ref (y 17)), (2, .int (nI o))]) hx hb dX2_borrower_25 hl (k := 0) rfl (nI_1 _) (by decide) rfl (fun ls hl => ?_)
        refine lv_goto (tgt := 2) hx hb dX2_borrower_28 (by decide) ?_
        refine lv_iload_n hx hb dX2_borrower_2 rfl (lv_at hl 0 rfl) ?_
        refine lv_iconst (v := (nI 4)) hx hb dX2_borrower_3 (by decide) ?_
        refine lv_icmp_ge (tgt := 31) hx hb dX2_borrower_4 (by decide) (fun _ => ?_) (fun z => absurd (by decide) z)
        refine lv_ldc (v := (-100005)) hx hb hown (hts _ q1007) dX2_borrower_31 ?_
        exact zri hx hb hr hlk hH hQ rfl hS ⟨rfl, (congrArg (fun z => some (Value.int z)) (by rw [mNx_0 dn_1 dn_2 dn_3]; rfl))⟩ (Nat.le_of_ble_eq_true rfl) (Nat.le_of_ble_eq_true rfl) dX2_borrower_33
      · have c_16 : (mPrep S (14 * ((o + 3) % 4)) = nI 1) := zb_ne.mp c_16
        refine lv_iload_n hx hb dX2_borrower_19 rfl (lv_at hl 3 rfl) ?_
        refine lv_iload_n hx hb dX2_borrower_20 rfl (lv_at hl 0 rfl) ?_
        refine lv_iadd hx hb dX2_borrower_21 ?_
        refine zTop (y := nI (o + 3)) (zadd (by omega)) ?_
        refine lv_iconst (v := (nI 4)) hx hb dX2_borrower_22 (by decide) ?_
        refine lv_irem hx hb dX2_borrower_23 (by decide) ?_
        refine zTop (y := nI ((o + 3) % 4)) (pk_rem (by omega) (by omega) (by omega)) ?_
        exact zri hx hb hr hlk hH hQ rfl hS ⟨rfl, (congrArg (fun z => some (Value.int z)) (by rw [mNx_3 dn_1 dn_2 c_16, cN_j (Nat.mod_lt _ (by decide))]))⟩ (Nat.le_of_ble_eq_true rfl) (Nat.le_of_ble_eq_true rfl) dX2_borrower_24
    · have c_16 : (mPrep S (14 * ((o + 2) % 4)) = nI 1) := zb_ne.mp c_16
      refine lv_iload_n hx hb dX2_borrower_19 rfl (lv_at hl 3 rfl) ?_
      refine lv_iload_n hx hb dX2_borrower_20 rfl (lv_at hl 0 rfl) ?_
      refine lv_iadd hx hb dX2_borrower_21 ?_
      refine zTop (y := nI (o + 2)) (zadd (by omega)) ?_
      refine lv_iconst (v := (nI 4)) hx hb dX2_borrower_22 (by decide) ?_
      refine lv_irem hx hb dX2_borrower_23 (by decide) ?_
      refine zTop (y := nI ((o + 2) % 4)) (pk_rem (by omega) (by omega) (by omega)) ?_
      exact zri hx hb hr hlk hH hQ rfl hS ⟨rfl, (congrArg (fun z => some (Value.int z)) (by rw [mNx_2 dn_1 c_16, cN_j (Nat.mod_lt _ (by decide))]))⟩ (Nat.le_of_ble_eq_true rfl) (Nat.le_of_ble_eq_true rfl) dX2_borrower_24
  · have c_16 : (mPrep S (14 * ((o + 1) % 4)) = nI 1) := zb_ne.mp c_16
    refine lv_iload_n hx hb dX2_borrower_19 rfl (lv_at hl 3 rfl) ?_
    refine lv_iload_n hx hb dX2_borrower_20 rfl (lv_at hl 0 rfl) ?_
    refine lv_iadd hx hb dX2_borrower_21 ?_
    refine zTop (y := nI (o + 1)) (zadd (by omega)) ?_
    refine lv_iconst (v := (nI 4)) hx hb dX2_borrower_22 (by decide) ?_
    refine lv_irem hx hb dX2_borrower_23 (by decide) ?_
    refine zTop (y := nI ((o + 1) % 4)) (pk_rem (by omega) (by omega) (by omega)) ?_
    exact zri hx hb hr hlk hH hQ rfl hS ⟨rfl, (congrArg (fun z => some (Value.int z)) (by rw [mNx_1 c_16, cN_j (Nat.mod_lt _ (by decide))]))⟩ (Nat.le_of_ble_eq_true rfl) (Nat.le_of_ble_eq_true rfl) dX2_borrower_24
abbrev rmX3_borrower : Room := ({ frames := 2, cells := 0, slots := 0, locals := 46 } : Room)
set_option maxHeartbeats 1000000 in
theorem kX3_borrower (l : Launch) {G : zG} {H0 : Heap} {own y pr : Nat → Nat} {x tr : Nat} {S C D E : Nat → Int32} (th o B : Nat) (hI : InvS S B)  (hM : PM G own y x pr S C D E tr H0) : zM l G yX3_borrower cX3_borrower 5 (some .int) rmX3_borrower H0 [.ref th, .ref (y 17), .int (nI o)] (fun v H1 => H0 = H1 ∧ v = some (.int (cN (mLg (mPrep S) 4)))) (zN) := by
  refine zM.start (own := RX3) (by decide) rfl (Nat.le_of_ble_eq_true rfl) ?_
  intro p e s m args below meth c ls Q hx hb hml hr hlk hnm hown hts hK hH hQ hl hS
  have hl : lv_has ls 5 [(0, .ref th), (1, .ref (y 17)), (2, .int (nI o))] := hl
  refine lv_ldc (v := (-100005)) hx hb hown (hts _ q998) dX3_borrower_0 ?_
  refine lv_istore_n (lv' := [(3, .int (-100005)), (0, .ref th), (1, .ref (y 17)), (2, .int (nI o))]) hx hb dX3_borrower_2 rfl hl (by decide) rfl (fun ls hl => ?_)
  refine lv_iconst (v := (nI 0)) hx hb dX3_borrower_3 (by decide) ?_
  refine lv_istore (lv' := [(4, .int (nI 0)), (3, .int (-100005)), (0, .ref th), (1, .ref (y 17)), (2, .int (nI o))]) hx hb dX3_borrower_4 hl (by decide) rfl (fun ls hl => ?_)
  have loop : ∀ (nn : Nat) (n : Nat) (bi : Int32), 4 - n < nn → (n ≤ 4) → (bi = cN (mLg (mPrep S) n)) → ∀ (locs : List Loc) (ls : Array Slot), va_S (zN) H0 H0 locs → lv_has ls 5 [(0, .ref th), (1, .ref (y 17)), (2, .int (nI o)), (3, .int bi), (4, .int (nI n))] → W p l e rmX3_borrower s m args below meth c H0 locs 0 0 Q (F0 m 6 ls []) := by
    intro nn
    induction nn with
    | zero => intro n bi hfu; exact absurd hfu (Nat.not_lt_zero _)
    | succ nn ih =>
      intro n bi hfu hn hbi locs ls hS hl
      refine lv_iload hx hb dX3_borrower_6 (lv_at hl 4 rfl) ?_
      refine lv_iconst (v := (nI 4)) hx hb dX3_borrower_8 (by decide) ?_
      refine lv_icmp_ge (tgt := 58) hx hb dX3_borrower_9 (by decide) (fun c_9 => ?_) (fun c_9 => ?_)
      · have c_9 : 4 ≤ n := (nI_leI (by omega) (by omega)).mp c_9
        refine lv_iload_n hx hb dX3_borrower_58 rfl (lv_at hl 3 rfl) ?_
        exact zri hx hb hr hlk hH hQ rfl hS ⟨rfl, (congrArg (fun z => some (Value.int z)) (by rw [hbi, show n = 4 by omega]))⟩ (Nat.le_of_ble_eq_true rfl) (Nat.le_of_ble_eq_true rfl) dX3_borrower_59
      · have c_9 : ¬ (4 ≤ n) := fun z => c_9 ((nI_leI (by omega) (by omega)).mpr z)
        refine lv_aload_n hx hb dX3_borrower_12 rfl (lv_at hl 1 rfl) ?_
        refine lv_iload hx hb dX3_borrower_13 (lv_at hl 4 rfl) ?_
        refine zcV 1 ⟨hx, hb, hml, hown, hts, hK⟩ (kX6_isReady l n B (by omega) hI hM) q999 q982 q983 q55 q984 (by decide +kernel) ⟨Nat.le_of_ble_eq_true rfl, Nat.le_of_ble_eq_true rfl⟩ (zrecv hK hM.o rfl) rfl hl.1 (rest := []) rfl (Nat.le_of_ble_eq_true rfl) dX3_borrower_15 ⟨by first | decide | omega, by first | decide | omega⟩ hS (fun _ h => h.elim) (fun v_c H1 locs hp_c hz_c hk_c hS => ?_)
        obtain ⟨rfl, rfl⟩ := hp_c
        refine lv_if_eq (tgt := 52) hx hb dX3_borrower_18 (by decide) (fun c_18 => ?_) (fun c_18 => ?_)
        · have c_18 : ¬ (mPrep S (14 * n) = nI 1) := zb_eq.mp c_18
          refine lv_iinc (v := (nI (n + 1))) (lv' := [(4, .int (nI (n + 1))), (0, .ref th), (1, .ref (y 17)), (2, .int (nI o)), (3, .int bi)]) hx hb dX3_borrower_52 hl (k := 4) rfl (nI_1 _) (by decide) rfl (fun ls hl => ?_)
          refine lv_goto (tgt := 6) hx hb dX3_borrower_55 (by decide) ?_
          exact ih (n + 1) bi (by omega) (by omega) (by rw [hbi, mLg_a c_18]) _ ls hS (lv_sub hl [1, 2, 3, 4, 0] rfl)
        · have c_18 : (mPrep S (14 * n) = nI 1) := zb_ne.mp c_18
          rcases mLg_in (mPrep S) n (by omega) with hg | ⟨j, hj, hg⟩
          · obtain rfl : bi = (-100005) := by rw [hbi, hg]; rfl
            refine lv_iload_n hx hb dX3_borrower_21 rfl (lv_at hl 3 rfl) ?_
            refine lv_ldc (v := (-100005)) hx hb hown (hts _ q998) dX3_borrower_22 ?_
            refine lv_icmp_eq (tgt := 49) hx hb dX3_borrower_24 (by decide) (fun _ => ?_) (fun z => absurd (by decide) z)
            refine lv_iload hx hb dX3_borrower_49 (lv_at hl 4 rfl) ?_
            refine lv_istore_n (lv' := [(3, .int (nI n)), (0, .ref th), (1, .ref (y 17)), (2, .int (nI o)), (4, .int (nI n))]) hx hb dX3_borrower_51 rfl hl (by decide) rfl (fun ls hl => ?_)
            refine lv_iinc (v := (nI (n + 1))) (lv' := [(4, .int (nI (n + 1))), (3, .int (nI n)), (0, .ref th), (1, .ref (y 17)), (2, .int (nI o))]) hx hb dX3_borrower_52 hl (k := 4) rfl (nI_1 _) (by decide) rfl (fun ls hl => ?_)
            refine lv_goto (tgt := 6) hx hb dX3_borrower_55 (by decide) ?_
            exact ih (n + 1) (nI n) (by omega) (by omega) (by first | rw [mLg_b c_18 hg, cN_j (by omega)] | rw [mLg_c c_18 hg (by omega) (by rw [mPrep_hi hI (j := 14 * n + 9) (fun u hu => by omega), mPrep_hi hI (j := 14 * j + 9) (fun u hu => by omega)]; exact Int32.not_le.mp c_46), cN_j (by omega)]) _ ls hS (lv_sub hl [2, 3, 4, 1, 0] rfl)
          · obtain rfl : bi = nI j := by rw [hbi, hg]; exact cN_j (by omega)
            refine lv_iload_n hx hb dX3_borrower_21 rfl (lv_at hl 3 rfl) ?_
            refine lv_ldc (v := (-100005)) hx hb hown (hts _ q998) dX3_borrower_22 ?_
            refine lv_icmp_eq (tgt := 49) hx hb dX3_borrower_24 (by decide) (fun c_24 => ?_) (fun c_24 => ?_)
            · have c_24 : (nI j) = (-100005) := c_24
              exact absurd c_24 (n5_ne (by omega))
            · have c_24 : ¬ (nI j) = (-100005) := c_24
              refine lv_aload_n hx hb dX3_borrower_27 rfl (lv_at hl 1 rfl) ?_
              refine zgetN hx hb hts hown hK hM.o rfl in_X6 0 (by decide) (hK.f 24 rfl) (fun _ h => h) (v := .ref (y 0)) rfl dX3_borrower_28 ?_
              refine lv_iload hx hb dX3_borrower_31 (lv_at hl 4 rfl) ?_
              refine zaald (t := 4) hx hb hK (by decide) rfl hM.ls n (by omega) (by decide) dX3_borrower_33 ?_
              refine zTopV (y := .ref (y (9 + n))) rfl ?_
              refine zgetN hx hb hts hown hK (hM.l (t := n) (by omega)) rfl in_X7 6 (by decide) (hK.f 23 rfl) (fun _ h => h) (v := .int (S (14 * n + 9))) rfl dX3_borrower_34 ?_
              refine lv_aload_n hx hb dX3_borrower_37 rfl (lv_at hl 1 rfl) ?_
              refine zgetN hx hb hts hown hK hM.o rfl in_X6 0 (by decide) (hK.f 24 rfl) (fun _ h => h) (v := .ref (y 0)) rfl dX3_borrower_38 ?_
              refine lv_iload_n hx hb dX3_borrower_41 rfl (lv_at hl 3 rfl) ?_
              refine zaald (t := 4) hx hb hK (by decide) rfl hM.ls j (by omega) (by decide) dX3_borrower_42 ?_
              refine zTopV (y := .ref (y (9 + j))) rfl ?_
              refine zgetN hx hb hts hown hK (hM.l (t := j) (by omega)) rfl in_X7 6 (by decide) (hK.f 23 rfl) (fun _ h => h) (v := .int (S (14 * j + 9))) rfl dX3_borrower_43 ?_
              refine lv_icmp_ge (tgt := 52) hx hb dX3_borrower_46 (by decide) (fun c_46 => ?_) (fun c_46 => ?_)
              · have c_46 : (S (14 * j + 9)) ≤ (S (14 * n + 9)) := c_46
                refine lv_iinc (v := (nI (n + 1))) (lv' := [(4, .int (nI (n + 1))), (0, .ref th), (1, .ref (y 17)), (2, .int (nI o)), (3, .int (nI j))]) hx hb dX3_borrower_52 hl (k := 4) rfl (nI_1 _) (by decide) rfl (fun ls hl => ?_)
                refine lv_goto (tgt := 6) hx hb dX3_borrower_55 (by decide) ?_
                exact ih (n + 1) (nI j) (by omega) (by omega) (by rw [mLg_d hg (by omega) (by rw [mPrep_hi hI (j := 14 * n + 9) (fun u hu => by omega), mPrep_hi hI (j := 14 * j + 9) (fun u hu => by omega)]; exact Int32.not_lt.mpr c_46), cN_j (by omega)]) _ ls hS (lv_sub hl [1, 2, 3, 4, 0] rfl)
              · have c_46 : ¬ (S (14 * j + 9)) ≤ (S (14 * n + 9)) := c_46
                refine lv_iload hx hb dX3_borrower_49 (lv_at hl 4 rfl) ?_
                refine lv_istore_n (lv' := [(3, .int (nI n)), (0, .ref th), (1, .ref (y 17)), (2, .int (nI o)), (4, .int (nI n))]) hx hb dX3_borrower_51 rfl hl (by decide) rfl (fun ls hl => ?_)
                refine lv_iinc (v := (nI (n + 1))) (lv' := [(4, .int (nI (n + 1))), (3, .int (nI n)), (0, .ref th), (1, .ref (y 17)), (2, .int (nI o))]) hx hb dX3_borrower_52 hl (k := 4) rfl (nI_1 _) (by decide) rfl (fun ls hl => ?_)
                refine lv_goto (tgt := 6) hx hb dX3_borrower_55 (by decide) ?_
                exact ih (n + 1) (nI n) (by omega) (by omega) (by first | rw [mLg_b c_18 hg, cN_j (by omega)] | rw [mLg_c c_18 hg (by omega) (by rw [mPrep_hi hI (j := 14 * n + 9) (fun u hu => by omega), mPrep_hi hI (j := 14 * j + 9) (fun u hu => by omega)]; exact Int32.not_le.mp c_46), cN_j (by omega)]) _ ls hS (lv_sub hl [2, 3, 4, 1, 0] rfl)
  exact loop ((4 - 0) + 1) 0 (-100005) (by first | exact Nat.lt_succ_self _ | omega) (by omega) rfl _ ls hS (lv_sub hl [2, 3, 4, 1, 0] rfl)
abbrev rmX1_issuer_0 : Room := ({ frames := 2, cells := 0, slots := 0, locals := 46 } : Room)
set_option maxHeartbeats 1000000 in
theorem kX1_issuer_0 (l : Launch) {G : zG} {H0 : Heap} {own y pr u : Nat → Nat} {x tr : Nat} {S C D E : Nat → Int32} (o B : Nat) (ho4 : o < 4) (hI : InvS S B)  (hM : PM G own y x pr S C D E tr H0) (hO : PO G own u x H0) (hxy : y 17 ≠ x) : zM l G yX1_issuer cX1_issuer 3 (some .int) rmX1_issuer_0 H0 [.ref (u (6 + 0)), .ref (y 17), .int (nI o)] (fun v H1 => H0 = H1 ∧ v = some (.int (cIs (mPrep S) o 0))) (zN) := by
  refine zM.start (own := RX1) (by decide) rfl (Nat.le_of_ble_eq_true rfl) ?_
  intro p e s m args below meth c ls Q hx hb hml hr hlk hnm hown hts hK hH hQ hl hS
  have hl : lv_has ls 3 [(0, .ref (u (6 + 0))), (1, .ref (y 17)), (2, .int (nI o))] := hl
  refine lv_aload_n hx hb dX1_issuer_0 rfl (lv_at hl 1 rfl) ?_
  refine lv_iload_n hx hb dX1_issuer_1 rfl (lv_at hl 2 rfl) ?_
  refine zcV 1 ⟨hx, hb, hml, hown, hts, hK⟩ (kX6_isReady l o B (by omega) hI hM) q981 q982 q983 q55 q984 (by decide +kernel) ⟨Nat.le_of_ble_eq_true rfl, Nat.le_of_ble_eq_true rfl⟩ (zrecv hK hM.o rfl) rfl hl.1 (rest := []) rfl (Nat.le_of_ble_eq_true rfl) dX1_issuer_2 ⟨by first | decide | omega, by first | decide | omega⟩ hS (fun _ h => h.elim) (fun v_c H1 locs hp_c hz_c hk_c hS => ?_)
  obtain ⟨rfl, rfl⟩ := hp_c
  refine lv_if_eq (tgt := 12) hx hb dX1_issuer_5 (by decide) (fun c_5 => ?_) (fun c_5 => ?_)
  · have c_5 : ¬ (mPrep S (14 * o) = nI 1) := zb_eq.mp c_5
    refine lv_aload_n hx hb dX1_issuer_12 rfl (lv_at hl 0 rfl) ?_
    refine lv_aload_n hx hb dX1_issuer_13 rfl (lv_at hl 1 rfl) ?_
    refine lv_iload_n hx hb dX1_issuer_14 rfl (lv_at hl 2 rfl) ?_
    refine zcF 2 ⟨hx, hb, hml, hown, hts, hK⟩ (kX4_borrower l (u (6 + 0)) o hM) q990 q1009 q1011 q53 q1013 (hK.i 9 rfl) (by decide +kernel) ⟨Nat.le_of_ble_eq_true rfl, Nat.le_of_ble_eq_true rfl⟩ hO.r0 rfl rfl hl.1 (rest := []) rfl (Nat.le_of_ble_eq_true rfl) dX1_issuer_15 ⟨by first | decide | omega, by first | decide | omega⟩ hS (fun _ h => h.elim) (fun v_c H2 locs hp_c hz_c hk_c hS => ?_)
    obtain ⟨rfl, rfl⟩ := hp_c
    exact zri hx hb hr hlk hH hQ rfl hS ⟨rfl, (congrArg (fun z => some (Value.int z)) (cIs_0 c_5))⟩ (Nat.le_of_ble_eq_true rfl) (Nat.le_of_ble_eq_true rfl) dX1_issuer_20
  · have c_5 : (mPrep S (14 * o) = nI 1) := zb_ne.mp c_5
    refine lv_iload_n hx hb dX1_issuer_8 rfl (lv_at hl 2 rfl) ?_
    refine lv_goto (tgt := 20) hx hb dX1_issuer_9 (by decide) ?_
    exact zri hx hb hr hlk hH hQ rfl hS ⟨rfl, (congrArg (fun z => some (Value.int z)) (cIs_yes ho4 c_5))⟩ (Nat.le_of_ble_eq_true rfl) (Nat.le_of_ble_eq_true rfl) dX1_issuer_20
abbrev rmX1_issuer_1 : Room := ({ frames := 3, cells := 0, slots := 0, locals := 69 } : Room)
set_option maxHeartbeats 1000000 in
theorem kX1_issuer_1 (l : Launch) {G : zG} {H0 : Heap} {own y pr u : Nat → Nat} {x tr : Nat} {S C D E : Nat → Int32} (o B : Nat) (ho4 : o < 4) (hI : InvS S B)  (hM : PM G own y x pr S C D E tr H0) (hO : PO G own u x H0) (hxy : y 17 ≠ x) : zM l G yX1_issuer cX1_issuer 3 (some .int) rmX1_issuer_1 H0 [.ref (u (6 + 1)), .ref (y 17), .int (nI o)] (fun v H1 => H0 = H1 ∧ v = some (.int (cIs (mPrep S) o 1))) (zN) := by
  refine zM.start (own := RX1) (by decide) rfl (Nat.le_of_ble_eq_true rfl) ?_
  intro p e s m args below meth c ls Q hx hb hml hr hlk hnm hown hts hK hH hQ hl hS
  have hl : lv_has ls 3 [(0, .ref (u (6 + 1))), (1, .ref (y 17)), (2, .int (nI o))] := hl
  refine lv_aload_n hx hb dX1_issuer_0 rfl (lv_at hl 1 rfl) ?_
  refine lv_iload_n hx hb dX1_issuer_1 rfl (lv_at hl 2 rfl) ?_
  refine zcV 1 ⟨hx, hb, hml, hown, hts, hK⟩ (kX6_isReady l o B (by omega) hI hM) q981 q982 q983 q55 q984 (by decide +kernel) ⟨Nat.le_of_ble_eq_true rfl, Nat.le_of_ble_eq_true rfl⟩ (zrecv hK hM.o rfl) rfl hl.1 (rest := []) rfl (Nat.le_of_ble_eq_true rfl) dX1_issuer_2 ⟨by first | decide | omega, by first | decide | omega⟩ hS (fun _ h => h.elim) (fun v_c H1 locs hp_c hz_c hk_c hS => ?_)
  obtain ⟨rfl, rfl⟩ := hp_c
  refine lv_if_eq (tgt := 12) hx hb dX1_issuer_5 (by decide) (fun c_5 => ?_) (fun c_5 => ?_)
  · have c_5 : ¬ (mPrep S (14 * o) = nI 1) := zb_eq.mp c_5
    refine lv_aload_n hx hb dX1_issuer_12 rfl (lv_at hl 0 rfl) ?_
    refine lv_aload_n hx hb dX1_issuer_13 rfl (lv_at hl 1 rfl) ?_
    refine lv_iload_n hx hb dX1_issuer_14 rfl (lv_at hl 2 rfl) ?_
    refine zcF 2 ⟨hx, hb, hml, hown, hts, hK⟩ (kX2_borrower l (u (6 + 1)) o B (by omega) hI hM) q990 q1001 q1003 q51 q1005 (hK.i 7 rfl) (by decide +kernel) ⟨Nat.le_of_ble_eq_true rfl, Nat.le_of_ble_eq_true rfl⟩ hO.r1 rfl rfl hl.1 (rest := []) rfl (Nat.le_of_ble_eq_true rfl) dX1_issuer_15 ⟨by first | decide | omega, by first | decide | omega⟩ hS (fun _ h => h.elim) (fun v_c H2 locs hp_c hz_c hk_c hS => ?_)
    obtain ⟨rfl, rfl⟩ := hp_c
    exact zri hx hb hr hlk hH hQ rfl hS ⟨rfl, (congrArg (fun z => some (Value.int z)) (cIs_1 c_5))⟩ (Nat.le_of_ble_eq_true rfl) (Nat.le_of_ble_eq_true rfl) dX1_issuer_20
  · have c_5 : (mPrep S (14 * o) = nI 1) := zb_ne.mp c_5
    refine lv_iload_n hx hb dX1_issuer_8 rfl (lv_at hl 2 rfl) ?_
    refine lv_goto (tgt := 20) hx hb dX1_issuer_9 (by decide) ?_
    exact zri hx hb hr hlk hH hQ rfl hS ⟨rfl, (congrArg (fun z => some (Value.int z)) (cIs_yes ho4 c_5))⟩ (Nat.le_of_ble_eq_true rfl) (Nat.le_of_ble_eq_true rfl) dX1_issuer_20
abbrev rmX1_issuer_2 : Room := ({ frames := 3, cells := 0, slots := 0, locals := 70 } : Room)
set_option maxHeartbeats 1000000 in
theorem kX1_issuer_2 (l : Launch) {G : zG} {H0 : Heap} {own y pr u : Nat → Nat} {x tr : Nat} {S C D E : Nat → Int32} (o B : Nat) (ho4 : o < 4) (hI : InvS S B)  (hM : PM G own y x pr S C D E tr H0) (hO : PO G own u x H0) (hxy : y 17 ≠ x) : zM l G yX1_issuer cX1_issuer 3 (some .int) rmX1_issuer_2 H0 [.ref (u (6 + 2)), .ref (y 17), .int (nI o)] (fun v H1 => H0 = H1 ∧ v = some (.int (cIs (mPrep S) o 2))) (zN) := by
  refine zM.start (own := RX1) (by decide) rfl (Nat.le_of_ble_eq_true rfl) ?_
  intro p e s m args below meth c ls Q hx hb hml hr hlk hnm hown hts hK hH hQ hl hS
  have hl : lv_has ls 3 [(0, .ref (u (6 + 2))), (1, .ref (y 17)), (2, .int (nI o))] := hl
  refine lv_aload_n hx hb dX1_issuer_0 rfl (lv_at hl 1 rfl) ?_
  refine lv_iload_n hx hb dX1_issuer_1 rfl (lv_at hl 2 rfl) ?_
  refine zcV 1 ⟨hx, hb, hml, hown, hts, hK⟩ (kX6_isReady l o B (by omega) hI hM) q981 q982 q983 q55 q984 (by decide +kernel) ⟨Nat.le_of_ble_eq_true rfl, Nat.le_of_ble_eq_true rfl⟩ (zrecv hK hM.o rfl) rfl hl.1 (rest := []) rfl (Nat.le_of_ble_eq_true rfl) dX1_issuer_2 ⟨by first | decide | omega, by first | decide | omega⟩ hS (fun _ h => h.elim) (fun v_c H1 locs hp_c hz_c hk_c hS => ?_)
  obtain ⟨rfl, rfl⟩ := hp_c
  refine lv_if_eq (tgt := 12) hx hb dX1_issuer_5 (by decide) (fun c_5 => ?_) (fun c_5 => ?_)
  · have c_5 : ¬ (mPrep S (14 * o) = nI 1) := zb_eq.mp c_5
    refine lv_aload_n hx hb dX1_issuer_12 rfl (lv_at hl 0 rfl) ?_
    refine lv_aload_n hx hb dX1_issuer_13 rfl (lv_at hl 1 rfl) ?_
    refine lv_iload_n hx hb dX1_issuer_14 rfl (lv_at hl 2 rfl) ?_
    refine zcF 2 ⟨hx, hb, hml, hown, hts, hK⟩ (kX3_borrower l (u (6 + 2)) o B hI hM) q990 q993 q995 q52 q997 (hK.i 8 rfl) (by decide +kernel) ⟨Nat.le_of_ble_eq_true rfl, Nat.le_of_ble_eq_true rfl⟩ hO.r2 rfl rfl hl.1 (rest := []) rfl (Nat.le_of_ble_eq_true rfl) dX1_issuer_15 ⟨by first | decide | omega, by first | decide | omega⟩ hS (fun _ h => h.elim) (fun v_c H2 locs hp_c hz_c hk_c hS => ?_)
    obtain ⟨rfl, rfl⟩ := hp_c
    exact zri hx hb hr hlk hH hQ rfl hS ⟨rfl, (congrArg (fun z => some (Value.int z)) (cIs_2 c_5))⟩ (Nat.le_of_ble_eq_true rfl) (Nat.le_of_ble_eq_true rfl) dX1_issuer_20
  · have c_5 : (mPrep S (14 * o) = nI 1) := zb_ne.mp c_5
    refine lv_iload_n hx hb dX1_issuer_8 rfl (lv_at hl 2 rfl) ?_
    refine lv_goto (tgt := 20) hx hb dX1_issuer_9 (by decide) ?_
    exact zri hx hb hr hlk hH hQ rfl hS ⟨rfl, (congrArg (fun z => some (Value.int z)) (cIs_yes ho4 c_5))⟩ (Nat.le_of_ble_eq_true rfl) (Nat.le_of_ble_eq_true rfl) dX1_issuer_20
abbrev rmX6_issuer : Room := ({ frames := 4, cells := 0, slots := 0, locals := 92 } : Room)
set_option maxHeartbeats 1000000 in
theorem kX6_issuer (l : Launch) {G : zG} {H0 : Heap} {own y pr u : Nat → Nat} {x tr : Nat} {S C D E : Nat → Int32} (B : Nat) (hI : InvS S B) (hB : B < 2147483000)  (hM : PM G own y x pr S C D E tr H0) (hO : PO G own u x H0) (hxy : y 17 ≠ x) : zM l G yX6_issuer cX6_issuer 1 (some .int) rmX6_issuer H0 [.ref (y 17)] (fun v H1 => H0 = H1 ∧ v = some (.int (cN (mIss (mPrep S))))) (zN) := by
  refine zM.start (own := RX6) (by decide) rfl (Nat.le_of_ble_eq_true rfl) ?_
  intro p e s m args below meth c ls Q hx hb hml hr hlk hnm hown hts hK hH hQ hl hS
  obtain ⟨sj, hsj, esj⟩ := hI.2.2.2.2.1
  have how := InvS_own hI (show B < 2147483648 by omega)
  have e2 : mOwn (mPrep S) = mOwn S := mOwn_c (fun j hj => mPrep_hi hI (fun u hu => by omega))
  have e3 : mPrep S 243 = S 243 := mPrep_hi hI (fun u hu => by omega)
  have hl : lv_has ls 1 [(0, .ref (y 17))] := hl
  refine lv_aload_n hx hb dX6_issuer_0 rfl (lv_at hl 0 rfl) ?_
  refine zget hx hb hts hown hK hM.o rfl in_X6 12 (by decide) q345 (fun _ h => h) (v := .ref x) rfl dX6_issuer_1 ?_
  refine zgetN hx hb hts hown hK hO.o rfl in_X0 1 (by decide) (hK.f 38 rfl) (fun _ h => h) (v := .ref (u 1)) rfl dX6_issuer_4 ?_
  refine lv_aload_n hx hb dX6_issuer_7 rfl (lv_at hl 0 rfl) ?_
  refine zget hx hb hts hown hK hM.o rfl in_X6 4 (by decide) q329 (fun _ h => h) (v := .ref (y 4)) rfl dX6_issuer_8 ?_
  refine lv_iconst (v := (nI 1)) hx hb dX6_issuer_11 (by decide) ?_
  refine ziald hx hb hK hM.a4 1 (by omega) (by decide) dX6_issuer_12 ?_
  refine zTop (y := (S (242 + 1))) rfl ?_
  refine zTop (y := (nI sj)) esj ?_
  rcases (show sj = 0 ∨ sj = 1 ∨ sj = 2 by omega) with rfl | rfl | rfl
  · refine zaald (t := 7) hx hb hK (by decide) rfl hO.rul 0 (by omega) (by decide) dX6_issuer_13 ?_
    refine zTopV (y := .ref (u (6 + 0))) rfl ?_
    refine lv_aload_n hx hb dX6_issuer_14 rfl (lv_at hl 0 rfl) ?_
    refine lv_aload_n hx hb dX6_issuer_15 rfl (lv_at hl 0 rfl) ?_
    refine zcV 0 ⟨hx, hb, hml, hown, hts, hK⟩ (kX6_owner l B hI hB hM) q968 q969 q970 q55 q971 (by decide +kernel) ⟨Nat.le_of_ble_eq_true rfl, Nat.le_of_ble_eq_true rfl⟩ (zrecv hK hM.o rfl) rfl hl.1 (rest := [.ref (y 17), .ref (u (6 + 0))]) rfl (Nat.le_of_ble_eq_true rfl) dX6_issuer_16 ⟨by first | decide | omega, by first | decide | omega⟩ hS (fun _ h => h.elim) (fun v_c H1 locs hp_c hz_c hk_c hS => ?_)
    obtain ⟨rfl, rfl⟩ := hp_c
    refine zcFD 2 ⟨hx, hb, hml, hown, hts, hK⟩ (kX1_issuer_0 l (mOwn S) B how hI hM hO hxy) q973 q978 q46 q980 (hK.i 12 rfl) (hK.df 2 rfl) (by decide +kernel) ⟨Nat.le_of_ble_eq_true rfl, Nat.le_of_ble_eq_true rfl⟩ hO.r0 rfl rfl hl.1 (rest := []) rfl (Nat.le_of_ble_eq_true rfl) dX6_issuer_19 ⟨by first | decide | omega, by first | decide | omega⟩ hS (fun _ h => h.elim) (fun v_c H2 locs hp_c hz_c hk_c hS => ?_)
    obtain ⟨rfl, rfl⟩ := hp_c
    exact zri hx hb hr hlk hH hQ rfl hS ⟨rfl, (congrArg (fun z => some (Value.int z)) (by rw [← e2]; exact cIs_m (by omega) (e3.trans esj)))⟩ (Nat.le_of_ble_eq_true rfl) (Nat.le_of_ble_eq_true rfl) dX6_issuer_24
  · refine zaald (t := 7) hx hb hK (by decide) rfl hO.rul 1 (by omega) (by decide) dX6_issuer_13 ?_
    refine zTopV (y := .ref (u (6 + 1))) rfl ?_
    refine lv_aload_n hx hb dX6_issuer_14 rfl (lv_at hl 0 rfl) ?_
    refine lv_aload_n hx hb dX6_issuer_15 rfl (lv_at hl 0 rfl) ?_
    refine zcV 0 ⟨hx, hb, hml, hown, hts, hK⟩ (kX6_owner l B hI hB hM) q968 q969 q970 q55 q971 (by decide +kernel) ⟨Nat.le_of_ble_eq_true rfl, Nat.le_of_ble_eq_true rfl⟩ (zrecv hK hM.o rfl) rfl hl.1 (rest := [.ref (y 17), .ref (u (6 + 1))]) rfl (Nat.le_of_ble_eq_true rfl) dX6_issuer_16 ⟨by first | decide | omega, by first | decide | omega⟩ hS (fun _ h => h.elim) (fun v_c H1 locs hp_c hz_c hk_c hS => ?_)
    obtain ⟨rfl, rfl⟩ := hp_c
    refine zcFD 2 ⟨hx, hb, hml, hown, hts, hK⟩ (kX1_issuer_1 l (mOwn S) B how hI hM hO hxy) q973 q978 q46 q980 (hK.i 10 rfl) (hK.df 0 rfl) (by decide +kernel) ⟨Nat.le_of_ble_eq_true rfl, Nat.le_of_ble_eq_true rfl⟩ hO.r1 rfl rfl hl.1 (rest := []) rfl (Nat.le_of_ble_eq_true rfl) dX6_issuer_19 ⟨by first | decide | omega, by first | decide | omega⟩ hS (fun _ h => h.elim) (fun v_c H2 locs hp_c hz_c hk_c hS => ?_)
    obtain ⟨rfl, rfl⟩ := hp_c
    exact zri hx hb hr hlk hH hQ rfl hS ⟨rfl, (congrArg (fun z => some (Value.int z)) (by rw [← e2]; exact cIs_m (by omega) (e3.trans esj)))⟩ (Nat.le_of_ble_eq_true rfl) (Nat.le_of_ble_eq_true rfl) dX6_issuer_24
  · refine zaald (t := 7) hx hb hK (by decide) rfl hO.rul 2 (by omega) (by decide) dX6_issuer_13 ?_
    refine zTopV (y := .ref (u (6 + 2))) rfl ?_
    refine lv_aload_n hx hb dX6_issuer_14 rfl (lv_at hl 0 rfl) ?_
    refine lv_aload_n hx hb dX6_issuer_15 rfl (lv_at hl 0 rfl) ?_
    refine zcV 0 ⟨hx, hb, hml, hown, hts, hK⟩ (kX6_owner l B hI hB hM) q968 q969 q970 q55 q971 (by decide +kernel) ⟨Nat.le_of_ble_eq_true rfl, Nat.le_of_ble_eq_true rfl⟩ (zrecv hK hM.o rfl) rfl hl.1 (rest := [.ref (y 17), .ref (u (6 + 2))]) rfl (Nat.le_of_ble_eq_true rfl) dX6_issuer_16 ⟨by first | decide | omega, by first | decide | omega⟩ hS (fun _ h => h.elim) (fun v_c H1 locs hp_c hz_c hk_c hS => ?_)
    obtain ⟨rfl, rfl⟩ := hp_c
    refine zcFD 2 ⟨hx, hb, hml, hown, hts, hK⟩ (kX1_issuer_2 l (mOwn S) B how hI hM hO hxy) q973 q978 q46 q980 (hK.i 11 rfl) (hK.df 1 rfl) (by decide +kernel) ⟨Nat.le_of_ble_eq_true rfl, Nat.le_of_ble_eq_true rfl⟩ hO.r2 rfl rfl hl.1 (rest := []) rfl (Nat.le_of_ble_eq_true rfl) dX6_issuer_19 ⟨by first | decide | omega, by first | decide | omega⟩ hS (fun _ h => h.elim) (fun v_c H2 locs hp_c hz_c hk_c hS => ?_)
    obtain ⟨rfl, rfl⟩ := hp_c
    exact zri hx hb hr hlk hH hQ rfl hS ⟨rfl, (congrArg (fun z => some (Value.int z)) (by rw [← e2]; exact cIs_m (by omega) (e3.trans esj)))⟩ (Nat.le_of_ble_eq_true rfl) (Nat.le_of_ble_eq_true rfl) dX6_issuer_24
abbrev rmX6_isAtBreakpoint : Room := ({ frames := 5, cells := 0, slots := 0, locals := 112 } : Room)
set_option maxHeartbeats 1000000 in
theorem kX6_isAtBreakpoint (l : Launch) {G : zG} {H0 : Heap} {own y pr u : Nat → Nat} {x tr : Nat} {S C D E : Nat → Int32} (B : Nat) (hI : InvS S B) (hB : B < 2147483000)  (hM : PM G own y x pr S C D E tr H0) (hO : PO G own u x H0) (hxy : y 17 ≠ x) : zM l G yX6_isAtBreakpoint cX6_isAtBreakpoint 2 (some .boolean) rmX6_isAtBreakpoint H0 [.ref (y 17)] (fun v H1 => H0 = H1 ∧ v = some (.int (zb (mStop S)))) (zN) := by
  refine zM.start (own := RX6) (by decide) rfl (Nat.le_of_ble_eq_true rfl) ?_
  intro p e s m args below meth c ls Q hx hb hml hr hlk hnm hown hts hK hH hQ hl hS
  have how := InvS_own hI (show B < 2147483648 by omega)
  have e2 : mOwn (mPrep S) = mOwn S := mOwn_c (fun j hj => mPrep_hi hI (fun u hu => by omega))
  have hl : lv_has ls 2 [(0, .ref (y 17))] := hl
  refine lv_aload_n hx hb dX6_isAtBreakpoint_0 rfl (lv_at hl 0 rfl) ?_
  refine zcV 0 ⟨hx, hb, hml, hown, hts, hK⟩ (kX6_issuer l B hI hB hM hO hxy) q964 q965 q966 q55 q967 (by decide +kernel) ⟨Nat.le_of_ble_eq_true rfl, Nat.le_of_ble_eq_true rfl⟩ (zrecv hK hM.o rfl) rfl hl.1 (rest := []) rfl (Nat.le_of_ble_eq_true rfl) dX6_isAtBreakpoint_1 ⟨by first | decide | omega, by first | decide | omega⟩ hS (fun _ h => h.elim) (fun v_c H1 locs hp_c hz_c hk_c hS => ?_)
  obtain ⟨rfl, rfl⟩ := hp_c
  rcases mIss_in (mPrep S) (by rw [e2]; exact how) with hg | ⟨j, hj, hg⟩
  · refine zTop (y := (-100005)) (by rw [hg]; rfl) ?_
    refine lv_istore_n (lv' := [(1, .int (-100005)), (0, .ref (y 17))]) hx hb dX6_isAtBreakpoint_4 rfl hl (by decide) rfl (fun ls hl => ?_)
    refine lv_iload_n hx hb dX6_isAtBreakpoint_5 rfl (lv_at hl 0 rfl) ?_
    refine lv_ldc (v := (-100005)) hx hb hown (hts _ q1017) dX6_isAtBreakpoint_6 ?_
    refine lv_icmp_eq (tgt := 46) hx hb dX6_isAtBreakpoint_8 (by decide) (fun _ => ?_) (fun z => absurd (by decide) z)
    refine lv_iconst (v := (nI 0)) hx hb dX6_isAtBreakpoint_46 (by decide) ?_
    exact zri hx hb hr hlk hH hQ rfl hS ⟨rfl, (congrArg (fun z => some (Value.int z)) (by first | exact zb_f (fun z => by have h2 := z.1; unfold mPl at h2; rw [if_pos hg] at h2; omega) | exact zb_f (fun z => by have h2 := z.1; omega) | exact zb_t ⟨by omega, by rw [ep]; exact (hI.2.2.2.2.2.2.1 cn (by omega)).resolve_left c_39⟩ | exact zb_f (fun z => absurd (c_39.symm.trans (ep ▸ z.2)) (by decide))))⟩ (Nat.le_of_ble_eq_true rfl) (Nat.le_of_ble_eq_true rfl) dX6_isAtBreakpoint_47
  · refine zTop (y := nI j) (by rw [hg]; exact cN_j hj) ?_
    obtain ⟨cn, hcn, ecn⟩ := (hI.t hj).1
    have ep : mPl S = cn := by unfold mPl; rw [hg, if_neg (m1_ne hj), nI_clamp (by omega), ecn, nI_clamp (by omega)]
    refine lv_istore_n (lv' := [(1, .int (nI j)), (0, .ref (y 17))]) hx hb dX6_isAtBreakpoint_4 rfl hl (by decide) rfl (fun ls hl => ?_)
    refine lv_iload_n hx hb dX6_isAtBreakpoint_5 rfl (lv_at hl 0 rfl) ?_
    refine lv_ldc (v := (-100005)) hx hb hown (hts _ q1017) dX6_isAtBreakpoint_6 ?_
    refine lv_icmp_eq (tgt := 46) hx hb dX6_isAtBreakpoint_8 (by decide) (fun c_8 => ?_) (fun c_8 => ?_)
    · have c_8 : (nI j) = (-100005) := c_8
      exact absurd c_8 (n5_ne (by omega))
    · have c_8 : ¬ (nI j) = (-100005) := c_8
      refine lv_aload_n hx hb dX6_isAtBreakpoint_11 rfl (lv_at hl 1 rfl) ?_
      refine zget hx hb hts hown hK hM.o rfl in_X6 0 (by decide) q320 (fun _ h => h) (v := .ref (y 0)) rfl dX6_isAtBreakpoint_12 ?_
      refine lv_iload_n hx hb dX6_isAtBreakpoint_15 rfl (lv_at hl 0 rfl) ?_
      refine zaald (t := 4) hx hb hK (by decide) rfl hM.ls j (by omega) (by decide) dX6_isAtBreakpoint_16 ?_
      refine zTopV (y := .ref (y (9 + j))) rfl ?_
      refine zgetN hx hb hts hown hK (hM.l (t := j) (by omega)) rfl in_X7 1 (by decide) (hK.f 29 rfl) (fun _ h => h) (v := .int (S (14 * j + 1))) rfl dX6_isAtBreakpoint_17 ?_
      refine zTop (y := (nI cn)) ecn ?_
      refine lv_bipush (v := (nI 48)) hx hb dX6_isAtBreakpoint_20 (by decide) ?_
      refine lv_icmp_ge (tgt := 46) hx hb dX6_isAtBreakpoint_22 (by decide) (fun c_22 => ?_) (fun c_22 => ?_)
      · have c_22 : 48 ≤ cn := (nI_leI (by omega) (by omega)).mp c_22
        refine lv_iconst (v := (nI 0)) hx hb dX6_isAtBreakpoint_46 (by decide) ?_
        exact zri hx hb hr hlk hH hQ rfl hS ⟨rfl, (congrArg (fun z => some (Value.int z)) (by first | exact zb_f (fun z => by have h2 := z.1; unfold mPl at h2; rw [if_pos hg] at h2; omega) | exact zb_f (fun z => by have h2 := z.1; omega) | exact zb_t ⟨by omega, by rw [ep]; exact (hI.2.2.2.2.2.2.1 cn (by omega)).resolve_left c_39⟩ | exact zb_f (fun z => absurd (c_39.symm.trans (ep ▸ z.2)) (by decide))))⟩ (Nat.le_of_ble_eq_true rfl) (Nat.le_of_ble_eq_true rfl) dX6_isAtBreakpoint_47
      · have c_22 : ¬ (48 ≤ cn) := fun z => c_22 ((nI_leI (by omega) (by omega)).mpr z)
        refine lv_aload_n hx hb dX6_isAtBreakpoint_25 rfl (lv_at hl 1 rfl) ?_
        refine zget hx hb hts hown hK hM.o rfl in_X6 5 (by decide) q331 (fun _ h => h) (v := .ref (y 5)) rfl dX6_isAtBreakpoint_26 ?_
        refine lv_aload_n hx hb dX6_isAtBreakpoint_29 rfl (lv_at hl 1 rfl) ?_
        refine zget hx hb hts hown hK hM.o rfl in_X6 0 (by decide) q320 (fun _ h => h) (v := .ref (y 0)) rfl dX6_isAtBreakpoint_30 ?_
        refine lv_iload_n hx hb dX6_isAtBreakpoint_33 rfl (lv_at hl 0 rfl) ?_
        refine zaald (t := 4) hx hb hK (by decide) rfl hM.ls j (by omega) (by decide) dX6_isAtBreakpoint_34 ?_
        refine zTopV (y := .ref (y (9 + j))) rfl ?_
        refine zgetN hx hb hts hown hK (hM.l (t := j) (by omega)) rfl in_X7 1 (by decide) (hK.f 29 rfl) (fun _ h => h) (v := .int (S (14 * j + 1))) rfl dX6_isAtBreakpoint_35 ?_
        refine zTop (y := (nI cn)) ecn ?_
        refine zzald hx hb hK hM.a5 cn (by omega) (by decide) dX6_isAtBreakpoint_38 ?_
        refine zTop (y := (S (244 + cn))) rfl ?_
        refine lv_if_eq (tgt := 46) hx hb dX6_isAtBreakpoint_39 (by decide) (fun c_39 => ?_) (fun c_39 => ?_)
        · have c_39 : (S (244 + cn)) = (nI 0) := c_39
          refine lv_iconst (v := (nI 0)) hx hb dX6_isAtBreakpoint_46 (by decide) ?_
          exact zri hx hb hr hlk hH hQ rfl hS ⟨rfl, (congrArg (fun z => some (Value.int z)) (by first | exact zb_f (fun z => by have h2 := z.1; unfold mPl at h2; rw [if_pos hg] at h2; omega) | exact zb_f (fun z => by have h2 := z.1; omega) | exact zb_t ⟨by omega, by rw [ep]; exact (hI.2.2.2.2.2.2.1 cn (by omega)).resolve_left c_39⟩ | exact zb_f (fun z => absurd (c_39.symm.trans (ep ▸ z.2)) (by decide))))⟩ (Nat.le_of_ble_eq_true rfl) (Nat.le_of_ble_eq_true rfl) dX6_isAtBreakpoint_47
        · have c_39 : ¬ (S (244 + cn)) = (nI 0) := c_39
          refine lv_iconst (v := (nI 1)) hx hb dX6_isAtBreakpoint_42 (by decide) ?_
          refine lv_goto (tgt := 47) hx hb dX6_isAtBreakpoint_43 (by decide) ?_
          exact zri hx hb hr hlk hH hQ rfl hS ⟨rfl, (congrArg (fun z => some (Value.int z)) (by first | exact zb_f (fun z => by have h2 := z.1; unfold mPl at h2; rw [if_pos hg] at h2; omega) | exact zb_f (fun z => by have h2 := z.1; omega) | exact zb_t ⟨by omega, by rw [ep]; exact (hI.2.2.2.2.2.2.1 cn (by omega)).resolve_left c_39⟩ | exact zb_f (fun z => absurd (c_39.symm.trans (ep ▸ z.2)) (by decide))))⟩ (Nat.le_of_ble_eq_true rfl) (Nat.le_of_ble_eq_true rfl) dX6_isAtBreakpoint_47
