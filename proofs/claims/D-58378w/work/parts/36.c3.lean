/-! the component's methods, III: cycles -/
set_option maxRecDepth 100000
abbrev rmX6_step : Room := ({ frames := 5, cells := 0, slots := 0, locals := 112 } : Room)
set_option maxHeartbeats 1000000 in
theorem kX6_step (l : Launch) {G : zG} {H0 : Heap} {own y pr u : Nat → Nat} {x tr : Nat} {S C D E : Nat → Int32} (B : Nat) (hI : InvS S B) (hB : B < 2147483000) (hT : TrR S C D E tr) (htr : tr ≤ B) (hM : PM G own y x pr S C D E tr H0) (hO : PO G own u x H0) (hxy : y 17 ≠ x) : zM l G yX6_step cX6_step 3 none rmX6_step H0 [.ref (y 17)] (fun v H1 => ∃ (C1 D1 E1 : Nat → Int32) (tr1 : Nat), v = none ∧ PM G own y x pr (mCyc S) C1 D1 E1 tr1 H1 ∧ TrR (mCyc S) C1 D1 E1 tr1 ∧ tr1 ≤ B + 1) (pA own y) := by
  refine zM.start (own := RX6) (by decide) rfl (Nat.le_of_ble_eq_true rfl) ?_
  intro p e s m args below meth c ls Q hx hb hml hr hlk hnm hown hts hK hH hQ hl hS
  have hI1 := InvS_prep hI
  have eid := mPrep_idem hI
  obtain ⟨S1, eS1⟩ : ∃ S1, S1 = mPrep S := ⟨_, rfl⟩
  rw [← eS1] at eid
  have hI1 : InvS S1 B := by rw [eS1]; exact hI1
  have how := InvS_own hI1 (show B < 2147483648 by omega)
  obtain ⟨ii, eii⟩ : ∃ ii, ii = mIss S1 := ⟨_, rfl⟩
  have hIss : ii = (-1) ∨ ∃ j : Nat, j < 4 ∧ ii = nI j := by rw [eii]; exact mIss_in S1 how
  have hTo : ∀ j, 292 ≤ j → mStN S1 ii 4 j = S j := fun j hj => by rw [mStN_off 4 j (fun t ht => by omega), eS1, mPrep_hi hI (fun t ht => by omega)]
  have eT : mIss (mPrep S) = ii := by rw [eii, ← eS1]
  have hl : lv_has ls 3 [(0, .ref (y 17))] := hl
  refine lv_aload_n hx hb dX6_step_0 rfl (lv_at hl 0 rfl) ?_
  refine zcV 0 ⟨hx, hb, hml, hown, hts, hK⟩ (kX6_makeReady l B hI hM) q1022 q1024 qs15 q55 q1025 (by decide +kernel) ⟨Nat.le_of_ble_eq_true rfl, Nat.le_of_ble_eq_true rfl⟩ (zrecv hK hM.o rfl) rfl hl.1 (rest := []) rfl (Nat.le_of_ble_eq_true rfl) dX6_step_1 ⟨by first | decide | omega, by first | decide | omega⟩ hS (fun _ h => h) (fun v_c H1 locs hp_c hz_c hk_c hS => ?_)
  have hO := hO.call hM.z hxy hz_c hk_c
  obtain ⟨rfl, hM⟩ := hp_c
  rw [← eS1] at hM
  refine lv_aload_n hx hb dX6_step_4 rfl (lv_at hl 0 rfl) ?_
  refine zcV 0 ⟨hx, hb, hml, hown, hts, hK⟩ (kX6_issuer l B hI1 hB hM hO hxy) q964 q965 q966 q55 q967 (by decide +kernel) ⟨Nat.le_of_ble_eq_true rfl, Nat.le_of_ble_eq_true rfl⟩ (zrecv hK hM.o rfl) rfl hl.1 (rest := []) rfl (Nat.le_of_ble_eq_true rfl) dX6_step_5 ⟨by first | decide | omega, by first | decide | omega⟩ hS (fun _ h => h.elim) (fun v_c H2 locs hp_c hz_c hk_c hS => ?_)
  obtain ⟨rfl, rfl⟩ := hp_c
  refine zTop (y := (cN ii)) (by rw [eid, ← eii]) ?_
  refine lv_istore_n (lv' := [(1, .int (cN ii)), (0, .ref (y 17))]) hx hb dX6_step_8 rfl hl (by decide) rfl (fun ls hl => ?_)
  refine lv_iconst (v := (nI 0)) hx hb dX6_step_9 (by decide) ?_
  refine lv_istore_n (lv' := [(2, .int (nI 0)), (1, .int (cN ii)), (0, .ref (y 17))]) hx hb dX6_step_10 rfl hl (by decide) rfl (fun ls hl => ?_)
  have loop : ∀ (nn : Nat) (n : Nat), 4 - n < nn → (n ≤ 4) → ∀ (H : Heap) (locs : List Loc) (ls : Array Slot), (PM G own y x pr (mStN S1 ii n) C D E tr H ∧ PO G own u x H) → va_S (pA own y) H0 H locs → lv_has ls 3 [(0, .ref (y 17)), (1, .int (cN ii)), (2, .int (nI n))] → W p l e rmX6_step s m args below meth c H locs 0 0 Q (F0 m 11 ls []) := by
    intro nn
    induction nn with
    | zero => intro n hfu; exact absurd hfu (Nat.not_lt_zero _)
    | succ nn ih =>
      intro n hfu hn H locs ls hM hS hl
      obtain ⟨hM, hO⟩ := hM
      refine lv_iload_n hx hb dX6_step_11 rfl (lv_at hl 2 rfl) ?_
      refine lv_iconst (v := (nI 4)) hx hb dX6_step_12 (by decide) ?_
      refine lv_icmp_ge (tgt := 54) hx hb dX6_step_13 (by decide) (fun c_13 => ?_) (fun c_13 => ?_)
      · have c_13 : 4 ≤ n := (nI_leI (by omega) (by omega)).mp c_13
        obtain rfl : n = 4 := by omega
        obtain ⟨S2, eS2⟩ : ∃ S2, S2 = mStN S1 ii 4 := ⟨_, rfl⟩
        have hI2 : InvS S2 B := by rw [eS2]; exact InvS_stN hI1
        rw [← eS2] at hM hTo
        rcases hIss with hi1 | ⟨j, hj, hi1⟩
        · rw [show cN ii = (-100005) from by rw [hi1]; rfl] at hl
          refine lv_iload_n hx hb dX6_step_54 rfl (lv_at hl 1 rfl) ?_
          refine lv_ldc (v := (-100005)) hx hb hown (hts _ q1017) dX6_step_55 ?_
          refine lv_icmp_ne (tgt := 73) hx hb dX6_step_57 (by decide) (fun z => absurd (by decide) z) (fun _ => ?_)
          refine lv_aload_n hx hb dX6_step_60 rfl (lv_at hl 0 rfl) ?_
          refine lv_dup hx hb dX6_step_61 rfl ?_
          refine zget hx hb hts hown hK hM.o rfl in_X6 7 (by decide) q335 (fun _ h => h) (v := .int (S2 233)) rfl dX6_step_62 ?_
          refine lv_iconst (v := (nI 1)) hx hb dX6_step_65 (by decide) ?_
          refine lv_iadd hx hb dX6_step_66 ?_
          refine zput hx hb hts hown hK hM.o hS (hM.w (by decide)) rfl in_X6 tyX6_ok nmX6 7 (by decide) q335 (fun _ h => h) rfl rfl rfl (Nat.le_of_ble_eq_true rfl) dX6_step_67 (fun H3 locs h_o hz_o hq_o hS => ?_)
          have hO := hO.put1 (hM.w (by decide)) hM.z hxy hz_o hq_o
          have hM := hM.putId h_o hq_o
          refine lv_goto (tgt := 78) hx hb dX6_step_70 (by decide) ?_
          refine lv_aload_n hx hb dX6_step_78 rfl (lv_at hl 0 rfl) ?_
          refine lv_dup hx hb dX6_step_79 rfl ?_
          refine zget hx hb hts hown hK hM.o rfl in_X6 6 (by decide) q333 (fun _ h => h) (v := .int ((upd S2 233 ((S2 233) + (nI 1))) 232)) rfl dX6_step_80 ?_
          refine zTop (y := (S2 232)) (upd_n (by omega)) ?_
          refine lv_iconst (v := (nI 1)) hx hb dX6_step_83 (by decide) ?_
          refine lv_iadd hx hb dX6_step_84 ?_
          refine zput hx hb hts hown hK hM.o hS (hM.w (by decide)) rfl in_X6 tyX6_ok nmX6 6 (by decide) q333 (fun _ h => h) rfl rfl rfl (Nat.le_of_ble_eq_true rfl) dX6_step_85 (fun H4 locs h_o hz_o hq_o hS => ?_)
          have hO := hO.put1 (hM.w (by decide)) hM.z hxy hz_o hq_o
          have hM := hM.putCy h_o hq_o
          have e9 : upd (upd S2 233 ((S2 233) + (nI 1))) 232 ((S2 232) + (nI 1)) = mCyc S := cCyc_a (by rw [eT, hi1]) (by rw [eS2, ← eS1, hi1])
          have hT9 := hT.to (S' := mCyc S) (fun j h1 h2 => by rw [← e9, upd_n (by omega), upd_n (by omega)]; exact hTo j h1)
          rw [e9] at hM
          exact zrv hx hb hr hlk hH hQ hS ⟨_, _, _, _, rfl, hM, hT9, (by omega)⟩ (Nat.le_of_ble_eq_true rfl) (Nat.le_of_ble_eq_true rfl) dX6_step_88
        · rw [show cN ii = nI j from by rw [hi1]; exact cN_j hj] at hl
          refine lv_iload_n hx hb dX6_step_54 rfl (lv_at hl 1 rfl) ?_
          refine lv_ldc (v := (-100005)) hx hb hown (hts _ q1017) dX6_step_55 ?_
          refine lv_icmp_ne (tgt := 73) hx hb dX6_step_57 (by decide) (fun c_57 => ?_) (fun c_57 => ?_)
          · have c_57 : ¬ (nI j) = (-100005) := c_57
            refine lv_aload_n hx hb dX6_step_73 rfl (lv_at hl 0 rfl) ?_
            refine lv_iload_n hx hb dX6_step_74 rfl (lv_at hl 1 rfl) ?_
            refine zcV 1 ⟨hx, hb, hml, hown, hts, hK⟩ (kX6_execute l j B (by omega) hI2 hB (hT.to (fun j h1 h2 => hTo j h1)) (by omega) hM hO hxy) q1031 q1033 qs16 q55 q1034 (by decide +kernel) ⟨Nat.le_of_ble_eq_true rfl, Nat.le_of_ble_eq_true rfl⟩ (zrecv hK hM.o rfl) rfl hl.1 (rest := []) rfl (Nat.le_of_ble_eq_true rfl) dX6_step_75 ⟨by first | decide | omega, by first | decide | omega⟩ hS (fun _ h => h) (fun v_c H3 locs hp_c hz_c hk_c hS => ?_)
            have hO := hO.call hM.z hxy hz_c hk_c
            obtain ⟨C1_2, D1_2, E1_2, rfl, hM, hp0_2⟩ := hp_c
            obtain ⟨S3, eS3⟩ : ∃ S3, S3 = mEx (upd (upd (upd S2 (14 * j + 9) (S2 232)) (14 * j + 12) (S2 (14 * j + 12) + nI 1)) (14 * j + 13) (S2 (14 * j + 13) + (if nI j = nI (mOwn S2) then nI 0 else nI 1))) j := ⟨_, rfl⟩
            have hT9 := hp0_2
            rw [← eS3] at hM hT9
            refine lv_aload_n hx hb dX6_step_78 rfl (lv_at hl 0 rfl) ?_
            refine lv_dup hx hb dX6_step_79 rfl ?_
            refine zget hx hb hts hown hK hM.o rfl in_X6 6 (by decide) q333 (fun _ h => h) (v := .int (S3 232)) rfl dX6_step_80 ?_
            refine lv_iconst (v := (nI 1)) hx hb dX6_step_83 (by decide) ?_
            refine lv_iadd hx hb dX6_step_84 ?_
            refine zput hx hb hts hown hK hM.o hS (hM.w (by decide)) rfl in_X6 tyX6_ok nmX6 6 (by decide) q333 (fun _ h => h) rfl rfl rfl (Nat.le_of_ble_eq_true rfl) dX6_step_85 (fun H4 locs h_o hz_o hq_o hS => ?_)
            have hO := hO.put1 (hM.w (by decide)) hM.z hxy hz_o hq_o
            have hM := hM.putCy h_o hq_o
            have e9 : upd S3 232 ((S3 232) + (nI 1)) = mCyc S := cCyc_b hj (by rw [eT, hi1]) (by rw [eS2, ← eS1, hi1]) eS3
            have hT9 := hT9.to (S' := mCyc S) (fun j h1 h2 => by rw [← e9]; exact upd_n (by omega))
            rw [e9] at hM
            exact zrv hx hb hr hlk hH hQ hS ⟨_, _, _, _, rfl, hM, hT9, (by omega)⟩ (Nat.le_of_ble_eq_true rfl) (Nat.le_of_ble_eq_true rfl) dX6_step_88
          · have c_57 : (nI j) = (-100005) := c_57
            exact absurd c_57 (n5_ne (by omega))
      · have c_13 : ¬ (4 ≤ n) := fun z => c_13 ((nI_leI (by omega) (by omega)).mpr z)
        refine lv_aload_n hx hb dX6_step_16 rfl (lv_at hl 0 rfl) ?_
        refine zget hx hb hts hown hK hM.o rfl in_X6 0 (by decide) q320 (fun _ h => h) (v := .ref (y 0)) rfl dX6_step_17 ?_
        refine lv_iload_n hx hb dX6_step_20 rfl (lv_at hl 2 rfl) ?_
        refine zaald (t := 4) hx hb hK (by decide) rfl hM.ls n (by omega) (by decide) dX6_step_21 ?_
        refine zTopV (y := .ref (y (9 + n))) rfl ?_
        refine lv_aload_n hx hb dX6_step_22 rfl (lv_at hl 0 rfl) ?_
        refine zget hx hb hts hown hK hM.o rfl in_X6 0 (by decide) q320 (fun _ h => h) (v := .ref (y 0)) rfl dX6_step_23 ?_
        refine lv_iload_n hx hb dX6_step_26 rfl (lv_at hl 2 rfl) ?_
        refine zaald (t := 4) hx hb hK (by decide) rfl hM.ls n (by omega) (by decide) dX6_step_27 ?_
        refine zTopV (y := .ref (y (9 + n))) rfl ?_
        refine zgetN hx hb hts hown hK (hM.l (t := n) (by omega)) rfl in_X7 2 (by decide) (hK.f 30 rfl) (fun _ h => h) (v := .int ((mStN S1 ii n) (14 * n))) rfl dX6_step_28 ?_
        refine lv_iconst (v := (nI 1)) hx hb dX6_step_31 (by decide) ?_
        refine lv_icmp_ne (tgt := 44) hx hb dX6_step_32 (by decide) (fun c_32 => ?_) (fun c_32 => ?_)
        · have c_32 : ¬ ((mStN S1 ii n) (14 * n)) = (nI 1) := c_32
          refine lv_iconst (v := (nI 0)) hx hb dX6_step_44 (by decide) ?_
          refine zcV 1 ⟨hx, hb, hml, hown, hts, hK⟩ (kX7_starve_0 l n (by omega) hM) q1026 q1027 q1028 q56 q1029 (by decide +kernel) ⟨Nat.le_of_ble_eq_true rfl, Nat.le_of_ble_eq_true rfl⟩ (zrecv hK (hM.l (t := n) (by omega)) rfl) rfl hl.1 (rest := []) rfl (Nat.le_of_ble_eq_true rfl) dX6_step_45 ⟨by first | decide | omega, by first | decide | omega⟩ hS (fun _ h => h) (fun v_c H3 locs hp_c hz_c hk_c hS => ?_)
          have hO := hO.call hM.z hxy hz_c hk_c
          obtain ⟨rfl, hM⟩ := hp_c
          rw [cSt_m (i := ii) (by first | exact (if_pos ⟨c_32, fun z => c_37 ((cN_iff (by omega)).mpr z)⟩).symm | exact (if_neg (fun z => c_32 z.1)).symm | exact (if_neg (fun z => z.2 ((cN_iff (by omega)).mp c_37))).symm)] at hM
          refine lv_iinc (v := (nI (n + 1))) (lv' := [(2, .int (nI (n + 1))), (0, .ref (y 17)), (1, .int (cN ii))]) hx hb dX6_step_48 hl (k := 2) rfl (nI_1 _) (by decide) rfl (fun ls hl => ?_)
          refine lv_goto (tgt := 11) hx hb dX6_step_51 (by decide) ?_
          exact ih (n + 1) (by omega) (by omega) _ _ ls ⟨hM, hO⟩ hS (lv_sub hl [1, 2, 0] rfl)
        · have c_32 : ((mStN S1 ii n) (14 * n)) = (nI 1) := c_32
          refine lv_iload_n hx hb dX6_step_35 rfl (lv_at hl 2 rfl) ?_
          refine lv_iload_n hx hb dX6_step_36 rfl (lv_at hl 1 rfl) ?_
          refine lv_icmp_eq (tgt := 44) hx hb dX6_step_37 (by decide) (fun c_37 => ?_) (fun c_37 => ?_)
          · have c_37 : (nI n) = (cN ii) := c_37
            refine lv_iconst (v := (nI 0)) hx hb dX6_step_44 (by decide) ?_
            refine zcV 1 ⟨hx, hb, hml, hown, hts, hK⟩ (kX7_starve_0 l n (by omega) hM) q1026 q1027 q1028 q56 q1029 (by decide +kernel) ⟨Nat.le_of_ble_eq_true rfl, Nat.le_of_ble_eq_true rfl⟩ (zrecv hK (hM.l (t := n) (by omega)) rfl) rfl hl.1 (rest := []) rfl (Nat.le_of_ble_eq_true rfl) dX6_step_45 ⟨by first | decide | omega, by first | decide | omega⟩ hS (fun _ h => h) (fun v_c H3 locs hp_c hz_c hk_c hS => ?_)
            have hO := hO.call hM.z hxy hz_c hk_c
            obtain ⟨rfl, hM⟩ := hp_c
            rw [cSt_m (i := ii) (by first | exact (if_pos ⟨c_32, fun z => c_37 ((cN_iff (by omega)).mpr z)⟩).symm | exact (if_neg (fun z => c_32 z.1)).symm | exact (if_neg (fun z => z.2 ((cN_iff (by omega)).mp c_37))).symm)] at hM
            refine lv_iinc (v := (nI (n + 1))) (lv' := [(2, .int (nI (n + 1))), (0, .ref (y 17)), (1, .int (cN ii))]) hx hb dX6_step_48 hl (k := 2) rfl (nI_1 _) (by decide) rfl (fun ls hl => ?_)
            refine lv_goto (tgt := 11) hx hb dX6_step_51 (by decide) ?_
            exact ih (n + 1) (by omega) (by omega) _ _ ls ⟨hM, hO⟩ hS (lv_sub hl [1, 2, 0] rfl)
          · have c_37 : ¬ (nI n) = (cN ii) := c_37
            refine lv_iconst (v := (nI 1)) hx hb dX6_step_40 (by decide) ?_
            refine lv_goto (tgt := 45) hx hb dX6_step_41 (by decide) ?_
            refine zcV 1 ⟨hx, hb, hml, hown, hts, hK⟩ (kX7_starve_1 l n (by omega) hM) q1026 q1027 q1028 q56 q1029 (by decide +kernel) ⟨Nat.le_of_ble_eq_true rfl, Nat.le_of_ble_eq_true rfl⟩ (zrecv hK (hM.l (t := n) (by omega)) rfl) rfl hl.1 (rest := []) rfl (Nat.le_of_ble_eq_true rfl) dX6_step_45 ⟨by first | decide | omega, by first | decide | omega⟩ hS (fun _ h => h) (fun v_c H3 locs hp_c hz_c hk_c hS => ?_)
            have hO := hO.call hM.z hxy hz_c hk_c
            obtain ⟨rfl, hM⟩ := hp_c
            rw [cSt_m (i := ii) (by first | exact (if_pos ⟨c_32, fun z => c_37 ((cN_iff (by omega)).mpr z)⟩).symm | exact (if_neg (fun z => c_32 z.1)).symm | exact (if_neg (fun z => z.2 ((cN_iff (by omega)).mp c_37))).symm)] at hM
            refine lv_iinc (v := (nI (n + 1))) (lv' := [(2, .int (nI (n + 1))), (0, .ref (y 17)), (1, .int (cN ii))]) hx hb dX6_step_48 hl (k := 2) rfl (nI_1 _) (by decide) rfl (fun ls hl => ?_)
            refine lv_goto (tgt := 11) hx hb dX6_step_51 (by decide) ?_
            exact ih (n + 1) (by omega) (by omega) _ _ ls ⟨hM, hO⟩ hS (lv_sub hl [1, 2, 0] rfl)
  exact loop ((4 - 0) + 1) 0 (by first | exact Nat.lt_succ_self _ | omega) (by omega) _ _ ls ⟨hM, hO⟩ hS (lv_sub hl [2, 1, 0] rfl)
abbrev rmX6_runOut : Room := ({ frames := 6, cells := 0, slots := 0, locals := 134 } : Room)
set_option maxHeartbeats 1000000 in
theorem kX6_runOut (l : Launch) {G : zG} {H0 : Heap} {own y pr u : Nat → Nat} {x tr : Nat} {S C D E : Nat → Int32} (B : Nat) (hI : InvS S B) (hB : B < 2147000000) (hT : TrR S C D E tr) (htr : tr ≤ B) (hM : PM G own y x pr S C D E tr H0) (hO : PO G own u x H0) (hxy : y 17 ≠ x) : zM l G yX6_runOut cX6_runOut 2 (some .int) rmX6_runOut H0 [.ref (y 17)] (fun v H1 => ∃ (C1 D1 E1 : Nat → Int32) (tr1 : Nat), v = some (.int (mRes S)) ∧ PM G own y x pr (mFin S 500) C1 D1 E1 tr1 H1) (pA own y) := by
  refine zM.start (own := RX6) (by decide) rfl (Nat.le_of_ble_eq_true rfl) ?_
  intro p e s m args below meth c ls Q hx hb hml hr hlk hnm hown hts hK hH hQ hl hS
  have hl : lv_has ls 2 [(0, .ref (y 17))] := hl
  refine lv_iconst (v := (nI 0)) hx hb dX6_runOut_0 (by decide) ?_
  refine lv_istore_n (lv' := [(1, .int (nI 0)), (0, .ref (y 17))]) hx hb dX6_runOut_1 rfl hl (by decide) rfl (fun ls hl => ?_)
  have loop : ∀ (nn : Nat) (k : Nat) (S1 C1 D1 E1 : Nat → Int32) (tr1 : Nat), 501 - k < nn → (k ≤ 500) → (mFin S1 (500 - k) = mFin S 500) → (k + mNum S1 (500 - k) = mNum S 500) → (InvS S1 (B + k)) → (TrR S1 C1 D1 E1 tr1) → (tr1 ≤ B + k) → ∀ (H : Heap) (locs : List Loc) (ls : Array Slot), (PM G own y x pr S1 C1 D1 E1 tr1 H ∧ PO G own u x H) → va_S (pA own y) H0 H locs → lv_has ls 2 [(0, .ref (y 17)), (1, .int (nI k))] → W p l e rmX6_runOut s m args below meth c H locs 0 0 Q (F0 m 2 ls []) := by
    intro nn
    induction nn with
    | zero => intro k S1 C1 D1 E1 tr1 hfu; exact absurd hfu (Nat.not_lt_zero _)
    | succ nn ih =>
      intro k S1 C1 D1 E1 tr1 hfu hk hf hn hJ hT1 htr1 H locs ls hM hS hl
      obtain ⟨hM, hO⟩ := hM
      refine lv_aload_n hx hb dX6_runOut_2 rfl (lv_at hl 0 rfl) ?_
      refine zcV 0 ⟨hx, hb, hml, hown, hts, hK⟩ (kX6_isOver l  hM) q1164 q957 q958 q55 q959 (by decide +kernel) ⟨Nat.le_of_ble_eq_true rfl, Nat.le_of_ble_eq_true rfl⟩ (zrecv hK hM.o rfl) rfl hl.1 (rest := []) rfl (Nat.le_of_ble_eq_true rfl) dX6_runOut_3 ⟨by first | decide | omega, by first | decide | omega⟩ hS (fun _ h => h.elim) (fun v_c H1 locs hp_c hz_c hk_c hS => ?_)
      obtain ⟨rfl, rfl⟩ := hp_c
      refine lv_if_ne (tgt := 29) hx hb dX6_runOut_6 (by decide) (fun c_6 => ?_) (fun c_6 => ?_)
      · have c_6 : (mMany S1 (nI 0) 4 = 4) := zb_ne.mp c_6
        refine lv_iload_n hx hb dX6_runOut_29 rfl (lv_at hl 1 rfl) ?_
        exact zri hx hb hr hlk hH hQ rfl hS (by
              have e9 : mFin S 500 = S1 := hf.symm.trans (mFin_o c_6 _)
              have e8 := mNum_o c_6 (500 - k)
              rw [mRes, e9, if_pos c_6, ← hn, e8]
              exact ⟨_, _, _, _, rfl, hM⟩) (Nat.le_of_ble_eq_true rfl) (Nat.le_of_ble_eq_true rfl) dX6_runOut_30
      · have c_6 : ¬ (mMany S1 (nI 0) 4 = 4) := zb_eq.mp c_6
        refine lv_iload_n hx hb dX6_runOut_9 rfl (lv_at hl 1 rfl) ?_
        refine lv_sipush (v := (nI 500)) hx hb dX6_runOut_10 (by decide) ?_
        refine lv_icmp_ne (tgt := 19) hx hb dX6_runOut_13 (by decide) (fun c_13 => ?_) (fun c_13 => ?_)
        · have c_13 : ¬ k = 500 := fun z => c_13 ((nI_eq (by omega) (by omega)).mpr z)
          refine lv_aload_n hx hb dX6_runOut_19 rfl (lv_at hl 0 rfl) ?_
          refine zcV 0 ⟨hx, hb, hml, hown, hts, hK⟩ (kX6_step l (B + k) hJ (by omega) hT1 htr1 hM hO hxy) q1165 q1019 q1020 q55 q1021 (by decide +kernel) ⟨Nat.le_of_ble_eq_true rfl, Nat.le_of_ble_eq_true rfl⟩ (zrecv hK hM.o rfl) rfl hl.1 (rest := []) rfl (Nat.le_of_ble_eq_true rfl) dX6_runOut_20 ⟨by first | decide | omega, by first | decide | omega⟩ hS (fun _ h => h) (fun v_c H2 locs hp_c hz_c hk_c hS => ?_)
          have hO := hO.call hM.z hxy hz_c hk_c
          obtain ⟨C1_1, D1_1, E1_1, tr1_1, rfl, hM, hp0_1, hp1_1⟩ := hp_c
          refine lv_iinc (v := (nI (k + 1))) (lv' := [(1, .int (nI (k + 1))), (0, .ref (y 17))]) hx hb dX6_runOut_23 hl (k := 1) rfl (nI_1 _) (by decide) rfl (fun ls hl => ?_)
          refine lv_goto (tgt := 2) hx hb dX6_runOut_26 (by decide) ?_
          exact ih (k + 1) (mCyc S1) C1_1 D1_1 E1_1 tr1_1 (by omega) (by omega) (by rw [show 500 - (k + 1) = 500 - k - 1 by omega, ← mFin_s c_6 (by omega)]; exact hf) (by rw [show 500 - (k + 1) = 500 - k - 1 by omega]; have h9 := mNum_s c_6 (show 0 < 500 - k by omega); omega) (show InvS (mCyc S1) (B + k + 1) from InvS_cyc hJ (by omega)) hp0_1 (by omega) _ _ ls ⟨hM, hO⟩ hS (lv_sub hl [1, 0] rfl)
        · have c_13 : k = 500 := (nI_eq (by omega) (by omega)).mp c_13
          obtain rfl : k = 500 := c_13
          refine lv_ldc (v := (-100005)) hx hb hown (hts _ q1017) dX6_runOut_16 ?_
          exact zri hx hb hr hlk hH hQ rfl hS (by
                have e9 : mFin S 500 = S1 := hf.symm
                rw [mRes, e9, if_neg c_6]
                exact ⟨_, _, _, _, rfl, hM⟩) (Nat.le_of_ble_eq_true rfl) (Nat.le_of_ble_eq_true rfl) dX6_runOut_18
  exact loop ((501 - 0) + 1) 0 S C D E tr (by first | exact Nat.lt_succ_self _ | omega) (by omega) rfl (Nat.zero_add _) hI hT htr _ _ ls ⟨hM, hO⟩ hS (lv_sub hl [1, 0] rfl)
