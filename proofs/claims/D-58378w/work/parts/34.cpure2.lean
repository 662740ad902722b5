/-! preparing lane by lane is preparing; execution, cycles -/
theorem mBrN_iff {X : Nat → Int32} {b b2 : Prop} [Decidable b] [Decidable b2] (h : b ↔ b2) : ∀ n, mBrN X b n = mBrN X b2 n := by
  intro n
  induction n with
  | zero => rfl
  | succ n ih =>
    rw [mBrN, mBrN, ih, mBr, mBr]
    by_cases hb : b
    · by_cases h3 : mBrN X b2 n (14 * n) = nI 3
      · rw [if_pos ⟨hb, h3⟩, if_pos ⟨h.mp hb, h3⟩]
      · rw [if_neg (fun z => h3 z.2), if_neg (fun z => h3 z.2)]
    · rw [if_neg (fun z => hb z.1), if_neg (fun z => hb (h.mpr z.1))]
theorem mMk_prep {S : Nat → Int32} {B : Nat} (hI : InvS S B) : mMk S (mBar S) 4 = mPrep S := by
  rw [mMk_n hI 4 (Nat.le_refl _)]
  exact mBrN_iff (mBar_ld hI) 4
theorem mMk_inv {S : Nat → Int32} {b : Prop} [Decidable b] {B n : Nat} (hI : InvS S B) (hn : n ≤ 4) : InvS (mMk S b n) B := by
  rw [mMk_n hI n hn]
  exact InvS_brN (InvS_ldN hI n hn) n hn
section ZMK
variable {X : Nat → Int32} {n lr lk : Nat}
theorem mk_a {b : Prop} [Decidable b] (h : ¬ (X (14 * n) = nI 2 ∧ X (14 * n + 8) ≤ X 232)) (h2 : ¬ (b ∧ X (14 * n) = nI 3)) : X = mBr (mLd X n) b n := by
  rw [mLd, if_neg h, mBr, if_neg h2, upd_id]
theorem mk_b {b : Prop} [Decidable b] (hb : b) (h3 : X (14 * n) = nI 3) : upd X (14 * n) (nI 1) = mBr (mLd X n) b n := by
  rw [mLd, if_neg (fun z => absurd (h3.symm.trans z.1) (by decide)), mBr, if_pos ⟨hb, h3⟩]
theorem mk_c {b : Prop} [Decidable b] (h2 : X (14 * n) = nI 2) (hd : X (14 * n + 8) ≤ X 232) (elr : X (14 * n + 6) = nI lr) (hlr : lr < 4) (elk : X (14 * n + 7) = nI (200 + lk)) (hlk : lk < 32) (hsh : sh (X (200 + lk)) = X (200 + lk)) : upd (upd X (14 * n + (2 + lr)) (X (200 + lk))) (14 * n) (nI 1) = mBr (mLd X n) b n := by
  have e : mLd X n = upd (upd X (14 * n + (2 + lr)) (X (200 + lk))) (14 * n) (nI 1) := by
    rw [mLd, if_pos ⟨h2, hd⟩, elr, elk, nI_clamp (by omega), nI_clamp (by omega), hsh]
  have e1 : mLd X n (14 * n) = nI 1 := by rw [e]; exact upd_s rfl
  rw [mBr, if_neg (fun z => absurd (e1.symm.trans z.2) (by decide)), upd_id, e]
end ZMK
theorem upd_same {f : Nat → Int32} {k : Nat} {x : Int32} (h : f k = x) : upd f k x = f := h ▸ upd_id
theorem InsAt_c {S S' : Nat → Int32} {k o r : Nat} (e : ∀ j, j < 3 → S' (56 + 3 * k + j) = S (56 + 3 * k + j)) (h : InsAt S k o r) : InsAt S' k o r := by
  unfold InsAt at h ⊢
  have e0 : S' (56 + 3 * k) = S (56 + 3 * k) := e 0 (by omega)
  rw [e0, e 1 (by omega), e 2 (by omega)]
  exact h
section ZCEX
variable {S : Nat → Int32} {t cn o r B : Nat} {a1 a2 a3 x : Int32}
theorem cEx_n (ht : t < 4) (e : S (14 * t + 1) = nI cn) (hk : cn < 48) (hi : InsAt S cn o r) : mDoes (upd (upd (upd (upd (mTr S (nI t) (nI cn)) (14 * t + 9) a1) (14 * t + 12) a2) (14 * t + 13) a3) (14 * t + 1) (nI (cn + 1))) t o r (S (56 + 3 * cn + 2)) = mEx (upd (upd (upd S (14 * t + 9) a1) (14 * t + 12) a2) (14 * t + 13) a3) t := by
  have e6 : upd (upd (upd S (14 * t + 9) a1) (14 * t + 12) a2) (14 * t + 13) a3 (14 * t + 1) = nI cn := (upd_n (by omega)).trans ((upd_n (by omega)).trans ((upd_n (by omega)).trans e))
  have hi6 : InsAt (upd (upd (upd S (14 * t + 9) a1) (14 * t + 12) a2) (14 * t + 13) a3) cn o r := InsAt_c (fun j hj => (upd_n (by omega)).trans ((upd_n (by omega)).trans (upd_n (by omega)))) hi
  have ex : upd (upd (upd S (14 * t + 9) a1) (14 * t + 12) a2) (14 * t + 13) a3 (56 + 3 * cn + 2) = S (56 + 3 * cn + 2) := (upd_n (by omega)).trans ((upd_n (by omega)).trans (upd_n (by omega)))
  rw [mEx_n e6 hk hi6, ex, mTr_upd (by omega), mTr_upd (by omega), mTr_upd (by omega)]
theorem cEx_48 (ht : t < 4) (e : S (14 * t + 1) = nI cn) (hk : cn = 48) : mDoes (upd (upd (upd (upd (mTr S (nI t) (nI cn)) (14 * t + 9) a1) (14 * t + 12) a2) (14 * t + 13) a3) (14 * t + 1) (nI 48)) t 11 r x = mEx (upd (upd (upd S (14 * t + 9) a1) (14 * t + 12) a2) (14 * t + 13) a3) t := by
  subst hk
  have e6 : upd (upd (upd S (14 * t + 9) a1) (14 * t + 12) a2) (14 * t + 13) a3 (14 * t + 1) = nI 48 := (upd_n (by omega)).trans ((upd_n (by omega)).trans ((upd_n (by omega)).trans e))
  have e7 : upd (upd (upd (mTr S (nI t) (nI 48)) (14 * t + 9) a1) (14 * t + 12) a2) (14 * t + 13) a3 (14 * t + 1) = nI 48 := (upd_n (by omega)).trans ((upd_n (by omega)).trans ((upd_n (by omega)).trans ((mTr_off (by omega)).trans e)))
  rw [mEx_48 e6, mDoes_11, upd_same e7, mTr_upd (by omega), mTr_upd (by omega), mTr_upd (by omega)]
theorem mDoes_hi (ht : t < 4) (hr : (o ≤ 6 ∨ o = 8 ∨ o = 9) → r < 4) (ho : o < 12) {j : Nat} (hj : 292 ≤ j) : mDoes S t o r x j = S j := by
  have hwd := mWd_lt S t x
  rcases (show o = 0 ∨ o = 1 ∨ o = 2 ∨ o = 3 ∨ o = 4 ∨ o = 5 ∨ o = 6 ∨ o = 7 ∨ o = 8 ∨ o = 9 ∨ o = 10 ∨ o = 11 by omega) with rfl | rfl | rfl | rfl | rfl | rfl | rfl | rfl | rfl | rfl | rfl | rfl
  · have := hr (by omega); rw [mDoes_0]; exact upd_n (by omega)
  · have := hr (by omega); exact upd_n (by omega)
  · have := hr (by omega); exact upd_n (by omega)
  · have := hr (by omega); exact upd_n (by omega)
  · rw [mDoes_4, upd_n (by omega), upd_n (by omega), upd_n (by omega)]; exact upd_n (by omega)
  · rw [mDoes_5]; exact upd_n (by omega)
  · have := hr (by omega); rw [mDoes_6, upd_n (by omega)]; exact upd_n (by omega)
  · rw [mDoes_7]; exact upd_n (by omega)
  · rw [mDoes_8]; exact upd_n (by omega)
  · rw [mDoes_9]; exact upd_n (by omega)
  · rw [mDoes_10]; exact upd_n (by omega)
  · rw [mDoes_11]; exact upd_n (by omega)
theorem mEx_hi (hI : InvS S B) (ht : t < 4) {j : Nat} (hj : 292 ≤ j) : mEx S t j = mTr S (nI t) (S (14 * t + 1)) j := by
  obtain ⟨k, hk, ek⟩ := (hI.t ht).1
  rw [ek]
  by_cases h48 : k = 48
  · subst h48
    rw [mEx_48 ek]; exact upd_n (by omega)
  · obtain ⟨o, r, hi⟩ := hI.ins (show k < 48 by omega)
    rw [mEx_n ek (by omega) hi, mDoes_hi ht hi.2.2.2.2.1 hi.1 hj]
    exact upd_n (by omega)
end ZCEX
theorem cN_iff {n : Nat} {x : Int32} (hn : n < 4) : nI n = cN x ↔ nI n = x := by
  unfold cN
  by_cases h : x = (-1)
  · rw [if_pos h, h]
    exact ⟨fun z => absurd z (n5_ne (by omega)), fun z => absurd z (m1_ne hn)⟩
  · rw [if_neg h]
theorem mStN_own {S : Nat → Int32} {i : Int32} : mOwn (mStN S i 4) = mOwn S := mOwn_c (fun j hj => mStN_off 4 j (fun t ht => by omega))
theorem cCyc_a {S S2 : Nat → Int32} (h : mIss (mPrep S) = (-1)) (e : S2 = mStN (mPrep S) (-1) 4) : upd (upd S2 233 (S2 233 + nI 1)) 232 (S2 232 + nI 1) = mCyc S := by
  unfold mCyc
  dsimp only
  rw [h, if_pos rfl, ← e, upd_n (j := 232) (by omega)]
theorem cCyc_b {S S2 S3 : Nat → Int32} {j : Nat} (hj : j < 4) (h : mIss (mPrep S) = nI j) (e : S2 = mStN (mPrep S) (nI j) 4) (e3 : S3 = mEx (upd (upd (upd S2 (14 * j + 9) (S2 232)) (14 * j + 12) (S2 (14 * j + 12) + nI 1)) (14 * j + 13) (S2 (14 * j + 13) + (if nI j = nI (mOwn S2) then nI 0 else nI 1))) j) : upd S3 232 (S3 232 + nI 1) = mCyc S := by
  unfold mCyc
  dsimp only
  rw [h, if_neg (m1_ne hj), ← e, nI_clamp (by omega)]
  rw [show mOwn S2 = mOwn (mPrep S) from by rw [e]; exact mStN_own] at e3
  have h1 : upd S2 (14 * j + 9) (S2 232) (14 * j + 12) = S2 (14 * j + 12) := upd_n (by omega)
  have h2 : upd (upd S2 (14 * j + 9) (S2 232)) (14 * j + 12) (S2 (14 * j + 12) + nI 1) (14 * j + 13) = S2 (14 * j + 13) := (upd_n (by omega)).trans (upd_n (by omega))
  rw [h1, h2, e3]
/-! a run to the end, turn by turn -/
theorem mFin_o {S : Nat → Int32} (h : mMany S (nI 0) 4 = 4) (n : Nat) : mFin S n = S := by
  cases n with
  | zero => rfl
  | succ n => exact if_pos h
theorem mNum_o {S : Nat → Int32} (h : mMany S (nI 0) 4 = 4) (n : Nat) : mNum S n = 0 := by
  cases n with
  | zero => rfl
  | succ n => exact if_pos h
theorem mFin_s {S : Nat → Int32} (h : ¬ mMany S (nI 0) 4 = 4) {n : Nat} (hn : 0 < n) : mFin S n = mFin (mCyc S) (n - 1) := by
  obtain ⟨k, rfl⟩ : ∃ k, n = k + 1 := ⟨n - 1, by omega⟩
  exact if_neg h
theorem mNum_s {S : Nat → Int32} (h : ¬ mMany S (nI 0) 4 = 4) {n : Nat} (hn : 0 < n) : mNum S n = mNum (mCyc S) (n - 1) + 1 := by
  obtain ⟨k, rfl⟩ : ∃ k, n = k + 1 := ⟨n - 1, by omega⟩
  exact if_neg h
theorem mRunS_o {S : Nat → Int32} (h : mMany S (nI 0) 4 = 4 ∨ mStop S) (n : Nat) : mRunS S n = S := by
  cases n with
  | zero => rfl
  | succ n => exact if_pos h
theorem mRunN_o {S : Nat → Int32} (h : mMany S (nI 0) 4 = 4 ∨ mStop S) (n : Nat) : mRunN S n = 0 := by
  cases n with
  | zero => rfl
  | succ n => exact if_pos h
theorem mRunS_s {S : Nat → Int32} (h : ¬ (mMany S (nI 0) 4 = 4 ∨ mStop S)) {n : Nat} (hn : 0 < n) : mRunS S n = mRunS (mCyc S) (n - 1) := by
  obtain ⟨k, rfl⟩ : ∃ k, n = k + 1 := ⟨n - 1, by omega⟩
  exact if_neg h
theorem mRunN_s {S : Nat → Int32} (h : ¬ (mMany S (nI 0) 4 = 4 ∨ mStop S)) {n : Nat} (hn : 0 < n) : mRunN S n = mRunN (mCyc S) (n - 1) + 1 := by
  obtain ⟨k, rfl⟩ : ∃ k, n = k + 1 := ⟨n - 1, by omega⟩
  exact if_neg h
