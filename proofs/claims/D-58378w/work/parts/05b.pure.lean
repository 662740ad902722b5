/-! what the reference computes, as plain functions on its row of numbers S -/
def sh (x : Int32) : Int32 := x.toInt16.toInt32
def zcp (f g : Nat → Int32) (n : Nat) : Nat → Int32 := fun j => if j < n then f j else g j
theorem zcp_s {f g : Nat → Int32} {k : Nat} : upd (zcp f g k) k (f k) = zcp f g (k + 1) := by
  funext j
  unfold upd zcp
  by_cases h : j = k
  · subst h; simp
  · by_cases h2 : j < k
    · simp [h, h2, Nat.lt_succ_of_lt h2]
    · simp [h, h2, show ¬ j < k + 1 by omega]
theorem zcp_0 {f g : Nat → Int32} : zcp f g 0 = g := by
  funext j
  simp [zcp]
theorem zcp_lt {f g : Nat → Int32} {n k : Nat} (h : k < n) : zcp f g n k = f k := if_pos h
def zsf (P : Nat → Int32) (n : Nat) : Nat → Int32 := fun j => if j < n then P (341 + j) else P j
theorem zsf_s {P : Nat → Int32} {k : Nat} : upd (zsf P k) k (zsf P k (341 + k)) = zsf P (k + 1) := by
  funext j
  unfold upd zsf
  by_cases h : j = k
  · subst h; rw [if_pos rfl, if_neg (by omega), if_pos (by omega)]
  · by_cases h2 : j < k
    · simp [h, h2, Nat.lt_succ_of_lt h2]
    · simp [h, h2, show ¬ j < k + 1 by omega]
theorem zsf_0 {P : Nat → Int32} : zsf P 0 = P := by
  funext j
  simp [zsf]
/-- S laid at the place p of the past -/
def zlay (S P : Nat → Int32) (p n : Nat) : Nat → Int32 := fun j => if 341 * p ≤ j ∧ j < 341 * p + n then S (j - 341 * p) else P j
theorem zlay_s {S P : Nat → Int32} {p k : Nat} : upd (zlay S P p k) (341 * p + k) (S k) = zlay S P p (k + 1) := by
  funext j
  unfold upd zlay
  by_cases h : j = 341 * p + k
  · subst h
    rw [if_pos rfl, if_pos (by omega)]
    congr 1
    omega
  · by_cases h2 : 341 * p ≤ j ∧ j < 341 * p + k
    · rw [if_neg h, if_pos h2, if_pos (by omega)]
    · rw [if_neg h, if_neg h2, if_neg (by omega)]
theorem zlay_0 {S P : Nat → Int32} {p : Nat} : zlay S P p 0 = P := by
  funext j
  unfold zlay
  rw [if_neg (by omega)]
/-- how many threads are in a state -/
def mMany (S : Nat → Int32) (st : Int32) : Nat → Nat
  | 0 => 0
  | n + 1 => mMany S st n + (if S (14 * n) = st then 1 else 0)
theorem mMany_le (S : Nat → Int32) (st : Int32) (n : Nat) : mMany S st n ≤ n := by
  induction n with
  | zero => exact Nat.le_refl _
  | succ n ih => unfold mMany; split <;> omega
theorem mMany_t {S : Nat → Int32} {st : Int32} {n : Nat} (h : S (14 * n) = st) : mMany S st n + 1 = mMany S st (n + 1) := by rw [mMany, if_pos h]
theorem mMany_f {S : Nat → Int32} {st : Int32} {n : Nat} (h : ¬ S (14 * n) = st) : mMany S st n + 0 = mMany S st (n + 1) := by rw [mMany, if_neg h]
/-- a due load of the thread t -/
def mLd (S : Nat → Int32) (t : Nat) : Nat → Int32 :=
  if S (14 * t) = nI 2 ∧ S (14 * t + 8) ≤ S 232 then upd (upd S (14 * t + (2 + (S (14 * t + 6)).toNatClampNeg)) (sh (S (S (14 * t + 7)).toNatClampNeg))) (14 * t) (nI 1) else S
def mLdN (S : Nat → Int32) : Nat → Nat → Int32
  | 0 => S
  | n + 1 => mLd (mLdN S n) n


def mBr (S : Nat → Int32) (b : Prop) [Decidable b] (t : Nat) : Nat → Int32 := upd S (14 * t) (if b ∧ S (14 * t) = nI 3 then nI 1 else S (14 * t))
def mBrN (S : Nat → Int32) (b : Prop) [Decidable b] : Nat → Nat → Int32
  | 0 => S
  | n + 1 => mBr (mBrN S b n) b n
def mPrep (S : Nat → Int32) : Nat → Int32 := mBrN (mLdN S 4) (mMany (mLdN S 4) (nI 1) 4 + mMany (mLdN S 4) (nI 2) 4 = 0) 4
/-- what the walks ask of S: numbers that are used as places are in range -/
def InvS (S : Nat → Int32) (B : Nat) : Prop :=
  (∃ c : Nat, c ≤ B ∧ S 232 = nI c) ∧ (∀ t, t < 4 → (∃ c : Nat, c ≤ 48 ∧ S (14 * t + 1) = nI c) ∧ (∃ r : Nat, r < 4 ∧ S (14 * t + 6) = nI r) ∧ (S (14 * t) = nI 2 → ∃ k : Nat, k < 32 ∧ S (14 * t + 7) = nI (200 + k)) ∧ (∀ r, r < 4 → sh (S (14 * t + (2 + r))) = S (14 * t + (2 + r)))) ∧
  (∀ k, k < 32 → sh (S (200 + k)) = S (200 + k)) ∧ (∀ k, k < 8 → ∃ j : Nat, j < 4 ∧ S (234 + k) = nI j) ∧ (∃ j : Nat, j < 3 ∧ S 243 = nI j) ∧ (∃ j : Nat, j ≤ 20 ∧ S 242 = nI j) ∧ (∀ k, k < 48 → S (244 + k) = nI 0 ∨ S (244 + k) = nI 1) ∧ (∃ j : Nat, j ≤ 16 ∧ S 292 = nI j) ∧
  (∀ k, k < 48 → ∃ o r q : Nat, o < 12 ∧ S (56 + 3 * k) = nI o ∧ (S (56 + 3 * k + 1) = nI r ∧ r < 48) ∧ (o ≤ 6 ∨ o = 8 ∨ o = 9 → r < 4) ∧ (1 ≤ o → S (56 + 3 * k + 2) = nI q ∧ q < 48) ∧ (1 ≤ o → o ≤ 6 → q < 4) ∧ (10 ≤ o → r = 0) ∧ (o = 7 ∨ 10 ≤ o → q = 0))
theorem mLd_off {S : Nat → Int32} {t j : Nat} (ht : t < 4) (h6 : ∃ r : Nat, r < 4 ∧ S (14 * t + 6) = nI r) (hj : j ≠ 14 * t) (hj2 : ¬ (14 * t + 2 ≤ j ∧ j < 14 * t + 6)) : mLd S t j = S j := by
  obtain ⟨r, hr, e⟩ := h6
  unfold mLd
  split
  · rw [upd_n hj, upd_n]
    rw [e, nI_clamp (by omega)]
    omega
  · rfl
theorem mLdN_off {S : Nat → Int32} (h6 : ∀ t, t < 4 → ∃ r : Nat, r < 4 ∧ S (14 * t + 6) = nI r) : ∀ (n : Nat), n ≤ 4 → (∀ j : Nat, (∀ t, t < n → j ≠ 14 * t ∧ ¬ (14 * t + 2 ≤ j ∧ j < 14 * t + 6)) → mLdN S n j = S j) := by
  intro n
  induction n with
  | zero => intro _ j _; rfl
  | succ n ih =>
    intro hn j hj
    have h := hj n (Nat.lt_succ_self n)
    rw [mLdN, mLd_off (by omega) _ h.1 h.2]
    · exact ih (by omega) j (fun t ht => hj t (by omega))
    · obtain ⟨r, hr, e⟩ := h6 n (by omega)
      exact ⟨r, hr, by rw [ih (by omega) _ (fun t ht => by omega)]; exact e⟩
theorem mBrN_off {S : Nat → Int32} {b : Prop} [Decidable b] : ∀ (n j : Nat), (∀ t, t < n → j ≠ 14 * t) → mBrN S b n j = S j := by
  intro n
  induction n with
  | zero => intro j _; rfl
  | succ n ih =>
    intro j hj
    rw [mBrN, mBr, upd_n (hj n (Nat.lt_succ_self n))]
    exact ih j (fun t ht => hj t (by omega))
theorem mPrep_off {S : Nat → Int32} (h6 : ∀ t, t < 4 → ∃ r : Nat, r < 4 ∧ S (14 * t + 6) = nI r) {j : Nat} (hj : ∀ t, t < 4 → j ≠ 14 * t ∧ ¬ (14 * t + 2 ≤ j ∧ j < 14 * t + 6)) : mPrep S j = S j := by
  unfold mPrep
  rw [mBrN_off 4 j (fun t ht => (hj t ht).1)]
  exact mLdN_off h6 4 (Nat.le_refl 4) j hj
/-- the thread that issues, or -1 -/
def mNx (S : Nat → Int32) (o : Nat) : Nat → Int32
  | 0 => (-1)
  | n + 1 => if S (14 * ((o + (3 - n)) % 4)) = nI 1 then nI ((o + (3 - n)) % 4) else mNx S o n
def mLg (S : Nat → Int32) : Nat → Int32
  | 0 => (-1)
  | n + 1 => if S (14 * n) = nI 1 ∧ (mLg S n = (-1) ∨ S (14 * n + 9) < S (14 * (mLg S n).toNatClampNeg + 9)) then nI n else mLg S n
def mOwn (S : Nat → Int32) : Nat := (S (234 + (S 232).toNatClampNeg % 8)).toNatClampNeg
def mIss (S : Nat → Int32) : Int32 := if S (14 * mOwn S) = nI 1 then nI (mOwn S) else if S 243 = nI 0 then (-1) else if S 243 = nI 1 then mNx S (mOwn S) 3 else mLg S 4
theorem mNx_in (S : Nat → Int32) (o n : Nat) : mNx S o n = (-1) ∨ ∃ j : Nat, j < 4 ∧ mNx S o n = nI j := by
  induction n with
  | zero => exact Or.inl rfl
  | succ n ih =>
    rw [mNx]
    split
    · exact Or.inr ⟨_, Nat.mod_lt _ (by decide), rfl⟩
    · exact ih
theorem mLg_in (S : Nat → Int32) : ∀ n, n ≤ 4 → (mLg S n = (-1) ∨ ∃ j : Nat, j < n ∧ mLg S n = nI j) := by
  intro n
  induction n with
  | zero => intro _; exact Or.inl rfl
  | succ n ih =>
    intro hn
    rw [mLg]
    split
    · exact Or.inr ⟨n, by omega, rfl⟩
    · rcases ih (by omega) with h | ⟨j, hj, h⟩
      · exact Or.inl h
      · exact Or.inr ⟨j, by omega, h⟩
theorem m1_ne {j : Nat} (hj : j < 4) : ¬ nI j = (-1) := by
  rcases (show j = 0 ∨ j = 1 ∨ j = 2 ∨ j = 3 by omega) with rfl | rfl | rfl | rfl <;> decide
theorem mIss_in (S : Nat → Int32) (ho : mOwn S < 4) : mIss S = (-1) ∨ ∃ j : Nat, j < 4 ∧ mIss S = nI j := by
  unfold mIss
  split
  · exact Or.inr ⟨_, ho, rfl⟩
  · split
    · exact Or.inl rfl
    · split
      · exact mNx_in S _ 3
      · exact mLg_in S 4 (Nat.le_refl 4)
/-- who starves -/
def mSt (S : Nat → Int32) (i : Int32) (t : Nat) : Nat → Int32 :=
  let n := if S (14 * t) = nI 1 ∧ ¬ nI t = i then S (14 * t + 10) + 1 else 0
  upd (upd S (14 * t + 10) n) (14 * t + 11) (if n ≤ S (14 * t + 11) then S (14 * t + 11) else n)
def mStN (S : Nat → Int32) (i : Int32) : Nat → Nat → Int32
  | 0 => S
  | n + 1 => mSt (mStN S i n) i n
theorem mStN_off {S : Nat → Int32} {i : Int32} : ∀ (n j : Nat), (∀ t, t < n → j ≠ 14 * t + 10 ∧ j ≠ 14 * t + 11) → mStN S i n j = S j := by
  intro n
  induction n with
  | zero => intro j _; rfl
  | succ n ih =>
    intro j hj
    have h := hj n (Nat.lt_succ_self n)
    rw [mStN, mSt, upd_n h.2, upd_n h.1]
    exact ih j (fun t ht => hj t (by omega))
def zw (x : Int32) : Nat := x.toBitVec.toNat % 32
theorem zw_and (x : Int32) : x &&& nI 31 = nI (zw x) := pk_and x (m := nI 31) 5 (by decide)
theorem zw_lt (x : Int32) : zw x < 32 := Nat.mod_lt _ (by decide)
/-- the word that the second operand names -/
def mWd (S : Nat → Int32) (t : Nat) (x : Int32) : Nat := if nI 0 ≤ x ∧ x ≤ nI 3 then 200 + zw (S (14 * t + (2 + x.toNatClampNeg))) else 200
theorem mWd_q {S : Nat → Int32} {t q : Nat} (hq : q < 4) : mWd S t (nI q) = 200 + zw (S (14 * t + (2 + q))) := by
  unfold mWd
  rw [if_pos ⟨nI_le (by omega) (by omega), nI_le (by omega) (by omega)⟩, nI_clamp (by omega)]
theorem mWd_lt (S : Nat → Int32) (t : Nat) (x : Int32) : 200 ≤ mWd S t x ∧ mWd S t x < 232 := by
  unfold mWd
  have := zw_lt (S (14 * t + (2 + x.toNatClampNeg)))
  split <;> omega
def mDoes (S : Nat → Int32) (t o r : Nat) (x : Int32) : Nat → Int32 :=
  let g := 14 * t + (2 + r)
  let h := 14 * t + (2 + x.toNatClampNeg)
  let wd := mWd S t x
  if o = 0 then upd S g (sh x)
  else if o = 1 then upd S g (sh (S g + S h))
  else if o = 2 then upd S g (sh (S g - S h))
  else if o = 3 then upd S g (sh (S g * S h))
  else if o = 4 then upd (upd (upd (upd S (14 * t) (nI 2)) (14 * t + 6) (nI r)) (14 * t + 7) (nI wd)) (14 * t + 8) (S 232 + nI 1 + S 242)
  else if o = 5 then upd S wd (S g)
  else if o = 6 then upd (upd S g (sh (S wd))) wd (S g)
  else if o = 7 then upd S (14 * t + 1) (nI r)
  else if o = 8 then upd S (14 * t + 1) (if S g = nI 0 then x else S (14 * t + 1))
  else if o = 9 then upd S (14 * t + 1) (if S g < nI 0 then x else S (14 * t + 1))
  else if o = 10 then upd S (14 * t) (nI 3)
  else upd S (14 * t) (nI 0)
def mTs (S : Nat → Int32) (k : Nat) : Nat → Int32 := fun j => if 293 + k < j ∧ j < 341 then S (j - 3) else S j
theorem mTs_s {S : Nat → Int32} {k : Nat} (h2 : 2 < k) (h : k < 48) : upd (mTs S k) (293 + k) (mTs S k (293 + k - 3)) = mTs S (k - 1) := by
  funext j
  unfold upd mTs
  by_cases h1 : j = 293 + k
  · subst h1
    rw [if_pos rfl, if_neg (by omega), if_pos (by omega)]
  · by_cases h3 : 293 + k < j ∧ j < 341
    · rw [if_neg h1, if_pos h3, if_pos (by omega)]
    · rw [if_neg h1, if_neg h3, if_neg (by omega)]
theorem mTs_0 {S : Nat → Int32} : mTs S 47 = S := by
  funext j
  unfold mTs
  rw [if_neg (by omega)]
def mTr (S : Nat → Int32) (t pl : Int32) : Nat → Int32 :=
  upd (upd (upd (upd (mTs S 2) 293 (S 232)) 294 t) 295 pl) 292 (S 292 + (if S 292 < nI 16 then nI 1 else nI 0))
theorem mTr_off {S : Nat → Int32} {t pl : Int32} {j : Nat} (h : j < 292) : mTr S t pl j = S j := by
  unfold mTr
  rw [upd_n (by omega), upd_n (by omega), upd_n (by omega), upd_n (by omega), mTs, if_neg (by omega)]
def mEx (S : Nat → Int32) (t : Nat) : Nat → Int32 :=
  let S1 := mTr S (nI t) (S (14 * t + 1))
  let c := (S (14 * t + 1)).toNatClampNeg
  if c = 48 then upd S1 (14 * t) (nI 0)
  else mDoes (upd S1 (14 * t + 1) (nI (c + 1))) t (S (56 + 3 * c)).toNatClampNeg (S (56 + 3 * c + 1)).toNatClampNeg (S (56 + 3 * c + 2))
/-- one cycle -/
def mCyc (S : Nat → Int32) : Nat → Int32 :=
  let S1 := mPrep S
  let i := mIss S1
  let S2 := mStN S1 i 4
  let S3 := if i = (-1) then upd S2 233 (S2 233 + nI 1) else
    let j := i.toNatClampNeg
    let S4 := upd S2 (14 * j + 9) (S2 232)
    let S5 := upd S4 (14 * j + 12) (S4 (14 * j + 12) + nI 1)
    let S6 := upd S5 (14 * j + 13) (S5 (14 * j + 13) + (if i = nI (mOwn S1) then nI 0 else nI 1))
    mEx S6 j
  upd S3 232 (S3 232 + nI 1)
theorem mBr_t {S : Nat → Int32} {b : Prop} [Decidable b] {t : Nat} (hb : b) (h : S (14 * t) = nI 3) : upd S (14 * t) (nI 1) = mBr S b t := by rw [mBr, if_pos ⟨hb, h⟩]
theorem mBr_n {S : Nat → Int32} {b : Prop} [Decidable b] {t : Nat} (h : ¬ (b ∧ S (14 * t) = nI 3)) : upd S (14 * t) (S (14 * t)) = mBr S b t := by rw [mBr, if_neg h]
theorem mBrN_s {S : Nat → Int32} {b : Prop} [Decidable b] {n : Nat} : mBr (mBrN S b n) b n = mBrN S b (n + 1) := rfl
section ZDOES
variable {S : Nat → Int32} {t r q : Nat} {x : Int32}
theorem mDoes_0 : mDoes S t 0 r x = upd S (14 * t + (2 + r)) (sh x) := rfl
theorem mDoes_1 (hq : q < 4) : mDoes S t 1 r (nI q) = upd S (14 * t + (2 + r)) (sh (S (14 * t + (2 + r)) + S (14 * t + (2 + q)))) := by
  show upd S (14 * t + (2 + r)) (sh (S (14 * t + (2 + r)) + S (14 * t + (2 + (nI q).toNatClampNeg)))) = _
  rw [nI_clamp (by omega)]
theorem mDoes_2 (hq : q < 4) : mDoes S t 2 r (nI q) = upd S (14 * t + (2 + r)) (sh (S (14 * t + (2 + r)) - S (14 * t + (2 + q)))) := by
  show upd S (14 * t + (2 + r)) (sh (S (14 * t + (2 + r)) - S (14 * t + (2 + (nI q).toNatClampNeg)))) = _
  rw [nI_clamp (by omega)]
theorem mDoes_3 (hq : q < 4) : mDoes S t 3 r (nI q) = upd S (14 * t + (2 + r)) (sh (S (14 * t + (2 + r)) * S (14 * t + (2 + q)))) := by
  show upd S (14 * t + (2 + r)) (sh (S (14 * t + (2 + r)) * S (14 * t + (2 + (nI q).toNatClampNeg)))) = _
  rw [nI_clamp (by omega)]
theorem mDoes_4 : mDoes S t 4 r x = upd (upd (upd (upd S (14 * t) (nI 2)) (14 * t + 6) (nI r)) (14 * t + 7) (nI (mWd S t x))) (14 * t + 8) (S 232 + nI 1 + S 242) := rfl
theorem mDoes_5 : mDoes S t 5 r x = upd S (mWd S t x) (S (14 * t + (2 + r))) := rfl
theorem mDoes_6 : mDoes S t 6 r x = upd (upd S (14 * t + (2 + r)) (sh (S (mWd S t x)))) (mWd S t x) (S (14 * t + (2 + r))) := rfl
theorem mDoes_7 : mDoes S t 7 r x = upd S (14 * t + 1) (nI r) := rfl
theorem mDoes_8 : mDoes S t 8 r x = upd S (14 * t + 1) (if S (14 * t + (2 + r)) = nI 0 then x else S (14 * t + 1)) := rfl
theorem mDoes_9 : mDoes S t 9 r x = upd S (14 * t + 1) (if S (14 * t + (2 + r)) < nI 0 then x else S (14 * t + 1)) := rfl
theorem mDoes_10 : mDoes S t 10 r x = upd S (14 * t) (nI 3) := rfl
theorem mDoes_11 : mDoes S t 11 r x = upd S (14 * t) (nI 0) := rfl
end ZDOES
