/-! what would be: a run to the end of it -/
def mFin (S : Nat → Int32) : Nat → Nat → Int32
  | 0 => S
  | n + 1 => if mMany S (nI 0) 4 = 4 then S else mFin (mCyc S) n
def mNum (S : Nat → Int32) : Nat → Nat
  | 0 => 0
  | n + 1 => if mMany S (nI 0) 4 = 4 then 0 else mNum (mCyc S) n + 1
def mRes (S : Nat → Int32) : Int32 := if mMany (mFin S 500) (nI 0) 4 = 4 then nI (mNum S 500) else (-100005)
theorem mNum_le (S : Nat → Int32) (n : Nat) : mNum S n ≤ n := by
  induction n generalizing S with
  | zero => exact Nat.le_refl _
  | succ n ih =>
    rw [mNum]
    split
    · omega
    · have := ih (mCyc S); omega
/-- where the next cycle would stand: 48 if nobody issues -/
def mPl (S : Nat → Int32) : Nat := if mIss (mPrep S) = (-1) then 48 else (S (14 * (mIss (mPrep S)).toNatClampNeg + 1)).toNatClampNeg
abbrev mStop (S : Nat → Int32) : Prop := mPl S < 48 ∧ S (244 + mPl S) = nI 1
/-- the cycles of a run of at most n, the first of them not asked for a breakpoint -/
def mRunS (S : Nat → Int32) : Nat → Nat → Int32
  | 0 => S
  | n + 1 => if mMany S (nI 0) 4 = 4 ∨ mStop S then S else mRunS (mCyc S) n
def mRunN (S : Nat → Int32) : Nat → Nat
  | 0 => 0
  | n + 1 => if mMany S (nI 0) 4 = 4 ∨ mStop S then 0 else mRunN (mCyc S) n + 1
def mRunS0 (S : Nat → Int32) (n : Nat) : Nat → Int32 := if mMany S (nI 0) 4 = 4 then S else mRunS (mCyc S) (n - 1)
def mRunN0 (S : Nat → Int32) (n : Nat) : Nat := if mMany S (nI 0) 4 = 4 then 0 else mRunN (mCyc S) (n - 1) + 1
/-- the past behind a record -/
def rP (S P : Nat → Int32) (np : Nat) : Nat → Int32 := zlay S (if np = 4 then zsf P 1023 else P) (if np = 4 then 3 else np) 341
def rN (np : Nat) : Nat := (if np = 4 then 3 else np) + 1
theorem rN_le {np : Nat} (h : np ≤ 4) : 1 ≤ rN np ∧ rN np ≤ 4 := by
  unfold rN
  split <;> omega
/-- the settings, tried -/
abbrev mTry (S : Nat → Int32) (la le : Nat) : Nat → Int32 := upd (upd S 242 (nI la)) 243 (nI le)
theorem InvS_try {S : Nat → Int32} {B la le : Nat} (h : InvS S B) (h1 : la ≤ 20) (h2 : le < 3) : InvS (mTry S la le) B := by
  have e : ∀ j, j ≠ 242 → j ≠ 243 → mTry S la le j = S j := fun j hj hj2 => (upd_n hj2).trans (upd_n hj)
  obtain ⟨⟨c, a1, a2⟩, a3, a4, a5, a6, a7, a8, a9, a10⟩ := h
  refine ⟨⟨c, by omega, by rw [e _ (by omega) (by omega)]; exact a2⟩, fun u hu => ?_, fun k hk => ?_, fun k hk => ?_, ?_, ?_, fun k hk => ?_, ?_, fun k hk => ?_⟩
  · obtain ⟨b1, b2, b3, b4⟩ := a3 u hu
    rw [e _ (by omega) (by omega), e _ (by omega) (by omega), e _ (by omega) (by omega), e _ (by omega) (by omega)]
    exact ⟨b1, b2, b3, fun r hr => by rw [e _ (by omega) (by omega)]; exact b4 r hr⟩
  · rw [e _ (by omega) (by omega)]; exact a4 k hk
  · rw [e _ (by omega) (by omega)]; exact a5 k hk
  · exact ⟨le, h2, upd_s rfl⟩
  · exact ⟨la, h1, (upd_n (by decide)).trans (upd_s rfl)⟩
  · rw [e _ (by omega) (by omega)]; exact a8 k hk
  · rw [e _ (by omega) (by omega)]; exact a9
  · rw [e _ (by omega) (by omega), e (56 + 3 * k + 1) (by omega) (by omega), e (56 + 3 * k + 2) (by omega) (by omega)]; exact a10 k hk
/-- the best rule of lending: best and fewest behind the first n rules -/
def mBst (S : Nat → Int32) (la : Nat) : Nat → Int32 × Int32
  | 0 => ((-100005), nI 501)
  | n + 1 => if ¬ mRes (mTry S la n) = (-100005) ∧ mRes (mTry S la n) < (mBst S la n).2 then (nI n, mRes (mTry S la n)) else mBst S la n
