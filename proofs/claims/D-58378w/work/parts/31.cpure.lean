/-! the component's numbers against the reference's: preparing lane by lane, readiness, the trace ring -/
def mMk (S : Nat → Int32) (b : Prop) [Decidable b] : Nat → Nat → Int32
  | 0 => S
  | n + 1 => mBr (mLd (mMk S b n) n) b n
theorem mLd_upd {S : Nat → Int32} {t u : Nat} {v : Int32} (ht : t < 4) (hu : u < 4) (n : u ≠ t) (h6 : ∃ r : Nat, r < 4 ∧ S (14 * t + 6) = nI r) (h7 : S (14 * t) = nI 2 → ∃ k : Nat, k < 32 ∧ S (14 * t + 7) = nI (200 + k)) : mLd (upd S (14 * u) v) t = upd (mLd S t) (14 * u) v := by
  obtain ⟨r, hr, er⟩ := h6
  unfold mLd
  rw [upd_n (j := 14 * t) (by omega), upd_n (j := 14 * t + 8) (by omega), upd_n (j := 232) (by omega), upd_n (j := 14 * t + 6) (by omega), upd_n (j := 14 * t + 7) (by omega)]
  by_cases hc : S (14 * t) = nI 2 ∧ S (14 * t + 8) ≤ S 232
  · obtain ⟨k, hk, ek⟩ := h7 hc.1
    rw [if_pos hc, if_pos hc, ek, nI_clamp (by omega), er, nI_clamp (by omega), upd_n (j := 200 + k) (by omega), upd_c (k := 14 * u) (by omega), upd_c (k := 14 * u) (by omega)]
  · rw [if_neg hc, if_neg hc]
theorem mLd_at {S : Nat → Int32} {t u : Nat} (ht : t < 4) (hu : u < 4) (n : u ≠ t) (h6 : ∃ r : Nat, r < 4 ∧ S (14 * t + 6) = nI r) : mLd S t (14 * u) = S (14 * u) := mLd_off ht h6 (by omega) (by omega)
theorem mLd_br {S : Nat → Int32} {b : Prop} [Decidable b] {B t u : Nat} (hI : InvS S B) (ht : t < 4) (hu : u < 4) (n : u ≠ t) : mLd (mBr S b u) t = mBr (mLd S t) b u := by
  obtain ⟨-, h6, h7, -⟩ := hI.t ht
  rw [mBr, mLd_upd ht hu n h6 h7, mBr, mLd_at ht hu n h6]
theorem mLd_brN {X : Nat → Int32} {b : Prop} [Decidable b] {B n : Nat} (hI : InvS X B) (hn : n < 4) : ∀ j, j ≤ n → mLd (mBrN X b j) n = mBrN (mLd X n) b j := by
  intro j
  induction j with
  | zero => intro _; rfl
  | succ j ih =>
    intro hj
    rw [mBrN, mLd_br (InvS_brN hI j (by omega)) hn (by omega) (by omega), ih (by omega)]
    rfl
theorem mMk_n {S : Nat → Int32} {b : Prop} [Decidable b] {B : Nat} (hI : InvS S B) : ∀ n, n ≤ 4 → mMk S b n = mBrN (mLdN S n) b n := by
  intro n
  induction n with
  | zero => intro _; rfl
  | succ n ih =>
    intro hn
    rw [mMk, ih (by omega), mLd_brN (InvS_ldN hI n (by omega)) (by omega) n (Nat.le_refl _)]
    rfl
/-- the state of a lane, when the due loads of the first n are finished -/
theorem mLdN_st {S : Nat → Int32} {B t : Nat} (hI : InvS S B) (ht : t < 4) : ∀ n, n ≤ 4 → mLdN S n (14 * t) = if t < n ∧ S (14 * t) = nI 2 ∧ S (14 * t + 8) ≤ S 232 then nI 1 else S (14 * t) := by
  intro n
  induction n with
  | zero => intro _; rw [if_neg (by omega)]; rfl
  | succ n ih =>
    intro hn
    have hX := InvS_ldN hI n (by omega)
    have h6 := (hX.t (show n < 4 by omega)).2.1
    by_cases e : t = n
    · subst e
      have i1 := ih (by omega)
      rw [if_neg (by omega)] at i1
      have off : ∀ j : Nat, (∀ u, u < t → j ≠ 14 * u ∧ ¬ (14 * u + 2 ≤ j ∧ j < 14 * u + 6)) → mLdN S t j = S j := mLdN_off (fun u hu => (hI.t hu).2.1) t (by omega)
      rw [mLdN]
      unfold mLd
      rw [i1, off (14 * t + 8) (fun u hu => by omega), off 232 (fun u hu => by omega)]
      by_cases hc : S (14 * t) = nI 2 ∧ S (14 * t + 8) ≤ S 232
      · rw [if_pos hc, if_pos ⟨by omega, hc⟩]; exact upd_s rfl
      · rw [if_neg hc, if_neg (fun z => hc z.2)]; exact i1
    · rw [mLdN, mLd_at (by omega) ht e h6, ih (by omega)]
      by_cases hc : t < n ∧ S (14 * t) = nI 2 ∧ S (14 * t + 8) ≤ S 232
      · rw [if_pos hc, if_pos ⟨by omega, hc.2⟩]
      · rw [if_neg hc, if_neg (fun z => hc ⟨by omega, z.2⟩)]
theorem mMany_0 {S : Nat → Int32} {st : Int32} {n : Nat} : mMany S st n = 0 ↔ ∀ t, t < n → S (14 * t) ≠ st := by
  induction n with
  | zero => exact ⟨fun _ t ht => absurd ht (Nat.not_lt_zero _), fun _ => rfl⟩
  | succ n ih =>
    rw [mMany]
    by_cases h : S (14 * n) = st
    · rw [if_pos h]
      exact ⟨fun z => by omega, fun z => absurd h (z n (Nat.lt_succ_self n))⟩
    · rw [if_neg h, Nat.add_zero, ih]
      refine ⟨fun z t ht => ?_, fun z t ht => z t (by omega)⟩
      by_cases e : t = n
      · subst e; exact h
      · exact z t (by omega)
abbrev mBar (S : Nat → Int32) : Prop := mMany S (nI 1) 4 + mMany S (nI 2) 4 = 0
theorem mBar_all {S : Nat → Int32} : mBar S ↔ ∀ t, t < 4 → S (14 * t) ≠ nI 1 ∧ S (14 * t) ≠ nI 2 := by
  have h1 := @mMany_0 S (nI 1) 4
  have h2 := @mMany_0 S (nI 2) 4
  refine ⟨fun z t ht => ⟨h1.mp (by unfold mBar at z; omega) t ht, h2.mp (by unfold mBar at z; omega) t ht⟩, fun z => ?_⟩
  have a := h1.mpr (fun t ht => (z t ht).1)
  have b := h2.mpr (fun t ht => (z t ht).2)
  unfold mBar
  omega
theorem mBar_ld {S : Nat → Int32} {B : Nat} (hI : InvS S B) : mBar S ↔ mBar (mLdN S 4) := by
  have d12 : (nI 1 : Int32) ≠ nI 2 := by decide
  rw [mBar_all, mBar_all]
  refine ⟨fun z t ht => ?_, fun z t ht => ?_⟩
  · rw [mLdN_st hI ht 4 (Nat.le_refl _), if_neg (fun w => (z t ht).2 w.2.1)]
    exact z t ht
  · have h := z t ht
    rw [mLdN_st hI ht 4 (Nat.le_refl _)] at h
    by_cases hc : t < 4 ∧ S (14 * t) = nI 2 ∧ S (14 * t + 8) ≤ S 232
    · rw [if_pos hc] at h; exact absurd rfl h.1
    · rw [if_neg hc] at h; exact h
theorem mBrN_st {X : Nat → Int32} {b : Prop} [Decidable b] {t : Nat} : ∀ n, t < n → mBrN X b n (14 * t) = if b ∧ X (14 * t) = nI 3 then nI 1 else X (14 * t) := by
  intro n
  induction n with
  | zero => intro h; exact absurd h (Nat.not_lt_zero _)
  | succ n ih =>
    intro h
    rw [mBrN, mBr]
    by_cases e : t = n
    · subst e
      rw [upd_s rfl, mBrN_off t (14 * t) (fun u hu => by omega)]
    · rw [upd_n (by omega), ih (by omega)]
theorem mPrep_st {S : Nat → Int32} {B t : Nat} (hI : InvS S B) (ht : t < 4) : mPrep S (14 * t) = if S (14 * t) = nI 2 ∧ S (14 * t + 8) ≤ S 232 then nI 1 else if mBar S ∧ S (14 * t) = nI 3 then nI 1 else S (14 * t) := by
  unfold mPrep
  rw [mBrN_st 4 ht, mLdN_st hI ht 4 (Nat.le_refl _)]
  have hb := mBar_ld hI
  by_cases hc : S (14 * t) = nI 2 ∧ S (14 * t + 8) ≤ S 232
  · rw [if_pos (show t < 4 ∧ _ from ⟨ht, hc⟩), if_pos hc, if_neg (fun z => absurd z.2 (by decide))]
  · rw [if_neg (show ¬ (t < 4 ∧ _) from fun z => hc z.2), if_neg hc]
    by_cases h3 : S (14 * t) = nI 3
    · by_cases hb2 : mBar S
      · rw [if_pos ⟨hb.mp hb2, h3⟩, if_pos ⟨hb2, h3⟩]
      · rw [if_neg (fun z => hb2 (hb.mpr z.1)), if_neg (fun z => hb2 z.1)]
    · rw [if_neg (fun z => h3 z.2), if_neg (fun z => h3 z.2)]
theorem cReady {S : Nat → Int32} {B t : Nat} (hI : InvS S B) (ht : t < 4) : mPrep S (14 * t) = nI 1 ↔ (S (14 * t) = nI 1 ∨ (S (14 * t) = nI 2 ∧ S (14 * t + 8) ≤ S 232) ∨ (S (14 * t) = nI 3 ∧ mBar S)) := by
  rw [mPrep_st hI ht]
  by_cases hc : S (14 * t) = nI 2 ∧ S (14 * t + 8) ≤ S 232
  · rw [if_pos hc]; exact ⟨fun _ => Or.inr (Or.inl hc), fun _ => rfl⟩
  · rw [if_neg hc]
    by_cases h3 : mBar S ∧ S (14 * t) = nI 3
    · rw [if_pos h3]; exact ⟨fun _ => Or.inr (Or.inr ⟨h3.2, h3.1⟩), fun _ => rfl⟩
    · rw [if_neg h3]
      exact ⟨fun z => Or.inl z, fun z => z.elim id (fun z => z.elim (fun z => absurd z hc) (fun z => absurd ⟨z.2, z.1⟩ h3))⟩
theorem mLdN_id {X : Nat → Int32} (h : ∀ t, t < 4 → ¬ (X (14 * t) = nI 2 ∧ X (14 * t + 8) ≤ X 232)) : ∀ n, n ≤ 4 → mLdN X n = X := by
  intro n
  induction n with
  | zero => intro _; rfl
  | succ n ih =>
    intro hn
    rw [mLdN, ih (by omega), mLd, if_neg (h n (by omega))]
theorem mBrN_id {X : Nat → Int32} {b : Prop} [Decidable b] (h : ∀ t, t < 4 → ¬ (b ∧ X (14 * t) = nI 3)) : ∀ n, n ≤ 4 → mBrN X b n = X := by
  intro n
  induction n with
  | zero => intro _; rfl
  | succ n ih =>
    intro hn
    rw [mBrN, ih (by omega), mBr, if_neg (h n (by omega)), upd_id]
theorem mPrep_hi {S : Nat → Int32} {B j : Nat} (hI : InvS S B) (hj : ∀ t, t < 4 → j ≠ 14 * t ∧ ¬ (14 * t + 2 ≤ j ∧ j < 14 * t + 6)) : mPrep S j = S j := mPrep_off (fun t ht => (hI.t ht).2.1) hj
theorem mPrep_idem {S : Nat → Int32} {B : Nat} (hI : InvS S B) : mPrep (mPrep S) = mPrep S := by
  have hd : ∀ t, t < 4 → ¬ (mPrep S (14 * t) = nI 2 ∧ mPrep S (14 * t + 8) ≤ mPrep S 232) := by
    intro t ht z
    rw [mPrep_st hI ht, mPrep_hi hI (j := 14 * t + 8) (fun u hu => by omega), mPrep_hi hI (j := 232) (fun u hu => by omega)] at z
    by_cases hc : S (14 * t) = nI 2 ∧ S (14 * t + 8) ≤ S 232
    · rw [if_pos hc] at z; exact absurd z.1 (by decide)
    · rw [if_neg hc] at z
      by_cases h3 : mBar S ∧ S (14 * t) = nI 3
      · rw [if_pos h3] at z; exact absurd z.1 (by decide)
      · rw [if_neg h3] at z; exact hc z
  have e1 : mLdN (mPrep S) 4 = mPrep S := mLdN_id hd 4 (Nat.le_refl _)
  have e2 : mPrep (mPrep S) = mBrN (mLdN (mPrep S) 4) (mBar (mLdN (mPrep S) 4)) 4 := rfl
  rw [e2, e1]
  refine mBrN_id (fun t ht z => ?_) 4 (Nat.le_refl _)
  obtain ⟨zb, z3⟩ := z
  have zs := mBar_all.mp zb
  have h3 : ¬ mBar S := by
    intro hb
    rw [mPrep_st hI ht] at z3
    by_cases hc : S (14 * t) = nI 2 ∧ S (14 * t + 8) ≤ S 232
    · rw [if_pos hc] at z3; exact absurd z3 (by decide)
    · rw [if_neg hc] at z3
      by_cases h4 : mBar S ∧ S (14 * t) = nI 3
      · rw [if_pos h4] at z3; exact absurd z3 (by decide)
      · rw [if_neg h4] at z3; exact h4 ⟨hb, z3⟩
  refine h3 (mBar_all.mpr (fun u hu => ?_))
  have zu := zs u hu
  rw [mPrep_st hI hu] at zu
  by_cases hc : S (14 * u) = nI 2 ∧ S (14 * u + 8) ≤ S 232
  · rw [if_pos hc] at zu; exact absurd rfl zu.1
  · rw [if_neg hc] at zu
    by_cases h4 : mBar S ∧ S (14 * u) = nI 3
    · exact absurd h4.1 h3
    · rw [if_neg h4] at zu; exact zu
/-- nobody, as the component says it -/
def cN (x : Int32) : Int32 := if x = (-1) then (-100005) else x
theorem cN_j {j : Nat} (h : j < 4) : cN (nI j) = nI j := if_neg (m1_ne h)
theorem cN_0 : cN (-1) = (-100005) := if_pos rfl
theorem n5_ne {j : Nat} (h : j < 1000) : ¬ nI j = (-100005) := by
  intro z
  have h2 := congrArg Int32.toInt z
  rw [nI_toInt (by omega)] at h2
  have h3 : Int32.toInt (-100005) = -100005 := by decide
  omega
/-! the trace -/
def TrR (S C D E : Nat → Int32) (tr : Nat) : Prop := S 292 = nI (min tr 16) ∧ ∀ j, j < 16 → j < tr → C ((tr - 1 - j) % 16) = S (293 + 3 * j) ∧ D ((tr - 1 - j) % 16) = S (294 + 3 * j) ∧ E ((tr - 1 - j) % 16) = S (295 + 3 * j)
theorem TrR.to {S S' C D E : Nat → Int32} {tr : Nat} (h : TrR S C D E tr) (e : ∀ j, 292 ≤ j → j < 341 → S' j = S j) : TrR S' C D E tr := by
  refine ⟨by rw [e _ (by omega) (by omega)]; exact h.1, fun j h1 h2 => ?_⟩
  rw [e _ (by omega) (by omega), e (294 + 3 * j) (by omega) (by omega), e (295 + 3 * j) (by omega) (by omega)]
  exact h.2 j h1 h2
theorem TrR.push {S C D E : Nat → Int32} {tr : Nat} (h : TrR S C D E tr) (t pl : Int32) : TrR (mTr S t pl) (upd C (tr % 16) (S 232)) (upd D (tr % 16) t) (upd E (tr % 16) pl) (tr + 1) := by
  refine ⟨?_, fun j h1 h2 => ?_⟩
  · have e2 : mTr S t pl 292 = S 292 + (if S 292 < nI 16 then nI 1 else nI 0) := upd_s rfl
    rw [e2, h.1]
    by_cases hn : min tr 16 < 16
    · rw [if_pos (nI_lt hn (by omega)), nI_add]; congr 1; omega
    · rw [if_neg (nI_nlt (by omega) (by omega)), nI_add]; congr 1; omega
  · have hm : ∀ i, i < 3 → 0 < j → mTr S t pl (293 + i + 3 * j) = S (293 + i + 3 * (j - 1)) := by
      intro i hi hj
      unfold mTr
      rw [upd_n (by omega), upd_n (by omega), upd_n (by omega), upd_n (by omega), mTs, if_pos (by omega)]
      congr 1
      omega
    by_cases h0 : j = 0
    · subst h0
      have ei : (tr + 1 - 1 - 0) % 16 = tr % 16 := by congr 1
      rw [ei, upd_s rfl, upd_s rfl, upd_s rfl]
      unfold mTr
      refine ⟨?_, ?_, ?_⟩
      · rw [upd_n (by omega), upd_n (by omega), upd_n (by omega), upd_s (by omega)]
      · rw [upd_n (by omega), upd_n (by omega), upd_s (by omega)]
      · rw [upd_n (by omega), upd_s (by omega)]
    · have hh := h.2 (j - 1) (by omega) (by omega)
      have ei : (tr + 1 - 1 - j) % 16 = (tr - 1 - (j - 1)) % 16 := by congr 1; omega
      have en : (tr - 1 - (j - 1)) % 16 ≠ tr % 16 := by omega
      rw [ei, upd_n en, upd_n en, upd_n en]
      have m0 := hm 0 (by omega) (by omega)
      have m1 := hm 1 (by omega) (by omega)
      have m2 := hm 2 (by omega) (by omega)
      rw [show 293 + 3 * j = 293 + 0 + 3 * j by omega, show 294 + 3 * j = 293 + 1 + 3 * j by omega, show 295 + 3 * j = 293 + 2 + 3 * j by omega, m0, m1, m2]
      exact hh
/-- a number below the trace, and not read by it, may be set before or behind -/
theorem mTr_upd {S : Nat → Int32} {t pl v : Int32} {i : Nat} (hi : i < 232) : mTr (upd S i v) t pl = upd (mTr S t pl) i v := by
  have e : mTs (upd S i v) 2 = upd (mTs S 2) i v := by
    funext j
    unfold mTs
    by_cases hj : 293 + 2 < j ∧ j < 341
    · rw [if_pos hj, upd_n (by omega), upd_n (by omega), if_pos hj]
    · rw [if_neg hj]
      unfold upd
      by_cases h2 : j = i
      · rw [if_pos h2, if_pos h2]
      · rw [if_neg h2, if_neg h2]
        exact (if_neg hj).symm
  unfold mTr
  rw [e, upd_n (j := 232) (by omega), upd_n (j := 292) (by omega)]
  rw [upd_c (k := i) (j := 293) (by omega), upd_c (k := i) (j := 294) (by omega), upd_c (k := i) (j := 295) (by omega), upd_c (k := i) (j := 292) (by omega)]
