/-! the ranges stay -/
theorem sh_sh (x : Int32) : sh (sh x) = sh x := by
  unfold sh
  simp
theorem InvS_congr {S S' : Nat → Int32} {B B' : Nat} (h : InvS S B) (hB : B ≤ B') (e : ∀ j : Nat, ((j < 56 ∧ j % 14 < 8) ∨ (56 ≤ j ∧ j ≤ 232) ∨ (234 ≤ j ∧ j ≤ 292)) → S' j = S j) : InvS S' B' := by
  obtain ⟨⟨c, h1, h2⟩, h3, h4, h5, h6, h7, h8, h9, h10⟩ := h
  refine ⟨⟨c, by omega, by rw [e _ (by omega)]; exact h2⟩, fun t ht => ?_, fun k hk => ?_, fun k hk => ?_, ?_, ?_, fun k hk => ?_, ?_, fun k hk => ?_⟩
  · obtain ⟨a1, a2, a3, a4⟩ := h3 t ht
    have hm : ∀ i, i < 8 → S' (14 * t + i) = S (14 * t + i) := fun i hi => e _ (Or.inl ⟨by omega, by omega⟩)
    have hm0 : S' (14 * t) = S (14 * t) := e _ (Or.inl ⟨by omega, by omega⟩)
    have hmr : ∀ r, r < 4 → S' (14 * t + (2 + r)) = S (14 * t + (2 + r)) := fun i hi => e _ (Or.inl ⟨by omega, by omega⟩)
    rw [hm 1 (by omega), hm 6 (by omega), hm 7 (by omega), hm0]
    exact ⟨a1, a2, a3, fun r hr => by rw [hmr r hr]; exact a4 r hr⟩
  · rw [e _ (by omega)]; exact h4 k hk
  · rw [e _ (by omega)]; exact h5 k hk
  · rw [e _ (by omega)]; exact h6
  · rw [e _ (by omega)]; exact h7
  · rw [e _ (by omega)]; exact h8 k hk
  · rw [e _ (by omega)]; exact h9
  · rw [e _ (by omega), e (56 + 3 * k + 1) (by omega), e (56 + 3 * k + 2) (by omega)]; exact h10 k hk
theorem InvS.up {S : Nat → Int32} {B B' : Nat} (h : InvS S B) (hB : B ≤ B') : InvS S B' := InvS_congr h hB (fun _ _ => rfl)
/-- one lane's part of the ranges -/
def InvT (S : Nat → Int32) (t : Nat) : Prop := (∃ c : Nat, c ≤ 48 ∧ S (14 * t + 1) = nI c) ∧ (∃ r : Nat, r < 4 ∧ S (14 * t + 6) = nI r) ∧ (S (14 * t) = nI 2 → ∃ k : Nat, k < 32 ∧ S (14 * t + 7) = nI (200 + k)) ∧ (∀ r, r < 4 → sh (S (14 * t + (2 + r))) = S (14 * t + (2 + r)))
/-- a change of one lane's numbers alone -/
theorem InvS_lane {S S' : Nat → Int32} {B t : Nat} (h : InvS S B) (ht : t < 4) (e : ∀ j : Nat, (j < 14 * t ∨ 14 * t + 14 ≤ j) → S' j = S j) (hT : InvT S' t) : InvS S' B := by
  obtain ⟨⟨c, h1, h2⟩, h3, h4, h5, h6, h7, h8, h9, h10⟩ := h
  refine ⟨⟨c, by omega, by rw [e _ (by omega)]; exact h2⟩, fun u hu => ?_, fun k hk => ?_, fun k hk => ?_, ?_, ?_, fun k hk => ?_, ?_, fun k hk => ?_⟩
  · by_cases hut : u = t
    · subst hut; exact hT
    · obtain ⟨a1, a2, a3, a4⟩ := h3 u hu
      have hm : ∀ i, i < 14 → S' (14 * u + i) = S (14 * u + i) := fun i hi => e _ (by omega)
      have hm0 : S' (14 * u) = S (14 * u) := e _ (by omega)
      rw [hm 1 (by omega), hm 6 (by omega), hm 7 (by omega), hm0]
      exact ⟨a1, a2, a3, fun r hr => by rw [hm (2 + r) (by omega)]; exact a4 r hr⟩
  · rw [e _ (by omega)]; exact h4 k hk
  · rw [e _ (by omega)]; exact h5 k hk
  · rw [e _ (by omega)]; exact h6
  · rw [e _ (by omega)]; exact h7
  · rw [e _ (by omega)]; exact h8 k hk
  · rw [e _ (by omega)]; exact h9
  · rw [e _ (by omega), e (56 + 3 * k + 1) (by omega), e (56 + 3 * k + 2) (by omega)]; exact h10 k hk
theorem InvS.t {S : Nat → Int32} {B t : Nat} (h : InvS S B) (ht : t < 4) : InvT S t := h.2.1 t ht
/-- a word is stored -/
theorem InvS_word {S : Nat → Int32} {B w : Nat} {v : Int32} (h : InvS S B) (hw : 200 ≤ w ∧ w < 232) (hv : sh v = v) : InvS (upd S w v) B := by
  obtain ⟨⟨c, h1, h2⟩, h3, h4, h5, h6, h7, h8, h9, h10⟩ := h
  refine ⟨⟨c, by omega, by rw [upd_n (by omega)]; exact h2⟩, fun u hu => ?_, fun k hk => ?_, fun k hk => ?_, ?_, ?_, fun k hk => ?_, ?_, fun k hk => ?_⟩
  · obtain ⟨a1, a2, a3, a4⟩ := h3 u hu
    rw [upd_n (by omega), upd_n (by omega), upd_n (by omega), upd_n (by omega)]
    exact ⟨a1, a2, a3, fun r hr => by rw [upd_n (by omega)]; exact a4 r hr⟩
  · by_cases hk2 : 200 + k = w
    · rw [upd_s hk2]; exact hv
    · rw [upd_n hk2]; exact h4 k hk
  · rw [upd_n (by omega)]; exact h5 k hk
  · rw [upd_n (by omega)]; exact h6
  · rw [upd_n (by omega)]; exact h7
  · rw [upd_n (by omega)]; exact h8 k hk
  · rw [upd_n (by omega)]; exact h9
  · rw [upd_n (by omega), upd_n (by omega), upd_n (by omega)]; exact h10 k hk
theorem InvS_reg {S : Nat → Int32} {B t r : Nat} {v : Int32} (h : InvS S B) (ht : t < 4) (hr : r < 4) (hv : sh v = v) : InvS (upd S (14 * t + (2 + r)) v) B := by
  refine InvS_lane h ht (fun j hj => upd_n (by omega)) ?_
  obtain ⟨a1, a2, a3, a4⟩ := h.t ht
  refine ⟨?_, ?_, ?_, ?_⟩
  · rw [upd_n (by omega)]; exact a1
  · rw [upd_n (by omega)]; exact a2
  · rw [upd_n (by omega), upd_n (by omega)]; exact a3
  · intro r2 hr2
    by_cases hh : r2 = r
    · subst hh; rw [upd_s rfl]; exact hv
    · rw [upd_n (by omega)]; exact a4 r2 hr2
theorem InvS_state {S : Nat → Int32} {B t : Nat} {v : Int32} (h : InvS S B) (ht : t < 4) (hv : ¬ v = nI 2) : InvS (upd S (14 * t) v) B := by
  refine InvS_lane h ht (fun j hj => upd_n (by omega)) ?_
  obtain ⟨a1, a2, a3, a4⟩ := h.t ht
  refine ⟨?_, ?_, ?_, ?_⟩
  · rw [upd_n (by omega)]; exact a1
  · rw [upd_n (by omega)]; exact a2
  · rw [upd_s rfl]; exact fun z => absurd z hv
  · intro r2 hr2; rw [upd_n (by omega)]; exact a4 r2 hr2
theorem InvS_counter {S : Nat → Int32} {B t : Nat} {v : Int32} (h : InvS S B) (ht : t < 4) (hv : ∃ c : Nat, c ≤ 48 ∧ v = nI c) : InvS (upd S (14 * t + 1) v) B := by
  refine InvS_lane h ht (fun j hj => upd_n (by omega)) ?_
  obtain ⟨a1, a2, a3, a4⟩ := h.t ht
  refine ⟨?_, ?_, ?_, ?_⟩
  · rw [upd_s rfl]; exact hv
  · rw [upd_n (by omega)]; exact a2
  · rw [upd_n (by omega), upd_n (by omega)]; exact a3
  · intro r2 hr2; rw [upd_n (by omega)]; exact a4 r2 hr2
theorem InvS_free {S : Nat → Int32} {B j : Nat} {v : Int32} (h : InvS S B) (hj : ¬ ((j < 56 ∧ j % 14 < 8) ∨ (56 ≤ j ∧ j ≤ 232) ∨ (234 ≤ j ∧ j ≤ 292))) : InvS (upd S j v) B :=
  InvS_congr h (Nat.le_refl _) (fun k hk => upd_n (fun e => hj (e ▸ hk)))
theorem InvS_ld {S : Nat → Int32} {B t : Nat} (h : InvS S B) (ht : t < 4) : InvS (mLd S t) B := by
  unfold mLd
  split
  · obtain ⟨r, hr, er⟩ := (h.t ht).2.1
    rw [er, nI_clamp (by omega)]
    exact InvS_state (InvS_reg h ht hr (sh_sh _)) ht (by decide)
  · exact h
theorem InvS_ldN {S : Nat → Int32} {B : Nat} (h : InvS S B) : ∀ n, n ≤ 4 → InvS (mLdN S n) B := by
  intro n
  induction n with
  | zero => exact fun _ => h
  | succ n ih => intro hn; exact InvS_ld (ih (by omega)) (by omega)
theorem InvS_brN {S : Nat → Int32} {B : Nat} {b : Prop} [Decidable b] (h : InvS S B) : ∀ n, n ≤ 4 → InvS (mBrN S b n) B := by
  intro n
  induction n with
  | zero => exact fun _ => h
  | succ n ih =>
    intro hn
    have h2 := ih (by omega)
    rw [mBrN, mBr]
    split
    · exact InvS_state h2 (by omega) (by decide)
    · rw [upd_id]; exact h2
theorem InvS_prep {S : Nat → Int32} {B : Nat} (h : InvS S B) : InvS (mPrep S) B := by
  unfold mPrep
  exact InvS_brN (InvS_ldN h 4 (Nat.le_refl _)) 4 (Nat.le_refl _)
theorem InvS_stN {S : Nat → Int32} {B : Nat} {i : Int32} (h : InvS S B) : InvS (mStN S i 4) B :=
  InvS_congr h (Nat.le_refl _) (fun j hj => mStN_off 4 j (fun t ht => by omega))
theorem InvS_tr {S : Nat → Int32} {B : Nat} {t pl : Int32} (h : InvS S B) : InvS (mTr S t pl) B := by
  obtain ⟨⟨c, h1, h2⟩, h3, h4, h5, h6, h7, h8, ⟨n, h9, h9'⟩, h10⟩ := h
  have e : ∀ j, j < 292 → mTr S t pl j = S j := fun j hj => mTr_off hj
  refine ⟨⟨c, by omega, by rw [e _ (by omega)]; exact h2⟩, fun u hu => ?_, fun k hk => ?_, fun k hk => ?_, ?_, ?_, fun k hk => ?_, ?_, fun k hk => ?_⟩
  · obtain ⟨a1, a2, a3, a4⟩ := h3 u hu
    rw [e _ (by omega), e _ (by omega), e _ (by omega), e _ (by omega)]
    exact ⟨a1, a2, a3, fun r hr => by rw [e _ (by omega)]; exact a4 r hr⟩
  · rw [e _ (by omega)]; exact h4 k hk
  · rw [e _ (by omega)]; exact h5 k hk
  · rw [e _ (by omega)]; exact h6
  · rw [e _ (by omega)]; exact h7
  · rw [e _ (by omega)]; exact h8 k hk
  · have e2 : mTr S t pl 292 = S 292 + (if S 292 < nI 16 then nI 1 else nI 0) := upd_s rfl
    rw [e2, h9']
    by_cases hn : n < 16
    · rw [if_pos (nI_lt hn (by omega)), nI_add]; exact ⟨n + 1, by omega, rfl⟩
    · rw [if_neg (nI_nlt (by omega) (by omega)), nI_add]; exact ⟨n + 0, by omega, rfl⟩
  · rw [e _ (by omega), e (56 + 3 * k + 1) (by omega), e (56 + 3 * k + 2) (by omega)]; exact h10 k hk
theorem InvS_sh {S : Nat → Int32} {B w : Nat} (h : InvS S B) (hw : 200 ≤ w ∧ w < 232) : sh (S w) = S w := by
  have := h.2.2.1 (w - 200) (by omega)
  rw [show 200 + (w - 200) = w by omega] at this
  exact this
theorem InvS_does {S : Nat → Int32} {B t o r : Nat} {x : Int32} (h : InvS S B) (ht : t < 4) (ho : o < 12) (hr48 : r < 48) (hrr : (o ≤ 6 ∨ o = 8 ∨ o = 9) → r < 4) (hxq : 1 ≤ o → o ≤ 6 → ∃ q : Nat, q < 4 ∧ x = nI q) (hx48 : (o = 8 ∨ o = 9) → ∃ q : Nat, q < 48 ∧ x = nI q) : InvS (mDoes S t o r x) B := by
  have hwd := mWd_lt S t x
  have hreg : ∀ r2, r2 < 4 → sh (S (14 * t + (2 + r2))) = S (14 * t + (2 + r2)) := (h.t ht).2.2.2
  rcases (show o = 0 ∨ o = 1 ∨ o = 2 ∨ o = 3 ∨ o = 4 ∨ o = 5 ∨ o = 6 ∨ o = 7 ∨ o = 8 ∨ o = 9 ∨ o = 10 ∨ o = 11 by omega) with rfl | rfl | rfl | rfl | rfl | rfl | rfl | rfl | rfl | rfl | rfl | rfl
  · rw [mDoes_0]; exact InvS_reg h ht (hrr (by omega)) (sh_sh _)
  · obtain ⟨q, hq, rfl⟩ := hxq (by omega) (by omega)
    rw [mDoes_1 hq]; exact InvS_reg h ht (hrr (by omega)) (sh_sh _)
  · obtain ⟨q, hq, rfl⟩ := hxq (by omega) (by omega)
    rw [mDoes_2 hq]; exact InvS_reg h ht (hrr (by omega)) (sh_sh _)
  · obtain ⟨q, hq, rfl⟩ := hxq (by omega) (by omega)
    rw [mDoes_3 hq]; exact InvS_reg h ht (hrr (by omega)) (sh_sh _)
  · have hr4 := hrr (by omega)
    obtain ⟨a1, a2, a3, a4⟩ := h.t ht
    rw [mDoes_4]
    refine InvS_lane h ht (fun j hj => by rw [upd_n (by omega), upd_n (by omega), upd_n (by omega), upd_n (by omega)]) ?_
    refine ⟨?_, ?_, ?_, ?_⟩
    · rw [upd_n (by omega), upd_n (by omega), upd_n (by omega), upd_n (by omega)]; exact a1
    · rw [upd_n (by omega), upd_n (by omega), upd_s rfl]; exact ⟨r, hr4, rfl⟩
    · intro _
      rw [upd_n (by omega), upd_s rfl]
      exact ⟨mWd S t x - 200, by omega, by rw [show 200 + (mWd S t x - 200) = mWd S t x by omega]⟩
    · intro r2 hr2
      rw [upd_n (by omega), upd_n (by omega), upd_n (by omega), upd_n (by omega)]; exact a4 r2 hr2
  · rw [mDoes_5]; exact InvS_word h hwd (hreg r (hrr (by omega)))
  · rw [mDoes_6]; exact InvS_word (InvS_reg h ht (hrr (by omega)) (sh_sh _)) hwd (hreg r (hrr (by omega)))
  · rw [mDoes_7]; exact InvS_counter h ht ⟨r, by omega, rfl⟩
  · rw [mDoes_8]
    obtain ⟨q, hq, rfl⟩ := hx48 (by omega)
    refine InvS_counter h ht ?_
    split
    · exact ⟨q, by omega, rfl⟩
    · exact (h.t ht).1
  · rw [mDoes_9]
    obtain ⟨q, hq, rfl⟩ := hx48 (by omega)
    refine InvS_counter h ht ?_
    split
    · exact ⟨q, by omega, rfl⟩
    · exact (h.t ht).1
  · rw [mDoes_10]; exact InvS_state h ht (by decide)
  · rw [mDoes_11]; exact InvS_state h ht (by decide)
/-- the operation at a place, in naturals -/
def InsAt (S : Nat → Int32) (k o r : Nat) : Prop := o < 12 ∧ S (56 + 3 * k) = nI o ∧ S (56 + 3 * k + 1) = nI r ∧ r < 48 ∧ ((o ≤ 6 ∨ o = 8 ∨ o = 9) → r < 4) ∧ (1 ≤ o → o ≤ 6 → ∃ q : Nat, q < 4 ∧ S (56 + 3 * k + 2) = nI q) ∧ ((o = 8 ∨ o = 9) → ∃ q : Nat, q < 48 ∧ S (56 + 3 * k + 2) = nI q) ∧ (10 ≤ o → r = 0) ∧ ((o = 7 ∨ 10 ≤ o) → S (56 + 3 * k + 2) = nI 0)
theorem InvS.ins {S : Nat → Int32} {B k : Nat} (h : InvS S B) (hk : k < 48) : ∃ o r : Nat, InsAt S k o r := by
  obtain ⟨o, r, q, h1, h2, ⟨h3, h3'⟩, h4, h5, h6, h7, h8⟩ := h.2.2.2.2.2.2.2.2 k hk
  refine ⟨o, r, h1, h2, h3, h3', h4, fun a b => ⟨q, h6 a b, (h5 a).1⟩, fun a => ⟨q, (h5 (by omega)).2, (h5 (by omega)).1⟩, h7, fun a => ?_⟩
  rw [(h5 (by omega)).1, h8 a]
theorem mEx_48 {S : Nat → Int32} {t : Nat} (h : S (14 * t + 1) = nI 48) : mEx S t = upd (mTr S (nI t) (nI 48)) (14 * t) (nI 0) := by
  unfold mEx
  rw [h, nI_clamp (by omega)]
  rfl
theorem mEx_n {S : Nat → Int32} {t k o r : Nat} (h : S (14 * t + 1) = nI k) (hk : k < 48) (hi : InsAt S k o r) : mEx S t = mDoes (upd (mTr S (nI t) (nI k)) (14 * t + 1) (nI (k + 1))) t o r (S (56 + 3 * k + 2)) := by
  obtain ⟨h1, h2, h3, h4, -⟩ := hi
  unfold mEx
  rw [h, nI_clamp (by omega)]
  show (if k = 48 then _ else _) = _
  rw [if_neg (by omega), h2, h3, nI_clamp (by omega), nI_clamp (by omega)]
theorem InvS_ex {S : Nat → Int32} {B t : Nat} (h : InvS S B) (ht : t < 4) : InvS (mEx S t) B := by
  obtain ⟨k, hk, ek⟩ := (h.t ht).1
  by_cases h48 : k = 48
  · subst h48
    rw [mEx_48 ek]
    exact InvS_state (InvS_tr h) ht (by decide)
  · obtain ⟨o, r, hi⟩ := h.ins (show k < 48 by omega)
    rw [mEx_n ek (by omega) hi]
    obtain ⟨h1, h2, h3, h4, h5, h6, h7, -⟩ := hi
    have hk1 : k + 1 ≤ 48 := Nat.lt_of_le_of_ne hk h48
    exact InvS_does (InvS_counter (v := nI (k + 1)) (InvS_tr h) ht ⟨k + 1, hk1, rfl⟩) ht h1 h4 h5 h6 h7
theorem InvS_own {S : Nat → Int32} {B : Nat} (h : InvS S B) (hB : B < 2147483648) : mOwn S < 4 := by
  obtain ⟨⟨cy, h1, h2⟩, -, -, h5, -⟩ := h
  unfold mOwn
  rw [h2, nI_clamp (by omega)]
  obtain ⟨j, hj, ej⟩ := h5 (cy % 8) (Nat.mod_lt _ (by decide))
  rw [ej, nI_clamp (by omega)]
  exact hj
theorem InvS_cyc {S : Nat → Int32} {B : Nat} (h : InvS S B) (hB : B < 2147483648) : InvS (mCyc S) (B + 1) := by
  have h1 := InvS_prep h
  have h2 := InvS_stN (i := mIss (mPrep S)) h1
  have h3 : ∀ S3, InvS S3 B → InvS (upd S3 232 (S3 232 + nI 1)) (B + 1) := by
    intro S3 hh
    obtain ⟨⟨c, a1, a2⟩, a3, a4, a5, a6, a7, a8, a9, a10⟩ := hh
    refine ⟨⟨c + 1, by omega, by rw [upd_s rfl, a2, nI_add]⟩, fun u hu => ?_, fun k hk => ?_, fun k hk => ?_, ?_, ?_, fun k hk => ?_, ?_, fun k hk => ?_⟩
    · obtain ⟨b1, b2, b3, b4⟩ := a3 u hu
      rw [upd_n (by omega), upd_n (by omega), upd_n (by omega), upd_n (by omega)]
      exact ⟨b1, b2, b3, fun r hr => by rw [upd_n (by omega)]; exact b4 r hr⟩
    · rw [upd_n (by omega)]; exact a4 k hk
    · rw [upd_n (by omega)]; exact a5 k hk
    · rw [upd_n (by omega)]; exact a6
    · rw [upd_n (by omega)]; exact a7
    · rw [upd_n (by omega)]; exact a8 k hk
    · rw [upd_n (by omega)]; exact a9
    · rw [upd_n (by omega), upd_n (by omega), upd_n (by omega)]; exact a10 k hk
  unfold mCyc
  dsimp only
  split
  · exact h3 _ (InvS_free h2 (by omega))
  · rename_i hi
    rcases mIss_in (mPrep S) (InvS_own h1 hB) with hz | ⟨j, hj, ej⟩
    · exact absurd hz hi
    · rw [ej, nI_clamp (by omega)]
      exact h3 _ (InvS_ex (InvS_free (InvS_free (InvS_free (ej ▸ h2) (by omega)) (by omega)) (by omega)) hj)
