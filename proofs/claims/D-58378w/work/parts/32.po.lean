/-! the outer object, as a Machine's methods see it: its operations, its rules, the halting instruction; and all that stands from the start. Cells of owner 0 are never written. -/
theorem zout3 {x : Int32} (h1 : ¬ x = nI 1) (h2 : ¬ x = nI 2) (h3 : ¬ x = nI 3) : x.toInt < 1 ∨ 3 < x.toInt := by
  have f : ∀ k : Nat, k < 2 ^ 31 → ¬ x = nI k → x.toInt ≠ k := fun k hk h z => h (Int32.toInt_inj.mp (by rw [z, nI_toInt hk]))
  have a := f 1 (by omega) h1
  have b := f 2 (by omega) h2
  have c := f 3 (by omega) h3
  omega
def PO (G : zG) (own u : Nat → Nat) (x : Nat) (H : Heap) : Prop :=
  (zO G x 0 [.ref (u 0), .ref (u 1), .ref (u 2), .ref (u 3), .ref (u 4), .ref (u 5)] H ∧ zR G (u 0) 6 12 (fun k => some (G.2.2 (20 + k))) H ∧ zR G (u 1) 7 3 (fun k => some (u (6 + k))) H ∧ zO G (u 2) 3 [.int (nI 11), .int (-100005), .int (-100005)] H) ∧
  (zO G (u (6 + 0)) 7 [] H ∧ zO G (u (6 + 1)) 5 [] H ∧ zO G (u (6 + 2)) 6 [] H) ∧ (own x = x ∧ x ≠ 0) ∧ (∀ k, k < 3 → own (u k) = 0 ∧ own (u (6 + k)) = 0) ∧ zC G H ∧ (∀ q, q < G.2.2 50 → own q = 0)
section ZPO
variable {G : zG} {own u : Nat → Nat} {x : Nat} {H H1 : Heap}
theorem PO.o (h : PO G own u x H) : zO G x 0 [.ref (u 0), .ref (u 1), .ref (u 2), .ref (u 3), .ref (u 4), .ref (u 5)] H := h.1.1
theorem PO.ops (h : PO G own u x H) : zR G (u 0) 6 12 (fun k => some (G.2.2 (20 + k))) H := h.1.2.1
theorem PO.rul (h : PO G own u x H) : zR G (u 1) 7 3 (fun k => some (u (6 + k))) H := h.1.2.2.1
theorem PO.h (h : PO G own u x H) : zO G (u 2) 3 [.int (nI 11), .int (-100005), .int (-100005)] H := h.1.2.2.2
theorem PO.r0 (h : PO G own u x H) : zO G (u (6 + 0)) 7 [] H := h.2.1.1
theorem PO.r1 (h : PO G own u x H) : zO G (u (6 + 1)) 5 [] H := h.2.1.2.1
theorem PO.r2 (h : PO G own u x H) : zO G (u (6 + 2)) 6 [] H := h.2.1.2.2
theorem PO.c (h : PO G own u x H) : zC G H := h.2.2.2.2.1
theorem PO.ox (h : PO G own u x H) : own x = x := h.2.2.1.1
theorem PO.x0 (h : PO G own u x H) : x ≠ 0 := h.2.2.1.2
theorem PO.z0 (h : PO G own u x H) {q : Nat} (hq : q < G.2.2 50) : own q = 0 := h.2.2.2.2.2 q hq
/-- a cell that somebody owns lies behind the constants -/
theorem PO.g (h : PO G own u x H) {q : Nat} (hq : own q ≠ 0) : G.2.2 50 ≤ q := Nat.le_of_not_lt (fun z => hq (h.z0 z))
theorem PO.put (h : PO G own u x H) {b : Nat} (hz : H.size ≤ H1.size) (hx : zO G x 0 [.ref (u 0), .ref (u 1), .ref (u 2), .ref b, .ref (u 4), .ref (u 5)] H1) (hq : ∀ q : Nat, own q = 0 → q < H.size → H1[q]? = H[q]?) : PO G own (fun j => if j = 3 then b else u j) x H1 := by
  have k0 : ∀ k, k < 3 → u k < H.size → H1[u k]? = H[u k]? := fun k hk hl => hq _ (h.2.2.2.1 k hk).1 hl
  have k6 : ∀ k, k < 3 → u (6 + k) < H.size → H1[u (6 + k)]? = H[u (6 + k)]? := fun k hk hl => hq _ (h.2.2.2.1 k hk).2 hl
  have e6 : ∀ k, (if 6 + k = 3 then b else u (6 + k)) = u (6 + k) := fun k => if_neg (by omega)
  refine ⟨⟨hx, h.ops.kept (k0 0 (by omega) h.ops.lt), ?_, h.h.kept (k0 2 (by omega) h.h.lt)⟩, ⟨h.r0.kept (k6 0 (by omega) h.r0.lt), h.r1.kept (k6 1 (by omega) h.r1.lt), h.r2.kept (k6 2 (by omega) h.r2.lt)⟩, h.2.2.1, fun k hk => ⟨?_, ?_⟩, h.c.kept hz (fun q hlt => hq q (h.z0 hlt) (Nat.lt_of_lt_of_le hlt h.c.size)), h.2.2.2.2.2⟩
  · exact (h.rul.kept (k0 1 (by omega) h.rul.lt)).to (fun k _ => congrArg some (e6 k).symm)
  · show own (if k = 3 then b else u k) = 0
    rw [if_neg (by omega)]; exact (h.2.2.2.1 k hk).1
  · show own (if 6 + k = 3 then b else u (6 + k)) = 0
    rw [e6]; exact (h.2.2.2.1 k hk).2
theorem PO.kept (h : PO G own u x H) (hz : H.size ≤ H1.size) (hq : ∀ q : Nat, own q = 0 ∨ own q = x → q < H.size → H1[q]? = H[q]?) : PO G own u x H1 := by
  have k0 : ∀ k, k < 3 → u k < H.size → H1[u k]? = H[u k]? := fun k hk hl => hq _ (Or.inl (h.2.2.2.1 k hk).1) hl
  have k6 : ∀ k, k < 3 → u (6 + k) < H.size → H1[u (6 + k)]? = H[u (6 + k)]? := fun k hk hl => hq _ (Or.inl (h.2.2.2.1 k hk).2) hl
  exact ⟨⟨h.o.kept (hq _ (Or.inr h.ox) h.o.lt), h.ops.kept (k0 0 (by omega) h.ops.lt), h.rul.kept (k0 1 (by omega) h.rul.lt), h.h.kept (k0 2 (by omega) h.h.lt)⟩, ⟨h.r0.kept (k6 0 (by omega) h.r0.lt), h.r1.kept (k6 1 (by omega) h.r1.lt), h.r2.kept (k6 2 (by omega) h.r2.lt)⟩, h.2.2.1, h.2.2.2.1, h.c.kept hz (fun q hlt => hq q (Or.inl (h.z0 hlt)) (Nat.lt_of_lt_of_le hlt h.c.size)), h.2.2.2.2.2⟩
theorem PO.put1 (h : PO G own u x H) {q0 a : Nat} (hw : own q0 = a) (ha : a ≠ 0) (hax : a ≠ x) (hz : H1.size = H.size) (hq : ∀ q : Nat, q ≠ q0 → H1[q]? = H[q]?) : PO G own u x H1 :=
  h.kept (Nat.le_of_eq hz.symm) (fun q o _ => hq q (fun e => by
    subst e
    rcases o with o | o
    · exact ha (hw ▸ o)
    · exact hax (hw ▸ o)))
theorem PO.call (h : PO G own u x H) {a : Nat} (ha : a ≠ 0) (hax : a ≠ x) (hz : H.size ≤ H1.size) (hk : ∀ q : Nat, q < H.size → ¬ own q = a → H1[q]? = H[q]?) : PO G own u x H1 :=
  h.kept hz (fun q o hl => hk q hl (fun e => by
    rcases o with o | o
    · exact ha (e ▸ o)
    · exact hax (e ▸ o)))
theorem PO.reown {own' : Nat → Nat} (h : PO G own u x H) (e : ∀ q : Nat, q < H.size → own' q = own q) : PO G own' u x H := by
  refine ⟨h.1, h.2.1, ⟨by rw [e _ h.o.lt]; exact h.ox, h.x0⟩, fun k hk => ?_, h.c, fun q hq => by rw [e _ (Nat.lt_of_lt_of_le hq h.c.size)]; exact h.z0 hq⟩
  rcases (show k = 0 ∨ k = 1 ∨ k = 2 by omega) with rfl | rfl | rfl
  · exact ⟨by rw [e _ h.ops.lt]; exact (h.2.2.2.1 0 hk).1, by rw [e _ h.r0.lt]; exact (h.2.2.2.1 0 hk).2⟩
  · exact ⟨by rw [e _ h.rul.lt]; exact (h.2.2.2.1 1 hk).1, by rw [e _ h.r1.lt]; exact (h.2.2.2.1 1 hk).2⟩
  · exact ⟨by rw [e _ h.h.lt]; exact (h.2.2.2.1 2 hk).1, by rw [e _ h.r2.lt]; exact (h.2.2.2.1 2 hk).2⟩
end ZPO
/-! more laws of the numbers -/
theorem mMany_all {S : Nat → Int32} {st : Int32} {n : Nat} : mMany S st n = n ↔ ∀ t, t < n → S (14 * t) = st := by
  induction n with
  | zero => exact ⟨fun _ t ht => absurd ht (Nat.not_lt_zero _), fun _ => rfl⟩
  | succ n ih =>
    rw [mMany]
    have hl := mMany_le S st n
    by_cases h : S (14 * n) = st
    · rw [if_pos h]
      refine ⟨fun z t ht => ?_, fun z => ?_⟩
      · by_cases e : t = n
        · subst e; exact h
        · exact ih.mp (by omega) t (by omega)
      · rw [ih.mpr (fun t ht => z t (by omega))]
    · rw [if_neg h]
      exact ⟨fun z => by omega, fun z => absurd (z n (Nat.lt_succ_self n)) h⟩
theorem mOwn_c {S S' : Nat → Int32} (h : ∀ j, j = 232 ∨ (234 ≤ j ∧ j < 242) → S' j = S j) : mOwn S' = mOwn S := by
  unfold mOwn
  have := Nat.mod_lt (S 232).toNatClampNeg (show 0 < 8 by decide)
  rw [h 232 (Or.inl rfl), h _ (Or.inr ⟨by omega, by omega⟩)]
/-- the issuing thread by the rule k, the owner o -/
def cIs (S : Nat → Int32) (o k : Nat) : Int32 := cN (if S (14 * o) = nI 1 then nI o else if k = 0 then (-1) else if k = 1 then mNx S o 3 else mLg S 4)
theorem cIs_m {S : Nat → Int32} {k : Nat} (hk : k < 3) (e : S 243 = nI k) : cIs S (mOwn S) k = cN (mIss S) := by
  unfold cIs mIss
  rw [e]
  rcases (show k = 0 ∨ k = 1 ∨ k = 2 by omega) with rfl | rfl | rfl <;> rfl
theorem pF1_v {a x : Int32} {k : Nat} (hk : k < 10) (e : a = nI k) : pF1 a x = x := by
  unfold pF1
  rw [e, if_neg]
  rintro (z | z) <;> (have := (nI_eq (by omega) (by omega)).mp z; omega)
theorem pF2_v {a x : Int32} {k : Nat} (hk : k < 10) (h7 : k ≠ 7) (e : a = nI k) : pF2 a x = x := by
  unfold pF2
  rw [e, if_neg]
  rintro (z | z | z) <;> (have := (nI_eq (by omega) (by omega)).mp z; omega)
/-- who starves, as the component does it: n is the new count -/
def cSt (S : Nat → Int32) (t : Nat) (n : Int32) : Nat → Int32 := upd (upd S (14 * t + 10) n) (14 * t + 11) (if S (14 * t + 11) < n then n else S (14 * t + 11))
theorem cSt_m {S : Nat → Int32} {i n : Int32} {t : Nat} (h : n = if S (14 * t) = nI 1 ∧ ¬ nI t = i then S (14 * t + 10) + nI 1 else nI 0) : cSt S t n = mSt S i t := by
  have e : (if S (14 * t) = nI 1 ∧ ¬ nI t = i then S (14 * t + 10) + 1 else 0) = n := h.symm
  unfold cSt mSt
  dsimp only
  rw [e]
  by_cases hc : S (14 * t + 11) < n
  · rw [if_pos hc, if_neg (fun z => absurd hc (Int32.not_lt.mpr z))]
  · rw [if_neg hc, if_pos (Int32.not_lt.mp hc)]
section ZISS
variable {S : Nat → Int32} {o n j : Nat}
theorem mNx_1 (h : S (14 * ((o + 1) % 4)) = nI 1) : mNx S o 3 = nI ((o + 1) % 4) := if_pos h
theorem mNx_2 (h1 : ¬ S (14 * ((o + 1) % 4)) = nI 1) (h : S (14 * ((o + 2) % 4)) = nI 1) : mNx S o 3 = nI ((o + 2) % 4) := (if_neg h1).trans (if_pos h)
theorem mNx_3 (h1 : ¬ S (14 * ((o + 1) % 4)) = nI 1) (h2 : ¬ S (14 * ((o + 2) % 4)) = nI 1) (h : S (14 * ((o + 3) % 4)) = nI 1) : mNx S o 3 = nI ((o + 3) % 4) := ((if_neg h1).trans (if_neg h2)).trans (if_pos h)
theorem mNx_0 (h1 : ¬ S (14 * ((o + 1) % 4)) = nI 1) (h2 : ¬ S (14 * ((o + 2) % 4)) = nI 1) (h : ¬ S (14 * ((o + 3) % 4)) = nI 1) : mNx S o 3 = (-1) := ((if_neg h1).trans (if_neg h2)).trans (if_neg h)
theorem mLg_a (h : ¬ S (14 * n) = nI 1) : mLg S (n + 1) = mLg S n := if_neg (fun z => h z.1)
theorem mLg_b (h : S (14 * n) = nI 1) (hg : mLg S n = (-1)) : mLg S (n + 1) = nI n := if_pos ⟨h, Or.inl hg⟩
theorem mLg_c (h : S (14 * n) = nI 1) (hg : mLg S n = nI j) (hj : j < 4) (hl : S (14 * n + 9) < S (14 * j + 9)) : mLg S (n + 1) = nI n := if_pos ⟨h, Or.inr (by rw [hg, nI_clamp (by omega)]; exact hl)⟩
theorem mLg_d (hg : mLg S n = nI j) (hj : j < 4) (hl : ¬ S (14 * n + 9) < S (14 * j + 9)) : mLg S (n + 1) = nI j := (if_neg (fun z => z.2.elim (fun w => m1_ne hj (hg ▸ w)) (fun w => hl (by rw [hg, nI_clamp (by omega)] at w; exact w)))).trans hg
end ZISS
section ZCIS
variable {S : Nat → Int32} {o k : Nat}
theorem cIs_yes (ho : o < 4) (h : S (14 * o) = nI 1) : nI o = cIs S o k := by
  unfold cIs
  rw [if_pos h, cN_j ho]
theorem cIs_0 (h : ¬ S (14 * o) = nI 1) : (-100005) = cIs S o 0 := by
  unfold cIs
  rw [if_neg h, if_pos rfl]
  exact cN_0.symm
theorem cIs_1 (h : ¬ S (14 * o) = nI 1) : cN (mNx S o 3) = cIs S o 1 := by
  unfold cIs
  rw [if_neg h, if_neg (by decide), if_pos rfl]
theorem cIs_2 (h : ¬ S (14 * o) = nI 1) : cN (mLg S 4) = cIs S o 2 := by
  unfold cIs
  rw [if_neg h, if_neg (by decide), if_neg (by decide)]
end ZCIS
