/-! small numbers and booleans -/
def zb (P : Prop) [Decidable P] : Int32 := if P then 1 else 0
theorem zb_eq {P : Prop} [Decidable P] : zb P = 0 ↔ ¬ P := by
  unfold zb
  by_cases h : P
  · simp [h]
  · simp [h]
theorem zb_ne {P : Prop} [Decidable P] : ¬ zb P = 0 ↔ P := by rw [zb_eq]; exact Classical.not_not
theorem zb_t {P : Prop} [Decidable P] (h : P) : nI 1 = zb P := by rw [zb, if_pos h]; rfl
theorem zb_f {P : Prop} [Decidable P] (h : ¬ P) : nI 0 = zb P := by rw [zb, if_neg h]; rfl
theorem zb_n {P : Prop} [Decidable P] : zb P = nI (if P then 1 else 0) := by
  unfold zb
  split <;> rfl
theorem zb_nar {P : Prop} [Decidable P] : narrow .boolean (.int (zb P)) = .int (zb P) := by
  unfold zb
  split <;> rfl
theorem zb_fit {P : Prop} [Decidable P] : fits .boolean (.int (zb P)) = true := by
  unfold zb
  split <;> rfl
theorem zb_iff {P P' : Prop} [Decidable P] [Decidable P'] (h : P ↔ P') : zb P = zb P' := by
  unfold zb
  by_cases hp : P
  · rw [if_pos hp, if_pos (h.mp hp)]
  · rw [if_neg hp, if_neg (fun z => hp (h.mpr z))]
theorem z0_eq {a : Nat} (ha : a < 2 ^ 31) : nI a = 0 ↔ a = 0 := by
  rw [← nI_0]
  exact nI_eq ha (by omega)
theorem zle0 {a : Nat} (ha : a < 2 ^ 31) (h : nI a ≤ 0) : a = 0 := by
  rw [← nI_0] at h
  have := (nI_leI ha (by omega)).mp h
  omega
theorem zle0n {a : Nat} (ha : a < 2 ^ 31) (h : ¬ nI a ≤ 0) : 0 < a := by
  rw [← nI_0] at h
  exact Nat.pos_of_ne_zero (fun z => h (by rw [z]; exact nI_le (Nat.le_refl 0) (by omega)))
theorem zgt0 {a : Nat} (ha : a < 2 ^ 31) (h : 0 < nI a) : 0 < a := by
  rw [← nI_0] at h
  exact (nI_ltI (by omega) ha).mp h
theorem zgt0n {a : Nat} (ha : a < 2 ^ 31) (h : ¬ 0 < nI a) : a = 0 := by
  rw [← nI_0] at h
  have : ¬ 0 < a := fun z => h ((nI_ltI (by omega) ha).mpr z)
  omega
theorem zadd {a b c : Nat} (h : a + b = c) : nI a + nI b = nI c := by rw [nI_add, h]
theorem zmul {a b c : Nat} (h : a * b = c) : nI a * nI b = nI c := by rw [pk_mul, h]
theorem zsub {a b c : Nat} (h : b ≤ a) (h2 : a - b = c) : nI a - nI b = nI c := by rw [pk_sub h, h2]
theorem zinc (a n : Nat) : nI a + Int32.ofInt (n : Int) = nI (a + n) := by
  rw [← nI_add]
  rfl
theorem zdec {a : Nat} (h : 1 ≤ a) : nI a + Int32.ofInt (-1) = nI (a - 1) := by
  obtain ⟨b, rfl⟩ : ∃ b, a = b + 1 := ⟨a - 1, by omega⟩
  exact pk_m1 b
/-- an int between two bounds -/
abbrev zin (x : Int32) (lo hi : Int32) : Prop := lo ≤ x ∧ x ≤ hi
theorem zin_nat {x : Int32} {n : Nat} (hn : n < 2 ^ 31) (h : 0 ≤ x ∧ x ≤ nI n) : ∃ j : Nat, j ≤ n ∧ x = nI j := nI_of2 (nI_toInt hn) (Int32.not_lt.mpr h.1) h.2
theorem zTopV {p : Program} {l : Launch} {e : Env} {R : Room} {s : State} {m : MethodId} {args : Array Value} {below : List Frame} {meth : Method} {c : Code} {H : Heap} {locs : List Loc} {cells slots : Nat} {Q : State → Prop} {pc : Nat} {ls : Array Slot} {rest : List Value} {x y : Value} (h : x = y) (k : W p l e R s m args below meth c H locs cells slots Q (F0 m pc ls (y :: rest))) : W p l e R s m args below meth c H locs cells slots Q (F0 m pc ls (x :: rest)) := h ▸ k
theorem upd_s {f : Nat → Int32} {k j : Nat} {x : Int32} (h : j = k) : upd f k x j = x := by rw [h]; exact if_pos rfl
theorem upd_n {f : Nat → Int32} {k j : Nat} {x : Int32} (h : j ≠ k) : upd f k x j = f j := if_neg h
theorem upd_c {f : Nat → Int32} {k j : Nat} {x z : Int32} (h : k ≠ j) : upd (upd f k x) j z = upd (upd f j z) k x := by
  funext q
  unfold upd
  by_cases h1 : q = j
  · by_cases h2 : q = k
    · omega
    · simp [h1, Ne.symm h]
  · by_cases h2 : q = k
    · simp [h2, h]
    · simp [h1, h2]
theorem upd_u {f : Nat → Int32} {k : Nat} {x z : Int32} : upd (upd f k x) k z = upd f k z := by
  funext q
  unfold upd
  by_cases h1 : q = k <;> simp [h1]
theorem upd_id {f : Nat → Int32} {k : Nat} : upd f k (f k) = f := by
  funext q
  unfold upd
  by_cases h1 : q = k <;> simp [h1]
theorem zshr0 (x : Int32) : x >>> (nI 0 &&& 31) = x := by
  have h : (nI 0 &&& 31 : Int32) = 0 := by decide
  rw [h]
  simp
theorem zshl0 (x : Int32) : x <<< (nI 0 &&& 31) = x := by
  have h : (nI 0 &&& 31 : Int32) = 0 := by decide
  rw [h]
  simp
theorem zmaxN {a b : Nat} (ha : a < 2147483648) (hb : b < 2147483648) : (if nI a < nI b then nI b else nI a) = nI (max a b) := by
  by_cases h : a < b
  · rw [if_pos ((nI_ltI (by omega) (by omega)).mpr h)]
    congr 1
    omega
  · rw [if_neg (fun z => h ((nI_ltI (by omega) (by omega)).mp z))]
    congr 1
    omega
theorem zminN {a b : Nat} (ha : a < 2147483648) (hb : b < 2147483648) : (if nI b < nI a then nI b else nI a) = nI (min a b) := by
  by_cases h : b < a
  · rw [if_pos ((nI_ltI (by omega) (by omega)).mpr h)]
    congr 1
    omega
  · rw [if_neg (fun z => h ((nI_ltI (by omega) (by omega)).mp z))]
    congr 1
    omega
