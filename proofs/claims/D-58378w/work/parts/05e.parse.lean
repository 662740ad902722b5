/-! the text's grammar, as both programs read it: tx the characters, n how many -/
def nx (tx : Nat → Nat) (n i : Nat) : Nat := if i < n then tx i else 0
theorem nx_le {tx : Nat → Nat} {n : Nat} (h : ∀ j, j < n → tx j ≤ 126) (i : Nat) : nx tx n i ≤ 126 := by
  unfold nx
  split
  · exact h i (by assumption)
  · omega
def opOf (ch : Nat) : Nat := if ch = 115 then 0 else if ch = 97 then 1 else if ch = 100 then 2 else if ch = 109 then 3 else if ch = 108 then 4 else if ch = 119 then 5 else if ch = 120 then 6 else if ch = 106 then 7 else if ch = 122 then 8 else if ch = 110 then 9 else if ch = 98 then 10 else if ch = 104 then 11 else 12
theorem opOf_le (ch : Nat) : opOf ch ≤ 12 := by
  unfold opOf
  repeat' split
  all_goals omega
theorem opOf_out {ch : Nat} (h : ch < 97 ∨ 122 < ch) : opOf ch = 12 := by
  unfold opOf
  rw [if_neg (by omega), if_neg (by omega), if_neg (by omega), if_neg (by omega), if_neg (by omega), if_neg (by omega), if_neg (by omega), if_neg (by omega), if_neg (by omega), if_neg (by omega), if_neg (by omega), if_neg (by omega)]
def pDg (tx : Nat → Nat) (n lo hi sp : Nat) : Option Nat := if lo + 48 ≤ nx tx n sp ∧ nx tx n sp ≤ hi + 48 then some (nx tx n sp - 48) else none
def pUp (tx : Nat → Nat) (n lo most sp : Nat) : Nat × Option Nat := match pDg tx n lo 9 sp with
  | none => (sp, none)
  | some d => if 0 < d ∧ (48 ≤ nx tx n (sp + 1) ∧ nx tx n (sp + 1) ≤ 57) ∧ 10 * d + (nx tx n (sp + 1) - 48) ≤ most then (sp + 2, some (10 * d + (nx tx n (sp + 1) - 48))) else (sp + 1, some d)
def pNum (tx : Nat → Nat) (n sp : Nat) : Nat × Option Int32 :=
  if nx tx n sp = 45 then ((pUp tx n 1 99 (sp + 1)).1, (pUp tx n 1 99 (sp + 1)).2.map (fun d => -(nI d))) else ((pUp tx n 0 99 sp).1, (pUp tx n 0 99 sp).2.map nI)
def pIns (tx : Nat → Nat) (n sp : Nat) : Nat × Option (Nat × Nat × Int32) :=
  if opOf (nx tx n sp) = 12 then (sp, none)
  else if opOf (nx tx n sp) = 7 then ((pUp tx n 0 47 (sp + 1)).1, (pUp tx n 0 47 (sp + 1)).2.map (fun d => (7, d, nI 0)))
  else if 10 ≤ opOf (nx tx n sp) then (sp + 1, some (opOf (nx tx n sp), 0, nI 0))
  else match pDg tx n 0 3 (sp + 1) with
    | none => (sp + 1, none)
    | some f =>
      if opOf (nx tx n sp) = 0 then (if nx tx n (sp + 2) = 61 then ((pNum tx n (sp + 3)).1, (pNum tx n (sp + 3)).2.map (fun q => (0, f, q))) else (sp + 2, none))
      else if opOf (nx tx n sp) < 7 then (match pDg tx n 0 3 (sp + 2) with
        | none => (sp + 2, none)
        | some q => (sp + 3, some (opOf (nx tx n sp), f, nI q)))
      else (if nx tx n (sp + 2) = 62 then ((pUp tx n 0 47 (sp + 3)).1, (pUp tx n 0 47 (sp + 3)).2.map (fun d => (opOf (nx tx n sp), f, nI d))) else (sp + 2, none))
theorem zdg {x lo hi : Nat} (hx : x ≤ 126) (hl : lo ≤ 9) (hh : hi ≤ 9) : (nI lo ≤ nI x - nI 48 ∧ nI x - nI 48 ≤ nI hi) ↔ (lo + 48 ≤ x ∧ x ≤ hi + 48) := by
  rw [Int32.le_iff_toInt_le, Int32.le_iff_toInt_le, pk_sub_toInt (by omega) (by omega), nI_toInt (by omega), nI_toInt (by omega)]
  omega
theorem zdg2 {x lo hi : Nat} (hx : x ≤ 126) (hl : lo ≤ 200) (hh : hi ≤ 200) : (nI lo ≤ nI x ∧ nI x ≤ nI hi) ↔ (lo ≤ x ∧ x ≤ hi) := by
  rw [nI_leI (by omega) (by omega), nI_leI (by omega) (by omega)]
theorem pDg_some {tx : Nat → Nat} {n lo hi sp : Nat} (h : lo + 48 ≤ nx tx n sp ∧ nx tx n sp ≤ hi + 48) : pDg tx n lo hi sp = some (nx tx n sp - 48) := if_pos h
theorem pDg_none {tx : Nat → Nat} {n lo hi sp : Nat} (h : ¬ (lo + 48 ≤ nx tx n sp ∧ nx tx n sp ≤ hi + 48)) : pDg tx n lo hi sp = none := if_neg h
theorem pDg_in {tx : Nat → Nat} {n lo hi sp d : Nat} (h : pDg tx n lo hi sp = some d) : lo ≤ d ∧ d ≤ hi ∧ nx tx n sp = d + 48 := by
  unfold pDg at h
  split at h
  · cases h; omega
  · cases h
theorem pDg_end {tx : Nat → Nat} {n lo hi sp d : Nat} (h : pDg tx n lo hi sp = some d) : sp < n := by
  have h1 := (pDg_in h).2.2
  unfold nx at h1
  split at h1
  · assumption
  · omega
theorem pUp_n {tx : Nat → Nat} {n lo most sp : Nat} (h : pDg tx n lo 9 sp = none) : pUp tx n lo most sp = (sp, none) := by unfold pUp; rw [h]
theorem pUp_1 {tx : Nat → Nat} {n lo most sp d : Nat} (h : pDg tx n lo 9 sp = some d) (h2 : ¬ (0 < d ∧ (48 ≤ nx tx n (sp + 1) ∧ nx tx n (sp + 1) ≤ 57) ∧ 10 * d + (nx tx n (sp + 1) - 48) ≤ most)) : pUp tx n lo most sp = (sp + 1, some d) := by unfold pUp; rw [h]; exact if_neg h2
theorem pUp_2 {tx : Nat → Nat} {n lo most sp d : Nat} (h : pDg tx n lo 9 sp = some d) (h2 : 0 < d ∧ (48 ≤ nx tx n (sp + 1) ∧ nx tx n (sp + 1) ≤ 57) ∧ 10 * d + (nx tx n (sp + 1) - 48) ≤ most) : pUp tx n lo most sp = (sp + 2, some (10 * d + (nx tx n (sp + 1) - 48))) := by unfold pUp; rw [h]; exact if_pos h2
theorem pUp_in {tx : Nat → Nat} {n lo most sp s2 d : Nat} (h9 : 9 ≤ most) (h : pUp tx n lo most sp = (s2, some d)) : lo ≤ d ∧ d ≤ most ∧ sp < s2 ∧ s2 ≤ n := by
  cases hd : pDg tx n lo 9 sp with
  | none => rw [pUp_n hd] at h; cases h
  | some e =>
    have h1 := pDg_in hd
    have h0 := pDg_end hd
    by_cases h2 : 0 < e ∧ (48 ≤ nx tx n (sp + 1) ∧ nx tx n (sp + 1) ≤ 57) ∧ 10 * e + (nx tx n (sp + 1) - 48) ≤ most
    · rw [pUp_2 hd h2] at h
      have h3 : sp + 1 < n := by
        have h4 := h2.2.1.1
        unfold nx at h4
        split at h4
        · assumption
        · omega
      cases h
      refine ⟨by omega, h2.2.2, by omega, by omega⟩
    · rw [pUp_1 hd h2] at h
      cases h
      exact ⟨h1.1, by omega, by omega, by omega⟩
theorem m1_neN {j : Nat} (hj : j < 2147483648) : ¬ nI j = (-1) := fun h => by
  have h2 := congrArg Int32.toInt h
  rw [nI_toInt hj] at h2
  have e : (-1 : Int32).toInt = -1 := by decide
  omega
