/-! THE COMPONENT'S WORLD: a Machine, in the numbers S of the reference. Names: y 17 the object, y 0 lanes, y 1 program, y 2 words, y 3 table, y 4 settings, y 5 breakpoints, y 6 7 8 the traces (C, D, E, with tr of them), y (9 + t) a lane, y (13 + t) its registers; pr k the instruction at k. x is the BarrelProcessor. -/
set_option maxRecDepth 100000
def lw (x : Int32) : Int32 := if x = nI 0 then nI 0 else x - nI 200
theorem lw_k {k : Nat} (h : k < 32) : lw (nI (200 + k)) = nI k := by
  unfold lw
  rw [if_neg (fun z => by have := (nI_eq (by omega) (by omega)).mp z; omega), pk_sub (by omega)]
  congr 1
  omega
def pF1 (o x : Int32) : Int32 := if o = nI 10 ∨ o = nI 11 then (-100005) else x
def pF2 (o x : Int32) : Int32 := if o = nI 7 ∨ o = nI 10 ∨ o = nI 11 then (-100005) else x
theorem updN (n : Nat) (S : Nat → Int32) (i k : Nat) (v : Int32) : upd (fun k => S (n + k)) i v k = upd S (n + i) v (n + k) := by
  unfold upd
  by_cases h : k = i
  · rw [if_pos h, if_pos (by omega)]
  · rw [if_neg h, if_neg (by omega)]
theorem updR (S : Nat → Int32) (t i k : Nat) (v : Int32) : upd (fun r => S (14 * t + (2 + r))) i v k = upd S (14 * t + (2 + i)) v (14 * t + (2 + k)) := by
  unfold upd
  by_cases h : k = i
  · rw [if_pos h, if_pos (by omega)]
  · rw [if_neg h, if_neg (by omega)]
def PM (G : zG) (own y : Nat → Nat) (x : Nat) (pr : Nat → Nat) (S C D E : Nat → Int32) (tr : Nat) (H : Heap) : Prop :=
  zO G (y 17) 1 [.ref (y 0), .ref (y 1), .ref (y 2), .ref (y 3), .ref (y 4), .ref (y 5), .int (S 232), .int (S 233), .ref (y 6), .ref (y 7), .ref (y 8), .int (nI tr), .ref x] H ∧
  (zR G (y 0) 4 4 (fun t => some (y (9 + t))) H ∧ zR G (y 1) 5 48 (fun k => some (pr k)) H ∧ zI G (y 2) 0 32 (fun k => S (200 + k)) H ∧ zI G (y 3) 0 8 (fun k => S (234 + k)) H ∧ zI G (y 4) 0 2 (fun k => S (242 + k)) H ∧ zI G (y 5) 1 48 (fun k => S (244 + k)) H ∧ zI G (y 6) 0 16 C H ∧ zI G (y 7) 0 16 D H ∧ zI G (y 8) 0 16 E H) ∧
  (∀ t, t < 4 → zO G (y (9 + t)) 2 [.ref (y (13 + t)), .int (S (14 * t + 1)), .int (S (14 * t)), .int (S (14 * t + 6)), .int (lw (S (14 * t + 7))), .int (S (14 * t + 8)), .int (S (14 * t + 9)), .int (S (14 * t + 12)), .int (S (14 * t + 13)), .int (S (14 * t + 10)), .int (S (14 * t + 11))] H ∧ zI G (y (13 + t)) 0 4 (fun r => S (14 * t + (2 + r))) H) ∧
  (∀ k, k < 48 → zO G (pr k) 3 [.int (S (56 + 3 * k)), .int (pF1 (S (56 + 3 * k)) (S (56 + 3 * k + 1))), .int (pF2 (S (56 + 3 * k)) (S (56 + 3 * k + 2)))] H ∧ own (pr k) = 0) ∧
  y 17 ≠ 0 ∧ (∀ j, j < 18 → own (y j) = y 17) ∧ (∀ i j, i < 18 → j < 18 → y i = y j → i = j)
section ZPM
variable {G : zG} {own y pr : Nat → Nat} {x tr tr' : Nat} {S C D E S' C' D' E' : Nat → Int32} {v : Int32} {H H1 : Heap}
theorem PM.o (h : PM G own y x pr S C D E tr H) : zO G (y 17) 1 [.ref (y 0), .ref (y 1), .ref (y 2), .ref (y 3), .ref (y 4), .ref (y 5), .int (S 232), .int (S 233), .ref (y 6), .ref (y 7), .ref (y 8), .int (nI tr), .ref x] H := h.1
theorem PM.ls (h : PM G own y x pr S C D E tr H) : zR G (y 0) 4 4 (fun t => some (y (9 + t))) H := h.2.1.1
theorem PM.p (h : PM G own y x pr S C D E tr H) : zR G (y 1) 5 48 (fun k => some (pr k)) H := h.2.1.2.1
theorem PM.a2 (h : PM G own y x pr S C D E tr H) : zI G (y 2) 0 32 (fun k => S (200 + k)) H := h.2.1.2.2.1
theorem PM.a3 (h : PM G own y x pr S C D E tr H) : zI G (y 3) 0 8 (fun k => S (234 + k)) H := h.2.1.2.2.2.1
theorem PM.a4 (h : PM G own y x pr S C D E tr H) : zI G (y 4) 0 2 (fun k => S (242 + k)) H := h.2.1.2.2.2.2.1
theorem PM.a5 (h : PM G own y x pr S C D E tr H) : zI G (y 5) 1 48 (fun k => S (244 + k)) H := h.2.1.2.2.2.2.2.1
theorem PM.a6 (h : PM G own y x pr S C D E tr H) : zI G (y 6) 0 16 C H := h.2.1.2.2.2.2.2.2.1
theorem PM.a7 (h : PM G own y x pr S C D E tr H) : zI G (y 7) 0 16 D H := h.2.1.2.2.2.2.2.2.2.1
theorem PM.a8 (h : PM G own y x pr S C D E tr H) : zI G (y 8) 0 16 E H := h.2.1.2.2.2.2.2.2.2.2
theorem PM.l (h : PM G own y x pr S C D E tr H) {t : Nat} (ht : t < 4) : zO G (y (9 + t)) 2 [.ref (y (13 + t)), .int (S (14 * t + 1)), .int (S (14 * t)), .int (S (14 * t + 6)), .int (lw (S (14 * t + 7))), .int (S (14 * t + 8)), .int (S (14 * t + 9)), .int (S (14 * t + 12)), .int (S (14 * t + 13)), .int (S (14 * t + 10)), .int (S (14 * t + 11))] H := (h.2.2.1 t ht).1
theorem PM.r (h : PM G own y x pr S C D E tr H) {t : Nat} (ht : t < 4) : zI G (y (13 + t)) 0 4 (fun r => S (14 * t + (2 + r))) H := (h.2.2.1 t ht).2
theorem PM.i (h : PM G own y x pr S C D E tr H) {k : Nat} (hk : k < 48) : zO G (pr k) 3 [.int (S (56 + 3 * k)), .int (pF1 (S (56 + 3 * k)) (S (56 + 3 * k + 1))), .int (pF2 (S (56 + 3 * k)) (S (56 + 3 * k + 2)))] H := (h.2.2.2.1 k hk).1
theorem PM.i0 (h : PM G own y x pr S C D E tr H) {k : Nat} (hk : k < 48) : own (pr k) = 0 := (h.2.2.2.1 k hk).2
theorem PM.z (h : PM G own y x pr S C D E tr H) : y 17 ≠ 0 := h.2.2.2.2.1
theorem PM.w (h : PM G own y x pr S C D E tr H) {j : Nat} (hj : j < 18) : own (y j) = y 17 := h.2.2.2.2.2.1 j hj
theorem PM.ne (h : PM G own y x pr S C D E tr H) {i j : Nat} (hi : i < 18) (hj : j < 18) (n : i ≠ j) : y i ≠ y j := fun z => n (h.2.2.2.2.2.2 i j hi hj z)
theorem PM.ni (h : PM G own y x pr S C D E tr H) {k j : Nat} (hk : k < 48) (hj : j < 18) : pr k ≠ y j := fun z => h.z (by rw [← h.w hj, ← z]; exact h.i0 hk)
theorem lane_c {y : Nat → Nat} {S S' : Nat → Int32} {t : Nat} (e : ∀ i, i < 14 → ¬ (2 ≤ i ∧ i < 6) → S' (14 * t + i) = S (14 * t + i)) : ([.ref (y (13 + t)), .int (S (14 * t + 1)), .int (S (14 * t)), .int (S (14 * t + 6)), .int (lw (S (14 * t + 7))), .int (S (14 * t + 8)), .int (S (14 * t + 9)), .int (S (14 * t + 12)), .int (S (14 * t + 13)), .int (S (14 * t + 10)), .int (S (14 * t + 11))] : List Value) = [.ref (y (13 + t)), .int (S' (14 * t + 1)), .int (S' (14 * t)), .int (S' (14 * t + 6)), .int (lw (S' (14 * t + 7))), .int (S' (14 * t + 8)), .int (S' (14 * t + 9)), .int (S' (14 * t + 12)), .int (S' (14 * t + 13)), .int (S' (14 * t + 10)), .int (S' (14 * t + 11))] := by
  have e0 : S' (14 * t) = S (14 * t) := e 0 (by omega) (by omega)
  rw [e0, e 1 (by omega) (by omega), e 6 (by omega) (by omega), e 7 (by omega) (by omega), e 8 (by omega) (by omega), e 9 (by omega) (by omega), e 10 (by omega) (by omega), e 11 (by omega) (by omega), e 12 (by omega) (by omega), e 13 (by omega) (by omega)]
theorem ins_c {S S' : Nat → Int32} {k : Nat} (e : ∀ j, j < 3 → S' (56 + 3 * k + j) = S (56 + 3 * k + j)) : ([.int (S (56 + 3 * k)), .int (pF1 (S (56 + 3 * k)) (S (56 + 3 * k + 1))), .int (pF2 (S (56 + 3 * k)) (S (56 + 3 * k + 2)))] : List Value) = [.int (S' (56 + 3 * k)), .int (pF1 (S' (56 + 3 * k)) (S' (56 + 3 * k + 1))), .int (pF2 (S' (56 + 3 * k)) (S' (56 + 3 * k + 2)))] := by
  have e0 : S' (56 + 3 * k) = S (56 + 3 * k) := e 0 (by omega)
  rw [e0, e 1 (by omega), e 2 (by omega)]
/-- one cell of the machine is changed: z names it; of each part, either its new fact or that its numbers stay -/
theorem PM.put (h : PM G own y x pr S C D E tr H) (z : Nat) (hz : 2 ≤ z ∧ z < 18) (hq : ∀ q : Nat, q ≠ y z → H1[q]? = H[q]?) (p17 : z = 17 → zO G (y 17) 1 [.ref (y 0), .ref (y 1), .ref (y 2), .ref (y 3), .ref (y 4), .ref (y 5), .int (S' 232), .int (S' 233), .ref (y 6), .ref (y 7), .ref (y 8), .int (nI tr'), .ref x] H1) (n17 : z ≠ 17 → S' 232 = S 232 ∧ S' 233 = S 233 ∧ tr' = tr) (p2 : z = 2 → zI G (y 2) 0 32 (fun k => S' (200 + k)) H1) (n2 : z ≠ 2 → ∀ k, k < 32 → S' (200 + k) = S (200 + k)) (p3 : z = 3 → zI G (y 3) 0 8 (fun k => S' (234 + k)) H1) (n3 : z ≠ 3 → ∀ k, k < 8 → S' (234 + k) = S (234 + k)) (p4 : z = 4 → zI G (y 4) 0 2 (fun k => S' (242 + k)) H1) (n4 : z ≠ 4 → ∀ k, k < 2 → S' (242 + k) = S (242 + k)) (p5 : z = 5 → zI G (y 5) 1 48 (fun k => S' (244 + k)) H1) (n5 : z ≠ 5 → ∀ k, k < 48 → S' (244 + k) = S (244 + k)) (p6 : z = 6 → zI G (y 6) 0 16 C' H1) (n6 : z ≠ 6 → C' = C) (p7 : z = 7 → zI G (y 7) 0 16 D' H1) (n7 : z ≠ 7 → D' = D) (p8 : z = 8 → zI G (y 8) 0 16 E' H1) (n8 : z ≠ 8 → E' = E) (pL : ∀ t, t < 4 → z = 9 + t → zO G (y (9 + t)) 2 [.ref (y (13 + t)), .int (S' (14 * t + 1)), .int (S' (14 * t)), .int (S' (14 * t + 6)), .int (lw (S' (14 * t + 7))), .int (S' (14 * t + 8)), .int (S' (14 * t + 9)), .int (S' (14 * t + 12)), .int (S' (14 * t + 13)), .int (S' (14 * t + 10)), .int (S' (14 * t + 11))] H1) (nL : ∀ t, t < 4 → z ≠ 9 + t → ∀ i, i < 14 → ¬ (2 ≤ i ∧ i < 6) → S' (14 * t + i) = S (14 * t + i)) (pR : ∀ t, t < 4 → z = 13 + t → zI G (y (13 + t)) 0 4 (fun r => S' (14 * t + (2 + r))) H1) (nR : ∀ t, t < 4 → z ≠ 13 + t → ∀ r, r < 4 → S' (14 * t + (2 + r)) = S (14 * t + (2 + r))) (nS : ∀ j, 56 ≤ j → j < 200 → S' j = S j) : PM G own y x pr S' C' D' E' tr' H1 := by
  have hk : ∀ j, j < 18 → j ≠ z → H1[y j]? = H[y j]? := fun j hj n => hq _ (h.ne hj hz.2 n)
  refine ⟨?_, ⟨h.ls.kept (hk 0 (by omega) (by omega)), h.p.kept (hk 1 (by omega) (by omega)), ?_, ?_, ?_, ?_, ?_, ?_, ?_⟩, fun t ht => ⟨?_, ?_⟩, fun k hk48 => ⟨?_, h.i0 hk48⟩, h.z, h.2.2.2.2.2⟩
  · by_cases e : z = 17
    · exact p17 e
    · obtain ⟨e1, e2, e3⟩ := n17 e
      rw [e1, e2, e3]; exact h.o.kept (hk 17 (by omega) (by omega))
  · by_cases e : z = 2
    · exact p2 e
    · exact (h.a2.kept (hk 2 (by omega) (by omega))).to (fun k hk => (n2 e k hk).symm)
  · by_cases e : z = 3
    · exact p3 e
    · exact (h.a3.kept (hk 3 (by omega) (by omega))).to (fun k hk => (n3 e k hk).symm)
  · by_cases e : z = 4
    · exact p4 e
    · exact (h.a4.kept (hk 4 (by omega) (by omega))).to (fun k hk => (n4 e k hk).symm)
  · by_cases e : z = 5
    · exact p5 e
    · exact (h.a5.kept (hk 5 (by omega) (by omega))).to (fun k hk => (n5 e k hk).symm)
  · by_cases e : z = 6
    · exact p6 e
    · rw [n6 e]; exact h.a6.kept (hk 6 (by omega) (by omega))
  · by_cases e : z = 7
    · exact p7 e
    · rw [n7 e]; exact h.a7.kept (hk 7 (by omega) (by omega))
  · by_cases e : z = 8
    · exact p8 e
    · rw [n8 e]; exact h.a8.kept (hk 8 (by omega) (by omega))
  · by_cases e : z = 9 + t
    · exact pL t ht e
    · exact ((h.l ht).kept (hk (9 + t) (by omega) (by omega))).to (lane_c (nL t ht e))
  · by_cases e : z = 13 + t
    · exact pR t ht e
    · exact ((h.r ht).kept (hk (13 + t) (by omega) (by omega))).to (fun r hr => (nR t ht e r hr).symm)
  · exact ((h.i hk48).kept (hq _ (h.ni hk48 hz.2))).to (ins_c (fun j hj => nS _ (by omega) (by omega)))
theorem PM.putCy (h : PM G own y x pr S C D E tr H)  (ho : zO G (y 17) 1 [.ref (y 0), .ref (y 1), .ref (y 2), .ref (y 3), .ref (y 4), .ref (y 5), .int v, .int (S 233), .ref (y 6), .ref (y 7), .ref (y 8), .int (nI tr), .ref x] H1) (hq : ∀ q : Nat, q ≠ y 17 → H1[q]? = H[q]?) : PM G own y x pr (upd S 232 v) C D E tr H1 :=
  h.put (17) (by omega) hq (fun _ => by rw [upd_s (j := 232) rfl, upd_n (j := 233) (by omega)]; exact ho) (fun e => absurd rfl e) (fun e => absurd e (by omega)) (fun _ k hk => upd_n (by omega)) (fun e => absurd e (by omega)) (fun _ k hk => upd_n (by omega)) (fun e => absurd e (by omega)) (fun _ k hk => upd_n (by omega)) (fun e => absurd e (by omega)) (fun _ k hk => upd_n (by omega)) (fun e => absurd e (by omega)) (fun _ => rfl) (fun e => absurd e (by omega)) (fun _ => rfl) (fun e => absurd e (by omega)) (fun _ => rfl) (fun t2 ht2 e => absurd e (by omega)) (fun t2 ht2 e i hi hi2 => upd_n (by omega)) (fun t2 ht2 e => absurd e (by omega)) (fun t2 ht2 e i hi => upd_n (by omega)) (fun j h1 h2 => upd_n (by omega))
theorem PM.putId (h : PM G own y x pr S C D E tr H)  (ho : zO G (y 17) 1 [.ref (y 0), .ref (y 1), .ref (y 2), .ref (y 3), .ref (y 4), .ref (y 5), .int (S 232), .int v, .ref (y 6), .ref (y 7), .ref (y 8), .int (nI tr), .ref x] H1) (hq : ∀ q : Nat, q ≠ y 17 → H1[q]? = H[q]?) : PM G own y x pr (upd S 233 v) C D E tr H1 :=
  h.put (17) (by omega) hq (fun _ => by rw [upd_s (j := 233) rfl, upd_n (j := 232) (by omega)]; exact ho) (fun e => absurd rfl e) (fun e => absurd e (by omega)) (fun _ k hk => upd_n (by omega)) (fun e => absurd e (by omega)) (fun _ k hk => upd_n (by omega)) (fun e => absurd e (by omega)) (fun _ k hk => upd_n (by omega)) (fun e => absurd e (by omega)) (fun _ k hk => upd_n (by omega)) (fun e => absurd e (by omega)) (fun _ => rfl) (fun e => absurd e (by omega)) (fun _ => rfl) (fun e => absurd e (by omega)) (fun _ => rfl) (fun t2 ht2 e => absurd e (by omega)) (fun t2 ht2 e i hi hi2 => upd_n (by omega)) (fun t2 ht2 e => absurd e (by omega)) (fun t2 ht2 e i hi => upd_n (by omega)) (fun j h1 h2 => upd_n (by omega))
theorem PM.putTr (h : PM G own y x pr S C D E tr H)  (ho : zO G (y 17) 1 [.ref (y 0), .ref (y 1), .ref (y 2), .ref (y 3), .ref (y 4), .ref (y 5), .int (S 232), .int (S 233), .ref (y 6), .ref (y 7), .ref (y 8), .int (nI tr'), .ref x] H1) (hq : ∀ q : Nat, q ≠ y 17 → H1[q]? = H[q]?) : PM G own y x pr S C D E tr' H1 :=
  h.put (17) (by omega) hq (fun _ => ho) (fun e => absurd rfl e) (fun e => absurd e (by omega)) (fun _ k hk => rfl) (fun e => absurd e (by omega)) (fun _ k hk => rfl) (fun e => absurd e (by omega)) (fun _ k hk => rfl) (fun e => absurd e (by omega)) (fun _ k hk => rfl) (fun e => absurd e (by omega)) (fun _ => rfl) (fun e => absurd e (by omega)) (fun _ => rfl) (fun e => absurd e (by omega)) (fun _ => rfl) (fun t2 ht2 e => absurd e (by omega)) (fun t2 ht2 e i hi hi2 => rfl) (fun t2 ht2 e => absurd e (by omega)) (fun t2 ht2 e i hi => rfl) (fun j h1 h2 => rfl)
theorem PM.put2 (h : PM G own y x pr S C D E tr H) {i : Nat} (hi : i < 32) (ho : zI G (y 2) 0 32 (upd (fun k => S (200 + k)) i v) H1) (hq : ∀ q : Nat, q ≠ y 2 → H1[q]? = H[q]?) : PM G own y x pr (upd S (200 + i) v) C D E tr H1 :=
  h.put (2) (by omega) hq (fun e => absurd e (by omega)) (fun _ => ⟨upd_n (by omega), upd_n (by omega), rfl⟩) (fun _ => ho.to (fun k hk => updN 200 S i k v)) (fun e => absurd rfl e) (fun e => absurd e (by omega)) (fun _ k hk => upd_n (by omega)) (fun e => absurd e (by omega)) (fun _ k hk => upd_n (by omega)) (fun e => absurd e (by omega)) (fun _ k hk => upd_n (by omega)) (fun e => absurd e (by omega)) (fun _ => rfl) (fun e => absurd e (by omega)) (fun _ => rfl) (fun e => absurd e (by omega)) (fun _ => rfl) (fun t2 ht2 e => absurd e (by omega)) (fun t2 ht2 e i hi hi2 => upd_n (by omega)) (fun t2 ht2 e => absurd e (by omega)) (fun t2 ht2 e i hi => upd_n (by omega)) (fun j h1 h2 => upd_n (by omega))
theorem PM.put3 (h : PM G own y x pr S C D E tr H) {i : Nat} (hi : i < 8) (ho : zI G (y 3) 0 8 (upd (fun k => S (234 + k)) i v) H1) (hq : ∀ q : Nat, q ≠ y 3 → H1[q]? = H[q]?) : PM G own y x pr (upd S (234 + i) v) C D E tr H1 :=
  h.put (3) (by omega) hq (fun e => absurd e (by omega)) (fun _ => ⟨upd_n (by omega), upd_n (by omega), rfl⟩) (fun e => absurd e (by omega)) (fun _ k hk => upd_n (by omega)) (fun _ => ho.to (fun k hk => updN 234 S i k v)) (fun e => absurd rfl e) (fun e => absurd e (by omega)) (fun _ k hk => upd_n (by omega)) (fun e => absurd e (by omega)) (fun _ k hk => upd_n (by omega)) (fun e => absurd e (by omega)) (fun _ => rfl) (fun e => absurd e (by omega)) (fun _ => rfl) (fun e => absurd e (by omega)) (fun _ => rfl) (fun t2 ht2 e => absurd e (by omega)) (fun t2 ht2 e i hi hi2 => upd_n (by omega)) (fun t2 ht2 e => absurd e (by omega)) (fun t2 ht2 e i hi => upd_n (by omega)) (fun j h1 h2 => upd_n (by omega))
theorem PM.put4 (h : PM G own y x pr S C D E tr H) {i : Nat} (hi : i < 2) (ho : zI G (y 4) 0 2 (upd (fun k => S (242 + k)) i v) H1) (hq : ∀ q : Nat, q ≠ y 4 → H1[q]? = H[q]?) : PM G own y x pr (upd S (242 + i) v) C D E tr H1 :=
  h.put (4) (by omega) hq (fun e => absurd e (by omega)) (fun _ => ⟨upd_n (by omega), upd_n (by omega), rfl⟩) (fun e => absurd e (by omega)) (fun _ k hk => upd_n (by omega)) (fun e => absurd e (by omega)) (fun _ k hk => upd_n (by omega)) (fun _ => ho.to (fun k hk => updN 242 S i k v)) (fun e => absurd rfl e) (fun e => absurd e (by omega)) (fun _ k hk => upd_n (by omega)) (fun e => absurd e (by omega)) (fun _ => rfl) (fun e => absurd e (by omega)) (fun _ => rfl) (fun e => absurd e (by omega)) (fun _ => rfl) (fun t2 ht2 e => absurd e (by omega)) (fun t2 ht2 e i hi hi2 => upd_n (by omega)) (fun t2 ht2 e => absurd e (by omega)) (fun t2 ht2 e i hi => upd_n (by omega)) (fun j h1 h2 => upd_n (by omega))
theorem PM.put5 (h : PM G own y x pr S C D E tr H) {i : Nat} (hi : i < 48) (ho : zI G (y 5) 1 48 (upd (fun k => S (244 + k)) i v) H1) (hq : ∀ q : Nat, q ≠ y 5 → H1[q]? = H[q]?) : PM G own y x pr (upd S (244 + i) v) C D E tr H1 :=
  h.put (5) (by omega) hq (fun e => absurd e (by omega)) (fun _ => ⟨upd_n (by omega), upd_n (by omega), rfl⟩) (fun e => absurd e (by omega)) (fun _ k hk => upd_n (by omega)) (fun e => absurd e (by omega)) (fun _ k hk => upd_n (by omega)) (fun e => absurd e (by omega)) (fun _ k hk => upd_n (by omega)) (fun _ => ho.to (fun k hk => updN 244 S i k v)) (fun e => absurd rfl e) (fun e => absurd e (by omega)) (fun _ => rfl) (fun e => absurd e (by omega)) (fun _ => rfl) (fun e => absurd e (by omega)) (fun _ => rfl) (fun t2 ht2 e => absurd e (by omega)) (fun t2 ht2 e i hi hi2 => upd_n (by omega)) (fun t2 ht2 e => absurd e (by omega)) (fun t2 ht2 e i hi => upd_n (by omega)) (fun j h1 h2 => upd_n (by omega))
theorem PM.put6 (h : PM G own y x pr S C D E tr H)  (ho : zI G (y 6) 0 16 C' H1) (hq : ∀ q : Nat, q ≠ y 6 → H1[q]? = H[q]?) : PM G own y x pr S C' D E tr H1 :=
  h.put (6) (by omega) hq (fun e => absurd e (by omega)) (fun _ => ⟨rfl, rfl, rfl⟩) (fun e => absurd e (by omega)) (fun _ k hk => rfl) (fun e => absurd e (by omega)) (fun _ k hk => rfl) (fun e => absurd e (by omega)) (fun _ k hk => rfl) (fun e => absurd e (by omega)) (fun _ k hk => rfl) (fun _ => ho) (fun e => absurd rfl e) (fun e => absurd e (by omega)) (fun _ => rfl) (fun e => absurd e (by omega)) (fun _ => rfl) (fun t2 ht2 e => absurd e (by omega)) (fun t2 ht2 e i hi hi2 => rfl) (fun t2 ht2 e => absurd e (by omega)) (fun t2 ht2 e i hi => rfl) (fun j h1 h2 => rfl)
theorem PM.put7 (h : PM G own y x pr S C D E tr H)  (ho : zI G (y 7) 0 16 D' H1) (hq : ∀ q : Nat, q ≠ y 7 → H1[q]? = H[q]?) : PM G own y x pr S C D' E tr H1 :=
  h.put (7) (by omega) hq (fun e => absurd e (by omega)) (fun _ => ⟨rfl, rfl, rfl⟩) (fun e => absurd e (by omega)) (fun _ k hk => rfl) (fun e => absurd e (by omega)) (fun _ k hk => rfl) (fun e => absurd e (by omega)) (fun _ k hk => rfl) (fun e => absurd e (by omega)) (fun _ k hk => rfl) (fun e => absurd e (by omega)) (fun _ => rfl) (fun _ => ho) (fun e => absurd rfl e) (fun e => absurd e (by omega)) (fun _ => rfl) (fun t2 ht2 e => absurd e (by omega)) (fun t2 ht2 e i hi hi2 => rfl) (fun t2 ht2 e => absurd e (by omega)) (fun t2 ht2 e i hi => rfl) (fun j h1 h2 => rfl)
theorem PM.put8 (h : PM G own y x pr S C D E tr H)  (ho : zI G (y 8) 0 16 E' H1) (hq : ∀ q : Nat, q ≠ y 8 → H1[q]? = H[q]?) : PM G own y x pr S C D E' tr H1 :=
  h.put (8) (by omega) hq (fun e => absurd e (by omega)) (fun _ => ⟨rfl, rfl, rfl⟩) (fun e => absurd e (by omega)) (fun _ k hk => rfl) (fun e => absurd e (by omega)) (fun _ k hk => rfl) (fun e => absurd e (by omega)) (fun _ k hk => rfl) (fun e => absurd e (by omega)) (fun _ k hk => rfl) (fun e => absurd e (by omega)) (fun _ => rfl) (fun e => absurd e (by omega)) (fun _ => rfl) (fun _ => ho) (fun e => absurd rfl e) (fun t2 ht2 e => absurd e (by omega)) (fun t2 ht2 e i hi hi2 => rfl) (fun t2 ht2 e => absurd e (by omega)) (fun t2 ht2 e i hi => rfl) (fun j h1 h2 => rfl)
theorem PM.putCn (h : PM G own y x pr S C D E tr H) {t : Nat} (ht : t < 4) (ho : zO G (y (9 + t)) 2 [.ref (y (13 + t)), .int v, .int (S (14 * t)), .int (S (14 * t + 6)), .int (lw (S (14 * t + 7))), .int (S (14 * t + 8)), .int (S (14 * t + 9)), .int (S (14 * t + 12)), .int (S (14 * t + 13)), .int (S (14 * t + 10)), .int (S (14 * t + 11))] H1) (hq : ∀ q : Nat, q ≠ y (9 + t) → H1[q]? = H[q]?) : PM G own y x pr (upd S (14 * t + 1) v) C D E tr H1 :=
  h.put (9 + t) (by omega) hq (fun e => absurd e (by omega)) (fun _ => ⟨upd_n (by omega), upd_n (by omega), rfl⟩) (fun e => absurd e (by omega)) (fun _ k hk => upd_n (by omega)) (fun e => absurd e (by omega)) (fun _ k hk => upd_n (by omega)) (fun e => absurd e (by omega)) (fun _ k hk => upd_n (by omega)) (fun e => absurd e (by omega)) (fun _ k hk => upd_n (by omega)) (fun e => absurd e (by omega)) (fun _ => rfl) (fun e => absurd e (by omega)) (fun _ => rfl) (fun e => absurd e (by omega)) (fun _ => rfl) (fun t2 ht2 e => by
    obtain rfl : t = t2 := by omega
    rw [upd_s (j := 14 * t + 1) rfl, upd_n (j := 14 * t) (by omega), upd_n (j := 14 * t + 6) (by omega), upd_n (j := 14 * t + 7) (by omega), upd_n (j := 14 * t + 8) (by omega), upd_n (j := 14 * t + 9) (by omega), upd_n (j := 14 * t + 12) (by omega), upd_n (j := 14 * t + 13) (by omega), upd_n (j := 14 * t + 10) (by omega), upd_n (j := 14 * t + 11) (by omega)]
    exact ho) (fun t2 ht2 e i hi hi2 => upd_n (by omega)) (fun t2 ht2 e => absurd e (by omega)) (fun t2 ht2 e i hi => upd_n (by omega)) (fun j h1 h2 => upd_n (by omega))
theorem PM.putSt (h : PM G own y x pr S C D E tr H) {t : Nat} (ht : t < 4) (ho : zO G (y (9 + t)) 2 [.ref (y (13 + t)), .int (S (14 * t + 1)), .int v, .int (S (14 * t + 6)), .int (lw (S (14 * t + 7))), .int (S (14 * t + 8)), .int (S (14 * t + 9)), .int (S (14 * t + 12)), .int (S (14 * t + 13)), .int (S (14 * t + 10)), .int (S (14 * t + 11))] H1) (hq : ∀ q : Nat, q ≠ y (9 + t) → H1[q]? = H[q]?) : PM G own y x pr (upd S (14 * t) v) C D E tr H1 :=
  h.put (9 + t) (by omega) hq (fun e => absurd e (by omega)) (fun _ => ⟨upd_n (by omega), upd_n (by omega), rfl⟩) (fun e => absurd e (by omega)) (fun _ k hk => upd_n (by omega)) (fun e => absurd e (by omega)) (fun _ k hk => upd_n (by omega)) (fun e => absurd e (by omega)) (fun _ k hk => upd_n (by omega)) (fun e => absurd e (by omega)) (fun _ k hk => upd_n (by omega)) (fun e => absurd e (by omega)) (fun _ => rfl) (fun e => absurd e (by omega)) (fun _ => rfl) (fun e => absurd e (by omega)) (fun _ => rfl) (fun t2 ht2 e => by
    obtain rfl : t = t2 := by omega
    rw [upd_n (j := 14 * t + 1) (by omega), upd_s (j := 14 * t) rfl, upd_n (j := 14 * t + 6) (by omega), upd_n (j := 14 * t + 7) (by omega), upd_n (j := 14 * t + 8) (by omega), upd_n (j := 14 * t + 9) (by omega), upd_n (j := 14 * t + 12) (by omega), upd_n (j := 14 * t + 13) (by omega), upd_n (j := 14 * t + 10) (by omega), upd_n (j := 14 * t + 11) (by omega)]
    exact ho) (fun t2 ht2 e i hi hi2 => upd_n (by omega)) (fun t2 ht2 e => absurd e (by omega)) (fun t2 ht2 e i hi => upd_n (by omega)) (fun j h1 h2 => upd_n (by omega))
theorem PM.putLr (h : PM G own y x pr S C D E tr H) {t : Nat} (ht : t < 4) (ho : zO G (y (9 + t)) 2 [.ref (y (13 + t)), .int (S (14 * t + 1)), .int (S (14 * t)), .int v, .int (lw (S (14 * t + 7))), .int (S (14 * t + 8)), .int (S (14 * t + 9)), .int (S (14 * t + 12)), .int (S (14 * t + 13)), .int (S (14 * t + 10)), .int (S (14 * t + 11))] H1) (hq : ∀ q : Nat, q ≠ y (9 + t) → H1[q]? = H[q]?) : PM G own y x pr (upd S (14 * t + 6) v) C D E tr H1 :=
  h.put (9 + t) (by omega) hq (fun e => absurd e (by omega)) (fun _ => ⟨upd_n (by omega), upd_n (by omega), rfl⟩) (fun e => absurd e (by omega)) (fun _ k hk => upd_n (by omega)) (fun e => absurd e (by omega)) (fun _ k hk => upd_n (by omega)) (fun e => absurd e (by omega)) (fun _ k hk => upd_n (by omega)) (fun e => absurd e (by omega)) (fun _ k hk => upd_n (by omega)) (fun e => absurd e (by omega)) (fun _ => rfl) (fun e => absurd e (by omega)) (fun _ => rfl) (fun e => absurd e (by omega)) (fun _ => rfl) (fun t2 ht2 e => by
    obtain rfl : t = t2 := by omega
    rw [upd_n (j := 14 * t + 1) (by omega), upd_n (j := 14 * t) (by omega), upd_s (j := 14 * t + 6) rfl, upd_n (j := 14 * t + 7) (by omega), upd_n (j := 14 * t + 8) (by omega), upd_n (j := 14 * t + 9) (by omega), upd_n (j := 14 * t + 12) (by omega), upd_n (j := 14 * t + 13) (by omega), upd_n (j := 14 * t + 10) (by omega), upd_n (j := 14 * t + 11) (by omega)]
    exact ho) (fun t2 ht2 e i hi hi2 => upd_n (by omega)) (fun t2 ht2 e => absurd e (by omega)) (fun t2 ht2 e i hi => upd_n (by omega)) (fun j h1 h2 => upd_n (by omega))
theorem PM.putLw (h : PM G own y x pr S C D E tr H) {t v1 : Nat} (ht : t < 4) (hv : v1 < 32) (ho : zO G (y (9 + t)) 2 [.ref (y (13 + t)), .int (S (14 * t + 1)), .int (S (14 * t)), .int (S (14 * t + 6)), .int (nI v1), .int (S (14 * t + 8)), .int (S (14 * t + 9)), .int (S (14 * t + 12)), .int (S (14 * t + 13)), .int (S (14 * t + 10)), .int (S (14 * t + 11))] H1) (hq : ∀ q : Nat, q ≠ y (9 + t) → H1[q]? = H[q]?) : PM G own y x pr (upd S (14 * t + 7) (nI (200 + v1))) C D E tr H1 :=
  h.put (9 + t) (by omega) hq (fun e => absurd e (by omega)) (fun _ => ⟨upd_n (by omega), upd_n (by omega), rfl⟩) (fun e => absurd e (by omega)) (fun _ k hk => upd_n (by omega)) (fun e => absurd e (by omega)) (fun _ k hk => upd_n (by omega)) (fun e => absurd e (by omega)) (fun _ k hk => upd_n (by omega)) (fun e => absurd e (by omega)) (fun _ k hk => upd_n (by omega)) (fun e => absurd e (by omega)) (fun _ => rfl) (fun e => absurd e (by omega)) (fun _ => rfl) (fun e => absurd e (by omega)) (fun _ => rfl) (fun t2 ht2 e => by
    obtain rfl : t = t2 := by omega
    rw [upd_n (j := 14 * t + 1) (by omega), upd_n (j := 14 * t) (by omega), upd_n (j := 14 * t + 6) (by omega), upd_s (j := 14 * t + 7) rfl, upd_n (j := 14 * t + 8) (by omega), upd_n (j := 14 * t + 9) (by omega), upd_n (j := 14 * t + 12) (by omega), upd_n (j := 14 * t + 13) (by omega), upd_n (j := 14 * t + 10) (by omega), upd_n (j := 14 * t + 11) (by omega)]
    rw [lw_k hv]
    exact ho) (fun t2 ht2 e i hi hi2 => upd_n (by omega)) (fun t2 ht2 e => absurd e (by omega)) (fun t2 ht2 e i hi => upd_n (by omega)) (fun j h1 h2 => upd_n (by omega))
theorem PM.putLc (h : PM G own y x pr S C D E tr H) {t : Nat} (ht : t < 4) (ho : zO G (y (9 + t)) 2 [.ref (y (13 + t)), .int (S (14 * t + 1)), .int (S (14 * t)), .int (S (14 * t + 6)), .int (lw (S (14 * t + 7))), .int v, .int (S (14 * t + 9)), .int (S (14 * t + 12)), .int (S (14 * t + 13)), .int (S (14 * t + 10)), .int (S (14 * t + 11))] H1) (hq : ∀ q : Nat, q ≠ y (9 + t) → H1[q]? = H[q]?) : PM G own y x pr (upd S (14 * t + 8) v) C D E tr H1 :=
  h.put (9 + t) (by omega) hq (fun e => absurd e (by omega)) (fun _ => ⟨upd_n (by omega), upd_n (by omega), rfl⟩) (fun e => absurd e (by omega)) (fun _ k hk => upd_n (by omega)) (fun e => absurd e (by omega)) (fun _ k hk => upd_n (by omega)) (fun e => absurd e (by omega)) (fun _ k hk => upd_n (by omega)) (fun e => absurd e (by omega)) (fun _ k hk => upd_n (by omega)) (fun e => absurd e (by omega)) (fun _ => rfl) (fun e => absurd e (by omega)) (fun _ => rfl) (fun e => absurd e (by omega)) (fun _ => rfl) (fun t2 ht2 e => by
    obtain rfl : t = t2 := by omega
    rw [upd_n (j := 14 * t + 1) (by omega), upd_n (j := 14 * t) (by omega), upd_n (j := 14 * t + 6) (by omega), upd_n (j := 14 * t + 7) (by omega), upd_s (j := 14 * t + 8) rfl, upd_n (j := 14 * t + 9) (by omega), upd_n (j := 14 * t + 12) (by omega), upd_n (j := 14 * t + 13) (by omega), upd_n (j := 14 * t + 10) (by omega), upd_n (j := 14 * t + 11) (by omega)]
    exact ho) (fun t2 ht2 e i hi hi2 => upd_n (by omega)) (fun t2 ht2 e => absurd e (by omega)) (fun t2 ht2 e i hi => upd_n (by omega)) (fun j h1 h2 => upd_n (by omega))
theorem PM.putLi (h : PM G own y x pr S C D E tr H) {t : Nat} (ht : t < 4) (ho : zO G (y (9 + t)) 2 [.ref (y (13 + t)), .int (S (14 * t + 1)), .int (S (14 * t)), .int (S (14 * t + 6)), .int (lw (S (14 * t + 7))), .int (S (14 * t + 8)), .int v, .int (S (14 * t + 12)), .int (S (14 * t + 13)), .int (S (14 * t + 10)), .int (S (14 * t + 11))] H1) (hq : ∀ q : Nat, q ≠ y (9 + t) → H1[q]? = H[q]?) : PM G own y x pr (upd S (14 * t + 9) v) C D E tr H1 :=
  h.put (9 + t) (by omega) hq (fun e => absurd e (by omega)) (fun _ => ⟨upd_n (by omega), upd_n (by omega), rfl⟩) (fun e => absurd e (by omega)) (fun _ k hk => upd_n (by omega)) (fun e => absurd e (by omega)) (fun _ k hk => upd_n (by omega)) (fun e => absurd e (by omega)) (fun _ k hk => upd_n (by omega)) (fun e => absurd e (by omega)) (fun _ k hk => upd_n (by omega)) (fun e => absurd e (by omega)) (fun _ => rfl) (fun e => absurd e (by omega)) (fun _ => rfl) (fun e => absurd e (by omega)) (fun _ => rfl) (fun t2 ht2 e => by
    obtain rfl : t = t2 := by omega
    rw [upd_n (j := 14 * t + 1) (by omega), upd_n (j := 14 * t) (by omega), upd_n (j := 14 * t + 6) (by omega), upd_n (j := 14 * t + 7) (by omega), upd_n (j := 14 * t + 8) (by omega), upd_s (j := 14 * t + 9) rfl, upd_n (j := 14 * t + 12) (by omega), upd_n (j := 14 * t + 13) (by omega), upd_n (j := 14 * t + 10) (by omega), upd_n (j := 14 * t + 11) (by omega)]
    exact ho) (fun t2 ht2 e i hi hi2 => upd_n (by omega)) (fun t2 ht2 e => absurd e (by omega)) (fun t2 ht2 e i hi => upd_n (by omega)) (fun j h1 h2 => upd_n (by omega))
theorem PM.putEx (h : PM G own y x pr S C D E tr H) {t : Nat} (ht : t < 4) (ho : zO G (y (9 + t)) 2 [.ref (y (13 + t)), .int (S (14 * t + 1)), .int (S (14 * t)), .int (S (14 * t + 6)), .int (lw (S (14 * t + 7))), .int (S (14 * t + 8)), .int (S (14 * t + 9)), .int v, .int (S (14 * t + 13)), .int (S (14 * t + 10)), .int (S (14 * t + 11))] H1) (hq : ∀ q : Nat, q ≠ y (9 + t) → H1[q]? = H[q]?) : PM G own y x pr (upd S (14 * t + 12) v) C D E tr H1 :=
  h.put (9 + t) (by omega) hq (fun e => absurd e (by omega)) (fun _ => ⟨upd_n (by omega), upd_n (by omega), rfl⟩) (fun e => absurd e (by omega)) (fun _ k hk => upd_n (by omega)) (fun e => absurd e (by omega)) (fun _ k hk => upd_n (by omega)) (fun e => absurd e (by omega)) (fun _ k hk => upd_n (by omega)) (fun e => absurd e (by omega)) (fun _ k hk => upd_n (by omega)) (fun e => absurd e (by omega)) (fun _ => rfl) (fun e => absurd e (by omega)) (fun _ => rfl) (fun e => absurd e (by omega)) (fun _ => rfl) (fun t2 ht2 e => by
    obtain rfl : t = t2 := by omega
    rw [upd_n (j := 14 * t + 1) (by omega), upd_n (j := 14 * t) (by omega), upd_n (j := 14 * t + 6) (by omega), upd_n (j := 14 * t + 7) (by omega), upd_n (j := 14 * t + 8) (by omega), upd_n (j := 14 * t + 9) (by omega), upd_s (j := 14 * t + 12) rfl, upd_n (j := 14 * t + 13) (by omega), upd_n (j := 14 * t + 10) (by omega), upd_n (j := 14 * t + 11) (by omega)]
    exact ho) (fun t2 ht2 e i hi hi2 => upd_n (by omega)) (fun t2 ht2 e => absurd e (by omega)) (fun t2 ht2 e i hi => upd_n (by omega)) (fun j h1 h2 => upd_n (by omega))
theorem PM.putLe (h : PM G own y x pr S C D E tr H) {t : Nat} (ht : t < 4) (ho : zO G (y (9 + t)) 2 [.ref (y (13 + t)), .int (S (14 * t + 1)), .int (S (14 * t)), .int (S (14 * t + 6)), .int (lw (S (14 * t + 7))), .int (S (14 * t + 8)), .int (S (14 * t + 9)), .int (S (14 * t + 12)), .int v, .int (S (14 * t + 10)), .int (S (14 * t + 11))] H1) (hq : ∀ q : Nat, q ≠ y (9 + t) → H1[q]? = H[q]?) : PM G own y x pr (upd S (14 * t + 13) v) C D E tr H1 :=
  h.put (9 + t) (by omega) hq (fun e => absurd e (by omega)) (fun _ => ⟨upd_n (by omega), upd_n (by omega), rfl⟩) (fun e => absurd e (by omega)) (fun _ k hk => upd_n (by omega)) (fun e => absurd e (by omega)) (fun _ k hk => upd_n (by omega)) (fun e => absurd e (by omega)) (fun _ k hk => upd_n (by omega)) (fun e => absurd e (by omega)) (fun _ k hk => upd_n (by omega)) (fun e => absurd e (by omega)) (fun _ => rfl) (fun e => absurd e (by omega)) (fun _ => rfl) (fun e => absurd e (by omega)) (fun _ => rfl) (fun t2 ht2 e => by
    obtain rfl : t = t2 := by omega
    rw [upd_n (j := 14 * t + 1) (by omega), upd_n (j := 14 * t) (by omega), upd_n (j := 14 * t + 6) (by omega), upd_n (j := 14 * t + 7) (by omega), upd_n (j := 14 * t + 8) (by omega), upd_n (j := 14 * t + 9) (by omega), upd_n (j := 14 * t + 12) (by omega), upd_s (j := 14 * t + 13) rfl, upd_n (j := 14 * t + 10) (by omega), upd_n (j := 14 * t + 11) (by omega)]
    exact ho) (fun t2 ht2 e i hi hi2 => upd_n (by omega)) (fun t2 ht2 e => absurd e (by omega)) (fun t2 ht2 e i hi => upd_n (by omega)) (fun j h1 h2 => upd_n (by omega))
theorem PM.putSn (h : PM G own y x pr S C D E tr H) {t : Nat} (ht : t < 4) (ho : zO G (y (9 + t)) 2 [.ref (y (13 + t)), .int (S (14 * t + 1)), .int (S (14 * t)), .int (S (14 * t + 6)), .int (lw (S (14 * t + 7))), .int (S (14 * t + 8)), .int (S (14 * t + 9)), .int (S (14 * t + 12)), .int (S (14 * t + 13)), .int v, .int (S (14 * t + 11))] H1) (hq : ∀ q : Nat, q ≠ y (9 + t) → H1[q]? = H[q]?) : PM G own y x pr (upd S (14 * t + 10) v) C D E tr H1 :=
  h.put (9 + t) (by omega) hq (fun e => absurd e (by omega)) (fun _ => ⟨upd_n (by omega), upd_n (by omega), rfl⟩) (fun e => absurd e (by omega)) (fun _ k hk => upd_n (by omega)) (fun e => absurd e (by omega)) (fun _ k hk => upd_n (by omega)) (fun e => absurd e (by omega)) (fun _ k hk => upd_n (by omega)) (fun e => absurd e (by omega)) (fun _ k hk => upd_n (by omega)) (fun e => absurd e (by omega)) (fun _ => rfl) (fun e => absurd e (by omega)) (fun _ => rfl) (fun e => absurd e (by omega)) (fun _ => rfl) (fun t2 ht2 e => by
    obtain rfl : t = t2 := by omega
    rw [upd_n (j := 14 * t + 1) (by omega), upd_n (j := 14 * t) (by omega), upd_n (j := 14 * t + 6) (by omega), upd_n (j := 14 * t + 7) (by omega), upd_n (j := 14 * t + 8) (by omega), upd_n (j := 14 * t + 9) (by omega), upd_n (j := 14 * t + 12) (by omega), upd_n (j := 14 * t + 13) (by omega), upd_s (j := 14 * t + 10) rfl, upd_n (j := 14 * t + 11) (by omega)]
    exact ho) (fun t2 ht2 e i hi hi2 => upd_n (by omega)) (fun t2 ht2 e => absurd e (by omega)) (fun t2 ht2 e i hi => upd_n (by omega)) (fun j h1 h2 => upd_n (by omega))
theorem PM.putMs (h : PM G own y x pr S C D E tr H) {t : Nat} (ht : t < 4) (ho : zO G (y (9 + t)) 2 [.ref (y (13 + t)), .int (S (14 * t + 1)), .int (S (14 * t)), .int (S (14 * t + 6)), .int (lw (S (14 * t + 7))), .int (S (14 * t + 8)), .int (S (14 * t + 9)), .int (S (14 * t + 12)), .int (S (14 * t + 13)), .int (S (14 * t + 10)), .int v] H1) (hq : ∀ q : Nat, q ≠ y (9 + t) → H1[q]? = H[q]?) : PM G own y x pr (upd S (14 * t + 11) v) C D E tr H1 :=
  h.put (9 + t) (by omega) hq (fun e => absurd e (by omega)) (fun _ => ⟨upd_n (by omega), upd_n (by omega), rfl⟩) (fun e => absurd e (by omega)) (fun _ k hk => upd_n (by omega)) (fun e => absurd e (by omega)) (fun _ k hk => upd_n (by omega)) (fun e => absurd e (by omega)) (fun _ k hk => upd_n (by omega)) (fun e => absurd e (by omega)) (fun _ k hk => upd_n (by omega)) (fun e => absurd e (by omega)) (fun _ => rfl) (fun e => absurd e (by omega)) (fun _ => rfl) (fun e => absurd e (by omega)) (fun _ => rfl) (fun t2 ht2 e => by
    obtain rfl : t = t2 := by omega
    rw [upd_n (j := 14 * t + 1) (by omega), upd_n (j := 14 * t) (by omega), upd_n (j := 14 * t + 6) (by omega), upd_n (j := 14 * t + 7) (by omega), upd_n (j := 14 * t + 8) (by omega), upd_n (j := 14 * t + 9) (by omega), upd_n (j := 14 * t + 12) (by omega), upd_n (j := 14 * t + 13) (by omega), upd_n (j := 14 * t + 10) (by omega), upd_s (j := 14 * t + 11) rfl]
    exact ho) (fun t2 ht2 e i hi hi2 => upd_n (by omega)) (fun t2 ht2 e => absurd e (by omega)) (fun t2 ht2 e i hi => upd_n (by omega)) (fun j h1 h2 => upd_n (by omega))
theorem PM.putR (h : PM G own y x pr S C D E tr H) {t i : Nat} (ht : t < 4) (hi : i < 4) (ho : zI G (y (13 + t)) 0 4 (upd (fun r => S (14 * t + (2 + r))) i v) H1) (hq : ∀ q : Nat, q ≠ y (13 + t) → H1[q]? = H[q]?) : PM G own y x pr (upd S (14 * t + (2 + i)) v) C D E tr H1 :=
  h.put (13 + t) (by omega) hq (fun e => absurd e (by omega)) (fun _ => ⟨upd_n (by omega), upd_n (by omega), rfl⟩) (fun e => absurd e (by omega)) (fun _ k hk => upd_n (by omega)) (fun e => absurd e (by omega)) (fun _ k hk => upd_n (by omega)) (fun e => absurd e (by omega)) (fun _ k hk => upd_n (by omega)) (fun e => absurd e (by omega)) (fun _ k hk => upd_n (by omega)) (fun e => absurd e (by omega)) (fun _ => rfl) (fun e => absurd e (by omega)) (fun _ => rfl) (fun e => absurd e (by omega)) (fun _ => rfl) (fun t2 ht2 e => absurd e (by omega)) (fun t2 ht2 e i hi hi2 => upd_n (by omega)) (fun t2 ht2 e => by
    obtain rfl : t = t2 := by omega
    exact ho.to (fun k hk => updR S t i k v)) (fun t2 ht2 e i hi => upd_n (by omega)) (fun j h1 h2 => upd_n (by omega))
theorem PM.kept (h : PM G own y x pr S C D E tr H) (hq : ∀ q : Nat, own q = y 17 ∨ own q = 0 → q < H.size → H1[q]? = H[q]?) : PM G own y x pr S C D E tr H1 := by
  have hk : ∀ j, j < 18 → y j < H.size → H1[y j]? = H[y j]? := fun j hj hl => hq _ (Or.inl (h.w hj)) hl
  exact ⟨h.o.kept (hk _ (by omega) h.o.lt), ⟨h.ls.kept (hk _ (by omega) h.ls.lt), h.p.kept (hk _ (by omega) h.p.lt), h.a2.kept (hk _ (by omega) h.a2.lt), h.a3.kept (hk _ (by omega) h.a3.lt), h.a4.kept (hk _ (by omega) h.a4.lt), h.a5.kept (hk _ (by omega) h.a5.lt), h.a6.kept (hk _ (by omega) h.a6.lt), h.a7.kept (hk _ (by omega) h.a7.lt), h.a8.kept (hk _ (by omega) h.a8.lt)⟩,
    fun t ht => ⟨(h.l ht).kept (hk _ (by omega) (h.l ht).lt), (h.r ht).kept (hk _ (by omega) (h.r ht).lt)⟩, fun k hk => ⟨(h.i hk).kept (hq _ (Or.inr (h.i0 hk)) (h.i hk).lt), h.i0 hk⟩, h.2.2.2.2⟩
/-- the names' owners, by another function -/
theorem PM.reown {own' : Nat → Nat} (h : PM G own y x pr S C D E tr H) (e : ∀ q : Nat, q < H.size → own' q = own q) : PM G own' y x pr S C D E tr H := by
  refine ⟨h.1, h.2.1, h.2.2.1, fun k hk => ⟨h.i hk, by rw [e _ (h.i hk).lt]; exact h.i0 hk⟩, h.z, fun j hj => ?_, h.2.2.2.2.2.2⟩
  have hl : y j < H.size := by
    rcases (show j = 0 ∨ j = 1 ∨ j = 2 ∨ j = 3 ∨ j = 4 ∨ j = 5 ∨ j = 6 ∨ j = 7 ∨ j = 8 ∨ j = 17 ∨ (9 ≤ j ∧ j < 13) ∨ (13 ≤ j ∧ j < 17) by omega) with rfl | rfl | rfl | rfl | rfl | rfl | rfl | rfl | rfl | rfl | hh | hh
    · exact h.ls.lt
    · exact h.p.lt
    · exact h.a2.lt
    · exact h.a3.lt
    · exact h.a4.lt
    · exact h.a5.lt
    · exact h.a6.lt
    · exact h.a7.lt
    · exact h.a8.lt
    · exact h.o.lt
    · have := (h.l (t := j - 9) (by omega)).lt; rwa [show 9 + (j - 9) = j by omega] at this
    · have := (h.r (t := j - 13) (by omega)).lt; rwa [show 13 + (j - 13) = j by omega] at this
  rw [e _ hl]; exact h.w hj
/-- the numbers by another function that agrees below 292 -/
theorem PM.to (h : PM G own y x pr S C D E tr H) (e : ∀ j, j < 292 → S' j = S j) : PM G own y x pr S' C D E tr H := by
  refine ⟨by rw [e 232 (by omega), e 233 (by omega)]; exact h.o, ⟨h.ls, h.p, h.a2.to (fun k hk => (e _ (by omega)).symm), h.a3.to (fun k hk => (e _ (by omega)).symm), h.a4.to (fun k hk => (e _ (by omega)).symm), h.a5.to (fun k hk => (e _ (by omega)).symm), h.a6, h.a7, h.a8⟩, fun t ht => ⟨(h.l ht).to (lane_c (fun i hi _ => e _ (by omega))), (h.r ht).to (fun r hr => (e _ (by omega)).symm)⟩, fun k hk => ⟨(h.i hk).to (ins_c (fun j hj => e _ (by omega))), h.i0 hk⟩, h.2.2.2.2⟩
/-- the part that a machine's methods may write -/
abbrev pA (own y : Nat → Nat) : Nat → Prop := fun q => own q = y 17
end ZPM
