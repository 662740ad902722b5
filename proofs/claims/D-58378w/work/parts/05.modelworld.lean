/-! the reference's world: its object (at y 3), its arrays s (y 0), aside (y 1), past (y 2), text (y 4) -/
def mFs (y : Nat → Nat) (f3 f5 f6 f7 f8 f9 f10 : Int32) : List Value := [.ref (y 0), .ref (y 1), .ref (y 2), .int f3, .ref (y 4), .int f5, .int f6, .int f7, .int f8, .int f9, .int f10]
def MD (G : zG) (own y : Nat → Nat) (S A P T : Nat → Int32) (f3 f5 f6 f7 f8 f9 f10 : Int32) (H : Heap) : Prop :=
  zO G (y 3) 8 [.ref (y 0), .ref (y 1), .ref (y 2), .int f3, .ref (y 4), .int f5, .int f6, .int f7, .int f8, .int f9, .int f10] H ∧ zI G (y 0) 0 341 S H ∧ zI G (y 1) 0 341 A H ∧ zI G (y 2) 0 1364 P H ∧ zI G (y 4) 0 100 T H ∧ (∀ j, j < 5 → own (y j) = y 3) ∧ (∀ i j, i < 5 → j < 5 → y i = y j → i = j)
section ZMD
variable {G : zG} {own y : Nat → Nat} {S A P T S1 : Nat → Int32} {f3 f5 f6 f7 f8 f9 f10 v : Int32} {H H1 : Heap}
theorem MD.o (h : MD G own y S A P T f3 f5 f6 f7 f8 f9 f10 H) : zO G (y 3) 8 [.ref (y 0), .ref (y 1), .ref (y 2), .int f3, .ref (y 4), .int f5, .int f6, .int f7, .int f8, .int f9, .int f10] H := h.1
theorem MD.s (h : MD G own y S A P T f3 f5 f6 f7 f8 f9 f10 H) : zI G (y 0) 0 341 S H := h.2.1
theorem MD.a (h : MD G own y S A P T f3 f5 f6 f7 f8 f9 f10 H) : zI G (y 1) 0 341 A H := h.2.2.1
theorem MD.p (h : MD G own y S A P T f3 f5 f6 f7 f8 f9 f10 H) : zI G (y 2) 0 1364 P H := h.2.2.2.1
theorem MD.t (h : MD G own y S A P T f3 f5 f6 f7 f8 f9 f10 H) : zI G (y 4) 0 100 T H := h.2.2.2.2.1
theorem MD.w (h : MD G own y S A P T f3 f5 f6 f7 f8 f9 f10 H) {j : Nat} (hj : j < 5) : own (y j) = y 3 := h.2.2.2.2.2.1 j hj
theorem MD.ne (h : MD G own y S A P T f3 f5 f6 f7 f8 f9 f10 H) {i j : Nat} (hi : i < 5) (hj : j < 5) (n : i ≠ j) : y i ≠ y j := fun z => n (h.2.2.2.2.2.2 i j hi hj z)
theorem MD.putO (h : MD G own y S A P T f3 f5 f6 f7 f8 f9 f10 H) {g3 g5 g6 g7 g8 g9 g10 : Int32} (ho : zO G (y 3) 8 [.ref (y 0), .ref (y 1), .ref (y 2), .int g3, .ref (y 4), .int g5, .int g6, .int g7, .int g8, .int g9, .int g10] H1) (hq : ∀ q : Nat, q ≠ y 3 → H1[q]? = H[q]?) : MD G own y S A P T g3 g5 g6 g7 g8 g9 g10 H1 :=
  ⟨ho, h.s.kept (hq _ (h.ne (by decide) (by decide) (by decide))), h.a.kept (hq _ (h.ne (by decide) (by decide) (by decide))), h.p.kept (hq _ (h.ne (by decide) (by decide) (by decide))), h.t.kept (hq _ (h.ne (by decide) (by decide) (by decide))), h.2.2.2.2.2⟩
theorem MD.putS (h : MD G own y S A P T f3 f5 f6 f7 f8 f9 f10 H) (ho : zI G (y 0) 0 341 S1 H1) (hq : ∀ q : Nat, q ≠ y 0 → H1[q]? = H[q]?) : MD G own y S1 A P T f3 f5 f6 f7 f8 f9 f10 H1 :=
  ⟨h.o.kept (hq _ (h.ne (by decide) (by decide) (by decide))), ho, h.a.kept (hq _ (h.ne (by decide) (by decide) (by decide))), h.p.kept (hq _ (h.ne (by decide) (by decide) (by decide))), h.t.kept (hq _ (h.ne (by decide) (by decide) (by decide))), h.2.2.2.2.2⟩
theorem MD.putA (h : MD G own y S A P T f3 f5 f6 f7 f8 f9 f10 H) (ho : zI G (y 1) 0 341 S1 H1) (hq : ∀ q : Nat, q ≠ y 1 → H1[q]? = H[q]?) : MD G own y S S1 P T f3 f5 f6 f7 f8 f9 f10 H1 :=
  ⟨h.o.kept (hq _ (h.ne (by decide) (by decide) (by decide))), h.s.kept (hq _ (h.ne (by decide) (by decide) (by decide))), ho, h.p.kept (hq _ (h.ne (by decide) (by decide) (by decide))), h.t.kept (hq _ (h.ne (by decide) (by decide) (by decide))), h.2.2.2.2.2⟩
theorem MD.putP (h : MD G own y S A P T f3 f5 f6 f7 f8 f9 f10 H) (ho : zI G (y 2) 0 1364 S1 H1) (hq : ∀ q : Nat, q ≠ y 2 → H1[q]? = H[q]?) : MD G own y S A S1 T f3 f5 f6 f7 f8 f9 f10 H1 :=
  ⟨h.o.kept (hq _ (h.ne (by decide) (by decide) (by decide))), h.s.kept (hq _ (h.ne (by decide) (by decide) (by decide))), h.a.kept (hq _ (h.ne (by decide) (by decide) (by decide))), ho, h.t.kept (hq _ (h.ne (by decide) (by decide) (by decide))), h.2.2.2.2.2⟩
theorem MD.putT (h : MD G own y S A P T f3 f5 f6 f7 f8 f9 f10 H) (ho : zI G (y 4) 0 100 S1 H1) (hq : ∀ q : Nat, q ≠ y 4 → H1[q]? = H[q]?) : MD G own y S A P S1 f3 f5 f6 f7 f8 f9 f10 H1 :=
  ⟨h.o.kept (hq _ (h.ne (by decide) (by decide) (by decide))), h.s.kept (hq _ (h.ne (by decide) (by decide) (by decide))), h.a.kept (hq _ (h.ne (by decide) (by decide) (by decide))), h.p.kept (hq _ (h.ne (by decide) (by decide) (by decide))), ho, h.2.2.2.2.2⟩
theorem MD.to (h : MD G own y S A P T f3 f5 f6 f7 f8 f9 f10 H) {S' A' P' T' : Nat → Int32} (e1 : ∀ k, k < 341 → S k = S' k) (e2 : ∀ k, k < 341 → A k = A' k) (e3 : ∀ k, k < 1364 → P k = P' k) (e4 : ∀ k, k < 100 → T k = T' k) : MD G own y S' A' P' T' f3 f5 f6 f7 f8 f9 f10 H :=
  ⟨h.o, h.s.to e1, h.a.to e2, h.p.to e3, h.t.to e4, h.2.2.2.2.2⟩
theorem MD.kept (h : MD G own y S A P T f3 f5 f6 f7 f8 f9 f10 H) (hq : ∀ q : Nat, own q = y 3 → q < H.size → H1[q]? = H[q]?) : MD G own y S A P T f3 f5 f6 f7 f8 f9 f10 H1 :=
  ⟨h.o.kept (hq _ (h.w (by decide)) h.o.lt), h.s.kept (hq _ (h.w (by decide)) h.s.lt), h.a.kept (hq _ (h.w (by decide)) h.a.lt), h.p.kept (hq _ (h.w (by decide)) h.p.lt), h.t.kept (hq _ (h.w (by decide)) h.t.lt), h.2.2.2.2.2⟩
end ZMD
abbrev mA (own y : Nat → Nat) : Nat → Prop := fun q => own q = y 3
