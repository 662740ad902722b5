/-! CONSTANTS: what stands from the start and is never written: its cells lie below G.2.2 50 -/
/-- the literals: length, characters, hash, whether the hash is zero -/
def zTx : List (Nat × List Int32 × Int32 × Int32) := [(4, [110, 111, 110, 101], 3387192, 0), (4, [110, 101, 120, 116], 3377907, 0), (7, [108, 111, 110, 103, 101, 115, 116], 348742026, 0), (4, [110, 101, 120, 116], 3377907, 0), (7, [108, 111, 110, 103, 101, 115, 116], 348742026, 0), (0, [], 0, 1), (1, [115], 115, 0), (1, [97], 97, 0), (1, [100], 100, 0), (1, [109], 109, 0), (1, [108], 108, 0), (1, [119], 119, 0), (1, [120], 120, 0), (1, [106], 106, 0), (1, [122], 122, 0), (1, [110], 110, 0), (1, [98], 98, 0), (1, [104], 104, 0)]
def zTxB (k j : Nat) : Int32 := ((zTx.getD k (0, [], 0, 0)).2.1).getD j 0
def zC (G : zG) (H : Heap) : Prop := G.2.2 50 ≤ H.size ∧ (zSv (G.2.2 40) (G.2.2 41) (.int 1) H ∧ zSv (G.2.2 42) (G.2.2 43) (.ref (G.2.2 48)) H ∧ zTw G (G.2.2 48) 3 0 (fun _ => 0) H ∧ zSv (G.2.2 44) (G.2.2 45) (.ref (G.2.2 49)) H) ∧
  (∀ (k : Nat) (q : Nat × List Int32 × Int32 × Int32), zTx[k]? = some q → zOw G (G.2.2 k) 11 [.ref (G.2.2 (60 + k)), .int 0, .int q.2.2.1, .int q.2.2.2] H ∧ zTw G (G.2.2 (60 + k)) 2 q.1 (zTxB k) H) ∧ (∀ k, k < 12 → zLo G k H) ∧
  G.2.2 40 < G.2.2 50 ∧ G.2.2 42 < G.2.2 50 ∧ G.2.2 48 < G.2.2 50 ∧ G.2.2 44 < G.2.2 50 ∧ (∀ k, k < 18 → G.2.2 k < G.2.2 50 ∧ G.2.2 (60 + k) < G.2.2 50) ∧ (∀ k, k < 12 → G.2.2 (20 + k) < G.2.2 50)
section ZCST
variable {G : zG} {H H1 : Heap}
theorem zC.size (h : zC G H) : G.2.2 50 ≤ H.size := h.1
theorem zC.cs (h : zC G H) : zSv (G.2.2 40) (G.2.2 41) (.int 1) H := h.2.1.1
theorem zC.el (h : zC G H) : zSv (G.2.2 42) (G.2.2 43) (.ref (G.2.2 48)) H := h.2.1.2.1
theorem zC.ea (h : zC G H) : zTw G (G.2.2 48) 3 0 (fun _ => 0) H := h.2.1.2.2.1
theorem zC.fm (h : zC G H) : zSv (G.2.2 44) (G.2.2 45) (.ref (G.2.2 49)) H := h.2.1.2.2.2
theorem zC.so (h : zC G H) (k : Nat) {n : Nat} {bs : List Int32} {x z : Int32} (hk : zTx[k]? = some (n, bs, x, z)) : zOw G (G.2.2 k) 11 [.ref (G.2.2 (60 + k)), .int 0, .int x, .int z] H := (h.2.2.1 k _ hk).1
theorem zC.sb (h : zC G H) (k : Nat) {n : Nat} {bs : List Int32} {x z : Int32} (hk : zTx[k]? = some (n, bs, x, z)) : zTw G (G.2.2 (60 + k)) 2 n (zTxB k) H := (h.2.2.1 k _ hk).2
theorem zC.lo (h : zC G H) {k : Nat} (hk : k < 12) : zLo G k H := h.2.2.2.1 k hk
theorem zSv.kept {a i : Nat} {v : Value} (h : zSv a i v H) (hq : H1[a]? = H[a]?) : zSv a i v H1 := by
  obtain ⟨cell, h1, h2⟩ := h
  exact ⟨cell, by rw [hq]; exact h1, h2⟩
theorem zC.kept (h : zC G H) (hz : H.size ≤ H1.size) (hq : ∀ q : Nat, q < G.2.2 50 → H1[q]? = H[q]?) : zC G H1 := by
  obtain ⟨h0, ⟨c1, c2, c3, c4⟩, hs, hl, l1, l2, l3, l4, l5, l6⟩ := h
  refine ⟨Nat.le_trans h0 hz, ⟨c1.kept (hq _ l1), c2.kept (hq _ l2), c3.kept (hq _ l3), c4.kept (hq _ l4)⟩, fun k q hk => ?_, fun k hk => (hl k hk).kept (hq _ (l6 k hk)), l1, l2, l3, l4, l5, l6⟩
  have hk18 : k < 18 := (List.getElem?_eq_some_iff.mp hk).1
  exact ⟨(hs k q hk).1.kept (hq _ (l5 k hk18).1), (hs k q hk).2.kept (hq _ (l5 k hk18).2)⟩
end ZCST
