/-! SMALL WORDS -/
theorem upper_r {a b : Int} (h : a < b) : upper a b = b := by unfold upper; omega
theorem leastM_p {P : Int → Prop} {z : Int} (h : leastM P z) (hz : 0 ≤ z) : P z := by
  rcases h with ⟨a, -⟩ | ⟨a, -⟩
  · omega
  · exact a
theorem leastM_np {P : Int → Prop} {z : Int} (h : leastM P z) (hz : z < 0) (hp : ∀ m, P m → 0 ≤ m) : ∀ m, ¬ P m := by
  rcases h with ⟨-, a⟩ | ⟨a, -⟩
  · exact a
  · have := hp z a
    omega
theorem soon_neg {E : edge} {D : Int → Prop} {s n z : Int} {lab met : Int → Int} (hM : Mt E s lab met n) (h : soonP D lab z) (hz : z < 0) : z = -4 := by
  rcases h with ⟨a, -⟩ | ⟨c, c1, -, -, c4, -⟩
  · exact a
  · have := hM.rg c1
    omega
