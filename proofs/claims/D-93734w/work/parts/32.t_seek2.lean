/-! THE MODEL's SEARCH, pure: what it keeps, the soonest -/
set_option maxRecDepth 100000
/-- where ways lead down -/
def ldP (F : mem) (la ld : Int → Int) : Prop := (∀ c, inSt c → la c ≠ FARc → ld c = 0 ∨ ld c = 1) ∧ (∀ c, inSt c → la c ≠ FARc → (ld c = 1 ↔ LeadA F (-1) c))
/-- what the model has sought: is, il tell whether it has -/
def CIx (F : mem) (is il : Int) (la me : Int → Int) (n8 : Int) (gm : Int → Int) (nm : Int) (ld : Int → Int) : Prop :=
  (is = 0 ∨ is = 1) ∧ (il = 0 ∨ il = 1) ∧ (is = 1 → Sought (EF F) (cdv (F 6) (F 7)) la me n8 ∧ LL (cand F) gm nm 70000 ∧ (0 ≤ nm ∧ nm ≤ 2400) ∧ (il = 1 → ldP F la ld))
theorem CIx_0 {F : mem} {il n8 nm : Int} {la me gm ld : Int → Int} (h : il = 0 ∨ il = 1) : CIx F 0 il la me n8 gm nm ld := ⟨.inl rfl, h, fun q => absurd q (by decide)⟩
theorem CIx_1 {F : mem} {n8 nm : Int} {la me gm ld : Int → Int} (h1 : Sought (EF F) (cdv (F 6) (F 7)) la me n8) (h2 : LL (cand F) gm nm 70000) (h3 : 0 ≤ nm ∧ nm ≤ 2400) : CIx F 1 0 la me n8 gm nm ld :=
  ⟨.inr rfl, .inl rfl, fun _ => ⟨h1, h2, h3, fun q => absurd q (by decide)⟩⟩
/-- the least label of the first k states of a list that are D -/
def soonM (D : Int → Prop) (lab met : Int → Int) (k b : Int) : Prop :=
  (b = -4 ∧ ∀ i, 0 ≤ i → i < k → ¬ D (met i)) ∨ (∃ i, 0 ≤ i ∧ i < k ∧ D (met i) ∧ lab (met i) = b ∧ 0 ≤ b ∧ ∀ j, 0 ≤ j → j < k → D (met j) → b ≤ lab (met j))
theorem soonM_0 (D : Int → Prop) (lab met : Int → Int) : soonM D lab met 0 (-4) := .inl ⟨rfl, fun i a b => by omega⟩
theorem soonM_n {D : Int → Prop} {lab met : Int → Int} {k b : Int} (h : soonM D lab met k b) (hn : ¬ D (met k)) : soonM D lab met (k + 1) b := by
  rcases h with ⟨a, c⟩ | ⟨i, i0, i1, i2, i3, i4, i5⟩
  · refine .inl ⟨a, fun i h0 h1 => ?_⟩
    by_cases q : i = k
    · rw [q]; exact hn
    · exact c i h0 (by omega)
  · refine .inr ⟨i, i0, by omega, i2, i3, i4, fun j j0 j1 jd => ?_⟩
    by_cases q : j = k
    · rw [q] at jd; exact absurd jd hn
    · exact i5 j j0 (by omega) jd
theorem soonM_keep {D : Int → Prop} {lab met : Int → Int} {k b : Int} (h : soonM D lab met k b) (hb : 0 ≤ b) (hl : b ≤ lab (met k)) : soonM D lab met (k + 1) b := by
  rcases h with ⟨a, c⟩ | ⟨i, i0, i1, i2, i3, i4, i5⟩
  · omega
  · refine .inr ⟨i, i0, by omega, i2, i3, i4, fun j j0 j1 jd => ?_⟩
    by_cases q : j = k
    · rw [q]; exact hl
    · exact i5 j j0 (by omega) jd
theorem soonM_new {D : Int → Prop} {lab met : Int → Int} {k b : Int} (h : soonM D lab met k b) (hk : 0 ≤ k) (hd : D (met k)) (hl : (b < 0 ∨ lab (met k) < b) ∧ 0 ≤ lab (met k)) : soonM D lab met (k + 1) (lab (met k)) := by
  refine .inr ⟨k, hk, by omega, hd, rfl, hl.2, fun j j0 j1 jd => ?_⟩
  by_cases q : j = k
  · rw [q]; exact Int.le_refl _
  · rcases h with ⟨a, c⟩ | ⟨i, i0, i1, i2, i3, i4, i5⟩
    · exact absurd jd (c j j0 (by omega))
    · have := i5 j j0 (by omega) jd
      omega
theorem soonM_e {E : edge} {D : Int → Prop} {s n k b : Int} {lab met : Int → Int} (hM : Mt E s lab met n) (h : soonM D lab met k b) (hk : k ≤ n) (hk2 : n ≤ k) : soonP D lab b := by
  rcases h with ⟨a, c⟩ | ⟨i, i0, i1, i2, i3, -, i5⟩
  · exact soonP.of hM (.inl ⟨a, fun j j0 j1 => c j j0 (by omega)⟩)
  · exact soonP.of hM (.inr ⟨i, i0, by omega, i2, i3, fun j j0 j1 jd => i5 j j0 (by omega) jd⟩)
theorem ug_eq {g h : Int → Int} {k v i : Int} (e : g i = h i) : ug g k v i = ug h k v i := by
  by_cases q : i = k
  · rw [q, ug_s, ug_s]
  · rw [ug_n q, ug_n q, e]
theorem Sim_sort {F τ : mem} {p t : Int} (h : Sim F τ) : Sim (up F 4 (ug (F 4) p t)) (up τ 6 (ug (τ 6) p t)) := by
  obtain ⟨a, b, c, d, e, f, g, i, j⟩ := h
  exact ⟨a, b, c, d, e, f, g, fun x x0 x1 => ⟨ug_eq (i x x0 x1).1, (i x x0 x1).2⟩, j⟩
