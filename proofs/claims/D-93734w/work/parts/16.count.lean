/-! COUNTING: how many numbers below a bound have a property; the list of the moves that may be made -/
noncomputable def cnN (P : Int → Prop) : Nat → Int
  | 0 => 0
  | n + 1 => cnN P n + @ite Int (P n) (Classical.propDecidable _) 1 0
noncomputable def cn (P : Int → Prop) (m : Int) : Int := cnN P m.toNat
theorem cn_0 (P : Int → Prop) : cn P 0 = 0 := rfl
theorem cn_s {P : Int → Prop} {m : Int} (h0 : 0 ≤ m) (h : P m) : cn P (m + 1) = cn P m + 1 := by
  obtain ⟨n, rfl⟩ := Int.eq_ofNat_of_zero_le h0
  show cnN P ((n : Int) + 1).toNat = cnN P (n : Int).toNat + 1
  rw [show ((n : Int) + 1).toNat = n + 1 by omega, show (n : Int).toNat = n by omega]
  simp only [cnN]
  rw [if_pos h]
theorem cn_n {P : Int → Prop} {m : Int} (h0 : 0 ≤ m) (h : ¬ P m) : cn P (m + 1) = cn P m := by
  obtain ⟨n, rfl⟩ := Int.eq_ofNat_of_zero_le h0
  show cnN P ((n : Int) + 1).toNat = cnN P (n : Int).toNat
  rw [show ((n : Int) + 1).toNat = n + 1 by omega, show (n : Int).toNat = n by omega]
  simp only [cnN]
  rw [if_neg h]
  omega
theorem cn_mono1 {P : Int → Prop} {m : Int} (h0 : 0 ≤ m) : cn P m ≤ cn P (m + 1) := by
  rcases Classical.em (P m) with h | h
  · rw [cn_s h0 h]; omega
  · rw [cn_n h0 h]; omega
theorem cn_mono {P : Int → Prop} {a b : Int} (h0 : 0 ≤ a) (h : a ≤ b) : cn P a ≤ cn P b := by
  obtain ⟨n, rfl⟩ : ∃ n : Nat, b = a + n := ⟨(b - a).toNat, by omega⟩
  induction n with
  | zero => exact Int.le_of_eq (by congr 1; omega)
  | succ n ih =>
    have h1 := ih (by omega)
    have h2 := cn_mono1 (P := P) (m := a + n) (by omega)
    rw [show a + (n : Int) + 1 = a + ((n + 1 : Nat) : Int) by omega] at h2
    omega
theorem cn_skip {P : Int → Prop} {a b : Int} (h0 : 0 ≤ a) (h : a ≤ b) (hn : ∀ x, a ≤ x → x < b → ¬ P x) : cn P b = cn P a := by
  obtain ⟨n, rfl⟩ : ∃ n : Nat, b = a + n := ⟨(b - a).toNat, by omega⟩
  induction n with
  | zero => congr 1; omega
  | succ n ih =>
    rw [show a + ((n + 1 : Nat) : Int) = (a + (n : Int)) + 1 by omega, cn_n (by omega) (hn _ (by omega) (by omega))]
    exact ih (by omega) (fun x h1 h2 => hn x h1 (by omega))
theorem cn_nn {P : Int → Prop} {m : Int} (h : 0 ≤ m) : 0 ≤ cn P m := by
  have := cn_mono (P := P) (Int.le_refl 0) h
  rw [cn_0] at this
  exact this
theorem cn_lt {P : Int → Prop} {a b : Int} (h0 : 0 ≤ a) (h : a < b) (hp : P a) : cn P a < cn P b := by
  have h1 := cn_mono (P := P) (a := a + 1) (b := b) (by omega) (by omega)
  rw [cn_s h0 hp] at h1
  omega
theorem cn_inj {P : Int → Prop} {a b : Int} (h0 : 0 ≤ a) (h1 : 0 ≤ b) (ha : P a) (hb : P b) (h : cn P a = cn P b) : a = b := by
  rcases Int.lt_trichotomy a b with q | q | q
  · have := cn_lt h0 q ha; omega
  · exact q
  · have := cn_lt h1 q hb; omega
theorem cn_onto {P : Int → Prop} {m j : Int} (h0 : 0 ≤ m) (hj : 0 ≤ j) (h : j < cn P m) : ∃ x, 0 ≤ x ∧ x < m ∧ P x ∧ cn P x = j := by
  obtain ⟨n, rfl⟩ := Int.eq_ofNat_of_zero_le h0
  induction n with
  | zero => rw [show ((0 : Nat) : Int) = 0 by rfl, cn_0] at h; omega
  | succ n ih =>
    rcases Int.lt_or_le j (cn P n) with q | q
    · obtain ⟨x, h1, h2, h3⟩ := ih (by omega) q
      exact ⟨x, h1, by omega, h3⟩
    · rcases Classical.em (P n) with e | e
      · rw [show ((n + 1 : Nat) : Int) = (n : Int) + 1 by omega, cn_s (by omega) e] at h
        exact ⟨n, by omega, by omega, e, by omega⟩
      · rw [show ((n + 1 : Nat) : Int) = (n : Int) + 1 by omega, cn_n (by omega) e] at h
        omega
/-- a list (g0, with g1 beside it) holds what is P below pos, in order: n of them -/
def LI (P : Int → Prop) (V : Int → Int) (g0 g1 : Int → Int) (n pos : Int) : Prop := n = cn P pos ∧ ∀ x, 0 ≤ x → x < pos → P x → g0 (cn P x) = x ∧ g1 (cn P x) = V x
theorem LI_0 (P : Int → Prop) (V : Int → Int) (g0 g1 : Int → Int) : LI P V g0 g1 0 0 := ⟨(cn_0 P).symm, fun x h1 h2 => by omega⟩
theorem LI_skip {P : Int → Prop} {V : Int → Int} {g0 g1 : Int → Int} {n a b : Int} (h : LI P V g0 g1 n a) (h0 : 0 ≤ a) (hab : a ≤ b) (hn : ∀ x, a ≤ x → x < b → ¬ P x) : LI P V g0 g1 n b := by
  refine ⟨by rw [cn_skip h0 hab hn]; exact h.1, fun x h1 h2 hp => ?_⟩
  rcases Int.lt_or_le x a with q | q
  · exact h.2 x h1 q hp
  · exact absurd hp (hn x q h2)
theorem LI_add {P : Int → Prop} {V : Int → Int} {g0 g1 : Int → Int} {n a : Int} (h : LI P V g0 g1 n a) (h0 : 0 ≤ a) (hp : P a) : LI P V (ug g0 n a) (ug g1 n (V a)) (n + 1) (a + 1) := by
  refine ⟨by rw [cn_s h0 hp, h.1], fun x h1 h2 hq => ?_⟩
  rcases Int.lt_or_le x a with e | e
  · have := cn_lt h1 e hq
    have hne : cn P x ≠ n := by rw [h.1]; omega
    rw [ug_n hne, ug_n hne]
    exact h.2 x h1 e hq
  · have : x = a := by omega
    subst this
    rw [h.1, ug_s, ug_s]
    exact ⟨rfl, rfl⟩
/-- each place of the list is a number that is P, and V of it -/
theorem LI_at {P : Int → Prop} {V : Int → Int} {g0 g1 : Int → Int} {n pos j : Int} (h : LI P V g0 g1 n pos) (hp : 0 ≤ pos) (h0 : 0 ≤ j) (h1 : j < n) : 0 ≤ g0 j ∧ g0 j < pos ∧ P (g0 j) ∧ g1 j = V (g0 j) ∧ cn P (g0 j) = j := by
  obtain ⟨x, a, b, c, d⟩ := cn_onto hp h0 (by rw [← h.1]; exact h1)
  obtain ⟨e, f⟩ := h.2 x a b c
  rw [d] at e f
  rw [e]
  exact ⟨a, b, c, f, d⟩
theorem up_id (σ : mem) (c : Nat) : up σ c (σ c) = σ := by
  funext d
  rcases Nat.decEq d c with h | h
  · exact up_n _ _ h
  · subst h; exact up_s _ _ _
