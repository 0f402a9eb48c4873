/-! MOVES THAT MAY BE MADE: pure words -/
set_option maxRecDepth 100000
theorem mnV_b {F : mem} {k st fr to : Int} (hW : wfF F) (h0 : 0 ≤ st) (h7 : st ≤ 7) (hf : 0 ≤ fr) (hf4 : fr ≤ 4) (ht : 0 ≤ to) (ht4 : to ≤ 4) : 1 ≤ mnV F k st fr to ∧ mnV F k st fr to ≤ 312 := by
  have h1 := fs_le (F 2) (a := fr) (b := to) hW.2.2.1 hf (by omega)
  have h2 := hW.2.2.1 (lower fr to)
  have h3 : ones st = 0 ∨ ones st = 1 ∨ ones st = 2 ∨ ones st = 3 := by unfold ones; omega
  unfold mnV
  rcases h3 with e | e | e | e <;> rw [e] <;> (repeat' split) <;> omega
theorem p2_b {n : Int} (h0 : 0 ≤ n) (h1 : n ≤ 3) : (n = 0 ∧ p2 n = 1) ∨ (n = 1 ∧ p2 n = 2) ∨ (n = 2 ∧ p2 n = 4) ∨ (n = 3 ∧ p2 n = 8) := by
  rcases (show n = 0 ∨ n = 1 ∨ n = 2 ∨ n = 3 by omega) with rfl | rfl | rfl | rfl <;> decide
/-- a move that may be made from a spot -/
def lgl (F : mem) (w q : Int → Int) (m : Int) : Prop := isT m ∧ mvOk F w q m
theorem lgl_0 {F : mem} {w q : Int → Int} {x : Int} (h : x / 10000 = 0) : ¬ lgl F w q x := fun h1 => by
  have := h1.2
  unfold mvOk mnOk at this
  omega
theorem lgl_k {F : mem} {w q : Int → Int} {x : Int} (h : lgl F w q x) : 1 ≤ x / 10000 ∧ x / 10000 ≤ 6 := by
  have h2 := isT_k h.1
  refine ⟨?_, by omega⟩
  rcases Int.lt_or_le (x / 10000) 1 with e | e
  · exact absurd h (lgl_0 (by omega))
  · exact e
theorem okGo_fr {F : mem} {w : Int → Int} {st fr to hale : Int} (h : okGo F w st fr to hale) : ¬ st = 0 ∧ goP F w (st % 2) fr 0 0 ∧ goP F w (st / 2 % 2) fr 0 1 ∧ goP F w (st / 4 % 2) fr 0 2 ∧ to < F 8 0 := by
  obtain ⟨h1, h2, h3, h4, h5, h6, h7, h8⟩ := h
  exact ⟨h1, fun g => ⟨(h5 g).1, (h5 g).2.1, .inl rfl⟩, fun g => ⟨(h6 g).1, (h6 g).2.1, .inl rfl⟩, fun g => ⟨(h7 g).1, (h7 g).2.1, .inl rfl⟩, h3⟩
theorem mnOk_go {F : mem} {w q : Int → Int} {k st r fr to : Int} (h : mnOk F w q k st r fr to) : (¬ st = 0 ∧ goP F w (st % 2) fr 0 0 ∧ goP F w (st / 2 % 2) fr 0 1 ∧ goP F w (st / 4 % 2) fr 0 2 ∧ to < F 8 0 ∧ ((r < F 10 0 ∧ (¬ k = 3 ∨ r = 0)) ∨ (k = 5 ∧ r = 0))) ∨ (k = 6 ∧ st = 0 ∧ r < F 10 0 ∧ q r = fr ∧ to < F 8 0) := by
  rcases h with ⟨hk, a, b, c, d, -⟩ | ⟨hk, a, b, c, d, -⟩ | ⟨hk, a, b, c, d, e, -⟩ | ⟨hk, a, b, c, d, e, -⟩ | ⟨hk, a, b, -, c, -⟩ | ⟨hk, a, b, c, d⟩
  · obtain ⟨g1, g2, g3, g4, g5⟩ := okGo_fr c
    exact .inl ⟨g1, g2, g3, g4, g5, .inl ⟨d.1, .inl (by omega)⟩⟩
  · obtain ⟨g1, g2, g3, g4, g5⟩ := okGo_fr c
    exact .inl ⟨g1, g2, g3, g4, g5, .inl ⟨d.1, .inl (by omega)⟩⟩
  · obtain ⟨g1, g2, g3, g4, g5⟩ := okGo_fr c
    exact .inl ⟨g1, g2, g3, g4, g5, .inl ⟨by rw [d]; exact e.1, .inr d⟩⟩
  · obtain ⟨g1, g2, g3, g4, g5⟩ := okGo_fr c
    exact .inl ⟨g1, g2, g3, g4, g5, .inl ⟨e.1, .inl (by omega)⟩⟩
  · obtain ⟨g1, g2, g3, g4, g5⟩ := okGo_fr c
    exact .inl ⟨g1, g2, g3, g4, g5, .inr ⟨hk, b⟩⟩
  · exact .inr ⟨hk, a, d.1, d.2, b.2.2.2.1⟩
theorem lgl_to {F : mem} {w q : Int → Int} {x : Int} (h : lgl F w q x) : 0 ≤ x % 10 ∧ x % 10 < F 8 0 := by
  refine ⟨by omega, ?_⟩
  rcases mnOk_go h.2 with ⟨-, -, -, -, a, -⟩ | ⟨-, -, -, -, a⟩ <;> exact a
theorem lgl_fr {F : mem} {w q : Int → Int} {x : Int} (h : lgl F w q x) : 0 ≤ x / 10 % 10 ∧ x / 10 % 10 ≤ 4 := by
  have := isT_m h.1
  omega
/-- sets beyond the people -/
theorem lgl_set {F : mem} {w q : Int → Int} {x : Int} (h0 : 0 ≤ F 9 0) (h3 : F 9 0 ≤ 3) (hx : 0 ≤ x) (hs : p2 (F 9 0) ≤ x / 1000 % 10) : ¬ lgl F w q x := fun h => by
  have hp := p2_b h0 h3
  have hm := isT_m h.1
  rcases mnOk_go h.2 with ⟨a, b, c, d, -⟩ | ⟨-, a, -⟩
  · unfold goP at b c d
    omega
  · omega
/-- ropes beyond the ropes there are -/
theorem lgl_rope_a {F : mem} {w q : Int → Int} {x r1 : Int} (h0 : 0 ≤ F 10 0) (h2 : F 10 0 ≤ 2) (hx : 0 ≤ x) (hr : F 10 0 ≤ r1) (hk : ¬ x / 10000 = 5) (h : r1 ≤ x / 100 % 10) (_ : ¬ r1 = 0) : ¬ lgl F w q x := fun h => by
  rcases mnOk_go h.2 with ⟨-, -, -, -, -, a⟩ | ⟨-, -, a, -⟩ <;> omega
theorem lgl_rope_b {F : mem} {w q : Int → Int} {x r1 : Int} (h0 : 0 ≤ F 10 0) (h2 : F 10 0 ≤ 2) (hx : 0 ≤ x) (hr : F 10 0 ≤ r1) (hk : x / 10000 = 5) (h : r1 ≤ x / 100 % 10) (_ : ¬ r1 = 0) : ¬ lgl F w q x := fun h => by
  rcases mnOk_go h.2 with ⟨-, -, -, -, -, a⟩ | ⟨-, -, a, -⟩ <;> omega
/-- the ledge that is tried -/
def beg (F : mem) (q : Int → Int) (zl s r y : Int) : Prop := (s = 0 ∧ r < F 10 0 ∧ y = q r) ∨ (s = 0 ∧ F 10 0 ≤ r ∧ y = -4) ∨ (¬ s = 0 ∧ y = zl)
def ib (r x y : Int) : Int := if r = 0 then x else y
theorem ib_c (r x y : Int) : (r = 0 ∧ ib r x y = x) ∨ (¬ r = 0 ∧ ib r x y = y) := by unfold ib; omega
def LQ (P : Int → Prop) (V : Int → Int) (g0 g1 : Int → Int) (n a b t y : Int) : Prop := (0 ≤ y ∧ y ≤ 4 ∧ LI P V g0 g1 n a) ∨ (¬ (0 ≤ y ∧ y ≤ 4) ∧ t = 0 ∧ LI P V g0 g1 n b)
/-- where a move that may be made begins -/
theorem lgl_from {F : mem} {w q : Int → Int} {x k s r zl y : Int} (h : lgl F w q x) (hk : x / 10000 = k) (hs : x / 1000 % 10 = s) (hr : x / 100 % 10 = r)
    (hz : ∀ fr : Int, ¬ s = 0 → goP F w (s % 2) fr 0 0 → goP F w (s / 2 % 2) fr 0 1 → goP F w (s / 4 % 2) fr 0 2 → zl = fr) (hy : beg F q zl s r y) : x / 10 % 10 = y := by
  unfold beg at hy
  subst hk; subst hs; subst hr
  rcases mnOk_go h.2 with ⟨a, b, c, d, -⟩ | ⟨-, a, b, c, -⟩
  · have := hz _ a b c d
    omega
  · omega
theorem LI_in0 : True := trivial
theorem LI_in {P : Int → Prop} {V : Int → Int} {g0 g1 : Int → Int} {n a b t y : Int} (h : (0 ≤ y ∧ y ≤ 4 ∧ LI P V g0 g1 n a) ∨ (¬ (0 ≤ y ∧ y ≤ 4) ∧ t = 0 ∧ LI P V g0 g1 n b)) (hy : 0 ≤ y ∧ y ≤ 4) : LI P V g0 g1 n a := by
  rcases h with h | h
  · exact h.2.2
  · exact absurd hy h.1
theorem LI_mv {F : mem} {w q g0 g1 gg gh : Int → Int} {n n' k s r b t : Int} (hadd : (mnOk F w q k s r b t ∧ gg = ug g0 n (10000 * k + 1000 * s + 100 * r + 10 * b + t) ∧ gh = ug g1 n (mnV F k s b t) ∧ n' = n + 1) ∨ (¬ mnOk F w q k s r b t ∧ gg = g0 ∧ gh = g1 ∧ n' = n))
    (h : LI (lgl F w q) (mvV F) g0 g1 n (10000 * k + 1000 * s + 100 * r + 10 * b + t)) (hk1 : 1 ≤ k) (hk6 : k ≤ 6) (hs0 : 0 ≤ s) (hs7 : s ≤ 7) (hr0 : 0 ≤ r) (hr1 : r ≤ 1) (hb0 : 0 ≤ b) (hb4 : b ≤ 4) (ht0 : 0 ≤ t) (ht4 : t ≤ 4) : LI (lgl F w q) (mvV F) gg gh n' (10000 * k + 1000 * s + 100 * r + 10 * b + (t + 1)) := by
  have e1 : (10000 * k + 1000 * s + 100 * r + 10 * b + t) / 10000 = k := by omega
  have e2 : (10000 * k + 1000 * s + 100 * r + 10 * b + t) / 1000 % 10 = s := by omega
  have e3 : (10000 * k + 1000 * s + 100 * r + 10 * b + t) / 100 % 10 = r := by omega
  have e4 : (10000 * k + 1000 * s + 100 * r + 10 * b + t) / 10 % 10 = b := by omega
  have e5 : (10000 * k + 1000 * s + 100 * r + 10 * b + t) % 10 = t := by omega
  have eP : lgl F w q (10000 * k + 1000 * s + 100 * r + 10 * b + t) ↔ mnOk F w q k s r b t := by
    unfold lgl mvOk isT
    rw [e1, e2, e3, e4, e5]
    exact ⟨fun h => h.2, fun h => ⟨by omega, h⟩⟩
  have eV : mvV F (10000 * k + 1000 * s + 100 * r + 10 * b + t) = mnV F k s b t := by
    unfold mvV
    rw [e1, e2, e4, e5]
  rw [show 10000 * k + 1000 * s + 100 * r + 10 * b + (t + 1) = 10000 * k + 1000 * s + 100 * r + 10 * b + t + 1 by omega]
  rcases hadd with ⟨a, rfl, rfl, rfl⟩ | ⟨a, rfl, rfl, rfl⟩
  · rw [← eV]
    exact LI_add h (by omega) (eP.mpr a)
  · refine LI_skip h (by omega) (by omega) (fun x h1 h2 h3 => a (eP.mp ?_))
    rw [show 10000 * k + 1000 * s + 100 * r + 10 * b + t = x by omega]
    exact h3
