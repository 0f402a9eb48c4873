/-! the shelves, pure: numbers cut down to a byte or a short, why a shelf holds no row, a row of moves followed (written by hand) -/
set_option maxRecDepth 100000
def nby (z : Int) : Int := (z + 128) % 256 - 128
def nsh (z : Int) : Int := (z + 32768) % 65536 - 32768
/-- a number as a row of the sort s keeps it -/
def nrw (s v : Int) : Int := if s = 0 then nby v else if s = 1 then nsh v else v
theorem nby_b (z : Int) : -128 ≤ nby z ∧ nby z ≤ 127 := by unfold nby; omega
theorem nsh_b (z : Int) : -32768 ≤ nsh z ∧ nsh z ≤ 32767 := by unfold nsh; omega
theorem nby_rg (z : Int) : rg (nby z) := by have := nby_b z; exact ⟨by omega, by omega⟩
theorem nsh_rg (z : Int) : rg (nsh z) := by have := nsh_b z; exact ⟨by omega, by omega⟩
theorem nrw_rg {s v : Int} (h : rg v) : rg (nrw s v) := by
  unfold nrw
  by_cases q0 : s = 0
  · rw [if_pos q0]; exact nby_rg v
  · rw [if_neg q0]
    by_cases q1 : s = 1
    · rw [if_pos q1]; exact nsh_rg v
    · rw [if_neg q1]; exact h
theorem bm8 (z : Int) : (z.bmod 4294967296).bmod 256 = nby z := by
  rw [Int.bmod_bmod_of_dvd (by decide)]
  rw [Int.bmod_def]
  unfold nby
  split <;> omega
theorem bm16 (z : Int) : (z.bmod 4294967296).bmod 65536 = nsh z := by
  rw [Int.bmod_bmod_of_dvd (by decide)]
  rw [Int.bmod_def]
  unfold nsh
  split <;> omega
theorem ii_b8 (z : Int) : (ii z).toInt8.toInt32 = ii (nby z) := by
  rw [← Int32.toInt_inj, ii_t (nby_rg z), Int8.toInt_toInt32, Int32.toInt_toInt8]
  show ((Int32.ofInt z).toInt).bmod _ = _
  rw [Int32.toInt_ofInt]
  exact bm8 z
theorem ii_b16 (z : Int) : (ii z).toInt16.toInt32 = ii (nsh z) := by
  rw [← Int32.toInt_inj, ii_t (nsh_rg z), Int16.toInt_toInt32, Int32.toInt_toInt16]
  show ((Int32.ofInt z).toInt).bmod _ = _
  rw [Int32.toInt_ofInt]
  exact bm16 z
/-- why shelf d holds no row, 0 if it holds one; no move; no row of ints -/
def wrR (H : Int → Int) (d : Int) : Int := if 0 ≤ d ∧ d ≤ 7 then (if H d = 0 then -11 else if H d = 2 then 0 else -12) else -1
def wrS (H : Int → Int) (d : Int) : Int := if 0 ≤ d ∧ d ≤ 7 then (if H d = 0 then -11 else if H d = 1 then 0 else -12) else -1
def wrM (H S : Int → Int) (d : Int) : Int := if wrR H d = 0 then (if S d = 2 then 0 else -12) else wrR H d
theorem wrR_b (H : Int → Int) (d : Int) : -12 ≤ wrR H d ∧ wrR H d ≤ 0 := by unfold wrR; omega
theorem wrS_b (H : Int → Int) (d : Int) : -12 ≤ wrS H d ∧ wrS H d ≤ 0 := by unfold wrS; omega
theorem wrM_b (H S : Int → Int) (d : Int) : -12 ≤ wrM H S d ∧ wrM H S d ≤ 0 := by have := wrR_b H d; unfold wrM; omega
theorem wrR_0 {H : Int → Int} {d : Int} (h : 0 ≤ wrR H d) : 0 ≤ d ∧ d ≤ 7 ∧ H d = 2 := by unfold wrR at h; omega
theorem wrS_0 {H : Int → Int} {d : Int} (h : 0 ≤ wrS H d) : 0 ≤ d ∧ d ≤ 7 ∧ H d = 1 := by unfold wrS at h; omega
theorem wrM_0 {H S : Int → Int} {d : Int} (h : 0 ≤ wrM H S d) : 0 ≤ d ∧ d ≤ 7 ∧ H d = 2 ∧ S d = 2 := by
  have h1 := wrR_b H d
  unfold wrM at h
  have h2 : wrR H d = 0 := by omega
  have := wrR_0 (H := H) (d := d) (by omega)
  omega
-- a row of moves followed from a state
def fSn (g : Int → Int) (c : Int) : Nat → Int
  | 0 => c
  | k + 1 => nx (fSn g c k) (g k)
def fMn (F : mem) (g : Int → Int) : Nat → Int
  | 0 => 0
  | k + 1 => fMn F g k + mvV F (g k)
/-- the state behind k moves of the row, the minutes till then -/
def fS (g : Int → Int) (c k : Int) : Int := fSn g c k.toNat
def fM (F : mem) (g : Int → Int) (k : Int) : Int := fMn F g k.toNat
theorem fS_0 (g : Int → Int) (c : Int) : fS g c 0 = c := rfl
theorem fM_0 (F : mem) (g : Int → Int) : fM F g 0 = 0 := rfl
theorem fS_s {g : Int → Int} {c k : Int} (h : 0 ≤ k) : fS g c (k + 1) = nx (fS g c k) (g k) := by
  obtain ⟨n, rfl⟩ := Int.eq_ofNat_of_zero_le h
  rfl
theorem fM_s {F : mem} {g : Int → Int} {k : Int} (h : 0 ≤ k) : fM F g (k + 1) = fM F g k + mvV F (g k) := by
  obtain ⟨n, rfl⟩ := Int.eq_ofNat_of_zero_le h
  rfl
/-- the first k moves of the row may be made -/
def legTo (F : mem) (g : Int → Int) (c k : Int) : Prop := ∀ j, 0 ≤ j → j < k → leg F (fS g c j) (g j)
theorem legTo_0 (F : mem) (g : Int → Int) (c : Int) : legTo F g c 0 := fun j a b => by omega
theorem legTo_s {F : mem} {g : Int → Int} {c k : Int} (h : legTo F g c k) (hl : leg F (fS g c k) (g k)) : legTo F g c (k + 1) := fun j a b => by
  by_cases q : j = k
  · rw [q]; exact hl
  · exact h j a (by omega)
/-- the row is followed for k moves and no more -/
def FollowP (F : mem) (g : Int → Int) (c n k : Int) : Prop := 0 ≤ k ∧ k ≤ n ∧ legTo F g c k ∧ (k < n → ¬ leg F (fS g c k) (g k))
theorem FollowP.uniq {F : mem} {g : Int → Int} {c n k k' : Int} (h : FollowP F g c n k) (h' : FollowP F g c n k') : k = k' := by
  obtain ⟨a, b, d, e⟩ := h
  obtain ⟨a', b', d', e'⟩ := h'
  rcases Int.lt_trichotomy k k' with q | q | q
  · exact absurd (d' k a q) (e (by omega))
  · exact q
  · exact absurd (d k' a' q) (e' (by omega))
theorem alike_nx {F : mem} {w q : Int → Int} {c m : Int} (h : alike w q (stW c) (stQ c)) (hm : isT m) : alike (nxW m w) (nxQ m q) (stW (nx c m)) (stQ (nx c m)) := by
  have h1 := alike_cdv (nx_wf hm (st_wf c))
  have h2 : alike (nxW m w) (nxQ m q) (nxW m (stW c)) (nxQ m (stQ c)) := ⟨mvw_at h.1, mvw_at h.2.1, mvw_at h.2.2.1, mvq_at h.2.2.2.1, mvq_at h.2.2.2.2⟩
  exact ⟨h2.1.trans h1.1, h2.2.1.trans h1.2.1, h2.2.2.1.trans h1.2.2.1, h2.2.2.2.1.trans h1.2.2.2.1, h2.2.2.2.2.trans h1.2.2.2.2⟩
theorem fS_in {F : mem} {g : Int → Int} {c k : Int} (h : legTo F g c k) (hc : inSt c) (h0 : 0 ≤ k) : inSt (fS g c k) := by
  by_cases q : k = 0
  · rw [q]; exact hc
  · have h1 := h (k - 1) (by omega) (by omega)
    have h2 := fS_s (g := g) (c := c) (k := k - 1) (by omega)
    rw [show k - 1 + 1 = k by omega] at h2
    rw [h2]
    exact nx_in h1.1
theorem fS_met {F : mem} {g la me : Int → Int} {c k n8 : Int} (hS : Sought (EF F) c la me n8) (hW : wfF F) (hc : inSt c) (h0 : 0 ≤ k) (h : legTo F g c k) : inSt (fS g c k) ∧ la (fS g c k) ≠ FARc := by
  obtain ⟨n, rfl⟩ := Int.eq_ofNat_of_zero_le h0
  induction n with
  | zero => exact ⟨hc, by show la c ≠ FARc; rw [hS.h0]; decide⟩
  | succ n ih =>
    have hh := ih (by omega) (fun j a b => h j a (by omega))
    have hl := h n (by omega) (by omega)
    rw [show ((n + 1 : Nat) : Int) = (n : Int) + 1 by omega, fS_s (by omega)]
    exact hS.next hW hh.1 hh.2 hl
theorem fM_b {F : mem} {g : Int → Int} {c k : Int} (hW : wfF F) (h0 : 0 ≤ k) (h : legTo F g c k) : 0 ≤ fM F g k ∧ fM F g k ≤ 312 * k := by
  obtain ⟨n, rfl⟩ := Int.eq_ofNat_of_zero_le h0
  induction n with
  | zero => exact ⟨Int.le_refl 0, Int.le_refl 0⟩
  | succ n ih =>
    have hh := ih (by omega) (fun j a b => h j a (by omega))
    have hl := mvV_b hW (h n (by omega) (by omega)).1
    rw [show ((n + 1 : Nat) : Int) = (n : Int) + 1 by omega, fM_s (by omega)]
    omega
/-- what judge answers to a row followed -/
def JudgeP (F : mem) (g : Int → Int) (c n w z : Int) : Prop := ∃ k, FollowP F g c n k ∧ ((w = 0 ∧ k < n ∧ z = k) ∨ (w = 0 ∧ k = n ∧ z = -4) ∨ (¬ w = 0 ∧ z = fM F g k))
theorem JudgeP.uniq {F : mem} {g : Int → Int} {c n w z z' : Int} (h : JudgeP F g c n w z) (h' : JudgeP F g c n w z') : z = z' := by
  obtain ⟨k, a, b⟩ := h
  obtain ⟨k', a', b'⟩ := h'
  have e := a.uniq a'
  subst e
  omega
def lostAt (F : mem) (g : Int → Int) (c k : Int) : Prop := LeadA F (-1) (fS g c k) ∧ ¬ LeadA F (-1) (fS g c (k + 1))
/-- what lost answers to a row -/
def LostP (F : mem) (g : Int → Int) (c n z : Int) : Prop :=
  (∃ k, FollowP F g c n k ∧ k < n ∧ z = -3) ∨ (FollowP F g c n n ∧ ((0 ≤ z ∧ z < n ∧ lostAt F g c z ∧ ∀ j, 0 ≤ j → j < z → ¬ lostAt F g c j) ∨ (z = -4 ∧ ∀ j, 0 ≤ j → j < n → ¬ lostAt F g c j)))
theorem LostP.uniq {F : mem} {g : Int → Int} {c n z z' : Int} (h : LostP F g c n z) (h' : LostP F g c n z') : z = z' := by
  rcases h with ⟨k, a, b, e⟩ | ⟨a, b⟩ <;> rcases h' with ⟨k', a', b', e'⟩ | ⟨a', b'⟩
  · rw [e, e']
  · have := a.uniq a'; omega
  · have := a'.uniq a; omega
  · rcases b with ⟨h0, h1, h2, h3⟩ | ⟨h0, h1⟩ <;> rcases b' with ⟨g0, g1, g2, g3⟩ | ⟨g0, g1⟩
    · rcases Int.lt_trichotomy z z' with q | q | q
      · exact absurd h2 (g3 z h0 q)
      · exact q
      · exact absurd g2 (h3 z' g0 q)
    · exact absurd h2 (g1 z h0 h1)
    · exact absurd g2 (h1 z' g0 g1)
    · rw [h0, g0]
/-- a row of a shelf in the model's memory -/
def rwF (W : Int → Int) (d : Int) : Int → Int := fun i => W (100 * d + i)
/-- the effort of a move -/
def efV (F : mem) (k st fr to : Int) : Int := if k = 0 then 1 else if k = 1 then 1 + 2 * ones st else if k = 2 then 1 + (if fr < to ∧ to < F 8 0 then fs (F 2) fr to / 10 else 0) else if k = 3 then 3 * (1 + 2 * ones st) else if k = 4 then 10 else if k = 5 then 1 + to else 0
/-- what tossing a move answers -/
def tsV (k m fr to : Int) : Int := if k = 6 ∨ fr = to then -15 else if k = 3 then 100000 + m else if k = 4 then 200000 + to else m
/-- a piece of one row over another -/
def mvr (a b : Int → Int) (i j n : Int) : Int → Int := fun x => if j ≤ x ∧ x < j + n then a (i + (x - j)) else b x
theorem mvr_0 (a b : Int → Int) (i j : Int) : mvr a b i j 0 = b := by
  funext x
  unfold mvr
  rw [if_neg (by omega)]
theorem mvr_s {a b : Int → Int} {i j n : Int} (h : 0 ≤ n) : ug (mvr a b i j n) (j + n) (a (i + n)) = mvr a b i j (n + 1) := by
  funext x
  unfold mvr
  by_cases q : x = j + n
  · subst q
    rw [ug_s, if_pos (by omega), show i + (j + n - j) = i + n by omega]
  · rw [ug_n q]
    by_cases q1 : j ≤ x ∧ x < j + n
    · rw [if_pos q1, if_pos (by omega)]
    · rw [if_neg q1, if_neg (by omega)]
