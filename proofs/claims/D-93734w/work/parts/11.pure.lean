/-! THE PURE WORDS: faces, spots, moves; which moves may be made, their minutes -/
/-- a sum of n places from a on -/
def fsn (g : Int → Int) (a : Int) : Nat → Int
  | 0 => 0
  | n + 1 => fsn g a n + g (a + n)
/-- the sum of the places from a up to b -/
def fs (g : Int → Int) (a b : Int) : Int := fsn g a (b - a).toNat
theorem fs_0 (g : Int → Int) (a : Int) : fs g a a = 0 := by simp [fs, fsn]
theorem fs_s (g : Int → Int) {a b : Int} (h : a ≤ b) : fs g a (b + 1) = fs g a b + g b := by
  have e : (b + 1 - a).toNat = (b - a).toNat + 1 := by omega
  have e2 : a + ((b - a).toNat : Int) = b := by omega
  simp only [fs, e, fsn, e2]
theorem fsn_le (g : Int → Int) (a : Int) (h : ∀ i, 0 ≤ g i ∧ g i ≤ 200) (n : Nat) : 0 ≤ fsn g a n ∧ fsn g a n ≤ 200 * n := by
  induction n with
  | zero => simp [fsn]
  | succ n ih =>
    have := h (a + n)
    simp only [fsn]
    omega
theorem fs_le (g : Int → Int) {a b : Int} (h : ∀ i, 0 ≤ g i ∧ g i ≤ 200) (ha : 0 ≤ a) (hb : b ≤ 5) : 0 ≤ fs g a b ∧ fs g a b ≤ 1000 := by
  have := fsn_le g a h (b - a).toNat
  simp only [fs]
  omega
theorem fsn_congr {g g' : Int → Int} {a : Int} (n : Nat) (h : ∀ i, a ≤ i → i < a + n → g i = g' i) : fsn g a n = fsn g' a n := by
  induction n with
  | zero => rfl
  | succ n ih =>
    simp only [fsn]
    rw [ih (fun i h1 h2 => h i h1 (by omega)), h (a + n) (by omega) (by omega)]
theorem fs_congr {g g' : Int → Int} {a b : Int} (h : ∀ i, a ≤ i → i < b → g i = g' i) : fs g a b = fs g' a b := by
  refine fsn_congr _ (fun i h1 h2 => h i h1 ?_)
  omega
/-- how many are in a set -/
def ones (s : Int) : Int := s % 2 + s / 2 % 2 + s / 4
def okFar (F : mem) (fr to : Int) : Prop := 0 ≤ fr ∧ fr < F 8 0 ∧ 0 ≤ to ∧ to < F 8 0 ∧ fr < to
/-- if one goes (g = 1): it is there, on the ledge, and not hurt where that is asked -/
def goP (F : mem) (w : Int → Int) (g fr hale p : Int) : Prop := g = 1 → p < F 9 0 ∧ w p = fr ∧ (hale = 0 ∨ ¬ F 4 p = 2)
/-- one that goes, or is there already -/
def tpV (F : mem) (w : Int → Int) (g to p : Int) : Int := if g = 1 ∨ (p < F 9 0 ∧ w p = to) then 1 else 0
theorem tpV_1 {F : mem} {w : Int → Int} {g to p : Int} (h : g = 1 ∨ (p < F 9 0 ∧ w p = to)) : 1 = tpV F w g to p := (if_pos h).symm
theorem tpV_0 {F : mem} {w : Int → Int} {g to p : Int} (h : ¬ (g = 1 ∨ (p < F 9 0 ∧ w p = to))) : 0 = tpV F w g to p := (if_neg h).symm
def okGo (F : mem) (w : Int → Int) (st fr to hale : Int) : Prop :=
  ¬ st = 0 ∧ 0 ≤ to ∧ to < F 8 0 ∧ ¬ to = fr ∧ goP F w (st % 2) fr hale 0 ∧ goP F w (st / 2 % 2) fr hale 1 ∧ goP F w (st / 4 % 2) fr hale 2 ∧
  (to = F 8 0 - 1 ∨ tpV F w (st % 2) to 0 + tpV F w (st / 2 % 2) to 1 + tpV F w (st / 4 % 2) to 2 ≤ F 0 to)
def okRope (F : mem) (q : Int → Int) (r fr : Int) : Prop := r < F 10 0 ∧ q r = fr
def okHelp (F : mem) (w : Int → Int) (st fr : Int) : Prop := (0 < F 9 0 ∧ st % 2 = 0 ∧ w 0 = fr ∧ ¬ F 4 0 = 2) ∨ (1 < F 9 0 ∧ st / 2 % 2 = 0 ∧ w 1 = fr ∧ ¬ F 4 1 = 2) ∨ (2 < F 9 0 ∧ st / 4 % 2 = 0 ∧ w 2 = fr ∧ ¬ F 4 2 = 2)
def okClimber (F : mem) (st : Int) : Prop := (st % 2 = 1 → 0 < F 9 0 → F 4 0 = 0) ∧ (st / 2 % 2 = 1 → 1 < F 9 0 → F 4 1 = 0) ∧ (st / 4 % 2 = 1 → 2 < F 9 0 → F 4 2 = 0)
/-- the upper one of two ledges -/
def lower (a b : Int) : Int := if b < a then b else a
/-- whether a move may be made -/
def mnOk (F : mem) (w q : Int → Int) (k st r fr to : Int) : Prop :=
  (k = 1 ∧ okFar F fr to ∧ ¬ F 1 fr = 0 ∧ okGo F w st fr to 1 ∧ okRope F q r fr ∧ 2 * fs (F 2) fr to ≤ F 5 r) ∨
  (k = 2 ∧ okFar F fr to ∧ ¬ F 1 fr = 0 ∧ okGo F w st fr to 1 ∧ okRope F q r fr ∧ fs (F 2) fr to ≤ F 5 r) ∨
  (k = 3 ∧ okFar F fr to ∧ ¬ F 1 fr = 0 ∧ okGo F w st fr to 1 ∧ r = 0 ∧ okRope F q 0 fr ∧ okRope F q 1 fr ∧ fs (F 2) fr to ≤ F 5 0 ∧ fs (F 2) fr to ≤ F 5 1) ∨
  (k = 4 ∧ okFar F fr to ∧ ones st = 1 ∧ okGo F w st fr to 0 ∧ okHelp F w st fr ∧ okRope F q r fr ∧ fs (F 2) fr to ≤ F 5 r) ∨
  (k = 5 ∧ ones st = 1 ∧ r = 0 ∧ (fr - to = 1 ∨ to - fr = 1) ∧ okGo F w st fr to 1 ∧ okClimber F st ∧ ¬ F 3 (lower fr to) = 0 ∧ 0 ≤ fr ∧ fr < F 8 0) ∨
  (k = 6 ∧ st = 0 ∧ okFar F fr to ∧ okHelp F w st fr ∧ okRope F q r fr)
/-- its minutes -/
def mnV (F : mem) (k st fr to : Int) : Int :=
  if k = 1 then 4 + ones st * (fs (F 2) fr to / 10 + 1) else if k = 2 then 2 + ones st * (fs (F 2) fr to / 10 + 1) else if k = 3 then 9 + ones st * (fs (F 2) fr to / 10 + 1) else if k = 4 then fs (F 2) fr to / 5 + 3 else if k = 5 then F 2 (lower fr to) / 4 + 2 + (if to < fr then 3 else 0) else 1
/-- the numbers of a face, in their bounds -/
def wfF (F : mem) : Prop := (∀ i, 0 ≤ F 0 i ∧ F 0 i ≤ 9) ∧ (∀ i, 0 ≤ F 1 i ∧ F 1 i ≤ 1) ∧ (∀ i, 0 ≤ F 2 i ∧ F 2 i ≤ 200) ∧ (∀ i, 0 ≤ F 3 i ∧ F 3 i ≤ 1) ∧ (∀ i, 0 ≤ F 4 i ∧ F 4 i ≤ 2) ∧ (∀ i, 0 ≤ F 5 i ∧ F 5 i ≤ 400) ∧ 0 ≤ F 8 0 ∧ F 8 0 ≤ 5 ∧ 0 ≤ F 9 0 ∧ F 9 0 ≤ 3 ∧ 0 ≤ F 10 0 ∧ F 10 0 ≤ 2
def wfS (w q : Int → Int) : Prop := (∀ i, 0 ≤ w i ∧ w i ≤ 4) ∧ ∀ i, 0 ≤ q i ∧ q i ≤ 5
/-- where a face's cells are: the object, room, holds, feet, climbable, sort, length -/
def faceAt (ty : Nat → ClassId) (ws : va_W) (fi fd : Nat → Nat) (F : mem) : Prop :=
  ws[fi 0]? = some (fd 0, .inr (1, [.ref (fd 1), .ref (fd 2), .ref (fd 3), .ref (fd 4), .int (ii (F 8 0)), .ref (fd 5), .int (ii (F 9 0)), .ref (fd 6), .int (ii (F 10 0)), .int (ii (F 11 0)), .int (ii (F 12 0)), .int (ii (F 13 0)), .ref (fd 7)])) ∧
  ws[fi 1]? = some (fd 1, .inl (ty 0, 5, .inl (fa (F 0)))) ∧ ws[fi 2]? = some (fd 2, .inl (ty 0, 5, .inl (fa (F 1)))) ∧ ws[fi 3]? = some (fd 3, .inl (ty 0, 5, .inl (fa (F 2)))) ∧ ws[fi 4]? = some (fd 4, .inl (ty 1, 5, .inl (fa (F 3)))) ∧ ws[fi 5]? = some (fd 5, .inl (ty 0, 3, .inl (fa (F 4)))) ∧ ws[fi 6]? = some (fd 6, .inl (ty 0, 2, .inl (fa (F 5))))
def spotAt (ty : Nat → ClassId) (ws : va_W) (si sd : Nat → Nat) (w q : Int → Int) : Prop :=
  ws[si 0]? = some (sd 0, .inr (2, [.ref (sd 1), .ref (sd 2)])) ∧ ws[si 1]? = some (sd 1, .inl (ty 0, 3, .inl (fa w))) ∧ ws[si 2]? = some (sd 2, .inl (ty 0, 2, .inl (fa q)))
def moveAt (ws : va_W) (ci mi md : Nat) (st r fr to : Int) : Prop := ws[mi]? = some (md, .inr (ci, [.int (ii st), .int (ii r), .int (ii fr), .int (ii to)]))
-- numbers under bits
theorem ii_shr {a : Int} (k : Nat) (hk : k < 31) (h0 : 0 ≤ a) (h1 : a ≤ 2147483647) : ii a >>> (ii k &&& 31) = ii (a / 2 ^ k) := by
  obtain ⟨n, rfl⟩ := Int.eq_ofNat_of_zero_le h0
  have e1 : ii (n : Int) = nI n := Int32.ofInt_eq_ofNat
  have e2 : ii (k : Int) = nI k := Int32.ofInt_eq_ofNat
  have hs : ((nI k &&& 31).toBitVec.smod 32).toNat = k := by
    have : ∀ n, n < 32 → ((nI n &&& 31).toBitVec.smod 32).toNat = n := by decide +kernel
    exact this k (by omega)
  rw [e1, e2, pk_shrN (by omega) _ k hs]
  have e3 : ((n : Int) / 2 ^ k) = ((n / 2 ^ k : Nat) : Int) := by simp
  rw [e3]
  exact Int32.ofInt_eq_ofNat.symm
theorem ii_and1 {a : Int} (h0 : 0 ≤ a) (h1 : a ≤ 2147483647) : ii a &&& ii 1 = ii (a % 2) := by
  obtain ⟨n, rfl⟩ := Int.eq_ofNat_of_zero_le h0
  have e1 : ii (n : Int) = nI n := Int32.ofInt_eq_ofNat
  have e2 : ii 1 = (1 : Int32) := by decide
  rw [e1, e2, pk_andN (by omega) 1 (by decide)]
  have e3 : ((n : Int) % 2) = ((n % 2 : Nat) : Int) := by simp
  rw [e3]
  exact Int32.ofInt_eq_ofNat.symm
/-- two to the power of a number up to three -/
def p2 (n : Int) : Int := if n = 0 then 1 else if n = 1 then 2 else if n = 2 then 4 else 8
theorem ii_shl1 {n : Int} (h0 : 0 ≤ n) (h1 : n ≤ 3) : ii 1 <<< (ii n &&& 31) = ii (p2 n) := by
  rcases (show n = 0 ∨ n = 1 ∨ n = 2 ∨ n = 3 by omega) with rfl | rfl | rfl | rfl <;> decide
theorem set_same {ws : va_W} {i : Nat} {x : Nat × va_E} (h : ws[i]? = some x) : ws.set i x = ws := by
  obtain ⟨h1, h2⟩ := List.getElem?_eq_some_iff.mp h
  rw [← h2]
  exact List.set_getElem_self h1
/-- those of a set are on a ledge -/
def mvw (st to : Int) (w : Int → Int) : Int → Int := fun i => if (i = 0 ∧ st % 2 = 1) ∨ (i = 1 ∧ st / 2 % 2 = 1) ∨ (i = 2 ∧ st / 4 % 2 = 1) then to else w i
/-- the ropes behind a move of a kind -/
def mvq (k r to : Int) (q : Int → Int) : Int → Int := if k = 1 ∨ k = 6 then ug q r to else if k = 2 then ug q r 5 else if k = 3 then ug (ug q r to) 1 to else q
/-- a state's number -/
def cdv (w q : Int → Int) : Int := 125 * (6 * q 1 + q 0) + 25 * w 2 + 5 * w 1 + w 0
/-- the spot of a number -/
def dcw (v : Int) (w : Int → Int) : Int → Int := ug (ug (ug w 0 (v % 5)) 1 (v / 5 % 5)) 2 (v / 25 % 5)
def dcq (v : Int) (q : Int → Int) : Int → Int := ug (ug q 0 (v / 125 % 6)) 1 (v / 750 % 6)
/-- a number that tells a move -/
def isT (m : Int) : Prop := 0 ≤ m ∧ m ≤ 69999 ∧ m / 1000 % 10 ≤ 7 ∧ m / 100 % 10 < 2 ∧ m / 10 % 10 < 5 ∧ m % 10 < 5
theorem isT_m {m : Int} (h : isT m) : 0 ≤ m / 1000 % 10 ∧ m / 1000 % 10 ≤ 7 ∧ 0 ≤ m / 100 % 10 ∧ m / 100 % 10 ≤ 1 ∧ 0 ≤ m / 10 % 10 ∧ m / 10 % 10 ≤ 4 ∧ 0 ≤ m % 10 ∧ m % 10 ≤ 4 := by
  obtain ⟨h1, h2, h3, h4, h5, h6⟩ := h
  omega
theorem isT_k {m : Int} (h : isT m) : 0 ≤ m / 10000 ∧ m / 10000 < 7 := by
  obtain ⟨h1, h2, h3, h4, h5, h6⟩ := h
  omega
/-- whether the move of a number may be made, its minutes, the state behind it -/
def mvOk (F : mem) (w q : Int → Int) (m : Int) : Prop := mnOk F w q (m / 10000) (m / 1000 % 10) (m / 100 % 10) (m / 10 % 10) (m % 10)
def mvV (F : mem) (m : Int) : Int := mnV F (m / 10000) (m / 1000 % 10) (m / 10 % 10) (m % 10)
def nxW (m : Int) (w : Int → Int) : Int → Int := mvw (m / 1000 % 10) (m % 10) w
def nxQ (m : Int) (q : Int → Int) : Int → Int := mvq (m / 10000) (m / 100 % 10) (m % 10) q
def nxS (m : Int) (w q : Int → Int) : Int := cdv (nxW m w) (nxQ m q)
theorem cdv_congr {w w' q q' : Int → Int} (h0 : w 0 = w' 0) (h1 : w 1 = w' 1) (h2 : w 2 = w' 2) (g0 : q 0 = q' 0) (g1 : q 1 = q' 1) : cdv w q = cdv w' q' := by
  simp only [cdv, h0, h1, h2, g0, g1]
theorem cp_in {g h : Int → Int} {n i : Int} (h0 : 0 ≤ i) (h1 : i < n) : cp g h n i = g i := if_pos ⟨h0, h1⟩
/-- places alike: behind a move they are alike too -/
theorem mvw_at {st to : Int} {w w' : Int → Int} {i : Int} (h : w i = w' i) : mvw st to w i = mvw st to w' i := by simp only [mvw, h]
theorem mvq_at {k r to : Int} {q q' : Int → Int} {i : Int} (h : q i = q' i) : mvq k r to q i = mvq k r to q' i := by
  simp only [mvq]
  split
  · simp only [ug, h]
  · split
    · simp only [ug, h]
    · split
      · simp only [ug, h]
      · exact h
theorem nxS_cp (m : Int) (w w' q q' : Int → Int) : cdv (mvw (m / 1000 % 10) (m % 10) (cp w w' 3)) (mvq (m / 10000) (m / 100 % 10) (m % 10) (cp q q' 2)) = nxS m w q :=
  cdv_congr (mvw_at (cp_in (by decide) (by decide))) (mvw_at (cp_in (by decide) (by decide))) (mvw_at (cp_in (by decide) (by decide))) (mvq_at (cp_in (by decide) (by decide))) (mvq_at (cp_in (by decide) (by decide)))
/-- the state behind a double rappel whose knot catches -/
def nxC (m : Int) (w : Int → Int) : Int := 125 * 35 + 25 * nxW m w 2 + 5 * nxW m w 1 + nxW m w 0
theorem sf_X11_set {args : Array Value} {s : State} (hts : ∀ w ∈ lw_all, w.before args s = true) (x : ClassId × Class × Nat × Field) (h : s.fieldFound? "DownRope$Move" "set" "I" = some x) : s.fieldFound? "DownRope$Throw" "set" "I" = some x := u_same (hts _ q860) x h
theorem sf_X10_set {args : Array Value} {s : State} (hts : ∀ w ∈ lw_all, w.before args s = true) (x : ClassId × Class × Nat × Field) (h : s.fieldFound? "DownRope$Move" "set" "I" = some x) : s.fieldFound? "DownRope$Climb" "set" "I" = some x := u_same (hts _ q863) x h
theorem sf_X9_set {args : Array Value} {s : State} (hts : ∀ w ∈ lw_all, w.before args s = true) (x : ClassId × Class × Nat × Field) (h : s.fieldFound? "DownRope$Move" "set" "I" = some x) : s.fieldFound? "DownRope$Let" "set" "I" = some x := u_same (hts _ q865) x h
theorem sf_X7_set {args : Array Value} {s : State} (hts : ∀ w ∈ lw_all, w.before args s = true) (x : ClassId × Class × Nat × Field) (h : s.fieldFound? "DownRope$Move" "set" "I" = some x) : s.fieldFound? "DownRope$Single" "set" "I" = some x := u_same (hts _ q867) x h
theorem sf_X6_set {args : Array Value} {s : State} (hts : ∀ w ∈ lw_all, w.before args s = true) (x : ClassId × Class × Nat × Field) (h : s.fieldFound? "DownRope$Move" "set" "I" = some x) : s.fieldFound? "DownRope$Doubled" "set" "I" = some x := u_same (hts _ q869) x h
theorem sf_X8_rope {args : Array Value} {s : State} (hts : ∀ w ∈ lw_all, w.before args s = true) (x : ClassId × Class × Nat × Field) (h : s.fieldFound? "DownRope$Move" "rope" "I" = some x) : s.fieldFound? "DownRope$Joined" "rope" "I" = some x := u_same (hts _ q871) x h
theorem sf_X6_rope {args : Array Value} {s : State} (hts : ∀ w ∈ lw_all, w.before args s = true) (x : ClassId × Class × Nat × Field) (h : s.fieldFound? "DownRope$Move" "rope" "I" = some x) : s.fieldFound? "DownRope$Doubled" "rope" "I" = some x := u_same (hts _ q873) x h
theorem sf_X11_rope {args : Array Value} {s : State} (hts : ∀ w ∈ lw_all, w.before args s = true) (x : ClassId × Class × Nat × Field) (h : s.fieldFound? "DownRope$Move" "rope" "I" = some x) : s.fieldFound? "DownRope$Throw" "rope" "I" = some x := u_same (hts _ q876) x h
theorem sf_X7_rope {args : Array Value} {s : State} (hts : ∀ w ∈ lw_all, w.before args s = true) (x : ClassId × Class × Nat × Field) (h : s.fieldFound? "DownRope$Move" "rope" "I" = some x) : s.fieldFound? "DownRope$Single" "rope" "I" = some x := u_same (hts _ q878) x h
theorem sf_X9_rope {args : Array Value} {s : State} (hts : ∀ w ∈ lw_all, w.before args s = true) (x : ClassId × Class × Nat × Field) (h : s.fieldFound? "DownRope$Move" "rope" "I" = some x) : s.fieldFound? "DownRope$Let" "rope" "I" = some x := u_same (hts _ q880) x h
theorem sf_X10_rope {args : Array Value} {s : State} (hts : ∀ w ∈ lw_all, w.before args s = true) (x : ClassId × Class × Nat × Field) (h : s.fieldFound? "DownRope$Move" "rope" "I" = some x) : s.fieldFound? "DownRope$Climb" "rope" "I" = some x := u_same (hts _ q882) x h
theorem sf_X9_from {args : Array Value} {s : State} (hts : ∀ w ∈ lw_all, w.before args s = true) (x : ClassId × Class × Nat × Field) (h : s.fieldFound? "DownRope$Move" "from" "I" = some x) : s.fieldFound? "DownRope$Let" "from" "I" = some x := u_same (hts _ q884) x h
theorem sf_X7_from {args : Array Value} {s : State} (hts : ∀ w ∈ lw_all, w.before args s = true) (x : ClassId × Class × Nat × Field) (h : s.fieldFound? "DownRope$Move" "from" "I" = some x) : s.fieldFound? "DownRope$Single" "from" "I" = some x := u_same (hts _ q886) x h
theorem sf_X11_from {args : Array Value} {s : State} (hts : ∀ w ∈ lw_all, w.before args s = true) (x : ClassId × Class × Nat × Field) (h : s.fieldFound? "DownRope$Move" "from" "I" = some x) : s.fieldFound? "DownRope$Throw" "from" "I" = some x := u_same (hts _ q888) x h
theorem sf_X10_from {args : Array Value} {s : State} (hts : ∀ w ∈ lw_all, w.before args s = true) (x : ClassId × Class × Nat × Field) (h : s.fieldFound? "DownRope$Move" "from" "I" = some x) : s.fieldFound? "DownRope$Climb" "from" "I" = some x := u_same (hts _ q891) x h
theorem sf_X6_from {args : Array Value} {s : State} (hts : ∀ w ∈ lw_all, w.before args s = true) (x : ClassId × Class × Nat × Field) (h : s.fieldFound? "DownRope$Move" "from" "I" = some x) : s.fieldFound? "DownRope$Doubled" "from" "I" = some x := u_same (hts _ q893) x h
theorem sf_X9_to {args : Array Value} {s : State} (hts : ∀ w ∈ lw_all, w.before args s = true) (x : ClassId × Class × Nat × Field) (h : s.fieldFound? "DownRope$Move" "to" "I" = some x) : s.fieldFound? "DownRope$Let" "to" "I" = some x := u_same (hts _ q895) x h
theorem sf_X7_to {args : Array Value} {s : State} (hts : ∀ w ∈ lw_all, w.before args s = true) (x : ClassId × Class × Nat × Field) (h : s.fieldFound? "DownRope$Move" "to" "I" = some x) : s.fieldFound? "DownRope$Single" "to" "I" = some x := u_same (hts _ q897) x h
theorem sf_X11_to {args : Array Value} {s : State} (hts : ∀ w ∈ lw_all, w.before args s = true) (x : ClassId × Class × Nat × Field) (h : s.fieldFound? "DownRope$Move" "to" "I" = some x) : s.fieldFound? "DownRope$Throw" "to" "I" = some x := u_same (hts _ q899) x h
theorem sf_X10_to {args : Array Value} {s : State} (hts : ∀ w ∈ lw_all, w.before args s = true) (x : ClassId × Class × Nat × Field) (h : s.fieldFound? "DownRope$Move" "to" "I" = some x) : s.fieldFound? "DownRope$Climb" "to" "I" = some x := u_same (hts _ q902) x h
theorem sf_X6_to {args : Array Value} {s : State} (hts : ∀ w ∈ lw_all, w.before args s = true) (x : ClassId × Class × Nat × Field) (h : s.fieldFound? "DownRope$Move" "to" "I" = some x) : s.fieldFound? "DownRope$Doubled" "to" "I" = some x := u_same (hts _ q904) x h
theorem sf_X8_to {args : Array Value} {s : State} (hts : ∀ w ∈ lw_all, w.before args s = true) (x : ClassId × Class × Nat × Field) (h : s.fieldFound? "DownRope$Move" "to" "I" = some x) : s.fieldFound? "DownRope$Joined" "to" "I" = some x := u_same (hts _ q906) x h
