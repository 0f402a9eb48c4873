/-! SEARCHES, with no program in sight: labels, the list of what was met, the queue; what a search ends with -/
-- ===== sums and counts under a set place =====
def smN (g : Int → Int) : Nat → Int
  | 0 => 0
  | n + 1 => smN g n + g n
theorem smN_ug (g : Int → Int) (k v : Int) (hk : 0 ≤ k) (n : Nat) : smN (ug g k v) n = smN g n + (if k < n then v - g k else 0) := by
  induction n with
  | zero => simp only [smN]; split <;> omega
  | succ n ih =>
    simp only [smN]
    rw [ih]
    by_cases h : (n : Int) = k
    · subst h
      rw [ug_s]
      rw [if_neg (by omega), if_pos (by omega)]
      omega
    · rw [ug_n h]
      by_cases h2 : k < n
      · rw [if_pos h2, if_pos (by omega)]; omega
      · rw [if_neg h2, if_neg (by omega)]; omega
theorem smN_nn {g : Int → Int} {n : Nat} (h : ∀ i : Int, 0 ≤ i → i < n → 0 ≤ g i) : 0 ≤ smN g n := by
  induction n with
  | zero => exact Int.le_refl 0
  | succ n ih =>
    have h1 := ih (fun i a b => h i a (by omega))
    have h2 := h n (by omega) (by omega)
    simp only [smN]
    omega
theorem cnN_congr {P P' : Int → Prop} {n : Nat} (h : ∀ i : Int, 0 ≤ i → i < n → (P i ↔ P' i)) : cnN P n = cnN P' n := by
  induction n with
  | zero => rfl
  | succ n ih =>
    simp only [cnN]
    rw [ih (fun i a b => h i a (by omega))]
    have := h n (by omega) (by omega)
    by_cases e : P n
    · rw [if_pos e, if_pos (this.mp e)]
    · rw [if_neg e, if_neg (fun q => e (this.mpr q))]
theorem cn_congr {P P' : Int → Prop} {m : Int} (h : ∀ i : Int, 0 ≤ i → i < m → (P i ↔ P' i)) : cn P m = cn P' m :=
  cnN_congr (fun i a b => h i a (by omega))
/-- one more -/
theorem cn_more {P P' : Int → Prop} {m k : Int} (h0 : 0 ≤ k) (h1 : k < m) (hp : ¬ P k) (hp' : P' k) (h : ∀ i, i ≠ k → (P i ↔ P' i)) : cn P' m = cn P m + 1 := by
  obtain ⟨n, rfl⟩ : ∃ n : Nat, m = k + 1 + n := ⟨(m - (k + 1)).toNat, by omega⟩
  induction n with
  | zero =>
    rw [show k + 1 + ((0 : Nat) : Int) = k + 1 by omega, cn_s h0 hp', cn_n h0 hp, cn_congr (fun i _ b => h i (by omega))]
  | succ n ih =>
    have := ih (by omega)
    rw [show k + 1 + ((n + 1 : Nat) : Int) = (k + 1 + (n : Int)) + 1 by omega]
    have e := h (k + 1 + (n : Int)) (by omega)
    by_cases q : P (k + 1 + (n : Int))
    · rw [cn_s (by omega) q, cn_s (by omega) (e.mp q), this]
    · rw [cn_n (by omega) q, cn_n (by omega) (fun z => q (e.mpr z)), this]
theorem cn_le {P : Int → Prop} {m : Int} (h : 0 ≤ m) : cn P m ≤ m := by
  obtain ⟨n, rfl⟩ := Int.eq_ofNat_of_zero_le h
  induction n with
  | zero => rw [show ((0 : Nat) : Int) = 0 by rfl, cn_0]; omega
  | succ n ih =>
    have := ih (by omega)
    rw [show ((n + 1 : Nat) : Int) = (n : Int) + 1 by omega]
    by_cases q : P n
    · rw [cn_s (by omega) q]; omega
    · rw [cn_n (by omega) q]; omega
/-- where one has not the property, not all have it -/
theorem cn_room {P : Int → Prop} {m k : Int} (h0 : 0 ≤ k) (h1 : k < m) (hp : ¬ P k) : cn P m < m := by
  have := cn_more (P := P) (P' := fun i => P i ∨ i = k) h0 h1 hp (.inr rfl) (fun i h => ⟨.inl, fun q => q.elim id (fun z => absurd z h)⟩)
  have := cn_le (P := fun i => P i ∨ i = k) (m := m) (by omega)
  omega
-- ===== walks =====
abbrev edge : Type := Int → Int → Int → Prop
def Walk (E : edge) (s c v : Int) : Prop := ∀ P : Int → Int → Prop, P s 0 → (∀ c v d w, P c v → E c w d → P d (v + w)) → P c v
theorem Walk.nil {E : edge} {s : Int} : Walk E s s 0 := fun _ h _ => h
theorem Walk.step {E : edge} {s c v d w : Int} (h : Walk E s c v) (he : E c w d) : Walk E s d (v + w) := fun P h0 h1 => h1 c v d w (h P h0 h1) he
abbrev FARc : Int := 1000000000
abbrev inSt (c : Int) : Prop := 0 ≤ c ∧ c < 4500
def okE (E : edge) : Prop := ∀ c v d, inSt c → E c v d → inSt d ∧ 1 ≤ v ∧ v ≤ 312
/-- what is known of labels and of the list of what was met -/
def Mt (E : edge) (s : Int) (lab met : Int → Int) (n : Int) : Prop :=
  (inSt s) ∧
  (lab s = 0) ∧
  (1 ≤ n) ∧
  (n = cn (fun c => lab c ≠ FARc) 4500) ∧
  (∀ c, inSt c → lab c = FARc ∨ (0 ≤ lab c ∧ lab c ≤ 312 * (n - 1) ∧ Walk E s c (lab c))) ∧
  (∀ i, 0 ≤ i → i < n → inSt (met i) ∧ lab (met i) ≠ FARc) ∧
  (∀ i j, 0 ≤ i → i < n → 0 ≤ j → j < n → met i = met j → i = j) ∧
  (∀ c, inSt c → lab c ≠ FARc → ∃ i, 0 ≤ i ∧ i < n ∧ met i = c)
theorem Mt.mk {E : edge} {s : Int} {lab met : Int → Int} {n : Int} (hs : inSt s) (h0 : lab s = 0) (n1 : 1 ≤ n) (nc : n = cn (fun c => lab c ≠ FARc) 4500) (lb : ∀ c, inSt c → lab c = FARc ∨ (0 ≤ lab c ∧ lab c ≤ 312 * (n - 1) ∧ Walk E s c (lab c))) (mt : ∀ i, 0 ≤ i → i < n → inSt (met i) ∧ lab (met i) ≠ FARc) (mi : ∀ i j, 0 ≤ i → i < n → 0 ≤ j → j < n → met i = met j → i = j) (ms : ∀ c, inSt c → lab c ≠ FARc → ∃ i, 0 ≤ i ∧ i < n ∧ met i = c) : Mt E s lab met n := ⟨hs, h0, n1, nc, lb, mt, mi, ms⟩
theorem Mt.hs {E : edge} {s : Int} {lab met : Int → Int} {n : Int} (h : Mt E s lab met n) : inSt s := h.1
theorem Mt.h0 {E : edge} {s : Int} {lab met : Int → Int} {n : Int} (h : Mt E s lab met n) : lab s = 0 := h.2.1
theorem Mt.n1 {E : edge} {s : Int} {lab met : Int → Int} {n : Int} (h : Mt E s lab met n) : 1 ≤ n := h.2.2.1
theorem Mt.nc {E : edge} {s : Int} {lab met : Int → Int} {n : Int} (h : Mt E s lab met n) : n = cn (fun c => lab c ≠ FARc) 4500 := h.2.2.2.1
theorem Mt.lb {E : edge} {s : Int} {lab met : Int → Int} {n : Int} (h : Mt E s lab met n) : ∀ c, inSt c → lab c = FARc ∨ (0 ≤ lab c ∧ lab c ≤ 312 * (n - 1) ∧ Walk E s c (lab c)) := h.2.2.2.2.1
theorem Mt.mt {E : edge} {s : Int} {lab met : Int → Int} {n : Int} (h : Mt E s lab met n) : ∀ i, 0 ≤ i → i < n → inSt (met i) ∧ lab (met i) ≠ FARc := h.2.2.2.2.2.1
theorem Mt.mi {E : edge} {s : Int} {lab met : Int → Int} {n : Int} (h : Mt E s lab met n) : ∀ i j, 0 ≤ i → i < n → 0 ≤ j → j < n → met i = met j → i = j := h.2.2.2.2.2.2.1
theorem Mt.ms {E : edge} {s : Int} {lab met : Int → Int} {n : Int} (h : Mt E s lab met n) : ∀ c, inSt c → lab c ≠ FARc → ∃ i, 0 ≤ i ∧ i < n ∧ met i = c := h.2.2.2.2.2.2.2
def Sought (E : edge) (s : Int) (lab met : Int → Int) (n : Int) : Prop :=
  (Mt E s lab met n) ∧
  (∀ c v d, inSt c → lab c ≠ FARc → E c v d → lab d ≤ lab c + v)
theorem Sought.mk {E : edge} {s : Int} {lab met : Int → Int} {n : Int} (toMet : Mt E s lab met n) (cl : ∀ c v d, inSt c → lab c ≠ FARc → E c v d → lab d ≤ lab c + v) : Sought E s lab met n := ⟨toMet, cl⟩
theorem Sought.toMet {E : edge} {s : Int} {lab met : Int → Int} {n : Int} (h : Sought E s lab met n) : Mt E s lab met n := h.1
theorem Sought.cl {E : edge} {s : Int} {lab met : Int → Int} {n : Int} (h : Sought E s lab met n) : ∀ c v d, inSt c → lab c ≠ FARc → E c v d → lab d ≤ lab c + v := h.2
theorem Sought.hs {E : edge} {s : Int} {lab met : Int → Int} {n : Int} (h : Sought E s lab met n) : inSt s := h.toMet.hs
theorem Sought.h0 {E : edge} {s : Int} {lab met : Int → Int} {n : Int} (h : Sought E s lab met n) : lab s = 0 := h.toMet.h0
theorem Sought.n1 {E : edge} {s : Int} {lab met : Int → Int} {n : Int} (h : Sought E s lab met n) : 1 ≤ n := h.toMet.n1
theorem Sought.nc {E : edge} {s : Int} {lab met : Int → Int} {n : Int} (h : Sought E s lab met n) : n = cn (fun c => lab c ≠ FARc) 4500 := h.toMet.nc
theorem Sought.lb {E : edge} {s : Int} {lab met : Int → Int} {n : Int} (h : Sought E s lab met n) : ∀ c, inSt c → lab c = FARc ∨ (0 ≤ lab c ∧ lab c ≤ 312 * (n - 1) ∧ Walk E s c (lab c)) := h.toMet.lb
theorem Sought.mt {E : edge} {s : Int} {lab met : Int → Int} {n : Int} (h : Sought E s lab met n) : ∀ i, 0 ≤ i → i < n → inSt (met i) ∧ lab (met i) ≠ FARc := h.toMet.mt
theorem Sought.mi {E : edge} {s : Int} {lab met : Int → Int} {n : Int} (h : Sought E s lab met n) : ∀ i j, 0 ≤ i → i < n → 0 ≤ j → j < n → met i = met j → i = j := h.toMet.mi
theorem Sought.ms {E : edge} {s : Int} {lab met : Int → Int} {n : Int} (h : Sought E s lab met n) : ∀ c, inSt c → lab c ≠ FARc → ∃ i, 0 ≤ i ∧ i < n ∧ met i = c := h.toMet.ms
theorem Mt.n2 {E : edge} {s n : Int} {lab met : Int → Int} (h : Mt E s lab met n) : n ≤ 4500 := by
  rw [h.nc]; exact cn_le (by omega)
theorem Mt.lt {E : edge} {s n c : Int} {lab met : Int → Int} (h : Mt E s lab met n) (hc : inSt c) (hl : lab c ≠ FARc) : 0 ≤ lab c ∧ lab c ≤ 312 * (n - 1) ∧ lab c < FARc := by
  have h1 := h.n2
  rcases h.lb c hc with e | ⟨a, b, -⟩
  · exact absurd e hl
  · refine ⟨a, b, ?_⟩
    show lab c < 1000000000
    omega
theorem Mt.rg {E : edge} {s n c : Int} {lab met : Int → Int} (h : Mt E s lab met n) (hc : inSt c) : 0 ≤ lab c ∧ lab c ≤ 1000000000 := by
  rcases Classical.em (lab c = FARc) with e | e
  · rw [e]; decide
  · have := h.lt hc e
    have e2 : FARc = 1000000000 := rfl
    omega
/-- the queue beside it: busy is the state that is gone through now -/
def SK (E : edge) (s : Int) (lab met : Int → Int) (n : Int) (qd que : Int → Int) (fi ma : Int) (busy : Int → Prop) : Prop :=
  (Mt E s lab met n) ∧
  (0 ≤ fi) ∧
  (fi < 4500) ∧
  (0 ≤ ma) ∧
  (ma = cn (fun c => qd c = 1) 4500) ∧
  (∀ j, 0 ≤ j → j < ma → inSt (que ((fi + j) % 4500))) ∧
  (∀ c, inSt c → qd c = 0 ∨ qd c = 1) ∧
  (∀ j, 0 ≤ j → j < ma → qd (que ((fi + j) % 4500)) = 1) ∧
  (∀ i j, 0 ≤ i → i < ma → 0 ≤ j → j < ma → que ((fi + i) % 4500) = que ((fi + j) % 4500) → i = j) ∧
  (∀ c, inSt c → qd c = 1 → ∃ j, 0 ≤ j ∧ j < ma ∧ que ((fi + j) % 4500) = c) ∧
  (∀ c, inSt c → qd c = 1 → lab c ≠ FARc) ∧
  (∀ c v d, inSt c → lab c ≠ FARc → qd c ≠ 1 → ¬ busy c → E c v d → lab d ≤ lab c + v)
theorem SK.mk {E : edge} {s : Int} {lab met : Int → Int} {n : Int} {qd que : Int → Int} {fi ma : Int} {busy : Int → Prop} (toMet : Mt E s lab met n) (f0 : 0 ≤ fi) (f1 : fi < 4500) (m0 : 0 ≤ ma) (qc : ma = cn (fun c => qd c = 1) 4500) (qr : ∀ j, 0 ≤ j → j < ma → inSt (que ((fi + j) % 4500))) (qb : ∀ c, inSt c → qd c = 0 ∨ qd c = 1) (qw : ∀ j, 0 ≤ j → j < ma → qd (que ((fi + j) % 4500)) = 1) (qi : ∀ i j, 0 ≤ i → i < ma → 0 ≤ j → j < ma → que ((fi + i) % 4500) = que ((fi + j) % 4500) → i = j) (qs : ∀ c, inSt c → qd c = 1 → ∃ j, 0 ≤ j ∧ j < ma ∧ que ((fi + j) % 4500) = c) (ql : ∀ c, inSt c → qd c = 1 → lab c ≠ FARc) (cl : ∀ c v d, inSt c → lab c ≠ FARc → qd c ≠ 1 → ¬ busy c → E c v d → lab d ≤ lab c + v) : SK E s lab met n qd que fi ma busy := ⟨toMet, f0, f1, m0, qc, qr, qb, qw, qi, qs, ql, cl⟩
theorem SK.toMet {E : edge} {s : Int} {lab met : Int → Int} {n : Int} {qd que : Int → Int} {fi ma : Int} {busy : Int → Prop} (h : SK E s lab met n qd que fi ma busy) : Mt E s lab met n := h.1
theorem SK.f0 {E : edge} {s : Int} {lab met : Int → Int} {n : Int} {qd que : Int → Int} {fi ma : Int} {busy : Int → Prop} (h : SK E s lab met n qd que fi ma busy) : 0 ≤ fi := h.2.1
theorem SK.f1 {E : edge} {s : Int} {lab met : Int → Int} {n : Int} {qd que : Int → Int} {fi ma : Int} {busy : Int → Prop} (h : SK E s lab met n qd que fi ma busy) : fi < 4500 := h.2.2.1
theorem SK.m0 {E : edge} {s : Int} {lab met : Int → Int} {n : Int} {qd que : Int → Int} {fi ma : Int} {busy : Int → Prop} (h : SK E s lab met n qd que fi ma busy) : 0 ≤ ma := h.2.2.2.1
theorem SK.qc {E : edge} {s : Int} {lab met : Int → Int} {n : Int} {qd que : Int → Int} {fi ma : Int} {busy : Int → Prop} (h : SK E s lab met n qd que fi ma busy) : ma = cn (fun c => qd c = 1) 4500 := h.2.2.2.2.1
theorem SK.qr {E : edge} {s : Int} {lab met : Int → Int} {n : Int} {qd que : Int → Int} {fi ma : Int} {busy : Int → Prop} (h : SK E s lab met n qd que fi ma busy) : ∀ j, 0 ≤ j → j < ma → inSt (que ((fi + j) % 4500)) := h.2.2.2.2.2.1
theorem SK.qb {E : edge} {s : Int} {lab met : Int → Int} {n : Int} {qd que : Int → Int} {fi ma : Int} {busy : Int → Prop} (h : SK E s lab met n qd que fi ma busy) : ∀ c, inSt c → qd c = 0 ∨ qd c = 1 := h.2.2.2.2.2.2.1
theorem SK.qw {E : edge} {s : Int} {lab met : Int → Int} {n : Int} {qd que : Int → Int} {fi ma : Int} {busy : Int → Prop} (h : SK E s lab met n qd que fi ma busy) : ∀ j, 0 ≤ j → j < ma → qd (que ((fi + j) % 4500)) = 1 := h.2.2.2.2.2.2.2.1
theorem SK.qi {E : edge} {s : Int} {lab met : Int → Int} {n : Int} {qd que : Int → Int} {fi ma : Int} {busy : Int → Prop} (h : SK E s lab met n qd que fi ma busy) : ∀ i j, 0 ≤ i → i < ma → 0 ≤ j → j < ma → que ((fi + i) % 4500) = que ((fi + j) % 4500) → i = j := h.2.2.2.2.2.2.2.2.1
theorem SK.qs {E : edge} {s : Int} {lab met : Int → Int} {n : Int} {qd que : Int → Int} {fi ma : Int} {busy : Int → Prop} (h : SK E s lab met n qd que fi ma busy) : ∀ c, inSt c → qd c = 1 → ∃ j, 0 ≤ j ∧ j < ma ∧ que ((fi + j) % 4500) = c := h.2.2.2.2.2.2.2.2.2.1
theorem SK.ql {E : edge} {s : Int} {lab met : Int → Int} {n : Int} {qd que : Int → Int} {fi ma : Int} {busy : Int → Prop} (h : SK E s lab met n qd que fi ma busy) : ∀ c, inSt c → qd c = 1 → lab c ≠ FARc := h.2.2.2.2.2.2.2.2.2.2.1
theorem SK.cl {E : edge} {s : Int} {lab met : Int → Int} {n : Int} {qd que : Int → Int} {fi ma : Int} {busy : Int → Prop} (h : SK E s lab met n qd que fi ma busy) : ∀ c v d, inSt c → lab c ≠ FARc → qd c ≠ 1 → ¬ busy c → E c v d → lab d ≤ lab c + v := h.2.2.2.2.2.2.2.2.2.2.2
theorem SK.hs {E : edge} {s : Int} {lab met : Int → Int} {n : Int} {qd que : Int → Int} {fi ma : Int} {busy : Int → Prop} (h : SK E s lab met n qd que fi ma busy) : inSt s := h.toMet.hs
theorem SK.h0 {E : edge} {s : Int} {lab met : Int → Int} {n : Int} {qd que : Int → Int} {fi ma : Int} {busy : Int → Prop} (h : SK E s lab met n qd que fi ma busy) : lab s = 0 := h.toMet.h0
theorem SK.n1 {E : edge} {s : Int} {lab met : Int → Int} {n : Int} {qd que : Int → Int} {fi ma : Int} {busy : Int → Prop} (h : SK E s lab met n qd que fi ma busy) : 1 ≤ n := h.toMet.n1
theorem SK.nc {E : edge} {s : Int} {lab met : Int → Int} {n : Int} {qd que : Int → Int} {fi ma : Int} {busy : Int → Prop} (h : SK E s lab met n qd que fi ma busy) : n = cn (fun c => lab c ≠ FARc) 4500 := h.toMet.nc
theorem SK.lb {E : edge} {s : Int} {lab met : Int → Int} {n : Int} {qd que : Int → Int} {fi ma : Int} {busy : Int → Prop} (h : SK E s lab met n qd que fi ma busy) : ∀ c, inSt c → lab c = FARc ∨ (0 ≤ lab c ∧ lab c ≤ 312 * (n - 1) ∧ Walk E s c (lab c)) := h.toMet.lb
theorem SK.mt {E : edge} {s : Int} {lab met : Int → Int} {n : Int} {qd que : Int → Int} {fi ma : Int} {busy : Int → Prop} (h : SK E s lab met n qd que fi ma busy) : ∀ i, 0 ≤ i → i < n → inSt (met i) ∧ lab (met i) ≠ FARc := h.toMet.mt
theorem SK.mi {E : edge} {s : Int} {lab met : Int → Int} {n : Int} {qd que : Int → Int} {fi ma : Int} {busy : Int → Prop} (h : SK E s lab met n qd que fi ma busy) : ∀ i j, 0 ≤ i → i < n → 0 ≤ j → j < n → met i = met j → i = j := h.toMet.mi
theorem SK.ms {E : edge} {s : Int} {lab met : Int → Int} {n : Int} {qd que : Int → Int} {fi ma : Int} {busy : Int → Prop} (h : SK E s lab met n qd que fi ma busy) : ∀ c, inSt c → lab c ≠ FARc → ∃ i, 0 ≤ i ∧ i < n ∧ met i = c := h.toMet.ms
theorem SK.m1 {E : edge} {s n fi ma : Int} {lab met qd que : Int → Int} {busy : Int → Prop} (h : SK E s lab met n qd que fi ma busy) : ma ≤ 4500 := by
  rw [h.qc]; exact cn_le (by omega)
theorem cn_zero {P : Int → Prop} {m : Int} (h : ∀ i, 0 ≤ i → i < m → ¬ P i) (h0 : 0 ≤ m) : cn P m = 0 := by
  rw [cn_skip (P := P) (a := 0) (b := m) (by omega) h0 (fun x a b => h x a b), cn_0]
theorem SK.start (E : edge) {s : Int} (hs : inSt s) {lab0 met0 qd0 que0 : Int → Int} (hl : ∀ c, inSt c → lab0 c = FARc) (hq : ∀ c, inSt c → qd0 c = 0) :
    SK E s (ug lab0 s 0) (ug met0 0 s) 1 (ug qd0 s 1) (ug que0 0 s) 0 1 (fun _ => False) :=
  SK.mk (toMet := Mt.mk
  (hs := hs)
  (h0 := ug_s _ _ _)
  (n1 := Int.le_refl 1)
  (nc := by
    have := cn_more (P := fun _ => False) (P' := fun c => ¬ ¬ c = s) (m := 4500) hs.1 hs.2 id (fun h => h rfl) (fun i h => ⟨False.elim, fun q => q h⟩)
    rw [cn_zero (fun _ _ _ => id) (by omega)] at this
    have e : cn (fun c => ug lab0 s 0 c ≠ FARc) 4500 = cn (fun c => ¬ ¬ c = s) 4500 := cn_congr (fun i a b => by
      by_cases q : i = s
      · rw [q, ug_s]; exact ⟨fun _ z => z rfl, fun _ => by decide⟩
      · rw [ug_n q, hl i ⟨a, b⟩]; exact ⟨fun z => absurd rfl z, fun z => absurd q z⟩)
    rw [e, this]; rfl)
  (lb := fun c hc => by
    by_cases q : c = s
    · right; rw [q, ug_s]; exact ⟨Int.le_refl _, by omega, .nil⟩
    · left; rw [ug_n q]; exact hl c hc)
  (mt := fun i a b => by
    rw [show i = 0 by omega, ug_s, ug_s]; exact ⟨hs, by decide⟩)
  (mi := fun i j a b c d _ => by omega)
  (ms := fun c hc h => by
    by_cases q : c = s
    · exact ⟨0, by omega, by omega, by rw [ug_s, q]⟩
    · rw [ug_n q] at h; exact absurd (hl c hc) h))
  (f0 := Int.le_refl 0)
  (f1 := by omega)
  (m0 := by omega)
  (qc := by
    have := cn_more (P := fun _ => False) (P' := fun c => ¬ ¬ c = s) (m := 4500) hs.1 hs.2 id (fun h => h rfl) (fun i h => ⟨False.elim, fun q => q h⟩)
    rw [cn_zero (fun _ _ _ => id) (by omega)] at this
    have e : cn (fun c => ug qd0 s 1 c = 1) 4500 = cn (fun c => ¬ ¬ c = s) 4500 := cn_congr (fun i a b => by
      by_cases q : i = s
      · rw [q, ug_s]; exact ⟨fun _ z => z rfl, fun _ => rfl⟩
      · rw [ug_n q, hq i ⟨a, b⟩]; exact ⟨fun z => absurd z (by decide), fun z => absurd q z⟩)
    rw [e, this]; rfl)
  (qr := fun j a b => by
    rw [show (0 + j) % 4500 = 0 by omega, ug_s]; exact hs)
  (qb := fun c hc => by
    by_cases q : c = s
    · right; rw [q, ug_s]
    · left; rw [ug_n q]; exact hq c hc)
  (qw := fun j a b => by
    rw [show (0 + j) % 4500 = 0 by omega, ug_s, ug_s])
  (qi := fun i j a b c d _ => by omega)
  (qs := fun c hc h => by
    by_cases q : c = s
    · exact ⟨0, by omega, by omega, by rw [q]; exact ug_s _ _ _⟩
    · rw [ug_n q, hq c hc] at h; exact absurd h (by decide))
  (ql := fun c hc h => by
    by_cases q : c = s
    · rw [q, ug_s]; decide
    · rw [ug_n q, hq c hc] at h; exact absurd h (by decide))
  (cl := fun c v d hc hl2 hq2 _ _ => by
    by_cases q : c = s
    · rw [q, ug_s] at hq2; exact absurd rfl hq2
    · rw [ug_n q] at hl2; exact absurd (hl c hc) hl2)
theorem SK.pop {E : edge} {s n fi ma : Int} {lab met qd que : Int → Int} (h : SK E s lab met n qd que fi ma (fun _ => False)) (hm : 0 < ma) :
    SK E s lab met n (ug qd (que fi) 0) que ((fi + 1) % 4500) (ma - 1) (fun c => c = que fi) ∧ inSt (que fi) ∧ lab (que fi) ≠ FARc ∧ qd (que fi) = 1 := by
  have e0 : (fi + 0) % 4500 = fi := by have := h.f0; have := h.f1; omega
  have hc : inSt (que fi) := by have := h.qr 0 (by omega) hm; rw [e0] at this; exact this
  have h1 : qd (que fi) = 1 := by have := h.qw 0 (by omega) hm; rw [e0] at this; exact this
  have e1 : ∀ j, ((fi + 1) % 4500 + j) % 4500 = (fi + (j + 1)) % 4500 := fun j => by omega
  have hne : ∀ j, 0 ≤ j → j < ma - 1 → que ((fi + (j + 1)) % 4500) ≠ que fi := fun j a b q => by
    have := h.qi (j + 1) 0 (by omega) (by omega) (by omega) hm (by rw [e0]; exact q)
    omega
  refine ⟨(SK.mk (toMet := h.toMet) (f0 := by omega) (f1 := by omega) (m0 := by omega) (qc := ?_) (qr := fun j a b => by rw [e1]; exact h.qr (j + 1) (by omega) (by omega)) (qb := fun c hc2 => by
    by_cases z : c = que fi
    · left; rw [z, ug_s]
    · rw [ug_n z]; exact h.qb c hc2) (qw := fun j a b => ?_) (qi := fun i j a b c d q => ?_) (qs := fun c hc2 q => ?_) (ql := fun c hc2 q => ?_) (cl := fun c v d hc2 hl hq hb he => ?_)), hc, h.ql _ hc h1, h1⟩
  · have := cn_more (P := fun c => ug qd (que fi) 0 c = 1) (P' := fun c => qd c = 1) (m := 4500) hc.1 hc.2 (by rw [ug_s]; decide) h1 (fun i hi => by rw [ug_n hi])
    have := h.qc
    omega
  · rw [e1, ug_n (hne j a b)]
    exact h.qw (j + 1) (by omega) (by omega)
  · rw [e1, e1] at q
    have := h.qi (i + 1) (j + 1) (by omega) (by omega) (by omega) (by omega) q
    omega
  · by_cases z : c = que fi
    · rw [z, ug_s] at q; exact absurd q (by decide)
    · rw [ug_n z] at q
      obtain ⟨j, a, b, e⟩ := h.qs c hc2 q
      have hj : j ≠ 0 := fun y => by rw [y, e0] at e; exact z e.symm
      exact ⟨j - 1, by omega, by omega, by rw [e1, show j - 1 + 1 = j by omega]; exact e⟩
  · by_cases z : c = que fi
    · rw [z, ug_s] at q; exact absurd q (by decide)
    · rw [ug_n z] at q
      exact h.ql c hc2 q
  · have hb : c ≠ que fi := hb
    rw [ug_n hb] at hq
    exact h.cl c v d hc2 hl hq id he
/-- a shorter way to d, by an edge of the state c that is gone through -/
theorem Mt.relax {E : edge} {s n c v d : Int} {lab met : Int → Int} (h : Mt E s lab met n) (hc : inSt c) (hlc : lab c ≠ FARc) (he : E c v d) (hd : inSt d) (hv : 0 ≤ v) (hv2 : v ≤ 312) (hlt : lab c + v < lab d) :
    Mt E s (ug lab d (lab c + v)) (if lab d = FARc then ug met n d else met) (if lab d = FARc then n + 1 else n) := by
  obtain ⟨a0, a1, a2⟩ := h.lt hc hlc
  have hw : Walk E s c (lab c) := by
    rcases h.lb c hc with e | ⟨-, -, e⟩
    · exact absurd e hlc
    · exact e
  have hdc : d ≠ s := fun q => by rw [q, h.h0] at hlt; omega
  have hnn := h.n2
  have n1 := h.n1
  have hF : FARc = 1000000000 := rfl
  have hne : lab c + v ≠ FARc := by omega
  by_cases hf : lab d = FARc
  · rw [if_pos hf, if_pos hf]
    refine (Mt.mk (hs := h.hs) (h0 := by rw [ug_n (fun q => hdc q.symm)]; exact h.h0) (n1 := by omega) (nc := ?_) (lb := fun x hx => ?_) (mt := fun i a b => ?_) (mi := fun i j a b p q r => ?_) (ms := fun x hx hl => ?_))
    · rw [cn_more (P := fun c => lab c ≠ FARc) (P' := fun x => ug lab d (lab c + v) x ≠ FARc) hd.1 hd.2 (fun q => q hf) (by rw [ug_s]; exact hne) (fun i hi => by rw [ug_n hi]), ← h.nc]
    · by_cases q : x = d
      · right; rw [q, ug_s]; exact ⟨by omega, by omega, .step hw he⟩
      · rw [ug_n q]
        rcases h.lb x hx with e | ⟨e1, e2, e3⟩
        · exact .inl e
        · exact .inr ⟨e1, by omega, e3⟩
    · by_cases q : i = n
      · rw [q, ug_s, ug_s]; exact ⟨hd, hne⟩
      · rw [ug_n q]
        have := h.mt i a (by omega)
        refine ⟨this.1, ?_⟩
        rw [ug_n (fun z => this.2 (by rw [z]; exact hf))]
        exact this.2
    · by_cases z : i = n <;> by_cases y : j = n
      · omega
      · rw [z, ug_s, ug_n y] at r
        exact absurd (by rw [← r]; exact hf) (h.mt j p (by omega)).2
      · rw [y, ug_s, ug_n z] at r
        exact absurd (by rw [r]; exact hf) (h.mt i a (by omega)).2
      · rw [ug_n z, ug_n y] at r
        exact h.mi i j a (by omega) p (by omega) r
    · by_cases q : x = d
      · exact ⟨n, by omega, by omega, by rw [ug_s, q]⟩
      · rw [ug_n q] at hl
        obtain ⟨i, a, b, e⟩ := h.ms x hx hl
        exact ⟨i, a, by omega, by rw [ug_n (show i ≠ n by omega)]; exact e⟩
  · rw [if_neg hf, if_neg hf]
    have hld := h.lt hd hf
    refine (Mt.mk (hs := h.hs) (h0 := by rw [ug_n (fun q => hdc q.symm)]; exact h.h0) (n1 := by omega) (nc := ?_) (lb := fun x hx => ?_) (mt := fun i a b => ?_) (mi := h.mi) (ms := fun x hx hl => ?_))
    · rw [h.nc]
      refine cn_congr (fun i a b => ?_)
      by_cases q : i = d
      · rw [q, ug_s]; exact ⟨fun _ => hne, fun _ => hf⟩
      · rw [ug_n q]
    · by_cases q : x = d
      · right; rw [q, ug_s]; exact ⟨by omega, by omega, .step hw he⟩
      · rw [ug_n q]; exact h.lb x hx
    · have := h.mt i a b
      refine ⟨this.1, ?_⟩
      by_cases q : met i = d
      · rw [q, ug_s]; exact hne
      · rw [ug_n q]; exact this.2
    · by_cases q : x = d
      · exact h.ms x hx (by rw [q]; exact hf)
      · rw [ug_n q] at hl; exact h.ms x hx hl
theorem SK.relax {E : edge} {s n fi ma c v d : Int} {lab met qd que : Int → Int} (h : SK E s lab met n qd que fi ma (fun x => x = c)) (hc : inSt c) (hlc : lab c ≠ FARc) (he : E c v d) (hd : inSt d) (hv : 1 ≤ v) (hv2 : v ≤ 312) (hlt : lab c + v < lab d) :
    SK E s (ug lab d (lab c + v)) (if lab d = FARc then ug met n d else met) (if lab d = FARc then n + 1 else n) (if qd d = 1 then qd else ug qd d 1) (if qd d = 1 then que else ug que ((fi + ma) % 4500) d) fi (if qd d = 1 then ma else ma + 1) (fun x => x = c) := by
  have hM := h.toMet.relax hc hlc he hd (by omega) hv2 hlt
  have hF : FARc = 1000000000 := rfl
  have hnn := h.toMet.n2
  obtain ⟨a0, a1, a2⟩ := h.toMet.lt hc hlc
  have hne : lab c + v ≠ FARc := by omega
  have hdc : d ≠ c := fun q => by rw [q] at hlt; omega
  have hle : ∀ x, ug lab d (lab c + v) x ≤ lab x := fun x => by
    by_cases q : x = d
    · rw [q, ug_s]; omega
    · rw [ug_n q]; omega
  have f0 := h.f0
  have f1 := h.f1
  by_cases hq : qd d = 1
  · rw [if_pos hq, if_pos hq, if_pos hq]
    refine (SK.mk (toMet := hM) (f0 := h.f0) (f1 := h.f1) (m0 := h.m0) (qc := h.qc) (qr := h.qr) (qb := h.qb) (qw := h.qw) (qi := h.qi) (qs := h.qs) (ql := fun x hx q => ?_) (cl := fun x w y hx hl q1 q2 q3 => ?_))
    · by_cases z : x = d
      · rw [z, ug_s]; exact hne
      · rw [ug_n z]; exact h.ql x hx q
    · have z : x ≠ d := fun z => by rw [z] at q1; exact q1 hq
      rw [ug_n z] at hl ⊢
      exact Int.le_trans (hle y) (h.cl x w y hx hl q1 q2 q3)
  · rw [if_neg hq, if_neg hq, if_neg hq]
    have hma : ma < 4500 := by rw [h.qc]; exact cn_room (P := fun c => qd c = 1) hd.1 hd.2 hq
    have m0 := h.m0
    have hp : ∀ j, 0 ≤ j → j < ma → (fi + j) % 4500 ≠ (fi + ma) % 4500 := fun j a b => by omega
    have hnd : ∀ j, 0 ≤ j → j < ma → que ((fi + j) % 4500) ≠ d := fun j a b q => by
      have := h.qw j a b
      rw [q] at this
      exact hq this
    refine (SK.mk (toMet := hM) (f0 := h.f0) (f1 := h.f1) (m0 := by omega) (qc := ?_) (qr := fun j a b => ?_) (qb := fun x hx => by
      by_cases z : x = d
      · right; rw [z, ug_s]
      · rw [ug_n z]; exact h.qb x hx) (qw := fun j a b => ?_) (qi := fun i j a b p q r => ?_) (qs := fun x hx q => ?_) (ql := fun x hx q => ?_) (cl := fun x w y hx hl q1 q2 q3 => ?_))
    · rw [cn_more (P := fun c => qd c = 1) (P' := fun x => ug qd d 1 x = 1) hd.1 hd.2 hq (ug_s _ _ _) (fun i hi => by rw [ug_n hi]), ← h.qc]
    · by_cases z : j = ma
      · rw [z, ug_s]; exact hd
      · rw [ug_n (hp j a (by omega))]; exact h.qr j a (by omega)
    · by_cases z : j = ma
      · rw [z, ug_s, ug_s]
      · rw [ug_n (hp j a (by omega)), ug_n (hnd j a (by omega))]
        exact h.qw j a (by omega)
    · by_cases z : i = ma <;> by_cases y : j = ma
      · omega
      · rw [z, ug_s, ug_n (hp j p (by omega))] at r
        exact absurd r.symm (hnd j p (by omega))
      · rw [y, ug_s, ug_n (hp i a (by omega))] at r
        exact absurd r (hnd i a (by omega))
      · rw [ug_n (hp i a (by omega)), ug_n (hp j p (by omega))] at r
        exact h.qi i j a (by omega) p (by omega) r
    · by_cases z : x = d
      · exact ⟨ma, by omega, by omega, by rw [z, ug_s]⟩
      · rw [ug_n z] at q
        obtain ⟨j, a, b, e⟩ := h.qs x hx q
        exact ⟨j, a, by omega, by rw [ug_n (hp j a b)]; exact e⟩
    · by_cases z : x = d
      · rw [z, ug_s]; exact hne
      · rw [ug_n z] at q ⊢; exact h.ql x hx q
    · have z : x ≠ d := fun z => by rw [z, ug_s] at q1; exact q1 rfl
      rw [ug_n z] at hl q1 ⊢
      exact Int.le_trans (hle y) (h.cl x w y hx hl q1 q2 q3)
theorem SK.fin {E : edge} {s n fi ma c : Int} {lab met qd que : Int → Int} (h : SK E s lab met n qd que fi ma (fun x => x = c)) (hc : ∀ v d, E c v d → lab d ≤ lab c + v) : SK E s lab met n qd que fi ma (fun _ => False) :=
  SK.mk h.toMet h.f0 h.f1 h.m0 h.qc h.qr h.qb h.qw h.qi h.qs h.ql (fun x v d hx hl hq _ he => by
      by_cases z : x = c
      · rw [z] at he ⊢; exact hc v d he
      · exact h.cl x v d hx hl hq z he)
theorem SK.done {E : edge} {s n fi ma : Int} {lab met qd que : Int → Int} (h : SK E s lab met n qd que fi ma (fun _ => False)) (hm : ma ≤ 0) : Sought E s lab met n :=
  (Sought.mk (toMet := h.toMet) (cl := fun x v d hx hl he => h.cl x v d hx hl (fun q => by obtain ⟨j, a, b, -⟩ := h.qs x hx q; omega) id he))
/-- labels are the least minutes of walks -/
theorem Sought.least {E : edge} {s n : Int} {lab met : Int → Int} (h : Sought E s lab met n) (hE : okE E) {c v : Int} (hw : Walk E s c v) : inSt c ∧ lab c ≠ FARc ∧ lab c ≤ v := by
  refine hw (fun c v => inSt c ∧ lab c ≠ FARc ∧ lab c ≤ v) ?_ ?_
  · exact ⟨h.hs, by rw [h.h0]; decide, by rw [h.h0]; exact Int.le_refl 0⟩
  · intro c v d w ih he
    obtain ⟨h1, h2, h3⟩ := ih
    obtain ⟨e1, e2, e3⟩ := hE c w d h1 he
    have h4 := h.cl c w d h1 h2 he
    have h5 := h.toMet.lt h1 h2
    have h6 := h.toMet.n2
    have hF : FARc = 1000000000 := rfl
    exact ⟨e1, by omega, by omega⟩
theorem Sought.walk {E : edge} {s n c : Int} {lab met : Int → Int} (h : Sought E s lab met n) (hc : inSt c) (hl : lab c ≠ FARc) : Walk E s c (lab c) := by
  rcases h.lb c hc with e | ⟨-, -, e⟩
  · exact absurd e hl
  · exact e
theorem Sought.lab_eq {E : edge} {s n n' : Int} {lab met lab' met' : Int → Int} (h : Sought E s lab met n) (h' : Sought E s lab' met' n') (hE : okE E) {c : Int} (hc : inSt c) : lab c = lab' c := by
  by_cases q : lab c = FARc <;> by_cases q' : lab' c = FARc
  · rw [q, q']
  · exact absurd q (h.least hE (h'.walk hc q')).2.1
  · exact absurd q' (h'.least hE (h.walk hc q)).2.1
  · have h1 := (h.least hE (h'.walk hc q')).2.2
    have h2 := (h'.least hE (h.walk hc q)).2.2
    omega
theorem Sought.n_eq {E : edge} {s n n' : Int} {lab met lab' met' : Int → Int} (h : Sought E s lab met n) (h' : Sought E s lab' met' n') (hE : okE E) : n = n' := by
  rw [h.nc, h'.nc]
  exact cn_congr (fun i a b => by rw [h.lab_eq h' hE ⟨a, b⟩])
