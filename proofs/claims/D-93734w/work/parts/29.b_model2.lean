/-! THE MODEL, more: the state at hand, the list of all moves there can be, steps of a search -/
set_option maxRecDepth 100000
/-- places beyond the people and the ropes are 0 -/
def zerF (F : mem) : Prop := (¬ 0 < F 9 0 → F 6 0 = 0) ∧ (¬ 1 < F 9 0 → F 6 1 = 0) ∧ (¬ 2 < F 9 0 → F 6 2 = 0) ∧ (¬ 0 < F 10 0 → F 7 0 = 0) ∧ (¬ 1 < F 10 0 → F 7 1 = 0)
theorem st_rg {w q : Int → Int} (h : wfS w q) : rg (cdv w q) := by
  have := (cdv_dig h.1 h.2).1
  exact ⟨by have := this.1; omega, by have := this.2; omega⟩
def dnW (F : mem) (w : Int → Int) : Prop := (0 < F 9 0 → w 0 = F 8 0 - 1) ∧ (1 < F 9 0 → w 1 = F 8 0 - 1) ∧ (2 < F 9 0 → w 2 = F 8 0 - 1)
theorem dnW_al {F : mem} {w q : Int → Int} {c : Int} (h : alike w q (stW c) (stQ c)) : dnW F w ↔ dn F c := by
  have e : w 0 = c % 5 ∧ w 1 = c / 5 % 5 ∧ w 2 = c / 25 % 5 := by
    obtain ⟨a, b, d, -⟩ := h
    exact ⟨a.trans (dcw_0 c _), b.trans (dcw_1 c _), d.trans (dcw_2 c _)⟩
  exact dn_iff e
theorem cpy_s {g h : Int → Int} {k : Int} (hg : ∀ i, 0 ≤ i → i < k → g i = h i) : ∀ i, 0 ≤ i → i < k + 1 → ug g k (h k) i = h i := fun i a b => by
  by_cases q : i = k
  · rw [q, ug_s]
  · rw [ug_n q]; exact hg i a (by omega)
/-- the moves there can be -/
def cand (F : mem) (m : Int) : Prop :=
  isT m ∧ 1 ≤ m / 10000 ∧ m / 10000 ≤ 6 ∧ ((m / 10000 = 6 ∧ m / 1000 % 10 = 0) ∨ (¬ m / 10000 = 6 ∧ 1 ≤ m / 1000 % 10 ∧ m / 1000 % 10 < p2 (F 9 0))) ∧
  (((m / 10000 = 3 ∨ m / 10000 = 5) ∧ m / 100 % 10 < 1) ∨ (¬ (m / 10000 = 3 ∨ m / 10000 = 5) ∧ m / 100 % 10 < F 10 0)) ∧ m / 10 % 10 < F 8 0 ∧ m % 10 < F 8 0 ∧ ¬ m / 10 % 10 = m % 10
theorem cand_b {F : mem} : ∀ m, cand F m → 0 ≤ m ∧ m < 70000 := fun m h => ⟨h.1.1, by have := h.1.2.1; omega⟩
theorem cand_n {F : mem} : ∀ m, cand F m → 0 ≤ m := fun m h => h.1.1
theorem cand_p2 {F : mem} {m : Int} (h0 : 0 ≤ F 9 0) (h3 : F 9 0 ≤ 3) (h : cand F m) : m / 1000 % 10 < p2 (F 9 0) := by
  have := p2_b3 h0 h3
  have := h.2.2.2.1
  omega
theorem cand_set0 {F : mem} {m : Int} (q : cand F m) (hk : ¬ m / 10000 = 6) (hs : m / 1000 % 10 = 0) : False := by
  have := q.2.2.2.1
  omega
theorem cand_set {F : mem} {m k s : Int} (q : cand F m) (hk : m / 10000 = k) (hs : s ≤ m / 1000 % 10) (hb : (k = 6 ∧ 1 ≤ s) ∨ (¬ k = 6 ∧ p2 (F 9 0) ≤ s)) : False := by
  have := q.2.2.2.1
  omega
theorem cand_rope {F : mem} {m k r : Int} (q : cand F m) (hk : m / 10000 = k) (hr : r ≤ m / 100 % 10) (hb : ((k = 3 ∨ k = 5) ∧ 1 ≤ r) ∨ (¬ (k = 3 ∨ k = 5) ∧ F 10 0 ≤ r)) : False := by
  have := q.2.2.2.2.1
  omega
theorem cand_fr {F : mem} {m : Int} (q : cand F m) (h : 5 ≤ m / 10 % 10) : False := by
  have := q.1.2.2.2.2.1
  omega
theorem leg_cand {F : mem} {c m : Int} (hW : wfF F) (h : leg F c m) : cand F m := by
  obtain ⟨hT, ho⟩ := h
  have hd := isT_m hT
  have h9 := hW.2.2.2.2.2.2.2.2
  obtain ⟨a, b, d, e, f, g, i⟩ := mnOk_pre (show 0 ≤ m / 1000 % 10 ∧ m / 1000 % 10 ≤ 7 by omega) h9.1 h9.2.1 h9.2.2.1 h9.2.2.2 ho
  have hp := i.1
  refine ⟨hT, e, f, ?_, ?_, a.2, b.2, d⟩
  · by_cases q : m / 10000 = 6
    · exact .inl ⟨q, g.mpr q⟩
    · exact .inr ⟨q, by omega, hp⟩
  · rcases mnOk_go ho with ⟨-, -, -, -, -, z⟩ | ⟨z1, -, z2, -⟩
    · have h10 := h9.2.2.1
      rcases z with ⟨z1, z2⟩ | ⟨z1, z2⟩
      · by_cases q3 : m / 10000 = 3
        · exact .inl ⟨.inl q3, by omega⟩
        · by_cases q5 : m / 10000 = 5
          · rcases ho with ⟨x, -⟩ | ⟨x, -⟩ | ⟨x, -⟩ | ⟨x, -⟩ | ⟨-, -, x, -⟩ | ⟨x, -⟩
            · omega
            · omega
            · omega
            · omega
            · exact .inl ⟨.inr q5, by omega⟩
            · omega
          · exact .inr ⟨by omega, z1⟩
      · exact .inl ⟨.inr z1, by omega⟩
    · exact .inr ⟨by omega, z2⟩
/-- a list that holds what is P below pos, in order -/
def LL (P : Int → Prop) (g : Int → Int) (n pos : Int) : Prop := LI P (fun _ => 0) g (fun _ => 0) n pos
theorem LL_0 (P : Int → Prop) (g : Int → Int) : LL P g 0 0 := LI_0 _ _ _ _
theorem LL_skip {P : Int → Prop} {g : Int → Int} {n a b : Int} (h : LL P g n a) (h0 : 0 ≤ a) (hab : a ≤ b) (hn : ∀ x, a ≤ x → x < b → ¬ P x) : LL P g n b := LI_skip h h0 hab hn
theorem LL_add {P : Int → Prop} {g : Int → Int} {n a : Int} (h : LL P g n a) (h0 : 0 ≤ a) (hp : P a) : LL P (ug g n a) (n + 1) (a + 1) := by
  have := LI_add h h0 hp
  rw [ug_same (g := fun _ => 0) rfl] at this
  exact this
theorem LL_at {P : Int → Prop} {g : Int → Int} {n pos j : Int} (h : LL P g n pos) (hp : 0 ≤ pos) (h0 : 0 ≤ j) (h1 : j < n) : 0 ≤ g j ∧ g j < pos ∧ P (g j) ∧ cn P (g j) = j := by
  obtain ⟨a, b, c, -, d⟩ := LI_at h hp h0 h1
  exact ⟨a, b, c, d⟩
theorem LL_no {F : mem} {g : Int → Int} {n kd s r k : Int} (h : LL (cand F) g n (10000 * kd + 1000 * s + 100 * r + 10 * (k / 5) + k % 5)) (k0 : 0 ≤ k) (k25 : k < 25) (hkd : 1 ≤ kd) (s0 : 0 ≤ s) (s7 : s ≤ 7) (r0 : 0 ≤ r) (r1 : r ≤ 1)
    (hn : ¬ (k / 5 < F 8 0 ∧ k % 5 < F 8 0 ∧ ¬ k / 5 = k % 5)) : LL (cand F) g n (10000 * kd + 1000 * s + 100 * r + 10 * ((k + 1) / 5) + (k + 1) % 5) := by
  refine LL_skip h (by omega) (by omega) (fun x a b q => ?_)
  obtain ⟨⟨-, -, -, -, -, q0⟩, -, -, -, -, q1, q2, q3⟩ := q
  have hx : x = 10000 * kd + 1000 * s + 100 * r + 10 * (k / 5) + k % 5 := by omega
  have e1 : x / 10 % 10 = k / 5 := by omega
  have e2 : x % 10 = k % 5 := by omega
  rw [e1, e2] at q3
  rw [e1] at q1
  rw [e2] at q2
  exact hn ⟨q1, q2, q3⟩
theorem LL_yes {F : mem} {g : Int → Int} {n kd s r k : Int} (h : LL (cand F) g n (10000 * kd + 1000 * s + 100 * r + 10 * (k / 5) + k % 5)) (k0 : 0 ≤ k) (k25 : k < 25) (hkd : 1 ≤ kd) (hkd6 : kd ≤ 6) (s0 : 0 ≤ s) (s7 : s ≤ 7) (r0 : 0 ≤ r) (r1 : r ≤ 1)
    (hset : (kd = 6 ∧ s = 0) ∨ (¬ kd = 6 ∧ 1 ≤ s ∧ s < p2 (F 9 0))) (hrop : ((kd = 3 ∨ kd = 5) ∧ r < 1) ∨ (¬ (kd = 3 ∨ kd = 5) ∧ r < F 10 0))
    (hl : k / 5 < F 8 0 ∧ k % 5 < F 8 0 ∧ ¬ k / 5 = k % 5) : LL (cand F) (ug g n (10000 * kd + 1000 * s + 100 * r + 10 * (k / 5) + k % 5)) (n + 1) (10000 * kd + 1000 * s + 100 * r + 10 * ((k + 1) / 5) + (k + 1) % 5) := by
  have d1 : (10000 * kd + 1000 * s + 100 * r + 10 * (k / 5) + k % 5) / 10000 = kd := by omega
  have d2 : (10000 * kd + 1000 * s + 100 * r + 10 * (k / 5) + k % 5) / 1000 % 10 = s := by omega
  have d3 : (10000 * kd + 1000 * s + 100 * r + 10 * (k / 5) + k % 5) / 100 % 10 = r := by omega
  have d4 : (10000 * kd + 1000 * s + 100 * r + 10 * (k / 5) + k % 5) / 10 % 10 = k / 5 := by omega
  have d5 : (10000 * kd + 1000 * s + 100 * r + 10 * (k / 5) + k % 5) % 10 = k % 5 := by omega
  have hc : cand F (10000 * kd + 1000 * s + 100 * r + 10 * (k / 5) + k % 5) := by
    unfold cand isT
    rw [d1, d2, d3, d4, d5]
    exact ⟨⟨by omega, by omega, by omega, by omega, by omega, by omega⟩, hkd, hkd6, hset, hrop, hl⟩
  refine LL_skip (LL_add h (by omega) hc) (by omega) (by omega) (fun x a b q => ?_)
  have := q.1.2.2.2.2.2
  omega
/-- one edge of the state c that is gone through has been looked at -/
def relO (E : edge) (s : Int) (lab met : Int → Int) (n : Int) (qd que : Int → Int) (fi ma c d v : Int) (lab' met' : Int → Int) (n' : Int) (qd' que' : Int → Int) (ma' : Int) : Prop :=
  SK E s lab' met' n' qd' que' fi ma' (fun x => x = c) ∧ lab' c = lab c ∧ (∀ x, lab' x ≤ lab x) ∧ lab' d ≤ lab c + v ∧ 2 * smN lab' 4500 + ma' ≤ 2 * smN lab 4500 + ma ∧ (∀ i, i < n → met' i = met i)
theorem relO_no {E : edge} {s n fi ma c v d : Int} {lab met qd que : Int → Int} (h : SK E s lab met n qd que fi ma (fun x => x = c)) (hn : ¬ lab c + v < lab d) : relO E s lab met n qd que fi ma c d v lab met n qd que ma :=
  ⟨h, rfl, fun _ => Int.le_refl _, by omega, Int.le_refl _, fun _ _ => rfl⟩
theorem rel_ph {lab : Int → Int} {c d v : Int} (hd : inSt d) (hlt : lab c + v < lab d) : smN (ug lab d (lab c + v)) 4500 + 1 ≤ smN lab 4500 := by
  have := smN_ug lab d (lab c + v) hd.1 4500
  rw [if_pos (show d < ((4500 : Nat) : Int) from hd.2)] at this
  omega
theorem relO_q {E : edge} {s n fi ma c v d : Int} {lab met qd que : Int → Int} (h : SK E s lab met n qd que fi ma (fun x => x = c)) (hc : inSt c) (hlc : lab c ≠ FARc) (he : E c v d) (hd : inSt d) (hv : 1 ≤ v) (hv2 : v ≤ 312) (hlt : lab c + v < lab d) (hq : qd d = 1) :
    relO E s lab met n qd que fi ma c d v (ug lab d (lab c + v)) (if lab d = FARc then ug met n d else met) (if lab d = FARc then n + 1 else n) qd que ma := by
  have hdc : d ≠ c := fun z => by rw [z] at hlt; omega
  refine ⟨SK.relaxQ h hc hlc he hd hv hv2 hlt hq, ug_n (Ne.symm hdc), ug_le (Int.le_of_lt hlt), by rw [ug_s]; omega, by have := rel_ph hd hlt; omega, fun i hi => ?_⟩
  split
  · exact ug_n (by omega)
  · rfl
theorem relO_n {E : edge} {s n fi ma c v d : Int} {lab met qd que : Int → Int} (h : SK E s lab met n qd que fi ma (fun x => x = c)) (hc : inSt c) (hlc : lab c ≠ FARc) (he : E c v d) (hd : inSt d) (hv : 1 ≤ v) (hv2 : v ≤ 312) (hlt : lab c + v < lab d) (hq : ¬ qd d = 1) :
    relO E s lab met n qd que fi ma c d v (ug lab d (lab c + v)) (if lab d = FARc then ug met n d else met) (if lab d = FARc then n + 1 else n) (ug qd d 1) (ug que ((fi + ma) % 4500) d) (ma + 1) := by
  have hdc : d ≠ c := fun z => by rw [z] at hlt; omega
  refine ⟨SK.relaxN h hc hlc he hd hv hv2 hlt hq, ug_n (Ne.symm hdc), ug_le (Int.le_of_lt hlt), by rw [ug_s]; omega, by have := rel_ph hd hlt; omega, fun i hi => ?_⟩
  split
  · exact ug_n (by omega)
  · rfl
theorem cand_r3 {F : mem} {m : Int} (q : cand F m) : m / 10000 = 3 → m / 100 % 10 = 0 := fun h => by
  have := q.2.2.2.2.1
  have := isT_m q.1
  omega
theorem mvw_0 (st to : Int) (w : Int → Int) : mvw st to w 0 = if st % 2 = 1 then to else w 0 := by
  unfold mvw
  by_cases h : st % 2 = 1
  · rw [if_pos h, if_pos (.inl ⟨rfl, h⟩)]
  · rw [if_neg h, if_neg (by omega)]
theorem mvw_1 (st to : Int) (w : Int → Int) : mvw st to w 1 = if st / 2 % 2 = 1 then to else w 1 := by
  unfold mvw
  by_cases h : st / 2 % 2 = 1
  · rw [if_pos h, if_pos (.inr (.inl ⟨rfl, h⟩))]
  · rw [if_neg h, if_neg (by omega)]
theorem mvw_2 (st to : Int) (w : Int → Int) : mvw st to w 2 = if st / 4 % 2 = 1 then to else w 2 := by
  unfold mvw
  by_cases h : st / 4 % 2 = 1
  · rw [if_pos h, if_pos (.inr (.inr ⟨rfl, h⟩))]
  · rw [if_neg h, if_neg (by omega)]
theorem mvw_x {st to i : Int} {w : Int → Int} (h0 : ¬ i = 0) (h1 : ¬ i = 1) (h2 : ¬ i = 2) : mvw st to w i = w i := by
  unfold mvw
  rw [if_neg (by omega)]
