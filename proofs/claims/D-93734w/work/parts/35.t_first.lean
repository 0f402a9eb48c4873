/-! THE FIRST MOVE, THE FEET OF A ROPE, CHANCES: pure words -/
set_option maxRecDepth 100000
theorem clR_C {F : mem} {s n : Int} {lab met : Int → Int} (hW : wfF F) (hS : Sought (EC F) s lab met n) : clR F (fun c => lab c ≠ FARc) := fun c m hc hl hm =>
  ⟨(hS.least (okE_C hW) (Walk.step (hS.walk hc hl) ⟨m, hm, rfl, .inl rfl⟩)).2.1, fun q => (hS.least (okE_C hW) (Walk.step (hS.walk hc hl) ⟨m, hm, rfl, .inr ⟨q, rfl⟩⟩)).2.1⟩
-- ===== the soonest, by walks =====
theorem walk_nn {E : edge} {s c v : Int} (hs : inSt s) (hE : okE E) (h : Walk E s c v) : inSt c ∧ ((c = s ∧ v = 0) ∨ 1 ≤ v) :=
  h (fun c v => inSt c ∧ ((c = s ∧ v = 0) ∨ 1 ≤ v)) ⟨hs, .inl ⟨rfl, rfl⟩⟩ (fun c v d w a he => by
    have := hE c w d a.1 he
    exact ⟨this.1, .inr (by omega)⟩)
theorem Walk.trans {E : edge} {s c d v w : Int} (h : Walk E s c v) (h' : Walk E c d w) : Walk E s d (v + w) :=
  h' (fun d w => Walk E s d (v + w)) (by rw [Int.add_zero]; exact h) (fun c w d u a he => by rw [← Int.add_assoc]; exact .step a he)
theorem Walk.first {E : edge} {s c v : Int} (h : Walk E s c v) : (c = s ∧ v = 0) ∨ ∃ d w, E s w d ∧ Walk E d c (v - w) :=
  h (fun c v => (c = s ∧ v = 0) ∨ ∃ d w, E s w d ∧ Walk E d c (v - w)) (.inl ⟨rfl, rfl⟩) (fun c v d w a he => by
    right
    rcases a with ⟨a, b⟩ | ⟨x, u, hx, hw⟩
    · rw [a] at he
      exact ⟨d, w, he, by rw [b, show 0 + w - w = 0 by omega]; exact .nil⟩
    · exact ⟨x, u, hx, by rw [show v + w - u = v - u + w by omega]; exact .step hw he⟩)
def SoonW (F : mem) (c z : Int) : Prop := (z = -4 ∧ ¬ ∃ d v, Walk (EF F) c d v ∧ dn F d) ∨ (0 ≤ z ∧ (∃ d, Walk (EF F) c d z ∧ dn F d) ∧ ∀ d v, Walk (EF F) c d v → dn F d → z ≤ v)
theorem SoonW.uniq {F : mem} {c z z' : Int} (h : SoonW F c z) (h' : SoonW F c z') : z = z' := by
  rcases h with ⟨a, b⟩ | ⟨a, ⟨d, b, e⟩, g⟩ <;> rcases h' with ⟨a', b'⟩ | ⟨a', ⟨d', b', e'⟩, g'⟩
  · omega
  · exact absurd ⟨d', z', b', e'⟩ b
  · exact absurd ⟨d, z, b, e⟩ b'
  · have := g d' z' b' e'
    have := g' d z b e
    omega
theorem IsSoon.w {F : mem} {c z : Int} (hW : wfF F) (h : IsSoon F c z) : SoonW F c z := by
  obtain ⟨lab, met, n, hS, hz⟩ := h
  have hE := okE_F hW
  rcases hz with ⟨a, b⟩ | ⟨d, d1, d2, d3, d4, d5⟩
  · refine .inl ⟨a, fun ⟨x, v, hw, hd⟩ => ?_⟩
    have := hS.least hE hw
    exact b x this.1 this.2.1 hd
  · refine .inr ⟨by rw [← d4]; exact (hS.toMet.lt d1 d2).1, ⟨d, by rw [← d4]; exact hS.walk d1 d2, d3⟩, fun x v hw hd => ?_⟩
    have := hS.least hE hw
    exact Int.le_trans (d5 x this.1 this.2.1 hd) this.2.2
theorem least_nat {P : Nat → Prop} : ∀ n, P n → ∃ k, P k ∧ ∀ j, P j → k ≤ j := by
  intro n
  induction n using Nat.strongRecOn with
  | _ n ih =>
    intro hn
    by_cases h : ∃ j, j < n ∧ P j
    · obtain ⟨j, hj, hp⟩ := h
      exact ih j hj hp
    · exact ⟨n, hn, fun j hj => Nat.le_of_not_lt (fun q => h ⟨j, q, hj⟩)⟩
theorem SoonW.ex {F : mem} {c : Int} (hW : wfF F) (hc : inSt c) : ∃ z, SoonW F c z := by
  have hE := okE_F hW
  by_cases h : ∃ d v, Walk (EF F) c d v ∧ dn F d
  · obtain ⟨d, v, hw, hd⟩ := h
    have hv := (walk_nn hc hE hw).2
    obtain ⟨k, ⟨x, h1, h2⟩, h3⟩ := least_nat (P := fun n => ∃ x, Walk (EF F) c x (n : Int) ∧ dn F x) v.toNat ⟨d, by rw [Int.toNat_of_nonneg (by omega)]; exact hw, hd⟩
    refine ⟨k, .inr ⟨by omega, ⟨x, h1, h2⟩, fun y u hy hdy => ?_⟩⟩
    have hu := (walk_nn hc hE hy).2
    have := h3 u.toNat ⟨y, by rw [Int.toNat_of_nonneg (by omega)]; exact hy, hdy⟩
    omega
  · exact ⟨-4, .inl ⟨rfl, h⟩⟩
theorem SoonW.zero {F : mem} {c z : Int} (hW : wfF F) (hc : inSt c) (h : SoonW F c z) : z = 0 ↔ dn F c := by
  have hE := okE_F hW
  constructor
  · intro q
    rcases h with ⟨a, -⟩ | ⟨-, ⟨d, hw, hd⟩, -⟩
    · omega
    · rcases (walk_nn hc hE hw).2 with ⟨e, -⟩ | e
      · rw [← e]; exact hd
      · omega
  · intro q
    rcases h with ⟨-, b⟩ | ⟨a, -, b⟩
    · exact absurd ⟨c, 0, .nil, q⟩ b
    · have := b c 0 .nil q
      omega
def leastM (P : Int → Prop) (z : Int) : Prop := (z = -4 ∧ ∀ m, ¬ P m) ∨ (P z ∧ ∀ m, P m → z ≤ m)
theorem leastM.uniq {P P' : Int → Prop} {z z' : Int} (h : leastM P z) (h' : leastM P' z') (he : ∀ m, P m ↔ P' m) : z = z' := by
  rcases h with ⟨a, b⟩ | ⟨a, b⟩ <;> rcases h' with ⟨a', b'⟩ | ⟨a', b'⟩
  · omega
  · exact absurd ((he _).mpr a') (b _)
  · exact absurd ((he _).mp a) (b' _)
  · have := b z' ((he _).mpr a')
    have := b' z ((he _).mp a)
    omega
def firstM (F : mem) (s t m : Int) : Prop := leg F s m ∧ ∃ r, SoonW F (nx s m) r ∧ 0 ≤ r ∧ mvV F m + r = t
def FirstP (F : mem) (s z : Int) : Prop := ∃ t, SoonW F s t ∧ ((t ≤ 0 ∧ z = -4) ∨ (0 < t ∧ leastM (firstM F s t) z))
theorem FirstP.uniq {F : mem} {s z z' : Int} (h : FirstP F s z) (h' : FirstP F s z') : z = z' := by
  obtain ⟨t, a, b⟩ := h
  obtain ⟨t', a', b'⟩ := h'
  have e := a.uniq a'
  subst e
  rcases b with ⟨b1, b2⟩ | ⟨b1, b2⟩ <;> rcases b' with ⟨c1, c2⟩ | ⟨c1, c2⟩
  · omega
  · omega
  · omega
  · exact b2.uniq c2 (fun _ => Iff.rfl)
/-- states on the soonest ways, by labels -/
def TW (F : mem) (lab : Int → Int) (t c : Int) : Prop := ∀ P : Int → Prop, (∀ c, inSt c → lab c ≠ FARc → lab c = t → dn F c → P c) → (∀ c m, inSt c → lab c ≠ FARc → lab c < t → leg F c m → lab c + mvV F m = lab (nx c m) → P (nx c m) → P c) → P c
theorem TW.base {F : mem} {lab : Int → Int} {t c : Int} (hc : inSt c) (hl : lab c ≠ FARc) (ht : lab c = t) (hd : dn F c) : TW F lab t c := fun _ h0 _ => h0 c hc hl ht hd
theorem TW.step {F : mem} {lab : Int → Int} {t c m : Int} (hc : inSt c) (hl : lab c ≠ FARc) (ht : lab c < t) (hm : leg F c m) (he : lab c + mvV F m = lab (nx c m)) (h : TW F lab t (nx c m)) : TW F lab t c := fun P h0 h1 => h1 c m hc hl ht hm he (h P h0 h1)
theorem tw_iff {F : mem} {s n t : Int} {lab met : Int → Int} (hW : wfF F) (hS : Sought (EF F) s lab met n) (ht : SoonW F s t) (ht0 : 0 < t) {c : Int} (hc : inSt c) (hl : lab c ≠ FARc) : TW F lab t c ↔ ∃ r, SoonW F c r ∧ 0 ≤ r ∧ lab c + r = t := by
  have hE := okE_F hW
  have hmin : ∀ x v, inSt x → lab x ≠ FARc → (∃ d, Walk (EF F) x d v ∧ dn F d) → t ≤ lab x + v := fun x v hx hxl ⟨d, hw, hd⟩ => by
    rcases ht with ⟨a, -⟩ | ⟨-, -, b⟩
    · omega
    · exact b d _ ((hS.walk hx hxl).trans hw) hd
  constructor
  · intro h
    refine (h (fun c => inSt c → lab c ≠ FARc → ∃ r, SoonW F c r ∧ 0 ≤ r ∧ lab c + r = t) (fun c hc hl e hd _ _ => ?_) (fun c m hc hl e hm hv ih _ _ => ?_)) hc hl
    · exact ⟨0, .inr ⟨Int.le_refl 0, ⟨c, .nil, hd⟩, fun x v hw _ => by have := (walk_nn hc hE hw).2; omega⟩, Int.le_refl 0, by omega⟩
    · have hn := hS.next hW hc hl hm
      obtain ⟨r, h1, h2, h3⟩ := ih hn.1 hn.2
      obtain ⟨r', hr⟩ := SoonW.ex hW hc
      have hex : ∃ d, Walk (EF F) c d (mvV F m + r) ∧ dn F d := by
        rcases h1 with ⟨a, -⟩ | ⟨-, ⟨d, hw, hd⟩, -⟩
        · omega
        · refine ⟨d, ?_, hd⟩
          have := (Walk.step .nil (⟨m, hm, rfl, rfl⟩ : EF F c (mvV F m) (nx c m))).trans hw
          rw [Int.zero_add] at this
          exact this
      refine ⟨r', hr, ?_, ?_⟩
      · rcases hr with ⟨-, b⟩ | ⟨a, -⟩
        · obtain ⟨d, hw, hd⟩ := hex
          exact absurd ⟨d, _, hw, hd⟩ b
        · exact a
      · rcases hr with ⟨-, b⟩ | ⟨a, hx, b⟩
        · obtain ⟨d, hw, hd⟩ := hex
          exact absurd ⟨d, _, hw, hd⟩ b
        · obtain ⟨d, hw, hd⟩ := hex
          have h4 := b d _ hw hd
          have h5 := hmin c r' hc hl hx
          omega
  · rintro ⟨r, h1, h2, h3⟩
    obtain ⟨k, rfl⟩ := Int.eq_ofNat_of_zero_le h2
    clear h2
    induction k using Nat.strongRecOn generalizing c with
    | _ k ih =>
      by_cases hk : k = 0
      · subst hk
        exact .base hc hl (by have := h3; omega) ((SoonW.zero hW hc h1).mp rfl)
      · rcases h1 with ⟨a, -⟩ | ⟨a, ⟨d, hw, hd⟩, hb⟩
        · omega
        · rcases hw.first with ⟨-, e⟩ | ⟨x, w, ⟨m, hm, e1, e2⟩, hx⟩
          · omega
          · have hn := hS.next hW hc hl hm
            have hvb := mvV_b hW hm.1
            rw [e2] at hx
            have hxx := (walk_nn hn.1 hE hx).2
            have hcl := hS.cl c w x hc hl ⟨m, hm, e1, e2⟩
            rw [e2] at hcl
            have h5 := hmin _ _ hn.1 hn.2 ⟨d, hx, hd⟩
            have hlab : lab c + mvV F m = lab (nx c m) := by omega
            refine .step hc hl (by omega) hm hlab (ih (k - w.toNat) (by omega) hn.1 hn.2 ?_ (by omega))
            refine .inr ⟨by omega, ⟨d, by rw [show ((k - w.toNat : Nat) : Int) = (k : Int) - w by omega]; exact hx, hd⟩, fun y v hy hdy => ?_⟩
            have := hb y (w + v) (by
              have := (Walk.step .nil (⟨m, hm, rfl, rfl⟩ : EF F c (mvV F m) (nx c m))).trans hy
              rw [Int.zero_add, ← e1] at this
              exact this) hdy
            omega
/-- the model's table of states on the soonest ways -/
def owP (F : mem) (lab : Int → Int) (t : Int) (g : Int → Int) : Prop := (∀ c, inSt c → lab c ≠ FARc → lab c = t ∧ dn F c → g c = 1) ∧ (∀ c, inSt c → lab c ≠ FARc → g c = 1 → TW F lab t c)
def wayM (F : mem) (lab g : Int → Int) (c m : Int) : Prop := leg F c m ∧ g (nx c m) = 1 ∧ lab c + mvV F m = lab (nx c m)
theorem owI_e {E : edge} {F : mem} {t s n k : Int} {lab met g : Int → Int} (hS : Sought E s lab met n) (h : fgI (fun c => lab c = t ∧ dn F c) met k g) (hk : n ≤ k) : (∀ c, inSt c → lab c ≠ FARc → g c = 0 ∨ g c = 1) ∧ owP F lab t g := by
  refine ⟨fun c hc hl => ?_, fun c hc hl hd => ?_, fun c hc hl q => ?_⟩
  · obtain ⟨i, a, b, e⟩ := hS.ms c hc hl
    have := h i a (by omega)
    rw [e] at this
    omega
  · obtain ⟨i, a, b, e⟩ := hS.ms c hc hl
    have := h i a (by omega)
    rw [e] at this
    rcases this with ⟨q, -⟩ | ⟨-, q⟩
    · exact q
    · exact absurd hd q
  · obtain ⟨i, a, b, e⟩ := hS.ms c hc hl
    have := h i a (by omega)
    rw [e] at this
    rcases this with ⟨-, z⟩ | ⟨z, -⟩
    · exact .base hc hl z.1 z.2
    · omega
theorem owP_s {F : mem} {s n t c m : Int} {lab met g : Int → Int} (h : owP F lab t g) (hS : Sought (EF F) s lab met n) (hW : wfF F) (hc : inSt c) (hl : lab c ≠ FARc) (hlt : lab c < t) (hm : wayM F lab g c m) : owP F lab t (ug g c 1) := by
  refine ⟨fun x hx hxl hd => ?_, fun x hx hxl q => ?_⟩
  · by_cases z : x = c
    · rw [z, ug_s]
    · rw [ug_n z]; exact h.1 x hx hxl hd
  · by_cases z : x = c
    · have hn := hS.next hW hc hl hm.1
      rw [z]
      exact .step hc hl hlt hm.1 hm.2.2 (h.2 _ hn.1 hn.2 hm.2.1)
    · rw [ug_n z] at q; exact h.2 x hx hxl q
def stabW (F : mem) (lab met g : Int → Int) (t k n : Int) : Prop := ∀ i, k < i → i < n → g (met i) = 1 ∨ ¬ lab (met i) < t ∨ ∀ m, ¬ wayM F lab g (met i) m
theorem stabW_0 (F : mem) (lab met g : Int → Int) (t n : Int) : stabW F lab met g t (n - 1) n := fun i a b => by omega
theorem stabW_s {F : mem} {t k n : Int} {lab met g : Int → Int} (h : stabW F lab met g t k n) (hk : g (met k) = 1 ∨ ¬ lab (met k) < t ∨ ∀ m, ¬ wayM F lab g (met k) m) : stabW F lab met g t (k + (-1)) n := fun i a b => by
  by_cases z : i = k
  · rw [z]; exact hk
  · exact h i (by omega) b
theorem owP_e {F : mem} {s n t c : Int} {lab met g : Int → Int} (hS : Sought (EF F) s lab met n) (hW : wfF F) (h : owP F lab t g) (hs : stabW F lab met g t (-1) n) (hc : inSt c) (hl : lab c ≠ FARc) : g c = 1 ↔ TW F lab t c := by
  refine ⟨h.2 c hc hl, fun hT => ?_⟩
  refine (hT (fun c => inSt c → lab c ≠ FARc → g c = 1) (fun c hc hl e hd _ _ => h.1 c hc hl ⟨e, hd⟩) (fun c m hc hl e hm hv ih _ _ => ?_)) hc hl
  have hn := hS.next hW hc hl hm
  obtain ⟨i, i0, i1, i2⟩ := hS.ms c hc hl
  rcases hs i (by omega) i1 with q | q | q
  · rw [i2] at q; exact q
  · rw [i2] at q; exact absurd e q
  · rw [i2] at q; exact absurd ⟨hm, ih hn.1 hn.2, hv⟩ (q m)
/-- what the model answers is the first move -/
theorem first_of {F : mem} {s n t z : Int} {lab met g : Int → Int} (hW : wfF F) (hS : Sought (EF F) s lab met n) (hz : soonP (dn F) lab t) (ht : 0 < t) (ho : owP F lab t g) (hs : stabW F lab met g t (-1) n) (hl : leastM (wayM F lab g s) z) : FirstP F s z := by
  have hw : SoonW F s t := IsSoon.w hW ⟨lab, met, n, hS, hz⟩
  refine ⟨t, hw, .inr ⟨ht, ?_⟩⟩
  have hls : lab s ≠ FARc := by rw [hS.h0]; decide
  have key : ∀ m, wayM F lab g s m ↔ firstM F s t m := fun m => by
    have h0 := hS.h0
    constructor
    · rintro ⟨a, b, c⟩
      have hn := hS.next hW hS.hs hls a
      obtain ⟨r, r1, r2, r3⟩ := (tw_iff hW hS hw ht hn.1 hn.2).mp ((owP_e hS hW ho hs hn.1 hn.2).mp b)
      exact ⟨a, r, r1, r2, by omega⟩
    · rintro ⟨a, r, r1, r2, r3⟩
      have hn := hS.next hW hS.hs hls a
      have hcl := hS.cl s _ _ hS.hs hls ⟨m, a, rfl, rfl⟩
      have hge : t ≤ lab (nx s m) + r := by
        rcases hw with ⟨q, -⟩ | ⟨-, -, q⟩
        · omega
        · rcases r1 with ⟨q1, -⟩ | ⟨-, ⟨d, hd1, hd2⟩, -⟩
          · omega
          · exact q d _ ((hS.walk hn.1 hn.2).trans hd1) hd2
      have e : lab s + mvV F m = lab (nx s m) := by omega
      exact ⟨a, (owP_e hS hW ho hs hn.1 hn.2).mpr ((tw_iff hW hS hw ht hn.1 hn.2).mpr ⟨r, r1, r2, by omega⟩), e⟩
  rcases hl with ⟨a, b⟩ | ⟨a, b⟩
  · exact .inl ⟨a, fun m q => b m ((key m).mpr q)⟩
  · exact .inr ⟨(key z).mp a, fun m q => b m ((key m).mpr q)⟩
-- a least one, in the order of a list
theorem leastM_hit {L P : Int → Prop} {k m : Int} (h : seenI L (fun m => ¬ P m) k) (hL : ∀ m, P m → L m) (h0 : ∀ m, L m → 0 ≤ m) (hm : P m) (hk : cn L m = k) : leastM P m := by
  refine .inr ⟨hm, fun x hx => ?_⟩
  rcases Int.lt_or_le x m with q | q
  · have := cn_lt (P := L) (h0 x (hL x hx)) q (hL x hx)
    exact absurd hx (h x (hL x hx) (by omega))
  · exact q
theorem leastM_no {P : Int → Prop} (h : ∀ m, ¬ P m) : leastM P (-4) := .inl ⟨rfl, h⟩
-- ===== the feet of a rope =====
/-- a face with another length of a rope -/
def lenF (F : mem) (r x : Int) : mem := up F 5 (ug (F 5) r x)
def LD (F : mem) (s r x : Int) : Prop := ∃ z, SoonW (lenF F r x) s z ∧ ¬ z = -4
theorem mnOk_len {F : mem} {w q : Int → Int} {k st rp fr to r x y : Int} (hxy : x ≤ y) (h : mnOk (lenF F r x) w q k st rp fr to) : mnOk (lenF F r y) w q k st rp fr to := by
  have hl : ∀ i, lenF F r x 5 i ≤ lenF F r y 5 i := fun i => by
    show ug (F 5) r x i ≤ ug (F 5) r y i
    by_cases z : i = r
    · rw [z, ug_s, ug_s]; exact hxy
    · rw [ug_n z, ug_n z]; exact Int.le_refl _
  rcases h with ⟨hk, a, b, c, d, e⟩ | ⟨hk, a, b, c, d, e⟩ | ⟨hk, a, b, c, d, e, f, g, g2⟩ | ⟨hk, a, b, c, d, e, f⟩ | h | h
  · exact .inl ⟨hk, a, b, c, d, Int.le_trans e (hl rp)⟩
  · exact .inr (.inl ⟨hk, a, b, c, d, Int.le_trans e (hl rp)⟩)
  · exact .inr (.inr (.inl ⟨hk, a, b, c, d, e, f, Int.le_trans g (hl 0), Int.le_trans g2 (hl 1)⟩))
  · exact .inr (.inr (.inr (.inl ⟨hk, a, b, c, d, e, Int.le_trans f (hl rp)⟩)))
  · exact .inr (.inr (.inr (.inr (.inl h))))
  · exact .inr (.inr (.inr (.inr (.inr h))))
theorem LD_mono {F : mem} {s r x y : Int} (hs : inSt s) (hW : wfF (lenF F r y)) (hxy : x ≤ y) (h : LD F s r x) : LD F s r y := by
  obtain ⟨z, hz, hn⟩ := h
  obtain ⟨z', hz'⟩ := SoonW.ex hW hs
  refine ⟨z', hz', fun e => ?_⟩
  rcases hz with ⟨a, -⟩ | ⟨-, ⟨d, hw, hd⟩, -⟩
  · exact hn a
  · rcases hz' with ⟨-, b⟩ | ⟨a, -⟩
    · refine b ⟨d, z, hw (fun c v => Walk (EF (lenF F r y)) s c v) .nil (fun c v d w ih ⟨m, h1, h2, h3⟩ => ?_), hd⟩
      exact .step ih ⟨m, ⟨h1.1, mnOk_len hxy h1.2⟩, h2, h3⟩
    · omega
def IsFeet (F : mem) (s r z : Int) : Prop := (z = -4 ∧ ¬ LD F s r 400) ∨ (LD F s r 400 ∧ 1 ≤ z ∧ z ≤ 400 ∧ LD F s r z ∧ ∀ x, 1 ≤ x → x < z → ¬ LD F s r x)
theorem IsFeet.uniq {F : mem} {s r z z' : Int} (h : IsFeet F s r z) (h' : IsFeet F s r z') : z = z' := by
  rcases h with ⟨a, b⟩ | ⟨a, b, c, d, e⟩ <;> rcases h' with ⟨a', b'⟩ | ⟨a', b', c', d', e'⟩
  · omega
  · exact absurd a' b
  · exact absurd a b'
  · rcases Int.lt_trichotomy z z' with q | q | q
    · exact absurd d (e' z b q)
    · exact q
    · exact absurd d' (e z' b' q)
theorem lenF_wf {F : mem} {r x : Int} (h : wfF F) (hx : 0 ≤ x ∧ x ≤ 400) : wfF (lenF F r x) := ⟨h.1, h.2.1, h.2.2.1, h.2.2.2.1, h.2.2.2.2.1, ug_b hx h.2.2.2.2.2.1, h.2.2.2.2.2.2⟩
theorem lenF_ok {F : mem} {r x : Int} (h : okF F) (hx : 0 ≤ x ∧ x ≤ 400) : okF (lenF F r x) := ⟨lenF_wf h.1 hx, h.2⟩
theorem Sim_len {F τ : mem} {r x : Int} (h : Sim F τ) : Sim (lenF F r x) (up τ 8 (ug (τ 8) r x)) := by
  obtain ⟨a, b, c, d, e, f, g, i, j⟩ := h
  exact ⟨a, b, c, d, e, f, g, i, fun x x0 x1 => ⟨ug_eq (j x x0 x1).1, (j x x0 x1).2⟩⟩
theorem LD_of {F : mem} {s r x z : Int} (hW : wfF (lenF F r x)) (h : IsSoon (lenF F r x) s z) (hz : ¬ z = -4) : LD F s r x := ⟨z, h.w hW, hz⟩
theorem LD_no {F : mem} {s r x : Int} (hW : wfF (lenF F r x)) (h : IsSoon (lenF F r x) s (-4)) : ¬ LD F s r x := fun ⟨z, a, b⟩ => b (a.uniq (h.w hW))
